set_option maxRecDepth 100000
theorem df_J2 : ∀ j, j < 3 → defaultValue (tyJ2 j) = vp_V [.int 0, .null, .int 0] j := fun j hj => match j, hj with
  | 0, _ => rfl
  | 1, _ => rfl
  | 2, _ => rfl
  | _ + 3, h => absurd h (by omega)
theorem df_X1 : ∀ j, j < 6 → defaultValue (tyX1 j) = vp_V [.null, .null, .long 0, .int 0, .null, .null] j := fun j hj => match j, hj with
  | 0, _ => rfl
  | 1, _ => rfl
  | 2, _ => rfl
  | 3, _ => rfl
  | 4, _ => rfl
  | 5, _ => rfl
  | _ + 6, h => absurd h (by omega)
theorem df_X10 : ∀ j, j < 5 → defaultValue (tyX10 j) = vp_V [.int 0, .null, .int 0, .int 0, .int 0] j := fun j hj => match j, hj with
  | 0, _ => rfl
  | 1, _ => rfl
  | 2, _ => rfl
  | 3, _ => rfl
  | 4, _ => rfl
  | _ + 5, h => absurd h (by omega)
theorem df_X2 : ∀ j, j < 8 → defaultValue (tyX2 j) = vp_V [.null, .null, .null, .int 0, .int 0, .int 0, .int 0, .int 0] j := fun j hj => match j, hj with
  | 0, _ => rfl
  | 1, _ => rfl
  | 2, _ => rfl
  | 3, _ => rfl
  | 4, _ => rfl
  | 5, _ => rfl
  | 6, _ => rfl
  | 7, _ => rfl
  | _ + 8, h => absurd h (by omega)
theorem df_X3 : ∀ j, j < 6 → defaultValue (tyX3 j) = vp_V [.int 0, .int 0, .int 0, .int 0, .int 0, .int 0] j := fun j hj => match j, hj with
  | 0, _ => rfl
  | 1, _ => rfl
  | 2, _ => rfl
  | 3, _ => rfl
  | 4, _ => rfl
  | 5, _ => rfl
  | _ + 6, h => absurd h (by omega)
theorem df_X4 : ∀ j, j < 6 → defaultValue (tyX4 j) = vp_V [.null, .null, .int 0, .int 0, .null, .null] j := fun j hj => match j, hj with
  | 0, _ => rfl
  | 1, _ => rfl
  | 2, _ => rfl
  | 3, _ => rfl
  | 4, _ => rfl
  | 5, _ => rfl
  | _ + 6, h => absurd h (by omega)
theorem df_X5 : ∀ j, j < 6 → defaultValue (tyX5 j) = vp_V [.null, .null, .null, .int 0, .int 0, .null] j := fun j hj => match j, hj with
  | 0, _ => rfl
  | 1, _ => rfl
  | 2, _ => rfl
  | 3, _ => rfl
  | 4, _ => rfl
  | 5, _ => rfl
  | _ + 6, h => absurd h (by omega)
theorem df_X6 : ∀ j, j < 4 → defaultValue (tyX6 j) = vp_V [.null, .null, .null, .int 0] j := fun j hj => match j, hj with
  | 0, _ => rfl
  | 1, _ => rfl
  | 2, _ => rfl
  | 3, _ => rfl
  | _ + 4, h => absurd h (by omega)
theorem df_X7 : ∀ j, j < 1 → defaultValue (tyX7 j) = vp_V [.null] j := fun j hj => match j, hj with
  | 0, _ => rfl
  | _ + 1, h => absurd h (by omega)
theorem hdi_yJ0_init : yJ0_init.cls ≠ "java/lang/invoke/MethodHandle" ∧ yJ0_init.cls ≠ "java/lang/invoke/VarHandle" ∧ (parseMethodDescriptor yJ0_init.desc).map (fun d => d.parameters.length) = some 0 := by decide +kernel
theorem hdi_yJ1_init : yJ1_init.cls ≠ "java/lang/invoke/MethodHandle" ∧ yJ1_init.cls ≠ "java/lang/invoke/VarHandle" ∧ (parseMethodDescriptor yJ1_init.desc).map (fun d => d.parameters.length) = some 0 := by decide +kernel
theorem hdi_yJ2_init : yJ2_init.cls ≠ "java/lang/invoke/MethodHandle" ∧ yJ2_init.cls ≠ "java/lang/invoke/VarHandle" ∧ (parseMethodDescriptor yJ2_init.desc).map (fun d => d.parameters.length) = some 1 := by decide +kernel
theorem hdi_yX10_init : yX10_init.cls ≠ "java/lang/invoke/MethodHandle" ∧ yX10_init.cls ≠ "java/lang/invoke/VarHandle" ∧ (parseMethodDescriptor yX10_init.desc).map (fun d => d.parameters.length) = some 1 := by decide +kernel
theorem hdi_yX12_init : yX12_init.cls ≠ "java/lang/invoke/MethodHandle" ∧ yX12_init.cls ≠ "java/lang/invoke/VarHandle" ∧ (parseMethodDescriptor yX12_init.desc).map (fun d => d.parameters.length) = some 2 := by decide +kernel
theorem hdi_yX15_init : yX15_init.cls ≠ "java/lang/invoke/MethodHandle" ∧ yX15_init.cls ≠ "java/lang/invoke/VarHandle" ∧ (parseMethodDescriptor yX15_init.desc).map (fun d => d.parameters.length) = some 0 := by decide +kernel
theorem hdi_yX1_init : yX1_init.cls ≠ "java/lang/invoke/MethodHandle" ∧ yX1_init.cls ≠ "java/lang/invoke/VarHandle" ∧ (parseMethodDescriptor yX1_init.desc).map (fun d => d.parameters.length) = some 0 := by decide +kernel
theorem hdi_yX2_init : yX2_init.cls ≠ "java/lang/invoke/MethodHandle" ∧ yX2_init.cls ≠ "java/lang/invoke/VarHandle" ∧ (parseMethodDescriptor yX2_init.desc).map (fun d => d.parameters.length) = some 0 := by decide +kernel
theorem hdi_yX3_init : yX3_init.cls ≠ "java/lang/invoke/MethodHandle" ∧ yX3_init.cls ≠ "java/lang/invoke/VarHandle" ∧ (parseMethodDescriptor yX3_init.desc).map (fun d => d.parameters.length) = some 0 := by decide +kernel
theorem hdi_yX4_init : yX4_init.cls ≠ "java/lang/invoke/MethodHandle" ∧ yX4_init.cls ≠ "java/lang/invoke/VarHandle" ∧ (parseMethodDescriptor yX4_init.desc).map (fun d => d.parameters.length) = some 1 := by decide +kernel
theorem hdi_yX5_init : yX5_init.cls ≠ "java/lang/invoke/MethodHandle" ∧ yX5_init.cls ≠ "java/lang/invoke/VarHandle" ∧ (parseMethodDescriptor yX5_init.desc).map (fun d => d.parameters.length) = some 1 := by decide +kernel
theorem hdi_yX6_init : yX6_init.cls ≠ "java/lang/invoke/MethodHandle" ∧ yX6_init.cls ≠ "java/lang/invoke/VarHandle" ∧ (parseMethodDescriptor yX6_init.desc).map (fun d => d.parameters.length) = some 0 := by decide +kernel
theorem hdi_yX7_init : yX7_init.cls ≠ "java/lang/invoke/MethodHandle" ∧ yX7_init.cls ≠ "java/lang/invoke/VarHandle" ∧ (parseMethodDescriptor yX7_init.desc).map (fun d => d.parameters.length) = some 0 := by decide +kernel
noncomputable def FX1_begins_j91 (x_14 : Int32) (c0_lies_15 : Int64) (a_20 : Nat → Int32) (a_21 : Nat → Int32) (x_27 : Int32) (c3_a_28 : Nat → Int32) : Option ((Int32 × Int64 × (Nat → Int32) × (Nat → Int32) × (Nat → Int32)) ⊕ (Int64 × (Nat → Int32) × (Nat → Int32) × (Nat → Int32))) :=
  some (.inl ((x_14 + 1), (c0_lies_15 ||| (shlL (Int32.toInt64 x_27) (4 * x_14))), a_20, a_21, c3_a_28))

noncomputable def FX1_begins_b21 (u : Nat → Int32) (x_14 : Int32) (c0_lies_15 : Int64) (c1_a_16 : Nat → Int32) (c2_a_17 : Nat → Int32) (c3_a_18 : Nat → Int32) : Option ((Int32 × Int64 × (Nat → Int32) × (Nat → Int32) × (Nat → Int32)) ⊕ (Int64 × (Nat → Int32) × (Nat → Int32) × (Nat → Int32))) :=
  if 8 ≤ x_14 then
    some (.inr (c0_lies_15, c1_a_16, c2_a_17, c3_a_18))
  else
    bd1 (wrI 8 c1_a_16 x_14 0) fun a_20 =>
    bd1 (wrI 8 c2_a_17 x_14 (-1)) fun a_21 =>
    if (u 6) ≤ x_14 then
      FX1_begins_j91 x_14 c0_lies_15 a_20 a_21 15 c3_a_18
    else
      bd0 (alg (u 6) x_14) <|
      bd1 (rd 5 c3_a_18 (u (200 + x_14.toNatClampNeg))) fun x_24 =>
      bd1 (rd 5 c3_a_18 (u (200 + x_14.toNatClampNeg))) fun x_25 =>
      bd1 (wrI 5 c3_a_18 (u (200 + x_14.toNatClampNeg)) (x_25 + 1)) fun a_26 =>
      FX1_begins_j91 x_14 c0_lies_15 a_20 a_21 ((3 * (u (200 + x_14.toNatClampNeg))) + x_24) a_26

noncomputable def FX1_begins (vc : Nat → Int32) (vt : Nat → Int32) (u : Nat → Int32) : Option (Int64 × (Nat → Int32) × (Nat → Int32) × (Nat → Int32)) :=
  bd4 (loopC (fun s => FX1_begins_b21 u s.1 s.2.1 s.2.2.1 s.2.2.2.1 s.2.2.2.2) (0, 0, vc, vt, (fun _ => 0))) fun c0_lies_29 c1_a_30 c2_a_31 c3_a_32 =>
    some (c0_lies_29, c1_a_30, c2_a_31, c3_a_32)

noncomputable def FJ8_newLength (p0 : Int32) (p1 : Int32) (p2 : Int32) : Option Int32 :=
  if (p0 + (mxI p1 p2)) ≤ 0 then
    none
  else
    if 2147483639 < (p0 + (mxI p1 p2)) then
      none
    else
      some (p0 + (mxI p1 p2))

noncomputable def FX1_copy_b42 (vc : Nat → Int32) (vt : Nat → Int32) (x_8 : Int32) (c10_a_9 : Nat → Int32) (c11_a_10 : Nat → Int32) : Option ((Int32 × (Nat → Int32) × (Nat → Int32)) ⊕ ((Nat → Int32) × (Nat → Int32))) :=
  if 8 ≤ x_8 then
    some (.inr (c10_a_9, c11_a_10))
  else
    bd1 (rd 8 vc x_8) fun x_12 =>
    bd1 (wrI 8 c10_a_9 x_8 x_12) fun a_13 =>
    bd1 (rd 8 vt x_8) fun x_14 =>
    bd1 (wrI 8 c11_a_10 x_8 x_14) fun a_15 =>
    some (.inl ((x_8 + 1), a_13, a_15))

noncomputable def FX1_copy (vc : Nat → Int32) (vt : Nat → Int32) : Option ((Nat → Int32) × (Nat → Int32)) :=
  bd2 (loopC (fun s => FX1_copy_b42 vc vt s.1 s.2.1 s.2.2) (0, (fun _ => 0), (fun _ => 0))) fun c10_a_16 c11_a_17 =>
    some (c10_a_16, c11_a_17)

noncomputable def FX0_init : Option (Int64 × (Nat → Int32) × (Nat → Int32) × (Nat → Int32)) :=
  bd4 (FX1_begins (fun _ => 0) (fun _ => 0) u0F) fun y_1 a_2 a_3 a_4 =>
  some (y_1, a_2, a_3, a_4)

noncomputable def FX10_copy_b30 (u : Nat → Int32) (i0 : Int32) (x_5 : Int32) (c1_a_6 : Nat → Int32) : Option ((Int32 × (Nat → Int32)) ⊕ (Nat → Int32)) :=
  if 3 ≤ x_5 then
    some (.inr c1_a_6)
  else
    bd1 (rd 3 (fun j => u (41 + 3 * i0.toNatClampNeg + j)) x_5) fun x_8 =>
    bd1 (wrI 3 c1_a_6 x_5 x_8) fun a_9 =>
    some (.inl ((x_5 + 1), a_9))

noncomputable def FX10_copy (u : Nat → Int32) (i0 : Int32) : Option (Nat → Int32) :=
  bd1 (loopC (fun s => FX10_copy_b30 u i0 s.1 s.2) (0, (upd (upd (upd (fun _ => 0) (0 : Int32).toNatClampNeg (-1)) (1 : Int32).toNatClampNeg (-1)) (2 : Int32).toNatClampNeg (-1)))) fun c1_a_10 =>
    some c1_a_10

abbrev rm_J0_init : Room := { frames := 1, cells := 0, slots := 0, locals := 40 }
set_option maxHeartbeats 4000000 in
theorem met_J0_init {l : Launch} {D : va_G} {cA : Nat → ClassId} {lo : va_W} {a0 : Nat}   {E : EvT} (hE : EvN E) : MX l yJ0_init (ws_ yJ0_init cJ0_init 1 (Option.none : Option Jvm.ClassFile.FieldType)) rm_J0_init D vwA (cT cA) E [.ref a0] ([(a0, .inr (17, [.int 0, .null, .int 0]))] ++ lo) (fun z => z = ([(a0, .inr (17, [.int 0, .null, .int 0]))] ++ lo)) none := by
  refine MX.ofV (by decide) (Nat.le_of_ble_eq_true rfl) ?_
  intro p e s m args below meth c Q A hX hK hE0 hname hret H locs ls hH hl
  have hX : CallFix p m c cJ0_init 1 s args lw_all RJ0 := hX
  have hx := hX.1
  have hb := hX.2.1
  have hown := hX.2.2.2.1
  have hts := hX.2.2.2.2
  have hl : lv_has ls 1 [(0, .ref a0)] := hl
  have hEv := hE.1
  have hNW := hE.2.1 _ _ _ hE0
  have hAO := hE.2.2.2 _ _ _ hE0
  refine lv_aload_n hx hb dJ0_init_0 rfl (lv_at hl 0 rfl) ?_
  refine mObj hX q199 hl (Nat.le_of_ble_eq_true rfl) (Nat.le_of_ble_eq_true rfl) dJ0_init_1 ?_
  exact hret _ _ _ _ _ rfl hH dJ0_init_4
abbrev rm_J1_init : Room := { frames := 2, cells := 0, slots := 0, locals := 60 }
set_option maxHeartbeats 4000000 in
theorem met_J1_init {l : Launch} {D : va_G} {cA : Nat → ClassId} {lo : va_W} {a0 : Nat}   {E : EvT} (hE : EvN E) : MX l yJ1_init (ws_ yJ1_init cJ1_init 1 (Option.none : Option Jvm.ClassFile.FieldType)) rm_J1_init D vwA (cT cA) E [.ref a0] ([(a0, .inr (17, [.int 0, .null, .int 0]))] ++ lo) (fun z => z = ([(a0, .inr (17, [.int 0, .null, .int 0]))] ++ lo)) none := by
  refine MX.ofV (by decide) (Nat.le_of_ble_eq_true rfl) ?_
  intro p e s m args below meth c Q A hX hK hE0 hname hret H locs ls hH hl
  have hX : CallFix p m c cJ1_init 1 s args lw_all RJ1 := hX
  have hx := hX.1
  have hb := hX.2.1
  have hown := hX.2.2.2.1
  have hts := hX.2.2.2.2
  have hl : lv_has ls 1 [(0, .ref a0)] := hl
  have hEv := hE.1
  have hNW := hE.2.1 _ _ _ hE0
  have hAO := hE.2.2.2 _ _ _ hE0
  refine lv_aload_n hx hb dJ1_init_0 rfl (lv_at hl 0 rfl) ?_
  have hH : MH D vwA A s.heap ([(a0, .inr (17, [.int 0, .null, .int 0]))] ++ ([] ++ lo)) H locs := hH
  refine mxCI hX hK hEv hE0 hH (met_J0_init hE) q198 q132 q196 q197 rfl hdi_yJ0_init ⟨(Nat.le_of_ble_eq_true rfl), (Nat.le_of_ble_eq_true rfl)⟩ rfl rfl hl (Nat.le_of_ble_eq_true rfl) dJ1_init_1 ⟨(Nat.le_of_ble_eq_true rfl), (Nat.le_of_ble_eq_true rfl)⟩ (fun w2 H locs hw hH => ?_)
  subst hw
  have hH : MH D vwA A s.heap ([(a0, .inr (17, [.int 0, .null, .int 0]))] ++ lo) H locs := hH
  refine lv_aload_n hx hb dJ1_init_4 rfl (lv_at hl 0 rfl) ?_
  refine lv_iconst (v := 0) hx hb dJ1_init_5 kyi_0 ?_
  refine va_put (C := RJ2) (T := TJ2) (N := 3) (ty := .int) hX.1 hX.2.1 hX.2.2.2.2 in_J2 tyJ2 tyJ2_ok nmJ2 hX.2.2.2.1 hK hH.1 hH.2.1 hH.2.2.1 0 rfl rfl 0 (by decide) (hts _ q206) (fun _ h9 => h9) rfl (by decide +kernel) rfl rfl (Nat.le_of_ble_eq_true rfl) dJ1_init_6 (fun H locs hP hD hS => ?_)
  have hH : MH D vwA A s.heap ([(a0, .inr (17, [.int 0, .null, .int 0]))] ++ lo) H locs := ⟨hP, hD, hS, hH.2.2.2⟩
  exact hret _ _ _ _ _ rfl hH dJ1_init_9
abbrev rm_J2_init : Room := { frames := 3, cells := 1, slots := 2, locals := 80 }
set_option maxHeartbeats 4000000 in
theorem met_J2_init {l : Launch} {D : va_G} {cA : Nat → ClassId} {lo : va_W} {a0 : Nat}   {E : EvT} (hE : EvN E) : MX l yJ2_init (ws_ yJ2_init cJ2_init 2 (Option.none : Option Jvm.ClassFile.FieldType)) rm_J2_init D vwA (cT cA) E [.ref a0, .int 2] ([(a0, .inr (17, [.int 0, .null, .int 0]))] ++ lo) (fun z => ∃ q1 : Nat, z = ([(a0, .inr (17, [.int 0, .ref q1, .int 0])), (q1, .inl (cA 44, 2, .inr (.inr (.inr (.inr (fun _ => none))))))] ++ lo)) none := by
  refine MX.ofV (by decide) (Nat.le_of_ble_eq_true rfl) ?_
  intro p e s m args below meth c Q A hX hK hE0 hname hret H locs ls hH hl
  have hX : CallFix p m c cJ2_init 2 s args lw_all RJ2 := hX
  have hx := hX.1
  have hb := hX.2.1
  have hown := hX.2.2.2.1
  have hts := hX.2.2.2.2
  have hl : lv_has ls 2 [(0, .ref a0), (1, .int 2)] := hl
  have hEv := hE.1
  have hNW := hE.2.1 _ _ _ hE0
  have hAO := hE.2.2.2 _ _ _ hE0
  refine lv_aload_n hx hb dJ2_init_0 rfl (lv_at hl 0 rfl) ?_
  have hH : MH D vwA A s.heap ([(a0, .inr (17, [.int 0, .null, .int 0]))] ++ ([] ++ lo)) H locs := hH
  refine mxCI hX hK hEv hE0 hH (met_J1_init hE) q195 q133 q193 q194 rfl hdi_yJ1_init ⟨(Nat.le_of_ble_eq_true rfl), (Nat.le_of_ble_eq_true rfl)⟩ rfl rfl hl (Nat.le_of_ble_eq_true rfl) dJ2_init_1 ⟨(Nat.le_of_ble_eq_true rfl), (Nat.le_of_ble_eq_true rfl)⟩ (fun w2 H locs hw hH => ?_)
  subst hw
  have hH : MH D vwA A s.heap ([(a0, .inr (17, [.int 0, .null, .int 0]))] ++ lo) H locs := hH
  refine lv_iload_n hx hb dJ2_init_4 rfl (lv_at hl 1 rfl) ?_
  refine lv_if_le (tgt := 19) hx hb dJ2_init_5 rfl (fun c9 => absurd c9 (by decide)) (fun _ => ?_)
  refine lv_aload_n hx hb dJ2_init_8 rfl (lv_at hl 0 rfl) ?_
  refine lv_iload_n hx hb dJ2_init_9 rfl (lv_at hl 1 rfl) ?_
  refine mnewq (C := "java/lang/Object") (N' := 2) hX q200 (hAO _ (List.mem_of_getElem? (i := 0) rfl)) hK hH 28 rfl (by decide) (by decide) (Nat.le_of_ble_eq_true rfl) (Nat.le_of_ble_eq_true rfl) (Nat.le_of_ble_eq_true rfl) dJ2_init_10 (fun q1 H hH => ?_)
  have hH : MH D vwA A s.heap ([(a0, .inr (17, [.int 0, .null, .int 0])), (q1, .inl (cA 44, 2, .inr (.inr (.inr (.inr (fun _ => none))))))] ++ lo) H locs := MH.pull (xs := [(a0, .inr (17, [.int 0, .null, .int 0]))]) (c0 := (q1, .inl (cA 44, 2, .inr (.inr (.inr (.inr (fun _ => none))))))) hH
  refine va_put (C := RJ2) (T := TJ2) (N := 3) (ty := (.array (.object "java/lang/Object"))) hX.1 hX.2.1 hX.2.2.2.2 in_J2 tyJ2 tyJ2_ok nmJ2 hX.2.2.2.1 hK hH.1 hH.2.1 hH.2.2.1 0 rfl rfl 1 (by decide) (hts _ q204) (fun _ h9 => h9) rfl (by decide +kernel) rfl rfl (Nat.le_of_ble_eq_true rfl) dJ2_init_13 (fun H locs hP hD hS => ?_)
  have hH : MH D vwA A s.heap ([(a0, .inr (17, [.int 0, .ref q1, .int 0])), (q1, .inl (cA 44, 2, .inr (.inr (.inr (.inr (fun _ => none))))))] ++ lo) H locs := ⟨hP, hD, hS, hH.2.2.2⟩
  refine lv_goto (tgt := 60) hx hb dJ2_init_16 rfl ?_
  exact hret _ _ _ _ _ ⟨_, rfl⟩ hH dJ2_init_60
abbrev rm_X15_init_X16 : Room := { frames := 1, cells := 0, slots := 0, locals := 40 }
set_option maxHeartbeats 4000000 in
theorem met_X15_init_X16 {l : Launch} {D : va_G} {cA : Nat → ClassId} {lo : va_W} {a0 : Nat}   {E : EvT} (hE : EvN E) : MX l yX15_init (ws_ yX15_init cX15_init 1 (Option.none : Option Jvm.ClassFile.FieldType)) rm_X15_init_X16 D vwA (cT cA) E [.ref a0] ([(a0, .inr (14, [.null]))] ++ lo) (fun z => z = ([(a0, .inr (14, [.null]))] ++ lo)) none := by
  refine MX.ofV (by decide) (Nat.le_of_ble_eq_true rfl) ?_
  intro p e s m args below meth c Q A hX hK hE0 hname hret H locs ls hH hl
  have hX : CallFix p m c cX15_init 1 s args lw_all RX15 := hX
  have hx := hX.1
  have hb := hX.2.1
  have hown := hX.2.2.2.1
  have hts := hX.2.2.2.2
  have hl : lv_has ls 1 [(0, .ref a0)] := hl
  have hEv := hE.1
  have hNW := hE.2.1 _ _ _ hE0
  have hAO := hE.2.2.2 _ _ _ hE0
  refine lv_aload_n hx hb dX15_init_0 rfl (lv_at hl 0 rfl) ?_
  refine mObj hX q913 hl (Nat.le_of_ble_eq_true rfl) (Nat.le_of_ble_eq_true rfl) dX15_init_1 ?_
  exact hret _ _ _ _ _ rfl hH dX15_init_4
abbrev rm_X15_init_X17 : Room := { frames := 1, cells := 0, slots := 0, locals := 40 }
set_option maxHeartbeats 4000000 in
theorem met_X15_init_X17 {l : Launch} {D : va_G} {cA : Nat → ClassId} {lo : va_W} {a0 : Nat}   {E : EvT} (hE : EvN E) : MX l yX15_init (ws_ yX15_init cX15_init 1 (Option.none : Option Jvm.ClassFile.FieldType)) rm_X15_init_X17 D vwA (cT cA) E [.ref a0] ([(a0, .inr (15, [.int 0, .int 0]))] ++ lo) (fun z => z = ([(a0, .inr (15, [.int 0, .int 0]))] ++ lo)) none := by
  refine MX.ofV (by decide) (Nat.le_of_ble_eq_true rfl) ?_
  intro p e s m args below meth c Q A hX hK hE0 hname hret H locs ls hH hl
  have hX : CallFix p m c cX15_init 1 s args lw_all RX15 := hX
  have hx := hX.1
  have hb := hX.2.1
  have hown := hX.2.2.2.1
  have hts := hX.2.2.2.2
  have hl : lv_has ls 1 [(0, .ref a0)] := hl
  have hEv := hE.1
  have hNW := hE.2.1 _ _ _ hE0
  have hAO := hE.2.2.2 _ _ _ hE0
  refine lv_aload_n hx hb dX15_init_0 rfl (lv_at hl 0 rfl) ?_
  refine mObj hX q913 hl (Nat.le_of_ble_eq_true rfl) (Nat.le_of_ble_eq_true rfl) dX15_init_1 ?_
  exact hret _ _ _ _ _ rfl hH dX15_init_4
abbrev rm_X15_init_X18 : Room := { frames := 1, cells := 0, slots := 0, locals := 40 }
set_option maxHeartbeats 4000000 in
theorem met_X15_init_X18 {l : Launch} {D : va_G} {cA : Nat → ClassId} {lo : va_W} {a0 : Nat}   {E : EvT} (hE : EvN E) : MX l yX15_init (ws_ yX15_init cX15_init 1 (Option.none : Option Jvm.ClassFile.FieldType)) rm_X15_init_X18 D vwA (cT cA) E [.ref a0] ([(a0, .inr (16, [.int 0, .null, .null]))] ++ lo) (fun z => z = ([(a0, .inr (16, [.int 0, .null, .null]))] ++ lo)) none := by
  refine MX.ofV (by decide) (Nat.le_of_ble_eq_true rfl) ?_
  intro p e s m args below meth c Q A hX hK hE0 hname hret H locs ls hH hl
  have hX : CallFix p m c cX15_init 1 s args lw_all RX15 := hX
  have hx := hX.1
  have hb := hX.2.1
  have hown := hX.2.2.2.1
  have hts := hX.2.2.2.2
  have hl : lv_has ls 1 [(0, .ref a0)] := hl
  have hEv := hE.1
  have hNW := hE.2.1 _ _ _ hE0
  have hAO := hE.2.2.2 _ _ _ hE0
  refine lv_aload_n hx hb dX15_init_0 rfl (lv_at hl 0 rfl) ?_
  refine mObj hX q913 hl (Nat.le_of_ble_eq_true rfl) (Nat.le_of_ble_eq_true rfl) dX15_init_1 ?_
  exact hret _ _ _ _ _ rfl hH dX15_init_4
abbrev rm_X12_init_X13 : Room := { frames := 1, cells := 0, slots := 0, locals := 40 }
set_option maxHeartbeats 4000000 in
theorem met_X12_init_X13 {l : Launch} {D : va_G} {cA : Nat → ClassId} {lo : va_W} {a0 : Nat}  {p1 : Int32} {p2 : Int32} {E : EvT} (hE : EvN E) : MX l yX12_init (ws_ yX12_init cX12_init 3 (Option.none : Option Jvm.ClassFile.FieldType)) rm_X12_init_X13 D vwA (cT cA) E [.ref a0, .int p1, .int p2] ([(a0, .inr (12, [.int 0, .int 0]))] ++ lo) (fun z => z = ([(a0, .inr (12, [.int p1, .int p2]))] ++ lo)) none := by
  refine MX.ofV (by decide) (Nat.le_of_ble_eq_true rfl) ?_
  intro p e s m args below meth c Q A hX hK hE0 hname hret H locs ls hH hl
  have hX : CallFix p m c cX12_init 3 s args lw_all RX12 := hX
  have hx := hX.1
  have hb := hX.2.1
  have hown := hX.2.2.2.1
  have hts := hX.2.2.2.2
  have hl : lv_has ls 3 [(0, .ref a0), (1, .int p1), (2, .int p2)] := hl
  have hEv := hE.1
  have hNW := hE.2.1 _ _ _ hE0
  have hAO := hE.2.2.2 _ _ _ hE0
  refine lv_aload_n hx hb dX12_init_0 rfl (lv_at hl 0 rfl) ?_
  refine mObj hX q847 hl (Nat.le_of_ble_eq_true rfl) (Nat.le_of_ble_eq_true rfl) dX12_init_1 ?_
  refine lv_aload_n hx hb dX12_init_4 rfl (lv_at hl 0 rfl) ?_
  refine lv_iload_n hx hb dX12_init_5 rfl (lv_at hl 1 rfl) ?_
  refine va_putF (C := RX13) (T := TX13) (N := 2) (ty := .int) hX.1 hX.2.1 hX.2.2.2.2 in_X13 tyX13 tyX13_ok nmX13 hX.2.2.2.1 hK hH.1 hH.2.1 hH.2.2.1 0 rfl rfl 0 (by decide) (hts _ q848) (fun _ h9 => h9) rfl hname rfl (by decide +kernel) rfl rfl (Nat.le_of_ble_eq_true rfl) dX12_init_6 (fun H locs hP hD hS => ?_)
  have hH : MH D vwA A s.heap ([(a0, .inr (12, [.int p1, .int 0]))] ++ lo) H locs := ⟨hP, hD, hS, hH.2.2.2⟩
  refine lv_aload_n hx hb dX12_init_9 rfl (lv_at hl 0 rfl) ?_
  refine lv_iload_n hx hb dX12_init_10 rfl (lv_at hl 2 rfl) ?_
  refine va_putF (C := RX13) (T := TX13) (N := 2) (ty := .int) hX.1 hX.2.1 hX.2.2.2.2 in_X13 tyX13 tyX13_ok nmX13 hX.2.2.2.1 hK hH.1 hH.2.1 hH.2.2.1 0 rfl rfl 1 (by decide) (hts _ q851) (fun _ h9 => h9) rfl hname rfl (by decide +kernel) rfl rfl (Nat.le_of_ble_eq_true rfl) dX12_init_11 (fun H locs hP hD hS => ?_)
  have hH : MH D vwA A s.heap ([(a0, .inr (12, [.int p1, .int p2]))] ++ lo) H locs := ⟨hP, hD, hS, hH.2.2.2⟩
  exact hret _ _ _ _ _ rfl hH dX12_init_14
abbrev rm_X12_init_X14 : Room := { frames := 1, cells := 0, slots := 0, locals := 40 }
set_option maxHeartbeats 4000000 in
theorem met_X12_init_X14 {l : Launch} {D : va_G} {cA : Nat → ClassId} {lo : va_W} {a0 : Nat}  {p1 : Int32} {p2 : Int32} {E : EvT} (hE : EvN E) : MX l yX12_init (ws_ yX12_init cX12_init 3 (Option.none : Option Jvm.ClassFile.FieldType)) rm_X12_init_X14 D vwA (cT cA) E [.ref a0, .int p1, .int p2] ([(a0, .inr (13, [.int 0, .int 0]))] ++ lo) (fun z => z = ([(a0, .inr (13, [.int p1, .int p2]))] ++ lo)) none := by
  refine MX.ofV (by decide) (Nat.le_of_ble_eq_true rfl) ?_
  intro p e s m args below meth c Q A hX hK hE0 hname hret H locs ls hH hl
  have hX : CallFix p m c cX12_init 3 s args lw_all RX12 := hX
  have hx := hX.1
  have hb := hX.2.1
  have hown := hX.2.2.2.1
  have hts := hX.2.2.2.2
  have hl : lv_has ls 3 [(0, .ref a0), (1, .int p1), (2, .int p2)] := hl
  have hEv := hE.1
  have hNW := hE.2.1 _ _ _ hE0
  have hAO := hE.2.2.2 _ _ _ hE0
  refine lv_aload_n hx hb dX12_init_0 rfl (lv_at hl 0 rfl) ?_
  refine mObj hX q847 hl (Nat.le_of_ble_eq_true rfl) (Nat.le_of_ble_eq_true rfl) dX12_init_1 ?_
  refine lv_aload_n hx hb dX12_init_4 rfl (lv_at hl 0 rfl) ?_
  refine lv_iload_n hx hb dX12_init_5 rfl (lv_at hl 1 rfl) ?_
  refine va_putF (C := RX14) (T := TX14) (N := 2) (ty := .int) hX.1 hX.2.1 hX.2.2.2.2 in_X14 tyX14 tyX14_ok nmX14 hX.2.2.2.1 hK hH.1 hH.2.1 hH.2.2.1 0 rfl rfl 0 (by decide) (hts _ q848) (fun _ h9 => h9) rfl hname rfl (by decide +kernel) rfl rfl (Nat.le_of_ble_eq_true rfl) dX12_init_6 (fun H locs hP hD hS => ?_)
  have hH : MH D vwA A s.heap ([(a0, .inr (13, [.int p1, .int 0]))] ++ lo) H locs := ⟨hP, hD, hS, hH.2.2.2⟩
  refine lv_aload_n hx hb dX12_init_9 rfl (lv_at hl 0 rfl) ?_
  refine lv_iload_n hx hb dX12_init_10 rfl (lv_at hl 2 rfl) ?_
  refine va_putF (C := RX14) (T := TX14) (N := 2) (ty := .int) hX.1 hX.2.1 hX.2.2.2.2 in_X14 tyX14 tyX14_ok nmX14 hX.2.2.2.1 hK hH.1 hH.2.1 hH.2.2.1 0 rfl rfl 1 (by decide) (hts _ q851) (fun _ h9 => h9) rfl hname rfl (by decide +kernel) rfl rfl (Nat.le_of_ble_eq_true rfl) dX12_init_11 (fun H locs hP hD hS => ?_)
  have hH : MH D vwA A s.heap ([(a0, .inr (13, [.int p1, .int p2]))] ++ lo) H locs := ⟨hP, hD, hS, hH.2.2.2⟩
  exact hret _ _ _ _ _ rfl hH dX12_init_14
abbrev rm_X13_init : Room := { frames := 2, cells := 0, slots := 0, locals := 62 }
set_option maxHeartbeats 4000000 in
theorem met_X13_init {l : Launch} {D : va_G} {cA : Nat → ClassId} {lo : va_W} {a0 : Nat}  {p1 : Int32} {p2 : Int32} {E : EvT} (hE : EvN E) : MX l yX13_init (ws_ yX13_init cX13_init 3 (Option.none : Option Jvm.ClassFile.FieldType)) rm_X13_init D vwA (cT cA) E [.ref a0, .int p1, .int p2] ([(a0, .inr (12, [.int 0, .int 0]))] ++ lo) (fun z => z = ([(a0, .inr (12, [.int p1, .int p2]))] ++ lo)) none := by
  refine MX.ofV (by decide) (Nat.le_of_ble_eq_true rfl) ?_
  intro p e s m args below meth c Q A hX hK hE0 hname hret H locs ls hH hl
  have hX : CallFix p m c cX13_init 3 s args lw_all RX13 := hX
  have hx := hX.1
  have hb := hX.2.1
  have hown := hX.2.2.2.1
  have hts := hX.2.2.2.2
  have hl : lv_has ls 3 [(0, .ref a0), (1, .int p1), (2, .int p2)] := hl
  have hEv := hE.1
  have hNW := hE.2.1 _ _ _ hE0
  have hAO := hE.2.2.2 _ _ _ hE0
  refine lv_aload_n hx hb dX13_init_0 rfl (lv_at hl 0 rfl) ?_
  refine lv_iload_n hx hb dX13_init_1 rfl (lv_at hl 1 rfl) ?_
  refine lv_iload_n hx hb dX13_init_2 rfl (lv_at hl 2 rfl) ?_
  have hH : MH D vwA A s.heap ([(a0, .inr (12, [.int 0, .int 0]))] ++ ([] ++ lo)) H locs := hH
  refine mxCI hX hK hEv hE0 hH (met_X12_init_X13 hE) q846 q153 q844 q845 rfl hdi_yX12_init ⟨(Nat.le_of_ble_eq_true rfl), (Nat.le_of_ble_eq_true rfl)⟩ rfl rfl hl (Nat.le_of_ble_eq_true rfl) dX13_init_3 ⟨(Nat.le_of_ble_eq_true rfl), (Nat.le_of_ble_eq_true rfl)⟩ (fun w2 H locs hw hH => ?_)
  subst hw
  have hH : MH D vwA A s.heap ([(a0, .inr (12, [.int p1, .int p2]))] ++ lo) H locs := hH
  exact hret _ _ _ _ _ rfl hH dX13_init_6
abbrev rm_X14_init : Room := { frames := 2, cells := 0, slots := 0, locals := 62 }
set_option maxHeartbeats 4000000 in
theorem met_X14_init {l : Launch} {D : va_G} {cA : Nat → ClassId} {lo : va_W} {a0 : Nat}  {p1 : Int32} {p2 : Int32} {E : EvT} (hE : EvN E) : MX l yX14_init (ws_ yX14_init cX14_init 3 (Option.none : Option Jvm.ClassFile.FieldType)) rm_X14_init D vwA (cT cA) E [.ref a0, .int p1, .int p2] ([(a0, .inr (13, [.int 0, .int 0]))] ++ lo) (fun z => z = ([(a0, .inr (13, [.int p1, .int p2]))] ++ lo)) none := by
  refine MX.ofV (by decide) (Nat.le_of_ble_eq_true rfl) ?_
  intro p e s m args below meth c Q A hX hK hE0 hname hret H locs ls hH hl
  have hX : CallFix p m c cX14_init 3 s args lw_all RX14 := hX
  have hx := hX.1
  have hb := hX.2.1
  have hown := hX.2.2.2.1
  have hts := hX.2.2.2.2
  have hl : lv_has ls 3 [(0, .ref a0), (1, .int p1), (2, .int p2)] := hl
  have hEv := hE.1
  have hNW := hE.2.1 _ _ _ hE0
  have hAO := hE.2.2.2 _ _ _ hE0
  refine lv_aload_n hx hb dX14_init_0 rfl (lv_at hl 0 rfl) ?_
  refine lv_iload_n hx hb dX14_init_1 rfl (lv_at hl 1 rfl) ?_
  refine lv_iload_n hx hb dX14_init_2 rfl (lv_at hl 2 rfl) ?_
  have hH : MH D vwA A s.heap ([(a0, .inr (13, [.int 0, .int 0]))] ++ ([] ++ lo)) H locs := hH
  refine mxCI hX hK hEv hE0 hH (met_X12_init_X14 hE) q846 q153 q866 q845 rfl hdi_yX12_init ⟨(Nat.le_of_ble_eq_true rfl), (Nat.le_of_ble_eq_true rfl)⟩ rfl rfl hl (Nat.le_of_ble_eq_true rfl) dX14_init_3 ⟨(Nat.le_of_ble_eq_true rfl), (Nat.le_of_ble_eq_true rfl)⟩ (fun w2 H locs hw hH => ?_)
  subst hw
  have hH : MH D vwA A s.heap ([(a0, .inr (13, [.int p1, .int p2]))] ++ lo) H locs := hH
  exact hret _ _ _ _ _ rfl hH dX14_init_6
abbrev rm_X17_init : Room := { frames := 2, cells := 0, slots := 0, locals := 60 }
set_option maxHeartbeats 4000000 in
theorem met_X17_init {l : Launch} {D : va_G} {cA : Nat → ClassId} {lo : va_W} {a0 : Nat}  {p1 : Int32} {p2 : Int32} {E : EvT} (hE : EvN E) : MX l yX17_init (ws_ yX17_init cX17_init 3 (Option.none : Option Jvm.ClassFile.FieldType)) rm_X17_init D vwA (cT cA) E [.ref a0, .int p1, .int p2] ([(a0, .inr (15, [.int 0, .int 0]))] ++ lo) (fun z => z = ([(a0, .inr (15, [.int p1, .int p2]))] ++ lo)) none := by
  refine MX.ofV (by decide) (Nat.le_of_ble_eq_true rfl) ?_
  intro p e s m args below meth c Q A hX hK hE0 hname hret H locs ls hH hl
  have hX : CallFix p m c cX17_init 3 s args lw_all RX17 := hX
  have hx := hX.1
  have hb := hX.2.1
  have hown := hX.2.2.2.1
  have hts := hX.2.2.2.2
  have hl : lv_has ls 3 [(0, .ref a0), (1, .int p1), (2, .int p2)] := hl
  have hEv := hE.1
  have hNW := hE.2.1 _ _ _ hE0
  have hAO := hE.2.2.2 _ _ _ hE0
  refine lv_aload_n hx hb dX17_init_0 rfl (lv_at hl 0 rfl) ?_
  have hH : MH D vwA A s.heap ([(a0, .inr (15, [.int 0, .int 0]))] ++ ([] ++ lo)) H locs := hH
  refine mxCN hX hK hEv hE0 hH (met_X15_init_X17 hE) q912 q156 (hNW _ nw_q928) q911 rfl hdi_yX15_init ⟨(Nat.le_of_ble_eq_true rfl), (Nat.le_of_ble_eq_true rfl)⟩ rfl rfl hl (Nat.le_of_ble_eq_true rfl) dX17_init_1 ⟨(Nat.le_of_ble_eq_true rfl), (Nat.le_of_ble_eq_true rfl)⟩ (fun w2 H locs hw hH => ?_)
  subst hw
  have hH : MH D vwA A s.heap ([(a0, .inr (15, [.int 0, .int 0]))] ++ lo) H locs := hH
  refine lv_aload_n hx hb dX17_init_4 rfl (lv_at hl 0 rfl) ?_
  refine lv_iload_n hx hb dX17_init_5 rfl (lv_at hl 1 rfl) ?_
  refine va_putF (C := RX17) (T := TX17) (N := 2) (ty := .int) hX.1 hX.2.1 hX.2.2.2.2 in_X17 tyX17 tyX17_ok nmX17 hX.2.2.2.1 hK hH.1 hH.2.1 hH.2.2.1 0 rfl rfl 0 (by decide) (hts _ q929) (fun _ h9 => h9) rfl hname rfl (by decide +kernel) rfl rfl (Nat.le_of_ble_eq_true rfl) dX17_init_6 (fun H locs hP hD hS => ?_)
  have hH : MH D vwA A s.heap ([(a0, .inr (15, [.int p1, .int 0]))] ++ lo) H locs := ⟨hP, hD, hS, hH.2.2.2⟩
  refine lv_aload_n hx hb dX17_init_9 rfl (lv_at hl 0 rfl) ?_
  refine lv_iload_n hx hb dX17_init_10 rfl (lv_at hl 2 rfl) ?_
  refine va_putF (C := RX17) (T := TX17) (N := 2) (ty := .int) hX.1 hX.2.1 hX.2.2.2.2 in_X17 tyX17 tyX17_ok nmX17 hX.2.2.2.1 hK hH.1 hH.2.1 hH.2.2.1 0 rfl rfl 1 (by decide) (hts _ q930) (fun _ h9 => h9) rfl hname rfl (by decide +kernel) rfl rfl (Nat.le_of_ble_eq_true rfl) dX17_init_11 (fun H locs hP hD hS => ?_)
  have hH : MH D vwA A s.heap ([(a0, .inr (15, [.int p1, .int p2]))] ++ lo) H locs := ⟨hP, hD, hS, hH.2.2.2⟩
  exact hret _ _ _ _ _ rfl hH dX17_init_14
abbrev rm_X16_init : Room := { frames := 2, cells := 0, slots := 0, locals := 60 }
set_option maxHeartbeats 4000000 in
theorem met_X16_init {l : Launch} {D : va_G} {cA : Nat → ClassId} {lo : va_W} {a0 : Nat} {b0 : Option Nat}   {E : EvT} (hE : EvN E) : MX l yX16_init (ws_ yX16_init cX16_init 2 (Option.none : Option Jvm.ClassFile.FieldType)) rm_X16_init D vwA (cT cA) E [.ref a0, va_rf b0] ([(a0, .inr (14, [.null]))] ++ lo) (fun z => z = ([(a0, .inr (14, [va_rf b0]))] ++ lo)) none := by
  cases b0
  · refine MX.ofV (by decide) (Nat.le_of_ble_eq_true rfl) ?_
    intro p e s m args below meth c Q A hX hK hE0 hname hret H locs ls hH hl
    have hX : CallFix p m c cX16_init 2 s args lw_all RX16 := hX
    have hx := hX.1
    have hb := hX.2.1
    have hown := hX.2.2.2.1
    have hts := hX.2.2.2.2
    have hl : lv_has ls 2 [(0, .ref a0), (1, _)] := hl
    have hEv := hE.1
    have hNW := hE.2.1 _ _ _ hE0
    have hAO := hE.2.2.2 _ _ _ hE0
    refine lv_aload_n hx hb dX16_init_0 rfl (lv_at hl 0 rfl) ?_
    have hH : MH D vwA A s.heap ([(a0, .inr (14, [.null]))] ++ ([] ++ lo)) H locs := hH
    refine mxCN hX hK hEv hE0 hH (met_X15_init_X16 hE) q912 q156 (hNW _ nw_q910) q911 rfl hdi_yX15_init ⟨(Nat.le_of_ble_eq_true rfl), (Nat.le_of_ble_eq_true rfl)⟩ rfl rfl hl (Nat.le_of_ble_eq_true rfl) dX16_init_1 ⟨(Nat.le_of_ble_eq_true rfl), (Nat.le_of_ble_eq_true rfl)⟩ (fun w2 H locs hw hH => ?_)
    subst hw
    have hH : MH D vwA A s.heap ([(a0, .inr (14, [.null]))] ++ lo) H locs := hH
    refine lv_aload_n hx hb dX16_init_4 rfl (lv_at hl 0 rfl) ?_
    first | refine lv_aload_nN hx hb dX16_init_5 rfl (lv_at hl 1 rfl) ?_ | refine lv_aload_n hx hb dX16_init_5 rfl (lv_at hl 1 rfl) ?_
    refine va_putF (C := RX16) (T := TX16) (N := 1) (ty := (.object "StoneYear$Fact")) hX.1 hX.2.1 hX.2.2.2.2 in_X16 tyX16 tyX16_ok nmX16 hX.2.2.2.1 hK hH.1 hH.2.1 hH.2.2.1 0 rfl rfl 0 (by decide) (hts _ q914) (fun _ h9 => h9) rfl hname rfl (by decide +kernel) rfl rfl (Nat.le_of_ble_eq_true rfl) dX16_init_6 (fun H locs hP hD hS => ?_)
    have hH : MH D vwA A s.heap ([(a0, .inr (14, [_]))] ++ lo) H locs := ⟨hP, hD, hS, hH.2.2.2⟩
    exact hret _ _ _ _ _ rfl hH dX16_init_9
  · refine MX.ofV (by decide) (Nat.le_of_ble_eq_true rfl) ?_
    intro p e s m args below meth c Q A hX hK hE0 hname hret H locs ls hH hl
    have hX : CallFix p m c cX16_init 2 s args lw_all RX16 := hX
    have hx := hX.1
    have hb := hX.2.1
    have hown := hX.2.2.2.1
    have hts := hX.2.2.2.2
    have hl : lv_has ls 2 [(0, .ref a0), (1, _)] := hl
    have hEv := hE.1
    have hNW := hE.2.1 _ _ _ hE0
    have hAO := hE.2.2.2 _ _ _ hE0
    refine lv_aload_n hx hb dX16_init_0 rfl (lv_at hl 0 rfl) ?_
    have hH : MH D vwA A s.heap ([(a0, .inr (14, [.null]))] ++ ([] ++ lo)) H locs := hH
    refine mxCN hX hK hEv hE0 hH (met_X15_init_X16 hE) q912 q156 (hNW _ nw_q910) q911 rfl hdi_yX15_init ⟨(Nat.le_of_ble_eq_true rfl), (Nat.le_of_ble_eq_true rfl)⟩ rfl rfl hl (Nat.le_of_ble_eq_true rfl) dX16_init_1 ⟨(Nat.le_of_ble_eq_true rfl), (Nat.le_of_ble_eq_true rfl)⟩ (fun w2 H locs hw hH => ?_)
    subst hw
    have hH : MH D vwA A s.heap ([(a0, .inr (14, [.null]))] ++ lo) H locs := hH
    refine lv_aload_n hx hb dX16_init_4 rfl (lv_at hl 0 rfl) ?_
    first | refine lv_aload_nN hx hb dX16_init_5 rfl (lv_at hl 1 rfl) ?_ | refine lv_aload_n hx hb dX16_init_5 rfl (lv_at hl 1 rfl) ?_
    refine va_putF (C := RX16) (T := TX16) (N := 1) (ty := (.object "StoneYear$Fact")) hX.1 hX.2.1 hX.2.2.2.2 in_X16 tyX16 tyX16_ok nmX16 hX.2.2.2.1 hK hH.1 hH.2.1 hH.2.2.1 0 rfl rfl 0 (by decide) (hts _ q914) (fun _ h9 => h9) rfl hname rfl (by decide +kernel) rfl rfl (Nat.le_of_ble_eq_true rfl) dX16_init_6 (fun H locs hP hD hS => ?_)
    have hH : MH D vwA A s.heap ([(a0, .inr (14, [_]))] ++ lo) H locs := ⟨hP, hD, hS, hH.2.2.2⟩
    exact hret _ _ _ _ _ rfl hH dX16_init_9
abbrev rm_X18_init : Room := { frames := 2, cells := 0, slots := 0, locals := 60 }
set_option maxHeartbeats 4000000 in
theorem met_X18_init {l : Launch} {D : va_G} {cA : Nat → ClassId} {lo : va_W} {a0 : Nat} {b0 : Option Nat} {b1 : Option Nat}  {p1 : Int32} {E : EvT} (hE : EvN E) (hz : narrow .boolean (.int p1) = .int p1 ∧ fits .boolean (.int p1) = true) : MX l yX18_init (ws_ yX18_init cX18_init 4 (Option.none : Option Jvm.ClassFile.FieldType)) rm_X18_init D vwA (cT cA) E [.ref a0, .int p1, va_rf b0, va_rf b1] ([(a0, .inr (16, [.int 0, .null, .null]))] ++ lo) (fun z => z = ([(a0, .inr (16, [.int p1, va_rf b0, va_rf b1]))] ++ lo)) none := by
  cases b0 <;> cases b1
  · refine MX.ofV (by decide) (Nat.le_of_ble_eq_true rfl) ?_
    intro p e s m args below meth c Q A hX hK hE0 hname hret H locs ls hH hl
    have hX : CallFix p m c cX18_init 4 s args lw_all RX18 := hX
    have hx := hX.1
    have hb := hX.2.1
    have hown := hX.2.2.2.1
    have hts := hX.2.2.2.2
    have hl : lv_has ls 4 [(0, .ref a0), (1, .int p1), (2, _), (3, _)] := hl
    have hEv := hE.1
    have hNW := hE.2.1 _ _ _ hE0
    have hAO := hE.2.2.2 _ _ _ hE0
    refine lv_aload_n hx hb dX18_init_0 rfl (lv_at hl 0 rfl) ?_
    have hH : MH D vwA A s.heap ([(a0, .inr (16, [.int 0, .null, .null]))] ++ ([] ++ lo)) H locs := hH
    refine mxCN hX hK hEv hE0 hH (met_X15_init_X18 hE) q912 q156 (hNW _ nw_q942) q911 rfl hdi_yX15_init ⟨(Nat.le_of_ble_eq_true rfl), (Nat.le_of_ble_eq_true rfl)⟩ rfl rfl hl (Nat.le_of_ble_eq_true rfl) dX18_init_1 ⟨(Nat.le_of_ble_eq_true rfl), (Nat.le_of_ble_eq_true rfl)⟩ (fun w2 H locs hw hH => ?_)
    subst hw
    have hH : MH D vwA A s.heap ([(a0, .inr (16, [.int 0, .null, .null]))] ++ lo) H locs := hH
    refine lv_aload_n hx hb dX18_init_4 rfl (lv_at hl 0 rfl) ?_
    refine lv_iload_n hx hb dX18_init_5 rfl (lv_at hl 1 rfl) ?_
    refine va_putF (C := RX18) (T := TX18) (N := 3) (ty := .boolean) hX.1 hX.2.1 hX.2.2.2.2 in_X18 tyX18 tyX18_ok nmX18 hX.2.2.2.1 hK hH.1 hH.2.1 hH.2.2.1 0 rfl rfl 0 (by decide) (hts _ q943) (fun _ h9 => h9) rfl hname rfl (by decide +kernel) hz.1 hz.2 (Nat.le_of_ble_eq_true rfl) dX18_init_6 (fun H locs hP hD hS => ?_)
    have hH : MH D vwA A s.heap ([(a0, .inr (16, [.int p1, .null, .null]))] ++ lo) H locs := ⟨hP, hD, hS, hH.2.2.2⟩
    refine lv_aload_n hx hb dX18_init_9 rfl (lv_at hl 0 rfl) ?_
    first | refine lv_aload_nN hx hb dX18_init_10 rfl (lv_at hl 2 rfl) ?_ | refine lv_aload_n hx hb dX18_init_10 rfl (lv_at hl 2 rfl) ?_
    refine va_putF (C := RX18) (T := TX18) (N := 3) (ty := (.object "StoneYear$Fact")) hX.1 hX.2.1 hX.2.2.2.2 in_X18 tyX18 tyX18_ok nmX18 hX.2.2.2.1 hK hH.1 hH.2.1 hH.2.2.1 0 rfl rfl 1 (by decide) (hts _ q944) (fun _ h9 => h9) rfl hname rfl (by decide +kernel) rfl rfl (Nat.le_of_ble_eq_true rfl) dX18_init_11 (fun H locs hP hD hS => ?_)
    have hH : MH D vwA A s.heap ([(a0, .inr (16, [.int p1, _, .null]))] ++ lo) H locs := ⟨hP, hD, hS, hH.2.2.2⟩
    refine lv_aload_n hx hb dX18_init_14 rfl (lv_at hl 0 rfl) ?_
    first | refine lv_aload_nN hx hb dX18_init_15 rfl (lv_at hl 3 rfl) ?_ | refine lv_aload_n hx hb dX18_init_15 rfl (lv_at hl 3 rfl) ?_
    refine va_putF (C := RX18) (T := TX18) (N := 3) (ty := (.object "StoneYear$Fact")) hX.1 hX.2.1 hX.2.2.2.2 in_X18 tyX18 tyX18_ok nmX18 hX.2.2.2.1 hK hH.1 hH.2.1 hH.2.2.1 0 rfl rfl 2 (by decide) (hts _ q945) (fun _ h9 => h9) rfl hname rfl (by decide +kernel) rfl rfl (Nat.le_of_ble_eq_true rfl) dX18_init_16 (fun H locs hP hD hS => ?_)
    have hH : MH D vwA A s.heap ([(a0, .inr (16, [.int p1, _, _]))] ++ lo) H locs := ⟨hP, hD, hS, hH.2.2.2⟩
    exact hret _ _ _ _ _ rfl hH dX18_init_19
  · refine MX.ofV (by decide) (Nat.le_of_ble_eq_true rfl) ?_
    intro p e s m args below meth c Q A hX hK hE0 hname hret H locs ls hH hl
    have hX : CallFix p m c cX18_init 4 s args lw_all RX18 := hX
    have hx := hX.1
    have hb := hX.2.1
    have hown := hX.2.2.2.1
    have hts := hX.2.2.2.2
    have hl : lv_has ls 4 [(0, .ref a0), (1, .int p1), (2, _), (3, _)] := hl
    have hEv := hE.1
    have hNW := hE.2.1 _ _ _ hE0
    have hAO := hE.2.2.2 _ _ _ hE0
    refine lv_aload_n hx hb dX18_init_0 rfl (lv_at hl 0 rfl) ?_
    have hH : MH D vwA A s.heap ([(a0, .inr (16, [.int 0, .null, .null]))] ++ ([] ++ lo)) H locs := hH
    refine mxCN hX hK hEv hE0 hH (met_X15_init_X18 hE) q912 q156 (hNW _ nw_q942) q911 rfl hdi_yX15_init ⟨(Nat.le_of_ble_eq_true rfl), (Nat.le_of_ble_eq_true rfl)⟩ rfl rfl hl (Nat.le_of_ble_eq_true rfl) dX18_init_1 ⟨(Nat.le_of_ble_eq_true rfl), (Nat.le_of_ble_eq_true rfl)⟩ (fun w2 H locs hw hH => ?_)
    subst hw
    have hH : MH D vwA A s.heap ([(a0, .inr (16, [.int 0, .null, .null]))] ++ lo) H locs := hH
    refine lv_aload_n hx hb dX18_init_4 rfl (lv_at hl 0 rfl) ?_
    refine lv_iload_n hx hb dX18_init_5 rfl (lv_at hl 1 rfl) ?_
    refine va_putF (C := RX18) (T := TX18) (N := 3) (ty := .boolean) hX.1 hX.2.1 hX.2.2.2.2 in_X18 tyX18 tyX18_ok nmX18 hX.2.2.2.1 hK hH.1 hH.2.1 hH.2.2.1 0 rfl rfl 0 (by decide) (hts _ q943) (fun _ h9 => h9) rfl hname rfl (by decide +kernel) hz.1 hz.2 (Nat.le_of_ble_eq_true rfl) dX18_init_6 (fun H locs hP hD hS => ?_)
    have hH : MH D vwA A s.heap ([(a0, .inr (16, [.int p1, .null, .null]))] ++ lo) H locs := ⟨hP, hD, hS, hH.2.2.2⟩
    refine lv_aload_n hx hb dX18_init_9 rfl (lv_at hl 0 rfl) ?_
    first | refine lv_aload_nN hx hb dX18_init_10 rfl (lv_at hl 2 rfl) ?_ | refine lv_aload_n hx hb dX18_init_10 rfl (lv_at hl 2 rfl) ?_
    refine va_putF (C := RX18) (T := TX18) (N := 3) (ty := (.object "StoneYear$Fact")) hX.1 hX.2.1 hX.2.2.2.2 in_X18 tyX18 tyX18_ok nmX18 hX.2.2.2.1 hK hH.1 hH.2.1 hH.2.2.1 0 rfl rfl 1 (by decide) (hts _ q944) (fun _ h9 => h9) rfl hname rfl (by decide +kernel) rfl rfl (Nat.le_of_ble_eq_true rfl) dX18_init_11 (fun H locs hP hD hS => ?_)
    have hH : MH D vwA A s.heap ([(a0, .inr (16, [.int p1, _, .null]))] ++ lo) H locs := ⟨hP, hD, hS, hH.2.2.2⟩
    refine lv_aload_n hx hb dX18_init_14 rfl (lv_at hl 0 rfl) ?_
    first | refine lv_aload_nN hx hb dX18_init_15 rfl (lv_at hl 3 rfl) ?_ | refine lv_aload_n hx hb dX18_init_15 rfl (lv_at hl 3 rfl) ?_
    refine va_putF (C := RX18) (T := TX18) (N := 3) (ty := (.object "StoneYear$Fact")) hX.1 hX.2.1 hX.2.2.2.2 in_X18 tyX18 tyX18_ok nmX18 hX.2.2.2.1 hK hH.1 hH.2.1 hH.2.2.1 0 rfl rfl 2 (by decide) (hts _ q945) (fun _ h9 => h9) rfl hname rfl (by decide +kernel) rfl rfl (Nat.le_of_ble_eq_true rfl) dX18_init_16 (fun H locs hP hD hS => ?_)
    have hH : MH D vwA A s.heap ([(a0, .inr (16, [.int p1, _, _]))] ++ lo) H locs := ⟨hP, hD, hS, hH.2.2.2⟩
    exact hret _ _ _ _ _ rfl hH dX18_init_19
  · refine MX.ofV (by decide) (Nat.le_of_ble_eq_true rfl) ?_
    intro p e s m args below meth c Q A hX hK hE0 hname hret H locs ls hH hl
    have hX : CallFix p m c cX18_init 4 s args lw_all RX18 := hX
    have hx := hX.1
    have hb := hX.2.1
    have hown := hX.2.2.2.1
    have hts := hX.2.2.2.2
    have hl : lv_has ls 4 [(0, .ref a0), (1, .int p1), (2, _), (3, _)] := hl
    have hEv := hE.1
    have hNW := hE.2.1 _ _ _ hE0
    have hAO := hE.2.2.2 _ _ _ hE0
    refine lv_aload_n hx hb dX18_init_0 rfl (lv_at hl 0 rfl) ?_
    have hH : MH D vwA A s.heap ([(a0, .inr (16, [.int 0, .null, .null]))] ++ ([] ++ lo)) H locs := hH
    refine mxCN hX hK hEv hE0 hH (met_X15_init_X18 hE) q912 q156 (hNW _ nw_q942) q911 rfl hdi_yX15_init ⟨(Nat.le_of_ble_eq_true rfl), (Nat.le_of_ble_eq_true rfl)⟩ rfl rfl hl (Nat.le_of_ble_eq_true rfl) dX18_init_1 ⟨(Nat.le_of_ble_eq_true rfl), (Nat.le_of_ble_eq_true rfl)⟩ (fun w2 H locs hw hH => ?_)
    subst hw
    have hH : MH D vwA A s.heap ([(a0, .inr (16, [.int 0, .null, .null]))] ++ lo) H locs := hH
    refine lv_aload_n hx hb dX18_init_4 rfl (lv_at hl 0 rfl) ?_
    refine lv_iload_n hx hb dX18_init_5 rfl (lv_at hl 1 rfl) ?_
    refine va_putF (C := RX18) (T := TX18) (N := 3) (ty := .boolean) hX.1 hX.2.1 hX.2.2.2.2 in_X18 tyX18 tyX18_ok nmX18 hX.2.2.2.1 hK hH.1 hH.2.1 hH.2.2.1 0 rfl rfl 0 (by decide) (hts _ q943) (fun _ h9 => h9) rfl hname rfl (by decide +kernel) hz.1 hz.2 (Nat.le_of_ble_eq_true rfl) dX18_init_6 (fun H locs hP hD hS => ?_)
    have hH : MH D vwA A s.heap ([(a0, .inr (16, [.int p1, .null, .null]))] ++ lo) H locs := ⟨hP, hD, hS, hH.2.2.2⟩
    refine lv_aload_n hx hb dX18_init_9 rfl (lv_at hl 0 rfl) ?_
    first | refine lv_aload_nN hx hb dX18_init_10 rfl (lv_at hl 2 rfl) ?_ | refine lv_aload_n hx hb dX18_init_10 rfl (lv_at hl 2 rfl) ?_
    refine va_putF (C := RX18) (T := TX18) (N := 3) (ty := (.object "StoneYear$Fact")) hX.1 hX.2.1 hX.2.2.2.2 in_X18 tyX18 tyX18_ok nmX18 hX.2.2.2.1 hK hH.1 hH.2.1 hH.2.2.1 0 rfl rfl 1 (by decide) (hts _ q944) (fun _ h9 => h9) rfl hname rfl (by decide +kernel) rfl rfl (Nat.le_of_ble_eq_true rfl) dX18_init_11 (fun H locs hP hD hS => ?_)
    have hH : MH D vwA A s.heap ([(a0, .inr (16, [.int p1, _, .null]))] ++ lo) H locs := ⟨hP, hD, hS, hH.2.2.2⟩
    refine lv_aload_n hx hb dX18_init_14 rfl (lv_at hl 0 rfl) ?_
    first | refine lv_aload_nN hx hb dX18_init_15 rfl (lv_at hl 3 rfl) ?_ | refine lv_aload_n hx hb dX18_init_15 rfl (lv_at hl 3 rfl) ?_
    refine va_putF (C := RX18) (T := TX18) (N := 3) (ty := (.object "StoneYear$Fact")) hX.1 hX.2.1 hX.2.2.2.2 in_X18 tyX18 tyX18_ok nmX18 hX.2.2.2.1 hK hH.1 hH.2.1 hH.2.2.1 0 rfl rfl 2 (by decide) (hts _ q945) (fun _ h9 => h9) rfl hname rfl (by decide +kernel) rfl rfl (Nat.le_of_ble_eq_true rfl) dX18_init_16 (fun H locs hP hD hS => ?_)
    have hH : MH D vwA A s.heap ([(a0, .inr (16, [.int p1, _, _]))] ++ lo) H locs := ⟨hP, hD, hS, hH.2.2.2⟩
    exact hret _ _ _ _ _ rfl hH dX18_init_19
  · refine MX.ofV (by decide) (Nat.le_of_ble_eq_true rfl) ?_
    intro p e s m args below meth c Q A hX hK hE0 hname hret H locs ls hH hl
    have hX : CallFix p m c cX18_init 4 s args lw_all RX18 := hX
    have hx := hX.1
    have hb := hX.2.1
    have hown := hX.2.2.2.1
    have hts := hX.2.2.2.2
    have hl : lv_has ls 4 [(0, .ref a0), (1, .int p1), (2, _), (3, _)] := hl
    have hEv := hE.1
    have hNW := hE.2.1 _ _ _ hE0
    have hAO := hE.2.2.2 _ _ _ hE0
    refine lv_aload_n hx hb dX18_init_0 rfl (lv_at hl 0 rfl) ?_
    have hH : MH D vwA A s.heap ([(a0, .inr (16, [.int 0, .null, .null]))] ++ ([] ++ lo)) H locs := hH
    refine mxCN hX hK hEv hE0 hH (met_X15_init_X18 hE) q912 q156 (hNW _ nw_q942) q911 rfl hdi_yX15_init ⟨(Nat.le_of_ble_eq_true rfl), (Nat.le_of_ble_eq_true rfl)⟩ rfl rfl hl (Nat.le_of_ble_eq_true rfl) dX18_init_1 ⟨(Nat.le_of_ble_eq_true rfl), (Nat.le_of_ble_eq_true rfl)⟩ (fun w2 H locs hw hH => ?_)
    subst hw
    have hH : MH D vwA A s.heap ([(a0, .inr (16, [.int 0, .null, .null]))] ++ lo) H locs := hH
    refine lv_aload_n hx hb dX18_init_4 rfl (lv_at hl 0 rfl) ?_
    refine lv_iload_n hx hb dX18_init_5 rfl (lv_at hl 1 rfl) ?_
    refine va_putF (C := RX18) (T := TX18) (N := 3) (ty := .boolean) hX.1 hX.2.1 hX.2.2.2.2 in_X18 tyX18 tyX18_ok nmX18 hX.2.2.2.1 hK hH.1 hH.2.1 hH.2.2.1 0 rfl rfl 0 (by decide) (hts _ q943) (fun _ h9 => h9) rfl hname rfl (by decide +kernel) hz.1 hz.2 (Nat.le_of_ble_eq_true rfl) dX18_init_6 (fun H locs hP hD hS => ?_)
    have hH : MH D vwA A s.heap ([(a0, .inr (16, [.int p1, .null, .null]))] ++ lo) H locs := ⟨hP, hD, hS, hH.2.2.2⟩
    refine lv_aload_n hx hb dX18_init_9 rfl (lv_at hl 0 rfl) ?_
    first | refine lv_aload_nN hx hb dX18_init_10 rfl (lv_at hl 2 rfl) ?_ | refine lv_aload_n hx hb dX18_init_10 rfl (lv_at hl 2 rfl) ?_
    refine va_putF (C := RX18) (T := TX18) (N := 3) (ty := (.object "StoneYear$Fact")) hX.1 hX.2.1 hX.2.2.2.2 in_X18 tyX18 tyX18_ok nmX18 hX.2.2.2.1 hK hH.1 hH.2.1 hH.2.2.1 0 rfl rfl 1 (by decide) (hts _ q944) (fun _ h9 => h9) rfl hname rfl (by decide +kernel) rfl rfl (Nat.le_of_ble_eq_true rfl) dX18_init_11 (fun H locs hP hD hS => ?_)
    have hH : MH D vwA A s.heap ([(a0, .inr (16, [.int p1, _, .null]))] ++ lo) H locs := ⟨hP, hD, hS, hH.2.2.2⟩
    refine lv_aload_n hx hb dX18_init_14 rfl (lv_at hl 0 rfl) ?_
    first | refine lv_aload_nN hx hb dX18_init_15 rfl (lv_at hl 3 rfl) ?_ | refine lv_aload_n hx hb dX18_init_15 rfl (lv_at hl 3 rfl) ?_
    refine va_putF (C := RX18) (T := TX18) (N := 3) (ty := (.object "StoneYear$Fact")) hX.1 hX.2.1 hX.2.2.2.2 in_X18 tyX18 tyX18_ok nmX18 hX.2.2.2.1 hK hH.1 hH.2.1 hH.2.2.1 0 rfl rfl 2 (by decide) (hts _ q945) (fun _ h9 => h9) rfl hname rfl (by decide +kernel) rfl rfl (Nat.le_of_ble_eq_true rfl) dX18_init_16 (fun H locs hP hD hS => ?_)
    have hH : MH D vwA A s.heap ([(a0, .inr (16, [.int p1, _, _]))] ++ lo) H locs := ⟨hP, hD, hS, hH.2.2.2⟩
    exact hret _ _ _ _ _ rfl hH dX18_init_19
abbrev rm_X3_init : Room := { frames := 1, cells := 0, slots := 0, locals := 40 }
set_option maxHeartbeats 4000000 in
theorem met_X3_init {l : Launch} {D : va_G} {cA : Nat → ClassId} {lo : va_W} {a0 : Nat}   {E : EvT} (hE : EvN E) : MX l yX3_init (ws_ yX3_init cX3_init 1 (Option.none : Option Jvm.ClassFile.FieldType)) rm_X3_init D vwA (cT cA) E [.ref a0] ([(a0, .inr (3, [.int 0, .int 0, .int 0, .int 0, .int 0, .int 0]))] ++ lo) (fun z => z = ([(a0, .inr (3, [.int 0, .int 0, .int 0, .int 0, .int 0, .int 0]))] ++ lo)) none := by
  refine MX.ofV (by decide) (Nat.le_of_ble_eq_true rfl) ?_
  intro p e s m args below meth c Q A hX hK hE0 hname hret H locs ls hH hl
  have hX : CallFix p m c cX3_init 1 s args lw_all RX3 := hX
  have hx := hX.1
  have hb := hX.2.1
  have hown := hX.2.2.2.1
  have hts := hX.2.2.2.2
  have hl : lv_has ls 1 [(0, .ref a0)] := hl
  have hEv := hE.1
  have hNW := hE.2.1 _ _ _ hE0
  have hAO := hE.2.2.2 _ _ _ hE0
  refine lv_aload_n hx hb dX3_init_0 rfl (lv_at hl 0 rfl) ?_
  refine mObj hX q299 hl (Nat.le_of_ble_eq_true rfl) (Nat.le_of_ble_eq_true rfl) dX3_init_1 ?_
  exact hret _ _ _ _ _ rfl hH dX3_init_4
abbrev rm_X7_init : Room := { frames := 1, cells := 0, slots := 0, locals := 40 }
set_option maxHeartbeats 4000000 in
theorem met_X7_init {l : Launch} {D : va_G} {cA : Nat → ClassId} {lo : va_W} {a0 : Nat}   {E : EvT} (hE : EvN E) : MX l yX7_init (ws_ yX7_init cX7_init 1 (Option.none : Option Jvm.ClassFile.FieldType)) rm_X7_init D vwA (cT cA) E [.ref a0] ([(a0, .inr (7, [.null]))] ++ lo) (fun z => z = ([(a0, .inr (7, [.null]))] ++ lo)) none := by
  refine MX.ofV (by decide) (Nat.le_of_ble_eq_true rfl) ?_
  intro p e s m args below meth c Q A hX hK hE0 hname hret H locs ls hH hl
  have hX : CallFix p m c cX7_init 1 s args lw_all RX7 := hX
  have hx := hX.1
  have hb := hX.2.1
  have hown := hX.2.2.2.1
  have hts := hX.2.2.2.2
  have hl : lv_has ls 1 [(0, .ref a0)] := hl
  have hEv := hE.1
  have hNW := hE.2.1 _ _ _ hE0
  have hAO := hE.2.2.2 _ _ _ hE0
  refine lv_aload_n hx hb dX7_init_0 rfl (lv_at hl 0 rfl) ?_
  refine mObj hX q412 hl (Nat.le_of_ble_eq_true rfl) (Nat.le_of_ble_eq_true rfl) dX7_init_1 ?_
  exact hret _ _ _ _ _ rfl hH dX7_init_4
abbrev rm_X6_init : Room := { frames := 1, cells := 3, slots := 28388, locals := 40 }
set_option maxHeartbeats 4000000 in
theorem met_X6_init {l : Launch} {D : va_G} {cA : Nat → ClassId} {lo : va_W} {a0 : Nat}   {E : EvT} (hE : EvN E) : MX l yX6_init (ws_ yX6_init cX6_init 1 (Option.none : Option Jvm.ClassFile.FieldType)) rm_X6_init D vwA (cT cA) E [.ref a0] ([(a0, .inr (6, [.null, .null, .null, .int 0]))] ++ lo) (fun z => ∃ q1 : Nat, ∃ q2 : Nat, ∃ q3 : Nat, z = ([(a0, .inr (6, [.ref q1, .ref q2, .ref q3, .int 0])), (q1, .inl (cA 17, 16384, .inr (.inl (fun _ => 0)))), (q2, .inl (cA 17, 6002, .inr (.inl (fun _ => 0)))), (q3, .inl (cA 45, 6002, .inl (fun _ => 0)))] ++ lo)) none := by
  refine MX.ofV (by decide) (Nat.le_of_ble_eq_true rfl) ?_
  intro p e s m args below meth c Q A hX hK hE0 hname hret H locs ls hH hl
  have hX : CallFix p m c cX6_init 1 s args lw_all RX6 := hX
  have hx := hX.1
  have hb := hX.2.1
  have hown := hX.2.2.2.1
  have hts := hX.2.2.2.2
  have hl : lv_has ls 1 [(0, .ref a0)] := hl
  have hEv := hE.1
  have hNW := hE.2.1 _ _ _ hE0
  have hAO := hE.2.2.2 _ _ _ hE0
  refine lv_aload_n hx hb dX6_init_0 rfl (lv_at hl 0 rfl) ?_
  refine mObj hX q388 hl (Nat.le_of_ble_eq_true rfl) (Nat.le_of_ble_eq_true rfl) dX6_init_1 ?_
  refine lv_aload_n hx hb dX6_init_4 rfl (lv_at hl 0 rfl) ?_
  refine lv_sipush (v := 16384) hx hb dX6_init_5 kys_16384 ?_
  refine mnewa (atype := .long) (ty := .long) (N' := 16384) (a0 := (16384, .inr (.inl fun _ => 0))) hX q405 rfl (fun _ h => h) hK hH 11 rfl (fun _ => rfl) (by decide) (by decide) (Nat.le_of_ble_eq_true rfl) (Nat.le_of_ble_eq_true rfl) (Nat.le_of_ble_eq_true rfl) dX6_init_8 (fun q1 H hH => ?_)
  have hH : MH D vwA A s.heap ([(a0, .inr (6, [.null, .null, .null, .int 0])), (q1, .inl (cA 17, 16384, .inr (.inl (fun _ => 0))))] ++ lo) H locs := MH.pull (xs := [(a0, .inr (6, [.null, .null, .null, .int 0]))]) (c0 := (q1, .inl (cA 17, 16384, .inr (.inl (fun _ => 0))))) hH
  refine va_putF (C := RX6) (T := TX6) (N := 4) (ty := (.array .long)) hX.1 hX.2.1 hX.2.2.2.2 in_X6 tyX6 tyX6_ok nmX6 hX.2.2.2.1 hK hH.1 hH.2.1 hH.2.2.1 0 rfl rfl 0 (by decide) (hts _ q389) (fun _ h9 => h9) rfl hname rfl (by decide +kernel) rfl rfl (Nat.le_of_ble_eq_true rfl) dX6_init_10 (fun H locs hP hD hS => ?_)
  have hH : MH D vwA A s.heap ([(a0, .inr (6, [.ref q1, .null, .null, .int 0])), (q1, .inl (cA 17, 16384, .inr (.inl (fun _ => 0))))] ++ lo) H locs := ⟨hP, hD, hS, hH.2.2.2⟩
  refine lv_aload_n hx hb dX6_init_13 rfl (lv_at hl 0 rfl) ?_
  refine lv_sipush (v := 6002) hx hb dX6_init_14 kys_6002 ?_
  refine mnewa (atype := .long) (ty := .long) (N' := 6002) (a0 := (6002, .inr (.inl fun _ => 0))) hX q405 rfl (fun _ h => h) hK hH 11 rfl (fun _ => rfl) (by decide) (by decide) (Nat.le_of_ble_eq_true rfl) (Nat.le_of_ble_eq_true rfl) (Nat.le_of_ble_eq_true rfl) dX6_init_17 (fun q2 H hH => ?_)
  have hH : MH D vwA A s.heap ([(a0, .inr (6, [.ref q1, .null, .null, .int 0])), (q1, .inl (cA 17, 16384, .inr (.inl (fun _ => 0)))), (q2, .inl (cA 17, 6002, .inr (.inl (fun _ => 0))))] ++ lo) H locs := MH.pull (xs := [(a0, .inr (6, [.ref q1, .null, .null, .int 0])), (q1, .inl (cA 17, 16384, .inr (.inl (fun _ => 0))))]) (c0 := (q2, .inl (cA 17, 6002, .inr (.inl (fun _ => 0))))) hH
  refine va_putF (C := RX6) (T := TX6) (N := 4) (ty := (.array .long)) hX.1 hX.2.1 hX.2.2.2.2 in_X6 tyX6 tyX6_ok nmX6 hX.2.2.2.1 hK hH.1 hH.2.1 hH.2.2.1 0 rfl rfl 1 (by decide) (hts _ q390) (fun _ h9 => h9) rfl hname rfl (by decide +kernel) rfl rfl (Nat.le_of_ble_eq_true rfl) dX6_init_19 (fun H locs hP hD hS => ?_)
  have hH : MH D vwA A s.heap ([(a0, .inr (6, [.ref q1, .ref q2, .null, .int 0])), (q1, .inl (cA 17, 16384, .inr (.inl (fun _ => 0)))), (q2, .inl (cA 17, 6002, .inr (.inl (fun _ => 0))))] ++ lo) H locs := ⟨hP, hD, hS, hH.2.2.2⟩
  refine lv_aload_n hx hb dX6_init_22 rfl (lv_at hl 0 rfl) ?_
  refine lv_sipush (v := 6002) hx hb dX6_init_23 kys_6002 ?_
  refine mnewa (atype := .int) (ty := .int) (N' := 6002) (a0 := (6002, .inl fun _ => 0)) hX q292 rfl (fun _ h => h) hK hH 29 rfl (fun _ => rfl) (by decide) (by decide) (Nat.le_of_ble_eq_true rfl) (Nat.le_of_ble_eq_true rfl) (Nat.le_of_ble_eq_true rfl) dX6_init_26 (fun q3 H hH => ?_)
  have hH : MH D vwA A s.heap ([(a0, .inr (6, [.ref q1, .ref q2, .null, .int 0])), (q1, .inl (cA 17, 16384, .inr (.inl (fun _ => 0)))), (q2, .inl (cA 17, 6002, .inr (.inl (fun _ => 0)))), (q3, .inl (cA 45, 6002, .inl (fun _ => 0)))] ++ lo) H locs := MH.pull (xs := [(a0, .inr (6, [.ref q1, .ref q2, .null, .int 0])), (q1, .inl (cA 17, 16384, .inr (.inl (fun _ => 0)))), (q2, .inl (cA 17, 6002, .inr (.inl (fun _ => 0))))]) (c0 := (q3, .inl (cA 45, 6002, .inl (fun _ => 0)))) hH
  refine va_putF (C := RX6) (T := TX6) (N := 4) (ty := (.array .int)) hX.1 hX.2.1 hX.2.2.2.2 in_X6 tyX6 tyX6_ok nmX6 hX.2.2.2.1 hK hH.1 hH.2.1 hH.2.2.1 0 rfl rfl 2 (by decide) (hts _ q392) (fun _ h9 => h9) rfl hname rfl (by decide +kernel) rfl rfl (Nat.le_of_ble_eq_true rfl) dX6_init_28 (fun H locs hP hD hS => ?_)
  have hH : MH D vwA A s.heap ([(a0, .inr (6, [.ref q1, .ref q2, .ref q3, .int 0])), (q1, .inl (cA 17, 16384, .inr (.inl (fun _ => 0)))), (q2, .inl (cA 17, 6002, .inr (.inl (fun _ => 0)))), (q3, .inl (cA 45, 6002, .inl (fun _ => 0)))] ++ lo) H locs := ⟨hP, hD, hS, hH.2.2.2⟩
  exact hret _ _ _ _ _ ⟨_, _, _, rfl⟩ hH dX6_init_31
abbrev rm_X4_init : Room := { frames := 1, cells := 2, slots := 20, locals := 40 }
set_option maxHeartbeats 4000000 in
theorem met_X4_init {l : Launch} {D : va_G} {cA : Nat → ClassId} {lo : va_W} {a0 : Nat} {o0 : Nat}   {E : EvT} (hE : EvN E) : MX l yX4_init (ws_ yX4_init cX4_init 2 (Option.none : Option Jvm.ClassFile.FieldType)) rm_X4_init D vwA (cT cA) E [.ref a0, .ref o0] ([(a0, .inr (4, [.null, .null, .int 0, .int 0, .null, .null]))] ++ lo) (fun z => ∃ q1 : Nat, ∃ q2 : Nat, z = ([(a0, .inr (4, [.ref q1, .ref q2, .int 0, .int (-1), .null, .ref o0])), (q1, .inl (cA 45, 15, .inl (fun _ => 0))), (q2, .inl (cA 45, 5, .inl (fun _ => 0)))] ++ lo)) none := by
  refine MX.ofV (by decide) (Nat.le_of_ble_eq_true rfl) ?_
  intro p e s m args below meth c Q A hX hK hE0 hname hret H locs ls hH hl
  have hX : CallFix p m c cX4_init 2 s args lw_all RX4 := hX
  have hx := hX.1
  have hb := hX.2.1
  have hown := hX.2.2.2.1
  have hts := hX.2.2.2.2
  have hl : lv_has ls 2 [(0, .ref a0), (1, .ref o0)] := hl
  have hEv := hE.1
  have hNW := hE.2.1 _ _ _ hE0
  have hAO := hE.2.2.2 _ _ _ hE0
  refine lv_aload_n hx hb dX4_init_0 rfl (lv_at hl 0 rfl) ?_
  refine lv_aload_n hx hb dX4_init_1 rfl (lv_at hl 1 rfl) ?_
  refine va_putF (C := RX4) (T := TX4) (N := 6) (ty := (.object "StoneYear")) hX.1 hX.2.1 hX.2.2.2.2 in_X4 tyX4 tyX4_ok nmX4 hX.2.2.2.1 hK hH.1 hH.2.1 hH.2.2.1 0 rfl rfl 5 (by decide) (hts _ q341) (fun _ h9 => h9) rfl hname rfl (by decide +kernel) rfl rfl (Nat.le_of_ble_eq_true rfl) dX4_init_2 (fun H locs hP hD hS => ?_)
  have hH : MH D vwA A s.heap ([(a0, .inr (4, [.null, .null, .int 0, .int 0, .null, .ref o0]))] ++ lo) H locs := ⟨hP, hD, hS, hH.2.2.2⟩
  refine lv_aload_n hx hb dX4_init_5 rfl (lv_at hl 0 rfl) ?_
  refine mObj hX q331 hl (Nat.le_of_ble_eq_true rfl) (Nat.le_of_ble_eq_true rfl) dX4_init_6 ?_
  refine lv_aload_n hx hb dX4_init_9 rfl (lv_at hl 0 rfl) ?_
  refine lv_bipush (v := 15) hx hb dX4_init_10 kyb_15 ?_
  refine mnewa (atype := .int) (ty := .int) (N' := 15) (a0 := (15, .inl fun _ => 0)) hX q292 rfl (fun _ h => h) hK hH 29 rfl (fun _ => rfl) (by decide) (by decide) (Nat.le_of_ble_eq_true rfl) (Nat.le_of_ble_eq_true rfl) (Nat.le_of_ble_eq_true rfl) dX4_init_12 (fun q1 H hH => ?_)
  have hH : MH D vwA A s.heap ([(a0, .inr (4, [.null, .null, .int 0, .int 0, .null, .ref o0])), (q1, .inl (cA 45, 15, .inl (fun _ => 0)))] ++ lo) H locs := MH.pull (xs := [(a0, .inr (4, [.null, .null, .int 0, .int 0, .null, .ref o0]))]) (c0 := (q1, .inl (cA 45, 15, .inl (fun _ => 0)))) hH
  refine va_putF (C := RX4) (T := TX4) (N := 6) (ty := (.array .int)) hX.1 hX.2.1 hX.2.2.2.2 in_X4 tyX4 tyX4_ok nmX4 hX.2.2.2.1 hK hH.1 hH.2.1 hH.2.2.1 0 rfl rfl 0 (by decide) (hts _ q332) (fun _ h9 => h9) rfl hname rfl (by decide +kernel) rfl rfl (Nat.le_of_ble_eq_true rfl) dX4_init_14 (fun H locs hP hD hS => ?_)
  have hH : MH D vwA A s.heap ([(a0, .inr (4, [.ref q1, .null, .int 0, .int 0, .null, .ref o0])), (q1, .inl (cA 45, 15, .inl (fun _ => 0)))] ++ lo) H locs := ⟨hP, hD, hS, hH.2.2.2⟩
  refine lv_aload_n hx hb dX4_init_17 rfl (lv_at hl 0 rfl) ?_
  refine lv_iconst (v := 5) hx hb dX4_init_18 kyi_5 ?_
  refine mnewa (atype := .int) (ty := .int) (N' := 5) (a0 := (5, .inl fun _ => 0)) hX q292 rfl (fun _ h => h) hK hH 29 rfl (fun _ => rfl) (by decide) (by decide) (Nat.le_of_ble_eq_true rfl) (Nat.le_of_ble_eq_true rfl) (Nat.le_of_ble_eq_true rfl) dX4_init_19 (fun q2 H hH => ?_)
  have hH : MH D vwA A s.heap ([(a0, .inr (4, [.ref q1, .null, .int 0, .int 0, .null, .ref o0])), (q1, .inl (cA 45, 15, .inl (fun _ => 0))), (q2, .inl (cA 45, 5, .inl (fun _ => 0)))] ++ lo) H locs := MH.pull (xs := [(a0, .inr (4, [.ref q1, .null, .int 0, .int 0, .null, .ref o0])), (q1, .inl (cA 45, 15, .inl (fun _ => 0)))]) (c0 := (q2, .inl (cA 45, 5, .inl (fun _ => 0)))) hH
  refine va_putF (C := RX4) (T := TX4) (N := 6) (ty := (.array .int)) hX.1 hX.2.1 hX.2.2.2.2 in_X4 tyX4 tyX4_ok nmX4 hX.2.2.2.1 hK hH.1 hH.2.1 hH.2.2.1 0 rfl rfl 1 (by decide) (hts _ q334) (fun _ h9 => h9) rfl hname rfl (by decide +kernel) rfl rfl (Nat.le_of_ble_eq_true rfl) dX4_init_21 (fun H locs hP hD hS => ?_)
  have hH : MH D vwA A s.heap ([(a0, .inr (4, [.ref q1, .ref q2, .int 0, .int 0, .null, .ref o0])), (q1, .inl (cA 45, 15, .inl (fun _ => 0))), (q2, .inl (cA 45, 5, .inl (fun _ => 0)))] ++ lo) H locs := ⟨hP, hD, hS, hH.2.2.2⟩
  refine lv_aload_n hx hb dX4_init_24 rfl (lv_at hl 0 rfl) ?_
  refine lv_iconst (v := (-1)) hx hb dX4_init_25 kyi_m1 ?_
  refine va_put (C := RX4) (T := TX4) (N := 6) (ty := .int) hX.1 hX.2.1 hX.2.2.2.2 in_X4 tyX4 tyX4_ok nmX4 hX.2.2.2.1 hK hH.1 hH.2.1 hH.2.2.1 0 rfl rfl 3 (by decide) (hts _ q338) (fun _ h9 => h9) rfl (by decide +kernel) rfl rfl (Nat.le_of_ble_eq_true rfl) dX4_init_26 (fun H locs hP hD hS => ?_)
  have hH : MH D vwA A s.heap ([(a0, .inr (4, [.ref q1, .ref q2, .int 0, .int (-1), .null, .ref o0])), (q1, .inl (cA 45, 15, .inl (fun _ => 0))), (q2, .inl (cA 45, 5, .inl (fun _ => 0)))] ++ lo) H locs := ⟨hP, hD, hS, hH.2.2.2⟩
  exact hret _ _ _ _ _ ⟨_, _, rfl⟩ hH dX4_init_29
abbrev rm_X5_init : Room := { frames := 1, cells := 3, slots := 294935, locals := 40 }
set_option maxHeartbeats 4000000 in
theorem met_X5_init {l : Launch} {D : va_G} {cA : Nat → ClassId} {lo : va_W} {a0 : Nat} {o0 : Nat}   {E : EvT} (hE : EvN E) : MX l yX5_init (ws_ yX5_init cX5_init 2 (Option.none : Option Jvm.ClassFile.FieldType)) rm_X5_init D vwA (cT cA) E [.ref a0, .ref o0] ([(a0, .inr (5, [.null, .null, .null, .int 0, .int 0, .null]))] ++ lo) (fun z => ∃ q1 : Nat, ∃ q2 : Nat, ∃ q3 : Nat, z = ([(a0, .inr (5, [.ref q1, .ref q2, .ref q3, .int 0, .int 0, .ref o0])), (q1, .inl (cA 45, 294912, .inl (fun _ => 0))), (q2, .inl (cA 45, 15, .inl (fun _ => 0))), (q3, .inl (cA 45, 8, .inl (fun _ => 0)))] ++ lo)) none := by
  refine MX.ofV (by decide) (Nat.le_of_ble_eq_true rfl) ?_
  intro p e s m args below meth c Q A hX hK hE0 hname hret H locs ls hH hl
  have hX : CallFix p m c cX5_init 2 s args lw_all RX5 := hX
  have hx := hX.1
  have hb := hX.2.1
  have hown := hX.2.2.2.1
  have hts := hX.2.2.2.2
  have hl : lv_has ls 2 [(0, .ref a0), (1, .ref o0)] := hl
  have hEv := hE.1
  have hNW := hE.2.1 _ _ _ hE0
  have hAO := hE.2.2.2 _ _ _ hE0
  refine lv_aload_n hx hb dX5_init_0 rfl (lv_at hl 0 rfl) ?_
  refine lv_aload_n hx hb dX5_init_1 rfl (lv_at hl 1 rfl) ?_
  refine va_putF (C := RX5) (T := TX5) (N := 6) (ty := (.object "StoneYear")) hX.1 hX.2.1 hX.2.2.2.2 in_X5 tyX5 tyX5_ok nmX5 hX.2.2.2.1 hK hH.1 hH.2.1 hH.2.2.1 0 rfl rfl 5 (by decide) (hts _ q369) (fun _ h9 => h9) rfl hname rfl (by decide +kernel) rfl rfl (Nat.le_of_ble_eq_true rfl) dX5_init_2 (fun H locs hP hD hS => ?_)
  have hH : MH D vwA A s.heap ([(a0, .inr (5, [.null, .null, .null, .int 0, .int 0, .ref o0]))] ++ lo) H locs := ⟨hP, hD, hS, hH.2.2.2⟩
  refine lv_aload_n hx hb dX5_init_5 rfl (lv_at hl 0 rfl) ?_
  refine mObj hX q360 hl (Nat.le_of_ble_eq_true rfl) (Nat.le_of_ble_eq_true rfl) dX5_init_6 ?_
  refine lv_aload_n hx hb dX5_init_9 rfl (lv_at hl 0 rfl) ?_
  refine lv_ldc (v := 294912) hx hb hown (hts _ q361) dX5_init_10 ?_
  refine mnewa (atype := .int) (ty := .int) (N' := 294912) (a0 := (294912, .inl fun _ => 0)) hX q292 rfl (fun _ h => h) hK hH 29 rfl (fun _ => rfl) (by decide) (by decide) (Nat.le_of_ble_eq_true rfl) (Nat.le_of_ble_eq_true rfl) (Nat.le_of_ble_eq_true rfl) dX5_init_12 (fun q1 H hH => ?_)
  have hH : MH D vwA A s.heap ([(a0, .inr (5, [.null, .null, .null, .int 0, .int 0, .ref o0])), (q1, .inl (cA 45, 294912, .inl (fun _ => 0)))] ++ lo) H locs := MH.pull (xs := [(a0, .inr (5, [.null, .null, .null, .int 0, .int 0, .ref o0]))]) (c0 := (q1, .inl (cA 45, 294912, .inl (fun _ => 0)))) hH
  refine va_putF (C := RX5) (T := TX5) (N := 6) (ty := (.array .int)) hX.1 hX.2.1 hX.2.2.2.2 in_X5 tyX5 tyX5_ok nmX5 hX.2.2.2.1 hK hH.1 hH.2.1 hH.2.2.1 0 rfl rfl 0 (by decide) (hts _ q362) (fun _ h9 => h9) rfl hname rfl (by decide +kernel) rfl rfl (Nat.le_of_ble_eq_true rfl) dX5_init_14 (fun H locs hP hD hS => ?_)
  have hH : MH D vwA A s.heap ([(a0, .inr (5, [.ref q1, .null, .null, .int 0, .int 0, .ref o0])), (q1, .inl (cA 45, 294912, .inl (fun _ => 0)))] ++ lo) H locs := ⟨hP, hD, hS, hH.2.2.2⟩
  refine lv_aload_n hx hb dX5_init_17 rfl (lv_at hl 0 rfl) ?_
  refine lv_bipush (v := 15) hx hb dX5_init_18 kyb_15 ?_
  refine mnewa (atype := .int) (ty := .int) (N' := 15) (a0 := (15, .inl fun _ => 0)) hX q292 rfl (fun _ h => h) hK hH 29 rfl (fun _ => rfl) (by decide) (by decide) (Nat.le_of_ble_eq_true rfl) (Nat.le_of_ble_eq_true rfl) (Nat.le_of_ble_eq_true rfl) dX5_init_20 (fun q2 H hH => ?_)
  have hH : MH D vwA A s.heap ([(a0, .inr (5, [.ref q1, .null, .null, .int 0, .int 0, .ref o0])), (q1, .inl (cA 45, 294912, .inl (fun _ => 0))), (q2, .inl (cA 45, 15, .inl (fun _ => 0)))] ++ lo) H locs := MH.pull (xs := [(a0, .inr (5, [.ref q1, .null, .null, .int 0, .int 0, .ref o0])), (q1, .inl (cA 45, 294912, .inl (fun _ => 0)))]) (c0 := (q2, .inl (cA 45, 15, .inl (fun _ => 0)))) hH
  refine va_putF (C := RX5) (T := TX5) (N := 6) (ty := (.array .int)) hX.1 hX.2.1 hX.2.2.2.2 in_X5 tyX5 tyX5_ok nmX5 hX.2.2.2.1 hK hH.1 hH.2.1 hH.2.2.1 0 rfl rfl 1 (by decide) (hts _ q363) (fun _ h9 => h9) rfl hname rfl (by decide +kernel) rfl rfl (Nat.le_of_ble_eq_true rfl) dX5_init_22 (fun H locs hP hD hS => ?_)
  have hH : MH D vwA A s.heap ([(a0, .inr (5, [.ref q1, .ref q2, .null, .int 0, .int 0, .ref o0])), (q1, .inl (cA 45, 294912, .inl (fun _ => 0))), (q2, .inl (cA 45, 15, .inl (fun _ => 0)))] ++ lo) H locs := ⟨hP, hD, hS, hH.2.2.2⟩
  refine lv_aload_n hx hb dX5_init_25 rfl (lv_at hl 0 rfl) ?_
  refine lv_bipush (v := 8) hx hb dX5_init_26 kyb_8 ?_
  refine mnewa (atype := .int) (ty := .int) (N' := 8) (a0 := (8, .inl fun _ => 0)) hX q292 rfl (fun _ h => h) hK hH 29 rfl (fun _ => rfl) (by decide) (by decide) (Nat.le_of_ble_eq_true rfl) (Nat.le_of_ble_eq_true rfl) (Nat.le_of_ble_eq_true rfl) dX5_init_28 (fun q3 H hH => ?_)
  have hH : MH D vwA A s.heap ([(a0, .inr (5, [.ref q1, .ref q2, .null, .int 0, .int 0, .ref o0])), (q1, .inl (cA 45, 294912, .inl (fun _ => 0))), (q2, .inl (cA 45, 15, .inl (fun _ => 0))), (q3, .inl (cA 45, 8, .inl (fun _ => 0)))] ++ lo) H locs := MH.pull (xs := [(a0, .inr (5, [.ref q1, .ref q2, .null, .int 0, .int 0, .ref o0])), (q1, .inl (cA 45, 294912, .inl (fun _ => 0))), (q2, .inl (cA 45, 15, .inl (fun _ => 0)))]) (c0 := (q3, .inl (cA 45, 8, .inl (fun _ => 0)))) hH
  refine va_putF (C := RX5) (T := TX5) (N := 6) (ty := (.array .int)) hX.1 hX.2.1 hX.2.2.2.2 in_X5 tyX5 tyX5_ok nmX5 hX.2.2.2.1 hK hH.1 hH.2.1 hH.2.2.1 0 rfl rfl 2 (by decide) (hts _ q364) (fun _ h9 => h9) rfl hname rfl (by decide +kernel) rfl rfl (Nat.le_of_ble_eq_true rfl) dX5_init_30 (fun H locs hP hD hS => ?_)
  have hH : MH D vwA A s.heap ([(a0, .inr (5, [.ref q1, .ref q2, .ref q3, .int 0, .int 0, .ref o0])), (q1, .inl (cA 45, 294912, .inl (fun _ => 0))), (q2, .inl (cA 45, 15, .inl (fun _ => 0))), (q3, .inl (cA 45, 8, .inl (fun _ => 0)))] ++ lo) H locs := ⟨hP, hD, hS, hH.2.2.2⟩
  exact hret _ _ _ _ _ ⟨_, _, _, rfl⟩ hH dX5_init_33
abbrev rm_X1_begins : Room := { frames := 4, cells := 1, slots := 5, locals := 141 }
set_option maxHeartbeats 4000000 in
theorem met_X1_begins {l : Launch} {D : va_G} {cA : Nat → ClassId} {lo : va_W} {w0 w1 : Nat} {a0 : Nat} {vl : Int64} {vy : Int32} {a1 : Nat} {vc : Nat → Int32} {a2 : Nat} {vt : Nat → Int32} {pl : va_W} {tb : Nat → Nat} {u : Nat → Int32}   {r0 : Int64} {r1 : Nat → Int32} {r2 : Nat → Int32} {r3 : Nat → Int32} {E : EvT} (hE : EvN E) (hU : TownAt cA pl tb u) (hp : PlIn pl lo) (hF : FX1_begins vc vt u = some (r0, r1, r2, r3)) : MX l yX1_begins (ws_ yX1_begins cX1_begins 6 (Option.none : Option Jvm.ClassFile.FieldType)) rm_X1_begins D vwA (cT cA) E [.ref a0, .ref (tb 0)] ([(a0, .inr (1, [.ref w0, .ref w1, .long vl, .int vy, .ref a1, .ref a2])), (a1, .inl (cA 34, 8, .inl vc)), (a2, .inl (cA 35, 8, .inl vt))] ++ lo) (fun z => ∃ q3 : Nat, z = ([(a0, .inr (1, [.ref (tb 0), .ref w1, .long r0, .int 0, .ref a1, .ref a2])), (a1, .inl (cA 34, 8, .inl r1)), (a2, .inl (cA 35, 8, .inl r2)), (q3, .inl (cA 45, 5, .inl r3))] ++ lo)) none := by
  refine MX.ofV (by decide) (Nat.le_of_ble_eq_true rfl) ?_
  intro p e s m args below meth c Q A hX hK hE0 hname hret H locs ls hH hl
  have hX : CallFix p m c cX1_begins 6 s args lw_all RX1 := hX
  have hx := hX.1
  have hb := hX.2.1
  have hown := hX.2.2.2.1
  have hts := hX.2.2.2.2
  have hl : lv_has ls 6 [(0, .ref a0), (1, .ref (tb 0))] := hl
  have hEv := hE.1
  have hNW := hE.2.1 _ _ _ hE0
  have hAO := hE.2.2.2 _ _ _ hE0
  delta FX1_begins at hF
  refine lv_aload_n hx hb dX1_begins_0 rfl (lv_at hl 0 rfl) ?_
  refine lv_aload_n hx hb dX1_begins_1 rfl (lv_at hl 1 rfl) ?_
  refine va_put (C := RX1) (T := TX1) (N := 6) (ty := (.object "StoneYear$Town")) hX.1 hX.2.1 hX.2.2.2.2 in_X1 tyX1 tyX1_ok nmX1 hX.2.2.2.1 hK hH.1 hH.2.1 hH.2.2.1 0 rfl rfl 0 (by decide) (hts _ q264) (fun _ h9 => h9) rfl (by decide +kernel) rfl rfl (Nat.le_of_ble_eq_true rfl) dX1_begins_2 (fun H locs hP hD hS => ?_)
  have hH : MH D vwA A s.heap ([(a0, .inr (1, [.ref (tb 0), .ref w1, .long vl, .int vy, .ref a1, .ref a2])), (a1, .inl (cA 34, 8, .inl vc)), (a2, .inl (cA 35, 8, .inl vt))] ++ lo) H locs := ⟨hP, hD, hS, hH.2.2.2⟩
  refine lv_aload_n hx hb dX1_begins_5 rfl (lv_at hl 0 rfl) ?_
  refine lv_iconst (v := 0) hx hb dX1_begins_6 kyi_0 ?_
  refine va_put (C := RX1) (T := TX1) (N := 6) (ty := .int) hX.1 hX.2.1 hX.2.2.2.2 in_X1 tyX1 tyX1_ok nmX1 hX.2.2.2.1 hK hH.1 hH.2.1 hH.2.2.1 0 rfl rfl 3 (by decide) (hts _ q273) (fun _ h9 => h9) rfl (by decide +kernel) rfl rfl (Nat.le_of_ble_eq_true rfl) dX1_begins_7 (fun H locs hP hD hS => ?_)
  have hH : MH D vwA A s.heap ([(a0, .inr (1, [.ref (tb 0), .ref w1, .long vl, .int 0, .ref a1, .ref a2])), (a1, .inl (cA 34, 8, .inl vc)), (a2, .inl (cA 35, 8, .inl vt))] ++ lo) H locs := ⟨hP, hD, hS, hH.2.2.2⟩
  refine lv_aload_n hx hb dX1_begins_10 rfl (lv_at hl 0 rfl) ?_
  refine lv_lconst (v := 0) hx hb dX1_begins_11 rfl ?_
  refine va_put (C := RX1) (T := TX1) (N := 6) (ty := .long) hX.1 hX.2.1 hX.2.2.2.2 in_X1 tyX1 tyX1_ok nmX1 hX.2.2.2.1 hK hH.1 hH.2.1 hH.2.2.1 0 rfl rfl 2 (by decide) (hts _ q270) (fun _ h9 => h9) rfl (by decide +kernel) rfl rfl (Nat.le_of_ble_eq_true rfl) dX1_begins_12 (fun H locs hP hD hS => ?_)
  have hH : MH D vwA A s.heap ([(a0, .inr (1, [.ref (tb 0), .ref w1, .long 0, .int 0, .ref a1, .ref a2])), (a1, .inl (cA 34, 8, .inl vc)), (a2, .inl (cA 35, 8, .inl vt))] ++ lo) H locs := ⟨hP, hD, hS, hH.2.2.2⟩
  refine lv_iconst (v := 5) hx hb dX1_begins_15 kyi_5 ?_
  refine mnewa (atype := .int) (ty := .int) (N' := 5) (a0 := (5, .inl fun _ => 0)) hX q292 rfl (fun _ h => h) hK hH 29 rfl (fun _ => rfl) (by decide) (by decide) (Nat.le_of_ble_eq_true rfl) (Nat.le_of_ble_eq_true rfl) (Nat.le_of_ble_eq_true rfl) dX1_begins_16 (fun q3 H hH => ?_)
  have hH : MH D vwA A s.heap ([(a0, .inr (1, [.ref (tb 0), .ref w1, .long 0, .int 0, .ref a1, .ref a2])), (a1, .inl (cA 34, 8, .inl vc)), (a2, .inl (cA 35, 8, .inl vt)), (q3, .inl (cA 45, 5, .inl (fun _ => 0)))] ++ lo) H locs := MH.pull (xs := [(a0, .inr (1, [.ref (tb 0), .ref w1, .long 0, .int 0, .ref a1, .ref a2])), (a1, .inl (cA 34, 8, .inl vc)), (a2, .inl (cA 35, 8, .inl vt))]) (c0 := (q3, .inl (cA 45, 5, .inl (fun _ => 0)))) hH
  refine lv_astore_n (lv' := [(2, .ref q3), (0, .ref a0), (1, .ref (tb 0))]) hx hb dX1_begins_18 rfl hl (by decide) rfl (fun ls hl => ?_)
  refine lv_iconst (v := 0) hx hb dX1_begins_19 kyi_0 ?_
  refine lv_istore_n (lv' := [(3, .int 0), (2, .ref q3), (0, .ref a0), (1, .ref (tb 0))]) hx hb dX1_begins_20 rfl hl (by decide) rfl (fun ls hl => ?_)
  obtain ⟨xx21, ee21, kk21_0⟩ := bd4L hF
  have k21_0 : ∀ (c0_lies_29 : Int64) (c1_a_30 : Nat → Int32) (c2_a_31 : Nat → Int32) (c3_a_32 : Nat → Int32), xx21 = (c0_lies_29, c1_a_30, c2_a_31, c3_a_32) → ∀ (H : Heap) (locs : List Loc) (ls : Array Slot), MH D vwA A s.heap ([(a0, .inr (1, [.ref (tb 0), .ref w1, .long c0_lies_29, .int 0, .ref a1, .ref a2])), (a1, .inl (cA 34, 8, .inl c1_a_30)), (a2, .inl (cA 35, 8, .inl c2_a_31)), (q3, .inl (cA 45, 5, .inl c3_a_32))] ++ lo) H locs → lv_has ls 6 [] → W p l e rm_X1_begins s m args below meth c H locs 1 5 Q (F0 m 113 ls []) := by
    intro c0_lies_29 c1_a_30 c2_a_31 c3_a_32 hxx H locs ls hH hl
    have hF := un4e (kk21_0 (c0_lies_29, c1_a_30, c2_a_31, c3_a_32) hxx)
    obtain ⟨rfl, rfl, rfl, rfl⟩ := re4 hF
    exact hret _ _ _ _ _ ⟨_, rfl⟩ hH dX1_begins_113
  obtain ⟨nn21, en21⟩ := loopC_some ee21
  have l21 : ∀ (n : Nat) (x_14 : Int32) (c0_lies_15 : Int64) (c1_a_16 : Nat → Int32) (c2_a_17 : Nat → Int32) (c3_a_18 : Nat → Int32), loopN (fun s => FX1_begins_b21 u s.1 s.2.1 s.2.2.1 s.2.2.2.1 s.2.2.2.2) n (x_14, c0_lies_15, c1_a_16, c2_a_17, c3_a_18) = some xx21 → ∀ (H : Heap) (locs : List Loc) (ls : Array Slot), MH D vwA A s.heap ([(a0, .inr (1, [.ref (tb 0), .ref w1, .long c0_lies_15, .int 0, .ref a1, .ref a2])), (a1, .inl (cA 34, 8, .inl c1_a_16)), (a2, .inl (cA 35, 8, .inl c2_a_17)), (q3, .inl (cA 45, 5, .inl c3_a_18))] ++ lo) H locs → lv_has ls 6 [(0, .ref a0), (1, .ref (tb 0)), (2, .ref q3), (3, .int x_14)] → W p l e rm_X1_begins s m args below meth c H locs 1 5 Q (F0 m 21 ls []) := by
    intro n
    induction n with
    | zero =>
      intro x_14 c0_lies_15 c1_a_16 c2_a_17 c3_a_18 hN
      exact absurd hN loopN_zero
    | succ n ih =>
      intro x_14 c0_lies_15 c1_a_16 c2_a_17 c3_a_18 hN H locs ls hH hl
      obtain ⟨yy21, hB21, hY21⟩ := loopN_succ hN
      have hF : FX1_begins_b21 u x_14 c0_lies_15 c1_a_16 c2_a_17 c3_a_18 = some yy21 := hB21
      delta FX1_begins_b21 at hF
      refine lv_iload_n hx hb dX1_begins_21 rfl (lv_at hl 3 rfl) ?_
      refine lv_bipush (v := 8) hx hb dX1_begins_22 kyb_8 ?_
      refine lv_icmp_ge (tgt := 113) hx hb dX1_begins_24 rfl (fun c_19 => ?_) (fun c_19 => ?_)
      · have hF := itp c_19 hF
        obtain rfl := Option.some.inj hF
        exact k21_0 c0_lies_15 c1_a_16 c2_a_17 c3_a_18 hY21 _ _ _ hH (lv_sub hl [] rfl)
      · have hF := itn c_19 hF
        refine lv_aload_n hx hb dX1_begins_27 rfl (lv_at hl 0 rfl) ?_
        refine va_get (C := RX1) (T := TX1) (N := 6) hX.1 hX.2.1 hX.2.2.2.2 in_X1 hX.2.2.2.1 hK hH.1 0 rfl rfl 4 (by decide) (hts _ q275) (fun _ h9 => h9) rfl dX1_begins_28 ?_
        refine lv_iload_n hx hb dX1_begins_31 rfl (lv_at hl 3 rfl) ?_
        refine lv_iconst (v := 0) hx hb dX1_begins_32 kyi_0 ?_
        obtain ⟨a_20, he, hF⟩ := bd1e hF
        refine va_iast hX.1 hX.2.1 hK hH.1 hH.2.1 hH.2.2.1 1 22 rfl rfl (wrI_in he) dX1_begins_33 (fun H locs hP hD hS => ?_)
        rw [wrI_eq he] at hP hD
        have hH : MH D vwA A s.heap ([(a0, .inr (1, [.ref (tb 0), .ref w1, .long c0_lies_15, .int 0, .ref a1, .ref a2])), (a1, .inl (cA 34, 8, .inl a_20)), (a2, .inl (cA 35, 8, .inl c2_a_17)), (q3, .inl (cA 45, 5, .inl c3_a_18))] ++ lo) H locs := ⟨hP, hD, hS, hH.2.2.2⟩
        refine lv_aload_n hx hb dX1_begins_34 rfl (lv_at hl 0 rfl) ?_
        refine va_get (C := RX1) (T := TX1) (N := 6) hX.1 hX.2.1 hX.2.2.2.2 in_X1 hX.2.2.2.1 hK hH.1 0 rfl rfl 5 (by decide) (hts _ q277) (fun _ h9 => h9) rfl dX1_begins_35 ?_
        refine lv_iload_n hx hb dX1_begins_38 rfl (lv_at hl 3 rfl) ?_
        refine lv_iconst (v := (-1)) hx hb dX1_begins_39 kyi_m1 ?_
        obtain ⟨a_21, he, hF⟩ := bd1e hF
        refine va_iast hX.1 hX.2.1 hK hH.1 hH.2.1 hH.2.2.1 2 23 rfl rfl (wrI_in he) dX1_begins_40 (fun H locs hP hD hS => ?_)
        rw [wrI_eq he] at hP hD
        have hH : MH D vwA A s.heap ([(a0, .inr (1, [.ref (tb 0), .ref w1, .long c0_lies_15, .int 0, .ref a1, .ref a2])), (a1, .inl (cA 34, 8, .inl a_20)), (a2, .inl (cA 35, 8, .inl a_21)), (q3, .inl (cA 45, 5, .inl c3_a_18))] ++ lo) H locs := ⟨hP, hD, hS, hH.2.2.2⟩
        refine lv_bipush (v := 15) hx hb dX1_begins_41 kyb_15 ?_
        refine lv_istore (lv' := [(4, .int 15), (0, .ref a0), (1, .ref (tb 0)), (2, .ref q3), (3, .int x_14)]) hx hb dX1_begins_43 hl (by decide) rfl (fun ls hl => ?_)
        refine lv_iload_n hx hb dX1_begins_45 rfl (lv_at hl 4 rfl) ?_
        refine lv_aload_n hx hb dX1_begins_46 rfl (lv_at hl 2 rfl) ?_
        refine cg_Y_State_town_stones hU (hp.up _) hX hK hNW hH dX1_begins_47 ?_
        refine mxV hX hK hEv hE0 hH (met_J2_size hE.1 hU.stones (hp.up _)) (precv (hp.up _) hK hH 17 rfl hU.stones.obj) gw_StoneYear_State_46 hd_yJ2_size ⟨Nat.le_of_ble_eq_true rfl, Nat.le_of_ble_eq_true rfl⟩ rfl rfl hl (Nat.le_of_ble_eq_true rfl) dX1_begins_50 ⟨Nat.le_of_ble_eq_true rfl, Nat.le_of_ble_eq_true rfl⟩ (fun w2 H locs hw hH => ?_)
        subst hw
        have j91 : ∀ (x_27 : Int32) (c3_a_28 : Nat → Int32), FX1_begins_j91 x_14 c0_lies_15 a_20 a_21 x_27 c3_a_28 = some yy21 → ∀ (H : Heap) (locs : List Loc) (ls : Array Slot), MH D vwA A s.heap ([(a0, .inr (1, [.ref (tb 0), .ref w1, .long c0_lies_15, .int 0, .ref a1, .ref a2])), (a1, .inl (cA 34, 8, .inl a_20)), (a2, .inl (cA 35, 8, .inl a_21)), (q3, .inl (cA 45, 5, .inl c3_a_28))] ++ lo) H locs → lv_has ls 6 [(0, .ref a0), (1, .ref (tb 0)), (2, .ref q3), (3, .int x_14), (4, .int x_27)] → W p l e rm_X1_begins s m args below meth c H locs 1 5 Q (F0 m 91 ls []) := by
          intro x_27 c3_a_28 hF H locs ls hH hl
          delta FX1_begins_j91 at hF
          refine lv_aload_n hx hb dX1_begins_91 rfl (lv_at hl 0 rfl) ?_
          refine lv_dup hx hb dX1_begins_92 rfl ?_
          refine va_get (C := RX1) (T := TX1) (N := 6) hX.1 hX.2.1 hX.2.2.2.2 in_X1 hX.2.2.2.1 hK hH.1 0 rfl rfl 2 (by decide) (hts _ q270) (fun _ h9 => h9) rfl dX1_begins_93 ?_
          refine lv_iload hx hb dX1_begins_96 (lv_at hl 4 rfl) ?_
          refine lv_i2l (v := (Int32.toInt64 x_27)) hx hb dX1_begins_98 rfl ?_
          refine lv_iconst (v := 4) hx hb dX1_begins_99 kyi_4 ?_
          refine lv_iload_n hx hb dX1_begins_100 rfl (lv_at hl 3 rfl) ?_
          refine lv_imul hx hb dX1_begins_101 ?_
          refine lv_lshl hx hb dX1_begins_102 rfl ?_
          refine lv_lor hx hb dX1_begins_103 ?_
          refine va_put (C := RX1) (T := TX1) (N := 6) (ty := .long) hX.1 hX.2.1 hX.2.2.2.2 in_X1 tyX1 tyX1_ok nmX1 hX.2.2.2.1 hK hH.1 hH.2.1 hH.2.2.1 0 rfl rfl 2 (by decide) (hts _ q270) (fun _ h9 => h9) rfl (by decide +kernel) rfl rfl (Nat.le_of_ble_eq_true rfl) dX1_begins_104 (fun H locs hP hD hS => ?_)
          have hH : MH D vwA A s.heap ([(a0, .inr (1, [.ref (tb 0), .ref w1, .long (c0_lies_15 ||| (shlL (Int32.toInt64 x_27) (4 * x_14))), .int 0, .ref a1, .ref a2])), (a1, .inl (cA 34, 8, .inl a_20)), (a2, .inl (cA 35, 8, .inl a_21)), (q3, .inl (cA 45, 5, .inl c3_a_28))] ++ lo) H locs := ⟨hP, hD, hS, hH.2.2.2⟩
          refine lv_iinc (v := (x_14 + 1)) (lv' := [(3, .int (x_14 + 1)), (0, .ref a0), (1, .ref (tb 0)), (2, .ref q3), (4, .int x_27)]) hx hb dX1_begins_107 hl (k := 3) rfl (syc kyi_1) (by decide) rfl (fun ls hl => ?_)
          refine lv_goto (tgt := 21) hx hb dX1_begins_110 rfl ?_
          obtain rfl := Option.some.inj hF
          exact ih (x_14 + 1) (c0_lies_15 ||| (shlL (Int32.toInt64 x_27) (4 * x_14))) a_20 a_21 c3_a_28 hY21 _ _ _ hH (lv_sub hl [1, 2, 3, 0] rfl)
        refine lv_icmp_ge (tgt := 91) hx hb dX1_begins_53 rfl (fun c_22 => ?_) (fun c_22 => ?_)
        · have hF := itp c_22 hF
          exact j91 15 c3_a_18 hF _ _ _ hH (lv_sub hl [1, 2, 3, 4, 0] rfl)
        · have hF := itn c_22 hF
          refine lv_aload_n hx hb dX1_begins_56 rfl (lv_at hl 2 rfl) ?_
          refine cg_Y_State_town_stones hU (hp.up _) hX hK hNW hH dX1_begins_57 ?_
          refine lv_iload_n hx hb dX1_begins_60 rfl (lv_at hl 4 rfl) ?_
          obtain ⟨hg_23, hF⟩ := bd0e hF
          refine mxV hX hK hEv hE0 hH (met_J2_get hE.1 rfl hU.stones hg_23 (hp.up _)) (precv (hp.up _) hK hH 17 rfl hU.stones.obj) gw_StoneYear_State_50 hd_yJ2_get ⟨Nat.le_of_ble_eq_true rfl, Nat.le_of_ble_eq_true rfl⟩ rfl rfl hl (Nat.le_of_ble_eq_true rfl) dX1_begins_61 ⟨Nat.le_of_ble_eq_true rfl, Nat.le_of_ble_eq_true rfl⟩ (fun w2 H locs hw hH => ?_)
          subst hw
          refine va_castE hx hb hown (hts _ q440) (precv (hp.up _) hK hH 11 rfl ⟨_, hU.stone (alg_lt hg_23)⟩) dX1_begins_64 ?_
          refine cg_Y_State_stone_row hU (alg_lt hg_23) (hp.up _) hX hK hNW hH dX1_begins_67 ?_
          refine lv_istore (lv' := [(5, .int (u (200 + x_14.toNatClampNeg))), (4, .int 15), (0, .ref a0), (1, .ref (tb 0)), (2, .ref q3), (3, .int x_14)]) hx hb dX1_begins_70 hl (by decide) rfl (fun ls hl => ?_)
          refine lv_iconst (v := 3) hx hb dX1_begins_72 kyi_3 ?_
          refine lv_iload hx hb dX1_begins_73 (lv_at hl 0 rfl) ?_
          refine lv_imul hx hb dX1_begins_75 ?_
          refine lv_aload_n hx hb dX1_begins_76 rfl (lv_at hl 4 rfl) ?_
          refine lv_iload hx hb dX1_begins_77 (lv_at hl 0 rfl) ?_
          obtain ⟨x_24, he, hF⟩ := bd1e hF
          refine va_iald hX.1 hX.2.1 hK hH.1 3 29 rfl rfl (rd_in he) dX1_begins_79 ?_
          rw [rd_eq he]
          refine lv_iadd hx hb dX1_begins_80 ?_
          refine lv_istore (lv' := [(4, .int ((3 * (u (200 + x_14.toNatClampNeg))) + x_24)), (5, .int (u (200 + x_14.toNatClampNeg))), (0, .ref a0), (1, .ref (tb 0)), (2, .ref q3), (3, .int x_14)]) hx hb dX1_begins_81 hl (by decide) rfl (fun ls hl => ?_)
          refine lv_aload_n hx hb dX1_begins_83 rfl (lv_at hl 4 rfl) ?_
          refine lv_iload hx hb dX1_begins_84 (lv_at hl 1 rfl) ?_
          refine lv_dup2_11 hx hb dX1_begins_86 rfl rfl ?_
          obtain ⟨x_25, he, hF⟩ := bd1e hF
          refine va_iald hX.1 hX.2.1 hK hH.1 3 29 rfl rfl (rd_in he) dX1_begins_87 ?_
          rw [rd_eq he]
          refine lv_iconst (v := 1) hx hb dX1_begins_88 kyi_1 ?_
          refine lv_iadd hx hb dX1_begins_89 ?_
          obtain ⟨a_26, he, hF⟩ := bd1e hF
          refine va_iast hX.1 hX.2.1 hK hH.1 hH.2.1 hH.2.2.1 3 29 rfl rfl (wrI_in he) dX1_begins_90 (fun H locs hP hD hS => ?_)
          rw [wrI_eq he] at hP hD
          have hH : MH D vwA A s.heap ([(a0, .inr (1, [.ref (tb 0), .ref w1, .long c0_lies_15, .int 0, .ref a1, .ref a2])), (a1, .inl (cA 34, 8, .inl a_20)), (a2, .inl (cA 35, 8, .inl a_21)), (q3, .inl (cA 45, 5, .inl a_26))] ++ lo) H locs := ⟨hP, hD, hS, hH.2.2.2⟩
          exact j91 ((3 * (u (200 + x_14.toNatClampNeg))) + x_24) a_26 hF _ _ _ hH (lv_sub hl [2, 3, 4, 5, 0] rfl)
  exact l21 nn21 0 0 vc vt (fun _ => 0) en21 _ _ _ hH (lv_sub hl [2, 3, 1, 0] rfl)
abbrev rm_J8_newLength : Room := { frames := 1, cells := 0, slots := 0, locals := 70 }
set_option maxHeartbeats 4000000 in
theorem met_J8_newLength {l : Launch} {D : va_G} {cA : Nat → ClassId} {lo : va_W}  {p0 : Int32} {p1 : Int32} {p2 : Int32} {res : Int32} {E : EvT} (hE : EvN E) (hF : FJ8_newLength p0 p1 p2 = some res) : MX l yJ8_newLength (ws_ yJ8_newLength cJ8_newLength 4 (Option.some Jvm.ClassFile.FieldType.int)) rm_J8_newLength D vwA (cT cA) E [.int p0, .int p1, .int p2] ([] ++ lo) (fun z => z = ([] ++ lo)) (some (.int res)) := by
  refine MX.ofI (by decide) (Nat.le_of_ble_eq_true rfl) ?_
  intro p e s m args below meth c Q A hX hK hE0 hname hret H locs ls hH hl
  have hX : CallFix p m c cJ8_newLength 4 s args lw_all RJ8 := hX
  have hx := hX.1
  have hb := hX.2.1
  have hown := hX.2.2.2.1
  have hts := hX.2.2.2.2
  have hl : lv_has ls 4 [(0, .int p0), (1, .int p1), (2, .int p2)] := hl
  have hEv := hE.1
  have hNW := hE.2.1 _ _ _ hE0
  have hAO := hE.2.2.2 _ _ _ hE0
  delta FJ8_newLength at hF
  refine lv_iload_n hx hb dJ8_newLength_0 rfl (lv_at hl 0 rfl) ?_
  refine lv_iload_n hx hb dJ8_newLength_1 rfl (lv_at hl 1 rfl) ?_
  refine lv_iload_n hx hb dJ8_newLength_2 rfl (lv_at hl 2 rfl) ?_
  refine cm_max hX hl (hts _ q735) dJ8_newLength_3 (Nat.le_of_ble_eq_true rfl) (Nat.le_of_ble_eq_true rfl) (Nat.le_of_ble_eq_true rfl) (Nat.le_of_ble_eq_true rfl) ?_
  refine lv_iadd hx hb dJ8_newLength_6 ?_
  refine lv_istore_n (lv' := [(3, .int (p0 + (mxI p1 p2))), (0, .int p0), (1, .int p1), (2, .int p2)]) hx hb dJ8_newLength_7 rfl hl (by decide) rfl (fun ls hl => ?_)
  refine lv_iconst (v := 0) hx hb dJ8_newLength_8 kyi_0 ?_
  refine lv_iload_n hx hb dJ8_newLength_9 rfl (lv_at hl 0 rfl) ?_
  refine lv_icmp_ge (tgt := 21) hx hb dJ8_newLength_10 rfl (fun c_4 => ?_) (fun c_4 => ?_)
  · have hF := itp c_4 hF
    cases hF
  · have hF := itn c_4 hF
    refine lv_iload_n hx hb dJ8_newLength_13 rfl (lv_at hl 0 rfl) ?_
    refine lv_ldc (v := 2147483639) hx hb hown (hts _ q738) dJ8_newLength_14 ?_
    refine lv_icmp_gt (tgt := 21) hx hb dJ8_newLength_16 rfl (fun c_5 => ?_) (fun c_5 => ?_)
    · have hF := itp c_5 hF
      cases hF
    · have hF := itn c_5 hF
      refine lv_iload_n hx hb dJ8_newLength_19 rfl (lv_at hl 0 rfl) ?_
      obtain rfl := Option.some.inj hF
      exact hret _ _ _ _ _ rfl hH dJ8_newLength_20
abbrev rm_X11_init : Room := { frames := 1, cells := 0, slots := 0, locals := 40 }
set_option maxHeartbeats 4000000 in
theorem met_X11_init {l : Launch} {D : va_G} {cA : Nat → ClassId} {lo : va_W} {a0 : Nat}  {p1 : Int32} {p2 : Int32} {p3 : Int32} {p4 : Int32} {E : EvT} (hE : EvN E) : MX l yX11_init (ws_ yX11_init cX11_init 5 (Option.none : Option Jvm.ClassFile.FieldType)) rm_X11_init D vwA (cT cA) E [.ref a0, .int p1, .int p2, .int p3, .int p4] ([(a0, .inr (11, [.int 0, .int 0, .int 0, .int 0]))] ++ lo) (fun z => z = ([(a0, .inr (11, [.int p1, .int p2, .int p3, .int p4]))] ++ lo)) none := by
  refine MX.ofV (by decide) (Nat.le_of_ble_eq_true rfl) ?_
  intro p e s m args below meth c Q A hX hK hE0 hname hret H locs ls hH hl
  have hX : CallFix p m c cX11_init 5 s args lw_all RX11 := hX
  have hx := hX.1
  have hb := hX.2.1
  have hown := hX.2.2.2.1
  have hts := hX.2.2.2.2
  have hl : lv_has ls 5 [(0, .ref a0), (1, .int p1), (2, .int p2), (3, .int p3), (4, .int p4)] := hl
  have hEv := hE.1
  have hNW := hE.2.1 _ _ _ hE0
  have hAO := hE.2.2.2 _ _ _ hE0
  refine lv_aload_n hx hb dX11_init_0 rfl (lv_at hl 0 rfl) ?_
  refine mObj hX q804 hl (Nat.le_of_ble_eq_true rfl) (Nat.le_of_ble_eq_true rfl) dX11_init_1 ?_
  refine lv_aload_n hx hb dX11_init_4 rfl (lv_at hl 0 rfl) ?_
  refine lv_iload_n hx hb dX11_init_5 rfl (lv_at hl 1 rfl) ?_
  refine va_putF (C := RX11) (T := TX11) (N := 4) (ty := .int) hX.1 hX.2.1 hX.2.2.2.2 in_X11 tyX11 tyX11_ok nmX11 hX.2.2.2.1 hK hH.1 hH.2.1 hH.2.2.1 0 rfl rfl 0 (by decide) (hts _ q805) (fun _ h9 => h9) rfl hname rfl (by decide +kernel) rfl rfl (Nat.le_of_ble_eq_true rfl) dX11_init_6 (fun H locs hP hD hS => ?_)
  have hH : MH D vwA A s.heap ([(a0, .inr (11, [.int p1, .int 0, .int 0, .int 0]))] ++ lo) H locs := ⟨hP, hD, hS, hH.2.2.2⟩
  refine lv_aload_n hx hb dX11_init_9 rfl (lv_at hl 0 rfl) ?_
  refine lv_iload_n hx hb dX11_init_10 rfl (lv_at hl 2 rfl) ?_
  refine va_putF (C := RX11) (T := TX11) (N := 4) (ty := .int) hX.1 hX.2.1 hX.2.2.2.2 in_X11 tyX11 tyX11_ok nmX11 hX.2.2.2.1 hK hH.1 hH.2.1 hH.2.2.1 0 rfl rfl 1 (by decide) (hts _ q809) (fun _ h9 => h9) rfl hname rfl (by decide +kernel) rfl rfl (Nat.le_of_ble_eq_true rfl) dX11_init_11 (fun H locs hP hD hS => ?_)
  have hH : MH D vwA A s.heap ([(a0, .inr (11, [.int p1, .int p2, .int 0, .int 0]))] ++ lo) H locs := ⟨hP, hD, hS, hH.2.2.2⟩
  refine lv_aload_n hx hb dX11_init_14 rfl (lv_at hl 0 rfl) ?_
  refine lv_iload_n hx hb dX11_init_15 rfl (lv_at hl 3 rfl) ?_
  refine va_putF (C := RX11) (T := TX11) (N := 4) (ty := .int) hX.1 hX.2.1 hX.2.2.2.2 in_X11 tyX11 tyX11_ok nmX11 hX.2.2.2.1 hK hH.1 hH.2.1 hH.2.2.1 0 rfl rfl 2 (by decide) (hts _ q812) (fun _ h9 => h9) rfl hname rfl (by decide +kernel) rfl rfl (Nat.le_of_ble_eq_true rfl) dX11_init_16 (fun H locs hP hD hS => ?_)
  have hH : MH D vwA A s.heap ([(a0, .inr (11, [.int p1, .int p2, .int p3, .int 0]))] ++ lo) H locs := ⟨hP, hD, hS, hH.2.2.2⟩
  refine lv_aload_n hx hb dX11_init_19 rfl (lv_at hl 0 rfl) ?_
  refine lv_iload hx hb dX11_init_20 (lv_at hl 4 rfl) ?_
  refine va_putF (C := RX11) (T := TX11) (N := 4) (ty := .int) hX.1 hX.2.1 hX.2.2.2.2 in_X11 tyX11 tyX11_ok nmX11 hX.2.2.2.1 hK hH.1 hH.2.1 hH.2.2.1 0 rfl rfl 3 (by decide) (hts _ q814) (fun _ h9 => h9) rfl hname rfl (by decide +kernel) rfl rfl (Nat.le_of_ble_eq_true rfl) dX11_init_22 (fun H locs hP hD hS => ?_)
  have hH : MH D vwA A s.heap ([(a0, .inr (11, [.int p1, .int p2, .int p3, .int p4]))] ++ lo) H locs := ⟨hP, hD, hS, hH.2.2.2⟩
  exact hret _ _ _ _ _ rfl hH dX11_init_25
abbrev rm_X10_init : Room := { frames := 1, cells := 1, slots := 3, locals := 40 }
set_option maxHeartbeats 4000000 in
theorem met_X10_init {l : Launch} {D : va_G} {cA : Nat → ClassId} {lo : va_W} {a0 : Nat}  {p1 : Int32} {E : EvT} (hE : EvN E) : MX l yX10_init (ws_ yX10_init cX10_init 2 (Option.none : Option Jvm.ClassFile.FieldType)) rm_X10_init D vwA (cT cA) E [.ref a0, .int p1] ([(a0, .inr (10, [.int 0, .null, .int 0, .int 0, .int 0]))] ++ lo) (fun z => ∃ q1 : Nat, z = ([(a0, .inr (10, [.int p1, .ref q1, .int (-1), .int (-1), .int 0])), (q1, .inl (cA 45, 3, .inl (upd (upd (upd (fun _ => 0) (0 : Int32).toNatClampNeg (-1)) (1 : Int32).toNatClampNeg (-1)) (2 : Int32).toNatClampNeg (-1))))] ++ lo)) none := by
  refine MX.ofV (by decide) (Nat.le_of_ble_eq_true rfl) ?_
  intro p e s m args below meth c Q A hX hK hE0 hname hret H locs ls hH hl
  have hX : CallFix p m c cX10_init 2 s args lw_all RX10 := hX
  have hx := hX.1
  have hb := hX.2.1
  have hown := hX.2.2.2.1
  have hts := hX.2.2.2.2
  have hl : lv_has ls 2 [(0, .ref a0), (1, .int p1)] := hl
  have hEv := hE.1
  have hNW := hE.2.1 _ _ _ hE0
  have hAO := hE.2.2.2 _ _ _ hE0
  refine lv_aload_n hx hb dX10_init_0 rfl (lv_at hl 0 rfl) ?_
  refine mObj hX q684 hl (Nat.le_of_ble_eq_true rfl) (Nat.le_of_ble_eq_true rfl) dX10_init_1 ?_
  refine lv_aload_n hx hb dX10_init_4 rfl (lv_at hl 0 rfl) ?_
  refine lv_iconst (v := 3) hx hb dX10_init_5 kyi_3 ?_
  refine mnewa (atype := .int) (ty := .int) (N' := 3) (a0 := (3, .inl fun _ => 0)) hX q292 rfl (fun _ h => h) hK hH 29 rfl (fun _ => rfl) (by decide) (by decide) (Nat.le_of_ble_eq_true rfl) (Nat.le_of_ble_eq_true rfl) (Nat.le_of_ble_eq_true rfl) dX10_init_6 (fun q1 H hH => ?_)
  have hH : MH D vwA A s.heap ([(a0, .inr (10, [.int 0, .null, .int 0, .int 0, .int 0])), (q1, .inl (cA 45, 3, .inl (fun _ => 0)))] ++ lo) H locs := MH.pull (xs := [(a0, .inr (10, [.int 0, .null, .int 0, .int 0, .int 0]))]) (c0 := (q1, .inl (cA 45, 3, .inl (fun _ => 0)))) hH
  refine lv_dup hx hb dX10_init_8 rfl ?_
  refine lv_iconst (v := 0) hx hb dX10_init_9 kyi_0 ?_
  refine lv_iconst (v := (-1)) hx hb dX10_init_10 kyi_m1 ?_
  refine va_iast hX.1 hX.2.1 hK hH.1 hH.2.1 hH.2.2.1 1 29 rfl rfl (fun h => absurd h (by decide)) dX10_init_11 (fun H locs hP hD hS => ?_)
  have hH : MH D vwA A s.heap ([(a0, .inr (10, [.int 0, .null, .int 0, .int 0, .int 0])), (q1, .inl (cA 45, 3, .inl (upd (fun _ => 0) (0 : Int32).toNatClampNeg (-1))))] ++ lo) H locs := ⟨hP, hD, hS, hH.2.2.2⟩
  refine lv_dup hx hb dX10_init_12 rfl ?_
  refine lv_iconst (v := 1) hx hb dX10_init_13 kyi_1 ?_
  refine lv_iconst (v := (-1)) hx hb dX10_init_14 kyi_m1 ?_
  refine va_iast hX.1 hX.2.1 hK hH.1 hH.2.1 hH.2.2.1 1 29 rfl rfl (fun h => absurd h (by decide)) dX10_init_15 (fun H locs hP hD hS => ?_)
  have hH : MH D vwA A s.heap ([(a0, .inr (10, [.int 0, .null, .int 0, .int 0, .int 0])), (q1, .inl (cA 45, 3, .inl (upd (upd (fun _ => 0) (0 : Int32).toNatClampNeg (-1)) (1 : Int32).toNatClampNeg (-1))))] ++ lo) H locs := ⟨hP, hD, hS, hH.2.2.2⟩
  refine lv_dup hx hb dX10_init_16 rfl ?_
  refine lv_iconst (v := 2) hx hb dX10_init_17 kyi_2 ?_
  refine lv_iconst (v := (-1)) hx hb dX10_init_18 kyi_m1 ?_
  refine va_iast hX.1 hX.2.1 hK hH.1 hH.2.1 hH.2.2.1 1 29 rfl rfl (fun h => absurd h (by decide)) dX10_init_19 (fun H locs hP hD hS => ?_)
  have hH : MH D vwA A s.heap ([(a0, .inr (10, [.int 0, .null, .int 0, .int 0, .int 0])), (q1, .inl (cA 45, 3, .inl (upd (upd (upd (fun _ => 0) (0 : Int32).toNatClampNeg (-1)) (1 : Int32).toNatClampNeg (-1)) (2 : Int32).toNatClampNeg (-1))))] ++ lo) H locs := ⟨hP, hD, hS, hH.2.2.2⟩
  refine va_putF (C := RX10) (T := TX10) (N := 5) (ty := (.array .int)) hX.1 hX.2.1 hX.2.2.2.2 in_X10 tyX10 tyX10_ok nmX10 hX.2.2.2.1 hK hH.1 hH.2.1 hH.2.2.1 0 rfl rfl 1 (by decide) (hts _ q689) (fun _ h9 => h9) rfl hname rfl (by decide +kernel) rfl rfl (Nat.le_of_ble_eq_true rfl) dX10_init_20 (fun H locs hP hD hS => ?_)
  have hH : MH D vwA A s.heap ([(a0, .inr (10, [.int 0, .ref q1, .int 0, .int 0, .int 0])), (q1, .inl (cA 45, 3, .inl (upd (upd (upd (fun _ => 0) (0 : Int32).toNatClampNeg (-1)) (1 : Int32).toNatClampNeg (-1)) (2 : Int32).toNatClampNeg (-1))))] ++ lo) H locs := ⟨hP, hD, hS, hH.2.2.2⟩
  refine lv_aload_n hx hb dX10_init_23 rfl (lv_at hl 0 rfl) ?_
  refine lv_iconst (v := (-1)) hx hb dX10_init_24 kyi_m1 ?_
  refine va_put (C := RX10) (T := TX10) (N := 5) (ty := .int) hX.1 hX.2.1 hX.2.2.2.2 in_X10 tyX10 tyX10_ok nmX10 hX.2.2.2.1 hK hH.1 hH.2.1 hH.2.2.1 0 rfl rfl 2 (by decide) (hts _ q694) (fun _ h9 => h9) rfl (by decide +kernel) rfl rfl (Nat.le_of_ble_eq_true rfl) dX10_init_25 (fun H locs hP hD hS => ?_)
  have hH : MH D vwA A s.heap ([(a0, .inr (10, [.int 0, .ref q1, .int (-1), .int 0, .int 0])), (q1, .inl (cA 45, 3, .inl (upd (upd (upd (fun _ => 0) (0 : Int32).toNatClampNeg (-1)) (1 : Int32).toNatClampNeg (-1)) (2 : Int32).toNatClampNeg (-1))))] ++ lo) H locs := ⟨hP, hD, hS, hH.2.2.2⟩
  refine lv_aload_n hx hb dX10_init_28 rfl (lv_at hl 0 rfl) ?_
  refine lv_iconst (v := (-1)) hx hb dX10_init_29 kyi_m1 ?_
  refine va_put (C := RX10) (T := TX10) (N := 5) (ty := .int) hX.1 hX.2.1 hX.2.2.2.2 in_X10 tyX10 tyX10_ok nmX10 hX.2.2.2.1 hK hH.1 hH.2.1 hH.2.2.1 0 rfl rfl 3 (by decide) (hts _ q699) (fun _ h9 => h9) rfl (by decide +kernel) rfl rfl (Nat.le_of_ble_eq_true rfl) dX10_init_30 (fun H locs hP hD hS => ?_)
  have hH : MH D vwA A s.heap ([(a0, .inr (10, [.int 0, .ref q1, .int (-1), .int (-1), .int 0])), (q1, .inl (cA 45, 3, .inl (upd (upd (upd (fun _ => 0) (0 : Int32).toNatClampNeg (-1)) (1 : Int32).toNatClampNeg (-1)) (2 : Int32).toNatClampNeg (-1))))] ++ lo) H locs := ⟨hP, hD, hS, hH.2.2.2⟩
  refine lv_aload_n hx hb dX10_init_33 rfl (lv_at hl 0 rfl) ?_
  refine lv_iload_n hx hb dX10_init_34 rfl (lv_at hl 1 rfl) ?_
  refine va_putF (C := RX10) (T := TX10) (N := 5) (ty := .int) hX.1 hX.2.1 hX.2.2.2.2 in_X10 tyX10 tyX10_ok nmX10 hX.2.2.2.1 hK hH.1 hH.2.1 hH.2.2.1 0 rfl rfl 0 (by decide) (hts _ q685) (fun _ h9 => h9) rfl hname rfl (by decide +kernel) rfl rfl (Nat.le_of_ble_eq_true rfl) dX10_init_35 (fun H locs hP hD hS => ?_)
  have hH : MH D vwA A s.heap ([(a0, .inr (10, [.int p1, .ref q1, .int (-1), .int (-1), .int 0])), (q1, .inl (cA 45, 3, .inl (upd (upd (upd (fun _ => 0) (0 : Int32).toNatClampNeg (-1)) (1 : Int32).toNatClampNeg (-1)) (2 : Int32).toNatClampNeg (-1))))] ++ lo) H locs := ⟨hP, hD, hS, hH.2.2.2⟩
  exact hret _ _ _ _ _ ⟨_, rfl⟩ hH dX10_init_38
abbrev rm_X2_init : Room := { frames := 4, cells := 6, slots := 15, locals := 101 }
set_option maxHeartbeats 4000000 in
theorem met_X2_init {l : Launch} {D : va_G} {cA : Nat → ClassId} {lo : va_W} {a0 : Nat}   {E : EvT} (hE : EvN E) : MX l yX2_init (ws_ yX2_init cX2_init 1 (Option.none : Option Jvm.ClassFile.FieldType)) rm_X2_init D vwA (cT cA) E [.ref a0] ([(a0, .inr (2, [.null, .null, .null, .int 0, .int 0, .int 0, .int 0, .int 0]))] ++ lo) (fun z => ∃ q1 : Nat, ∃ q2 : Nat, ∃ q3 : Nat, ∃ q4 : Nat, ∃ q5 : Nat, ∃ q6 : Nat, z = ([(a0, .inr (2, [.ref q1, .ref q3, .ref q5, .int 4, .int 8, .int 0, .int 0, .int 0])), (q1, .inr (17, [.int 0, .ref q2, .int 0])), (q2, .inl (cA 44, 2, .inr (.inr (.inr (.inr (fun _ => none)))))), (q3, .inr (17, [.int 0, .ref q4, .int 0])), (q4, .inl (cA 44, 2, .inr (.inr (.inr (.inr (fun _ => none)))))), (q5, .inr (17, [.int 0, .ref q6, .int 0])), (q6, .inl (cA 44, 2, .inr (.inr (.inr (.inr (fun _ => none))))))] ++ lo)) none := by
  refine MX.ofV (by decide) (Nat.le_of_ble_eq_true rfl) ?_
  intro p e s m args below meth c Q A hX hK hE0 hname hret H locs ls hH hl
  have hX : CallFix p m c cX2_init 1 s args lw_all RX2 := hX
  have hx := hX.1
  have hb := hX.2.1
  have hown := hX.2.2.2.1
  have hts := hX.2.2.2.2
  have hl : lv_has ls 1 [(0, .ref a0)] := hl
  have hEv := hE.1
  have hNW := hE.2.1 _ _ _ hE0
  have hAO := hE.2.2.2 _ _ _ hE0
  refine lv_aload_n hx hb dX2_init_0 rfl (lv_at hl 0 rfl) ?_
  refine mObj hX q187 hl (Nat.le_of_ble_eq_true rfl) (Nat.le_of_ble_eq_true rfl) dX2_init_1 ?_
  refine lv_aload_n hx hb dX2_init_4 rfl (lv_at hl 0 rfl) ?_
  refine va_new (ci := 17) (fs := [.int 0, .null, .int 0]) (C := RJ2) (T := TJ2) (N := 3) hX.1 hX.2.1 hX.2.2.2.2 in_J2 tyJ2 tyJ2_ok hX.2.2.2.1 (hts _ q188) (hts _ q189) (hts _ q134) hK hH.1 hH.2.1 hH.2.2.1 hH.2.2.2 rfl df_J2 (Nat.le_of_ble_eq_true rfl) (Nat.le_of_ble_eq_true rfl) dX2_init_5 (fun q1 H hP hD hS => ?_)
  have hH : MH D vwA A s.heap ([(a0, .inr (2, [.null, .null, .null, .int 0, .int 0, .int 0, .int 0, .int 0]))] ++ (lo ++ [(q1, .inr (17, [.int 0, .null, .int 0]))])) H locs := ⟨hP, hD, hS, hH.2.2.2⟩
  have hH : MH D vwA A s.heap ([(a0, .inr (2, [.null, .null, .null, .int 0, .int 0, .int 0, .int 0, .int 0])), (q1, .inr (17, [.int 0, .null, .int 0]))] ++ lo) H locs := MH.pull (xs := [(a0, .inr (2, [.null, .null, .null, .int 0, .int 0, .int 0, .int 0, .int 0]))]) (c0 := (q1, .inr (17, [.int 0, .null, .int 0]))) hH
  refine lv_dup hx hb dX2_init_8 rfl ?_
  refine lv_iconst (v := 2) hx hb dX2_init_9 kyi_2 ?_
  have hH : MH D vwA A s.heap ([(q1, .inr (17, [.int 0, .null, .int 0])), (a0, .inr (2, [.null, .null, .null, .int 0, .int 0, .int 0, .int 0, .int 0]))] ++ lo) H locs := MH.reorder [(a0, .inr (2, [.null, .null, .null, .int 0, .int 0, .int 0, .int 0, .int 0])), (q1, .inr (17, [.int 0, .null, .int 0]))] _ [1, 0] (n := 2) (by decide) rfl rfl hH
  have hH : MH D vwA A s.heap ([(q1, .inr (17, [.int 0, .null, .int 0]))] ++ ([(a0, .inr (2, [.null, .null, .null, .int 0, .int 0, .int 0, .int 0, .int 0]))] ++ lo)) H locs := hH
  refine mxCI hX hK hEv hE0 hH (met_J2_init hE) q192 q134 q190 q191 rfl hdi_yJ2_init ⟨(Nat.le_of_ble_eq_true rfl), (Nat.le_of_ble_eq_true rfl)⟩ rfl rfl hl (Nat.le_of_ble_eq_true rfl) dX2_init_10 ⟨(Nat.le_of_ble_eq_true rfl), (Nat.le_of_ble_eq_true rfl)⟩ (fun w2 H locs hw hH => ?_)
  obtain ⟨q2, rfl⟩ := hw
  have hH : MH D vwA A s.heap ([(q1, .inr (17, [.int 0, .ref q2, .int 0])), (q2, .inl (cA 44, 2, .inr (.inr (.inr (.inr (fun _ => none)))))), (a0, .inr (2, [.null, .null, .null, .int 0, .int 0, .int 0, .int 0, .int 0]))] ++ lo) H locs := hH
  have hH : MH D vwA A s.heap ([(a0, .inr (2, [.null, .null, .null, .int 0, .int 0, .int 0, .int 0, .int 0])), (q1, .inr (17, [.int 0, .ref q2, .int 0])), (q2, .inl (cA 44, 2, .inr (.inr (.inr (.inr (fun _ => none))))))] ++ lo) H locs := MH.reorder [(q1, .inr (17, [.int 0, .ref q2, .int 0])), (q2, .inl (cA 44, 2, .inr (.inr (.inr (.inr (fun _ => none)))))), (a0, .inr (2, [.null, .null, .null, .int 0, .int 0, .int 0, .int 0, .int 0]))] _ [2, 0, 1] (n := 3) (by decide) rfl rfl hH
  refine va_putF (C := RX2) (T := TX2) (N := 8) (ty := (.object "java/util/ArrayList")) hX.1 hX.2.1 hX.2.2.2.2 in_X2 tyX2 tyX2_ok nmX2 hX.2.2.2.1 hK hH.1 hH.2.1 hH.2.2.1 0 rfl rfl 0 (by decide) (hts _ q216) (fun _ h9 => h9) rfl hname rfl (by decide +kernel) rfl rfl (Nat.le_of_ble_eq_true rfl) dX2_init_13 (fun H locs hP hD hS => ?_)
  have hH : MH D vwA A s.heap ([(a0, .inr (2, [.ref q1, .null, .null, .int 0, .int 0, .int 0, .int 0, .int 0])), (q1, .inr (17, [.int 0, .ref q2, .int 0])), (q2, .inl (cA 44, 2, .inr (.inr (.inr (.inr (fun _ => none))))))] ++ lo) H locs := ⟨hP, hD, hS, hH.2.2.2⟩
  refine lv_aload_n hx hb dX2_init_16 rfl (lv_at hl 0 rfl) ?_
  refine va_new (ci := 17) (fs := [.int 0, .null, .int 0]) (C := RJ2) (T := TJ2) (N := 3) hX.1 hX.2.1 hX.2.2.2.2 in_J2 tyJ2 tyJ2_ok hX.2.2.2.1 (hts _ q188) (hts _ q189) (hts _ q134) hK hH.1 hH.2.1 hH.2.2.1 hH.2.2.2 rfl df_J2 (Nat.le_of_ble_eq_true rfl) (Nat.le_of_ble_eq_true rfl) dX2_init_17 (fun q3 H hP hD hS => ?_)
  have hH : MH D vwA A s.heap ([(a0, .inr (2, [.ref q1, .null, .null, .int 0, .int 0, .int 0, .int 0, .int 0])), (q1, .inr (17, [.int 0, .ref q2, .int 0])), (q2, .inl (cA 44, 2, .inr (.inr (.inr (.inr (fun _ => none))))))] ++ (lo ++ [(q3, .inr (17, [.int 0, .null, .int 0]))])) H locs := ⟨hP, hD, hS, hH.2.2.2⟩
  have hH : MH D vwA A s.heap ([(a0, .inr (2, [.ref q1, .null, .null, .int 0, .int 0, .int 0, .int 0, .int 0])), (q1, .inr (17, [.int 0, .ref q2, .int 0])), (q2, .inl (cA 44, 2, .inr (.inr (.inr (.inr (fun _ => none)))))), (q3, .inr (17, [.int 0, .null, .int 0]))] ++ lo) H locs := MH.pull (xs := [(a0, .inr (2, [.ref q1, .null, .null, .int 0, .int 0, .int 0, .int 0, .int 0])), (q1, .inr (17, [.int 0, .ref q2, .int 0])), (q2, .inl (cA 44, 2, .inr (.inr (.inr (.inr (fun _ => none))))))]) (c0 := (q3, .inr (17, [.int 0, .null, .int 0]))) hH
  refine lv_dup hx hb dX2_init_20 rfl ?_
  refine lv_iconst (v := 2) hx hb dX2_init_21 kyi_2 ?_
  have hH : MH D vwA A s.heap ([(q3, .inr (17, [.int 0, .null, .int 0])), (a0, .inr (2, [.ref q1, .null, .null, .int 0, .int 0, .int 0, .int 0, .int 0])), (q1, .inr (17, [.int 0, .ref q2, .int 0])), (q2, .inl (cA 44, 2, .inr (.inr (.inr (.inr (fun _ => none))))))] ++ lo) H locs := MH.reorder [(a0, .inr (2, [.ref q1, .null, .null, .int 0, .int 0, .int 0, .int 0, .int 0])), (q1, .inr (17, [.int 0, .ref q2, .int 0])), (q2, .inl (cA 44, 2, .inr (.inr (.inr (.inr (fun _ => none)))))), (q3, .inr (17, [.int 0, .null, .int 0]))] _ [3, 0, 1, 2] (n := 4) (by decide) rfl rfl hH
  have hH : MH D vwA A s.heap ([(q3, .inr (17, [.int 0, .null, .int 0]))] ++ ([(a0, .inr (2, [.ref q1, .null, .null, .int 0, .int 0, .int 0, .int 0, .int 0])), (q1, .inr (17, [.int 0, .ref q2, .int 0])), (q2, .inl (cA 44, 2, .inr (.inr (.inr (.inr (fun _ => none))))))] ++ lo)) H locs := hH
  refine mxCI hX hK hEv hE0 hH (met_J2_init hE) q192 q134 q190 q191 rfl hdi_yJ2_init ⟨(Nat.le_of_ble_eq_true rfl), (Nat.le_of_ble_eq_true rfl)⟩ rfl rfl hl (Nat.le_of_ble_eq_true rfl) dX2_init_22 ⟨(Nat.le_of_ble_eq_true rfl), (Nat.le_of_ble_eq_true rfl)⟩ (fun w2 H locs hw hH => ?_)
  obtain ⟨q4, rfl⟩ := hw
  have hH : MH D vwA A s.heap ([(q3, .inr (17, [.int 0, .ref q4, .int 0])), (q4, .inl (cA 44, 2, .inr (.inr (.inr (.inr (fun _ => none)))))), (a0, .inr (2, [.ref q1, .null, .null, .int 0, .int 0, .int 0, .int 0, .int 0])), (q1, .inr (17, [.int 0, .ref q2, .int 0])), (q2, .inl (cA 44, 2, .inr (.inr (.inr (.inr (fun _ => none))))))] ++ lo) H locs := hH
  have hH : MH D vwA A s.heap ([(a0, .inr (2, [.ref q1, .null, .null, .int 0, .int 0, .int 0, .int 0, .int 0])), (q1, .inr (17, [.int 0, .ref q2, .int 0])), (q2, .inl (cA 44, 2, .inr (.inr (.inr (.inr (fun _ => none)))))), (q3, .inr (17, [.int 0, .ref q4, .int 0])), (q4, .inl (cA 44, 2, .inr (.inr (.inr (.inr (fun _ => none))))))] ++ lo) H locs := MH.reorder [(q3, .inr (17, [.int 0, .ref q4, .int 0])), (q4, .inl (cA 44, 2, .inr (.inr (.inr (.inr (fun _ => none)))))), (a0, .inr (2, [.ref q1, .null, .null, .int 0, .int 0, .int 0, .int 0, .int 0])), (q1, .inr (17, [.int 0, .ref q2, .int 0])), (q2, .inl (cA 44, 2, .inr (.inr (.inr (.inr (fun _ => none))))))] _ [2, 3, 4, 0, 1] (n := 5) (by decide) rfl rfl hH
  refine va_putF (C := RX2) (T := TX2) (N := 8) (ty := (.object "java/util/ArrayList")) hX.1 hX.2.1 hX.2.2.2.2 in_X2 tyX2 tyX2_ok nmX2 hX.2.2.2.1 hK hH.1 hH.2.1 hH.2.2.1 0 rfl rfl 1 (by decide) (hts _ q220) (fun _ h9 => h9) rfl hname rfl (by decide +kernel) rfl rfl (Nat.le_of_ble_eq_true rfl) dX2_init_25 (fun H locs hP hD hS => ?_)
  have hH : MH D vwA A s.heap ([(a0, .inr (2, [.ref q1, .ref q3, .null, .int 0, .int 0, .int 0, .int 0, .int 0])), (q1, .inr (17, [.int 0, .ref q2, .int 0])), (q2, .inl (cA 44, 2, .inr (.inr (.inr (.inr (fun _ => none)))))), (q3, .inr (17, [.int 0, .ref q4, .int 0])), (q4, .inl (cA 44, 2, .inr (.inr (.inr (.inr (fun _ => none))))))] ++ lo) H locs := ⟨hP, hD, hS, hH.2.2.2⟩
  refine lv_aload_n hx hb dX2_init_28 rfl (lv_at hl 0 rfl) ?_
  refine va_new (ci := 17) (fs := [.int 0, .null, .int 0]) (C := RJ2) (T := TJ2) (N := 3) hX.1 hX.2.1 hX.2.2.2.2 in_J2 tyJ2 tyJ2_ok hX.2.2.2.1 (hts _ q188) (hts _ q189) (hts _ q134) hK hH.1 hH.2.1 hH.2.2.1 hH.2.2.2 rfl df_J2 (Nat.le_of_ble_eq_true rfl) (Nat.le_of_ble_eq_true rfl) dX2_init_29 (fun q5 H hP hD hS => ?_)
  have hH : MH D vwA A s.heap ([(a0, .inr (2, [.ref q1, .ref q3, .null, .int 0, .int 0, .int 0, .int 0, .int 0])), (q1, .inr (17, [.int 0, .ref q2, .int 0])), (q2, .inl (cA 44, 2, .inr (.inr (.inr (.inr (fun _ => none)))))), (q3, .inr (17, [.int 0, .ref q4, .int 0])), (q4, .inl (cA 44, 2, .inr (.inr (.inr (.inr (fun _ => none))))))] ++ (lo ++ [(q5, .inr (17, [.int 0, .null, .int 0]))])) H locs := ⟨hP, hD, hS, hH.2.2.2⟩
  have hH : MH D vwA A s.heap ([(a0, .inr (2, [.ref q1, .ref q3, .null, .int 0, .int 0, .int 0, .int 0, .int 0])), (q1, .inr (17, [.int 0, .ref q2, .int 0])), (q2, .inl (cA 44, 2, .inr (.inr (.inr (.inr (fun _ => none)))))), (q3, .inr (17, [.int 0, .ref q4, .int 0])), (q4, .inl (cA 44, 2, .inr (.inr (.inr (.inr (fun _ => none)))))), (q5, .inr (17, [.int 0, .null, .int 0]))] ++ lo) H locs := MH.pull (xs := [(a0, .inr (2, [.ref q1, .ref q3, .null, .int 0, .int 0, .int 0, .int 0, .int 0])), (q1, .inr (17, [.int 0, .ref q2, .int 0])), (q2, .inl (cA 44, 2, .inr (.inr (.inr (.inr (fun _ => none)))))), (q3, .inr (17, [.int 0, .ref q4, .int 0])), (q4, .inl (cA 44, 2, .inr (.inr (.inr (.inr (fun _ => none))))))]) (c0 := (q5, .inr (17, [.int 0, .null, .int 0]))) hH
  refine lv_dup hx hb dX2_init_32 rfl ?_
  refine lv_iconst (v := 2) hx hb dX2_init_33 kyi_2 ?_
  have hH : MH D vwA A s.heap ([(q5, .inr (17, [.int 0, .null, .int 0])), (a0, .inr (2, [.ref q1, .ref q3, .null, .int 0, .int 0, .int 0, .int 0, .int 0])), (q1, .inr (17, [.int 0, .ref q2, .int 0])), (q2, .inl (cA 44, 2, .inr (.inr (.inr (.inr (fun _ => none)))))), (q3, .inr (17, [.int 0, .ref q4, .int 0])), (q4, .inl (cA 44, 2, .inr (.inr (.inr (.inr (fun _ => none))))))] ++ lo) H locs := MH.reorder [(a0, .inr (2, [.ref q1, .ref q3, .null, .int 0, .int 0, .int 0, .int 0, .int 0])), (q1, .inr (17, [.int 0, .ref q2, .int 0])), (q2, .inl (cA 44, 2, .inr (.inr (.inr (.inr (fun _ => none)))))), (q3, .inr (17, [.int 0, .ref q4, .int 0])), (q4, .inl (cA 44, 2, .inr (.inr (.inr (.inr (fun _ => none)))))), (q5, .inr (17, [.int 0, .null, .int 0]))] _ [5, 0, 1, 2, 3, 4] (n := 6) (by decide) rfl rfl hH
  have hH : MH D vwA A s.heap ([(q5, .inr (17, [.int 0, .null, .int 0]))] ++ ([(a0, .inr (2, [.ref q1, .ref q3, .null, .int 0, .int 0, .int 0, .int 0, .int 0])), (q1, .inr (17, [.int 0, .ref q2, .int 0])), (q2, .inl (cA 44, 2, .inr (.inr (.inr (.inr (fun _ => none)))))), (q3, .inr (17, [.int 0, .ref q4, .int 0])), (q4, .inl (cA 44, 2, .inr (.inr (.inr (.inr (fun _ => none))))))] ++ lo)) H locs := hH
  refine mxCI hX hK hEv hE0 hH (met_J2_init hE) q192 q134 q190 q191 rfl hdi_yJ2_init ⟨(Nat.le_of_ble_eq_true rfl), (Nat.le_of_ble_eq_true rfl)⟩ rfl rfl hl (Nat.le_of_ble_eq_true rfl) dX2_init_34 ⟨(Nat.le_of_ble_eq_true rfl), (Nat.le_of_ble_eq_true rfl)⟩ (fun w2 H locs hw hH => ?_)
  obtain ⟨q6, rfl⟩ := hw
  have hH : MH D vwA A s.heap ([(q5, .inr (17, [.int 0, .ref q6, .int 0])), (q6, .inl (cA 44, 2, .inr (.inr (.inr (.inr (fun _ => none)))))), (a0, .inr (2, [.ref q1, .ref q3, .null, .int 0, .int 0, .int 0, .int 0, .int 0])), (q1, .inr (17, [.int 0, .ref q2, .int 0])), (q2, .inl (cA 44, 2, .inr (.inr (.inr (.inr (fun _ => none)))))), (q3, .inr (17, [.int 0, .ref q4, .int 0])), (q4, .inl (cA 44, 2, .inr (.inr (.inr (.inr (fun _ => none))))))] ++ lo) H locs := hH
  have hH : MH D vwA A s.heap ([(a0, .inr (2, [.ref q1, .ref q3, .null, .int 0, .int 0, .int 0, .int 0, .int 0])), (q1, .inr (17, [.int 0, .ref q2, .int 0])), (q2, .inl (cA 44, 2, .inr (.inr (.inr (.inr (fun _ => none)))))), (q3, .inr (17, [.int 0, .ref q4, .int 0])), (q4, .inl (cA 44, 2, .inr (.inr (.inr (.inr (fun _ => none)))))), (q5, .inr (17, [.int 0, .ref q6, .int 0])), (q6, .inl (cA 44, 2, .inr (.inr (.inr (.inr (fun _ => none))))))] ++ lo) H locs := MH.reorder [(q5, .inr (17, [.int 0, .ref q6, .int 0])), (q6, .inl (cA 44, 2, .inr (.inr (.inr (.inr (fun _ => none)))))), (a0, .inr (2, [.ref q1, .ref q3, .null, .int 0, .int 0, .int 0, .int 0, .int 0])), (q1, .inr (17, [.int 0, .ref q2, .int 0])), (q2, .inl (cA 44, 2, .inr (.inr (.inr (.inr (fun _ => none)))))), (q3, .inr (17, [.int 0, .ref q4, .int 0])), (q4, .inl (cA 44, 2, .inr (.inr (.inr (.inr (fun _ => none))))))] _ [2, 3, 4, 5, 6, 0, 1] (n := 7) (by decide) rfl rfl hH
  refine va_putF (C := RX2) (T := TX2) (N := 8) (ty := (.object "java/util/ArrayList")) hX.1 hX.2.1 hX.2.2.2.2 in_X2 tyX2 tyX2_ok nmX2 hX.2.2.2.1 hK hH.1 hH.2.1 hH.2.2.1 0 rfl rfl 2 (by decide) (hts _ q226) (fun _ h9 => h9) rfl hname rfl (by decide +kernel) rfl rfl (Nat.le_of_ble_eq_true rfl) dX2_init_37 (fun H locs hP hD hS => ?_)
  have hH : MH D vwA A s.heap ([(a0, .inr (2, [.ref q1, .ref q3, .ref q5, .int 0, .int 0, .int 0, .int 0, .int 0])), (q1, .inr (17, [.int 0, .ref q2, .int 0])), (q2, .inl (cA 44, 2, .inr (.inr (.inr (.inr (fun _ => none)))))), (q3, .inr (17, [.int 0, .ref q4, .int 0])), (q4, .inl (cA 44, 2, .inr (.inr (.inr (.inr (fun _ => none)))))), (q5, .inr (17, [.int 0, .ref q6, .int 0])), (q6, .inl (cA 44, 2, .inr (.inr (.inr (.inr (fun _ => none))))))] ++ lo) H locs := ⟨hP, hD, hS, hH.2.2.2⟩
  refine lv_aload_n hx hb dX2_init_40 rfl (lv_at hl 0 rfl) ?_
  refine lv_iconst (v := 4) hx hb dX2_init_41 kyi_4 ?_
  refine va_put (C := RX2) (T := TX2) (N := 8) (ty := .int) hX.1 hX.2.1 hX.2.2.2.2 in_X2 tyX2 tyX2_ok nmX2 hX.2.2.2.1 hK hH.1 hH.2.1 hH.2.2.1 0 rfl rfl 3 (by decide) (hts _ q230) (fun _ h9 => h9) rfl (by decide +kernel) rfl rfl (Nat.le_of_ble_eq_true rfl) dX2_init_42 (fun H locs hP hD hS => ?_)
  have hH : MH D vwA A s.heap ([(a0, .inr (2, [.ref q1, .ref q3, .ref q5, .int 4, .int 0, .int 0, .int 0, .int 0])), (q1, .inr (17, [.int 0, .ref q2, .int 0])), (q2, .inl (cA 44, 2, .inr (.inr (.inr (.inr (fun _ => none)))))), (q3, .inr (17, [.int 0, .ref q4, .int 0])), (q4, .inl (cA 44, 2, .inr (.inr (.inr (.inr (fun _ => none)))))), (q5, .inr (17, [.int 0, .ref q6, .int 0])), (q6, .inl (cA 44, 2, .inr (.inr (.inr (.inr (fun _ => none))))))] ++ lo) H locs := ⟨hP, hD, hS, hH.2.2.2⟩
  refine lv_aload_n hx hb dX2_init_45 rfl (lv_at hl 0 rfl) ?_
  refine lv_bipush (v := 8) hx hb dX2_init_46 kyb_8 ?_
  refine va_put (C := RX2) (T := TX2) (N := 8) (ty := .int) hX.1 hX.2.1 hX.2.2.2.2 in_X2 tyX2 tyX2_ok nmX2 hX.2.2.2.1 hK hH.1 hH.2.1 hH.2.2.1 0 rfl rfl 4 (by decide) (hts _ q234) (fun _ h9 => h9) rfl (by decide +kernel) rfl rfl (Nat.le_of_ble_eq_true rfl) dX2_init_48 (fun H locs hP hD hS => ?_)
  have hH : MH D vwA A s.heap ([(a0, .inr (2, [.ref q1, .ref q3, .ref q5, .int 4, .int 8, .int 0, .int 0, .int 0])), (q1, .inr (17, [.int 0, .ref q2, .int 0])), (q2, .inl (cA 44, 2, .inr (.inr (.inr (.inr (fun _ => none)))))), (q3, .inr (17, [.int 0, .ref q4, .int 0])), (q4, .inl (cA 44, 2, .inr (.inr (.inr (.inr (fun _ => none)))))), (q5, .inr (17, [.int 0, .ref q6, .int 0])), (q6, .inl (cA 44, 2, .inr (.inr (.inr (.inr (fun _ => none))))))] ++ lo) H locs := ⟨hP, hD, hS, hH.2.2.2⟩
  exact hret _ _ _ _ _ ⟨_, _, _, _, _, _, rfl⟩ hH dX2_init_51
abbrev rm_X1_init : Room := { frames := 5, cells := 11, slots := 44, locals := 121 }
set_option maxHeartbeats 4000000 in
theorem met_X1_init {l : Launch} {D : va_G} {cA : Nat → ClassId} {lo : va_W} {a0 : Nat}   {E : EvT} (hE : EvN E) : MX l yX1_init (ws_ yX1_init cX1_init 1 (Option.none : Option Jvm.ClassFile.FieldType)) rm_X1_init D vwA (cT cA) E [.ref a0] ([(a0, .inr (1, [.null, .null, .long 0, .int 0, .null, .null]))] ++ lo) (fun z => ∃ q1 : Nat, ∃ q2 : Nat, ∃ q3 : Nat, ∃ q4 : Nat, ∃ q5 : Nat, ∃ q6 : Nat, ∃ q7 : Nat, ∃ q8 : Nat, ∃ q9 : Nat, ∃ q10 : Nat, ∃ q11 : Nat, z = ([(a0, .inr (1, [.ref q1, .ref q8, .long 0, .int 0, .ref q10, .ref q11])), (q1, .inr (2, [.ref q2, .ref q4, .ref q6, .int 4, .int 8, .int 0, .int 0, .int 0])), (q2, .inr (17, [.int 0, .ref q3, .int 0])), (q3, .inl (cA 44, 2, .inr (.inr (.inr (.inr (fun _ => none)))))), (q4, .inr (17, [.int 0, .ref q5, .int 0])), (q5, .inl (cA 44, 2, .inr (.inr (.inr (.inr (fun _ => none)))))), (q6, .inr (17, [.int 0, .ref q7, .int 0])), (q7, .inl (cA 44, 2, .inr (.inr (.inr (.inr (fun _ => none)))))), (q8, .inr (17, [.int 0, .ref q9, .int 0])), (q9, .inl (cA 44, 2, .inr (.inr (.inr (.inr (fun _ => none)))))), (q10, .inl (cA 34, 8, .inl (fun _ => 0))), (q11, .inl (cA 35, 8, .inl (fun _ => 0)))] ++ lo)) none := by
  refine MX.ofV (by decide) (Nat.le_of_ble_eq_true rfl) ?_
  intro p e s m args below meth c Q A hX hK hE0 hname hret H locs ls hH hl
  have hX : CallFix p m c cX1_init 1 s args lw_all RX1 := hX
  have hx := hX.1
  have hb := hX.2.1
  have hown := hX.2.2.2.1
  have hts := hX.2.2.2.2
  have hl : lv_has ls 1 [(0, .ref a0)] := hl
  have hEv := hE.1
  have hNW := hE.2.1 _ _ _ hE0
  have hAO := hE.2.2.2 _ _ _ hE0
  refine lv_aload_n hx hb dX1_init_0 rfl (lv_at hl 0 rfl) ?_
  refine mObj hX q181 hl (Nat.le_of_ble_eq_true rfl) (Nat.le_of_ble_eq_true rfl) dX1_init_1 ?_
  refine lv_aload_n hx hb dX1_init_4 rfl (lv_at hl 0 rfl) ?_
  refine va_new (ci := 2) (fs := [.null, .null, .null, .int 0, .int 0, .int 0, .int 0, .int 0]) (C := RX2) (T := TX2) (N := 8) hX.1 hX.2.1 hX.2.2.2.2 in_X2 tyX2 tyX2_ok hX.2.2.2.1 (hts _ q182) (hts _ q183) (hts _ q131) hK hH.1 hH.2.1 hH.2.2.1 hH.2.2.2 rfl df_X2 (Nat.le_of_ble_eq_true rfl) (Nat.le_of_ble_eq_true rfl) dX1_init_5 (fun q1 H hP hD hS => ?_)
  have hH : MH D vwA A s.heap ([(a0, .inr (1, [.null, .null, .long 0, .int 0, .null, .null]))] ++ (lo ++ [(q1, .inr (2, [.null, .null, .null, .int 0, .int 0, .int 0, .int 0, .int 0]))])) H locs := ⟨hP, hD, hS, hH.2.2.2⟩
  have hH : MH D vwA A s.heap ([(a0, .inr (1, [.null, .null, .long 0, .int 0, .null, .null])), (q1, .inr (2, [.null, .null, .null, .int 0, .int 0, .int 0, .int 0, .int 0]))] ++ lo) H locs := MH.pull (xs := [(a0, .inr (1, [.null, .null, .long 0, .int 0, .null, .null]))]) (c0 := (q1, .inr (2, [.null, .null, .null, .int 0, .int 0, .int 0, .int 0, .int 0]))) hH
  refine lv_dup hx hb dX1_init_8 rfl ?_
  have hH : MH D vwA A s.heap ([(q1, .inr (2, [.null, .null, .null, .int 0, .int 0, .int 0, .int 0, .int 0])), (a0, .inr (1, [.null, .null, .long 0, .int 0, .null, .null]))] ++ lo) H locs := MH.reorder [(a0, .inr (1, [.null, .null, .long 0, .int 0, .null, .null])), (q1, .inr (2, [.null, .null, .null, .int 0, .int 0, .int 0, .int 0, .int 0]))] _ [1, 0] (n := 2) (by decide) rfl rfl hH
  have hH : MH D vwA A s.heap ([(q1, .inr (2, [.null, .null, .null, .int 0, .int 0, .int 0, .int 0, .int 0]))] ++ ([(a0, .inr (1, [.null, .null, .long 0, .int 0, .null, .null]))] ++ lo)) H locs := hH
  refine mxCN hX hK hEv hE0 hH (met_X2_init hE) q186 q131 (hNW _ nw_q184) q185 rfl hdi_yX2_init ⟨(Nat.le_of_ble_eq_true rfl), (Nat.le_of_ble_eq_true rfl)⟩ rfl rfl hl (Nat.le_of_ble_eq_true rfl) dX1_init_9 ⟨(Nat.le_of_ble_eq_true rfl), (Nat.le_of_ble_eq_true rfl)⟩ (fun w2 H locs hw hH => ?_)
  obtain ⟨q2, q3, q4, q5, q6, q7, rfl⟩ := hw
  have hH : MH D vwA A s.heap ([(q1, .inr (2, [.ref q2, .ref q4, .ref q6, .int 4, .int 8, .int 0, .int 0, .int 0])), (q2, .inr (17, [.int 0, .ref q3, .int 0])), (q3, .inl (cA 44, 2, .inr (.inr (.inr (.inr (fun _ => none)))))), (q4, .inr (17, [.int 0, .ref q5, .int 0])), (q5, .inl (cA 44, 2, .inr (.inr (.inr (.inr (fun _ => none)))))), (q6, .inr (17, [.int 0, .ref q7, .int 0])), (q7, .inl (cA 44, 2, .inr (.inr (.inr (.inr (fun _ => none)))))), (a0, .inr (1, [.null, .null, .long 0, .int 0, .null, .null]))] ++ lo) H locs := hH
  have hH : MH D vwA A s.heap ([(a0, .inr (1, [.null, .null, .long 0, .int 0, .null, .null])), (q1, .inr (2, [.ref q2, .ref q4, .ref q6, .int 4, .int 8, .int 0, .int 0, .int 0])), (q2, .inr (17, [.int 0, .ref q3, .int 0])), (q3, .inl (cA 44, 2, .inr (.inr (.inr (.inr (fun _ => none)))))), (q4, .inr (17, [.int 0, .ref q5, .int 0])), (q5, .inl (cA 44, 2, .inr (.inr (.inr (.inr (fun _ => none)))))), (q6, .inr (17, [.int 0, .ref q7, .int 0])), (q7, .inl (cA 44, 2, .inr (.inr (.inr (.inr (fun _ => none))))))] ++ lo) H locs := MH.reorder [(q1, .inr (2, [.ref q2, .ref q4, .ref q6, .int 4, .int 8, .int 0, .int 0, .int 0])), (q2, .inr (17, [.int 0, .ref q3, .int 0])), (q3, .inl (cA 44, 2, .inr (.inr (.inr (.inr (fun _ => none)))))), (q4, .inr (17, [.int 0, .ref q5, .int 0])), (q5, .inl (cA 44, 2, .inr (.inr (.inr (.inr (fun _ => none)))))), (q6, .inr (17, [.int 0, .ref q7, .int 0])), (q7, .inl (cA 44, 2, .inr (.inr (.inr (.inr (fun _ => none)))))), (a0, .inr (1, [.null, .null, .long 0, .int 0, .null, .null]))] _ [7, 0, 1, 2, 3, 4, 5, 6] (n := 8) (by decide) rfl rfl hH
  refine va_put (C := RX1) (T := TX1) (N := 6) (ty := (.object "StoneYear$Town")) hX.1 hX.2.1 hX.2.2.2.2 in_X1 tyX1 tyX1_ok nmX1 hX.2.2.2.1 hK hH.1 hH.2.1 hH.2.2.1 0 rfl rfl 0 (by decide) (hts _ q264) (fun _ h9 => h9) rfl (by decide +kernel) rfl rfl (Nat.le_of_ble_eq_true rfl) dX1_init_12 (fun H locs hP hD hS => ?_)
  have hH : MH D vwA A s.heap ([(a0, .inr (1, [.ref q1, .null, .long 0, .int 0, .null, .null])), (q1, .inr (2, [.ref q2, .ref q4, .ref q6, .int 4, .int 8, .int 0, .int 0, .int 0])), (q2, .inr (17, [.int 0, .ref q3, .int 0])), (q3, .inl (cA 44, 2, .inr (.inr (.inr (.inr (fun _ => none)))))), (q4, .inr (17, [.int 0, .ref q5, .int 0])), (q5, .inl (cA 44, 2, .inr (.inr (.inr (.inr (fun _ => none)))))), (q6, .inr (17, [.int 0, .ref q7, .int 0])), (q7, .inl (cA 44, 2, .inr (.inr (.inr (.inr (fun _ => none))))))] ++ lo) H locs := ⟨hP, hD, hS, hH.2.2.2⟩
  refine lv_aload_n hx hb dX1_init_15 rfl (lv_at hl 0 rfl) ?_
  refine va_new (ci := 17) (fs := [.int 0, .null, .int 0]) (C := RJ2) (T := TJ2) (N := 3) hX.1 hX.2.1 hX.2.2.2.2 in_J2 tyJ2 tyJ2_ok hX.2.2.2.1 (hts _ q262) (hts _ q189) (hts _ q134) hK hH.1 hH.2.1 hH.2.2.1 hH.2.2.2 rfl df_J2 (Nat.le_of_ble_eq_true rfl) (Nat.le_of_ble_eq_true rfl) dX1_init_16 (fun q8 H hP hD hS => ?_)
  have hH : MH D vwA A s.heap ([(a0, .inr (1, [.ref q1, .null, .long 0, .int 0, .null, .null])), (q1, .inr (2, [.ref q2, .ref q4, .ref q6, .int 4, .int 8, .int 0, .int 0, .int 0])), (q2, .inr (17, [.int 0, .ref q3, .int 0])), (q3, .inl (cA 44, 2, .inr (.inr (.inr (.inr (fun _ => none)))))), (q4, .inr (17, [.int 0, .ref q5, .int 0])), (q5, .inl (cA 44, 2, .inr (.inr (.inr (.inr (fun _ => none)))))), (q6, .inr (17, [.int 0, .ref q7, .int 0])), (q7, .inl (cA 44, 2, .inr (.inr (.inr (.inr (fun _ => none))))))] ++ (lo ++ [(q8, .inr (17, [.int 0, .null, .int 0]))])) H locs := ⟨hP, hD, hS, hH.2.2.2⟩
  have hH : MH D vwA A s.heap ([(a0, .inr (1, [.ref q1, .null, .long 0, .int 0, .null, .null])), (q1, .inr (2, [.ref q2, .ref q4, .ref q6, .int 4, .int 8, .int 0, .int 0, .int 0])), (q2, .inr (17, [.int 0, .ref q3, .int 0])), (q3, .inl (cA 44, 2, .inr (.inr (.inr (.inr (fun _ => none)))))), (q4, .inr (17, [.int 0, .ref q5, .int 0])), (q5, .inl (cA 44, 2, .inr (.inr (.inr (.inr (fun _ => none)))))), (q6, .inr (17, [.int 0, .ref q7, .int 0])), (q7, .inl (cA 44, 2, .inr (.inr (.inr (.inr (fun _ => none)))))), (q8, .inr (17, [.int 0, .null, .int 0]))] ++ lo) H locs := MH.pull (xs := [(a0, .inr (1, [.ref q1, .null, .long 0, .int 0, .null, .null])), (q1, .inr (2, [.ref q2, .ref q4, .ref q6, .int 4, .int 8, .int 0, .int 0, .int 0])), (q2, .inr (17, [.int 0, .ref q3, .int 0])), (q3, .inl (cA 44, 2, .inr (.inr (.inr (.inr (fun _ => none)))))), (q4, .inr (17, [.int 0, .ref q5, .int 0])), (q5, .inl (cA 44, 2, .inr (.inr (.inr (.inr (fun _ => none)))))), (q6, .inr (17, [.int 0, .ref q7, .int 0])), (q7, .inl (cA 44, 2, .inr (.inr (.inr (.inr (fun _ => none))))))]) (c0 := (q8, .inr (17, [.int 0, .null, .int 0]))) hH
  refine lv_dup hx hb dX1_init_19 rfl ?_
  refine lv_iconst (v := 2) hx hb dX1_init_20 kyi_2 ?_
  have hH : MH D vwA A s.heap ([(q8, .inr (17, [.int 0, .null, .int 0])), (a0, .inr (1, [.ref q1, .null, .long 0, .int 0, .null, .null])), (q1, .inr (2, [.ref q2, .ref q4, .ref q6, .int 4, .int 8, .int 0, .int 0, .int 0])), (q2, .inr (17, [.int 0, .ref q3, .int 0])), (q3, .inl (cA 44, 2, .inr (.inr (.inr (.inr (fun _ => none)))))), (q4, .inr (17, [.int 0, .ref q5, .int 0])), (q5, .inl (cA 44, 2, .inr (.inr (.inr (.inr (fun _ => none)))))), (q6, .inr (17, [.int 0, .ref q7, .int 0])), (q7, .inl (cA 44, 2, .inr (.inr (.inr (.inr (fun _ => none))))))] ++ lo) H locs := MH.reorder [(a0, .inr (1, [.ref q1, .null, .long 0, .int 0, .null, .null])), (q1, .inr (2, [.ref q2, .ref q4, .ref q6, .int 4, .int 8, .int 0, .int 0, .int 0])), (q2, .inr (17, [.int 0, .ref q3, .int 0])), (q3, .inl (cA 44, 2, .inr (.inr (.inr (.inr (fun _ => none)))))), (q4, .inr (17, [.int 0, .ref q5, .int 0])), (q5, .inl (cA 44, 2, .inr (.inr (.inr (.inr (fun _ => none)))))), (q6, .inr (17, [.int 0, .ref q7, .int 0])), (q7, .inl (cA 44, 2, .inr (.inr (.inr (.inr (fun _ => none)))))), (q8, .inr (17, [.int 0, .null, .int 0]))] _ [8, 0, 1, 2, 3, 4, 5, 6, 7] (n := 9) (by decide) rfl rfl hH
  have hH : MH D vwA A s.heap ([(q8, .inr (17, [.int 0, .null, .int 0]))] ++ ([(a0, .inr (1, [.ref q1, .null, .long 0, .int 0, .null, .null])), (q1, .inr (2, [.ref q2, .ref q4, .ref q6, .int 4, .int 8, .int 0, .int 0, .int 0])), (q2, .inr (17, [.int 0, .ref q3, .int 0])), (q3, .inl (cA 44, 2, .inr (.inr (.inr (.inr (fun _ => none)))))), (q4, .inr (17, [.int 0, .ref q5, .int 0])), (q5, .inl (cA 44, 2, .inr (.inr (.inr (.inr (fun _ => none)))))), (q6, .inr (17, [.int 0, .ref q7, .int 0])), (q7, .inl (cA 44, 2, .inr (.inr (.inr (.inr (fun _ => none))))))] ++ lo)) H locs := hH
  refine mxCI hX hK hEv hE0 hH (met_J2_init hE) q192 q134 q263 q191 rfl hdi_yJ2_init ⟨(Nat.le_of_ble_eq_true rfl), (Nat.le_of_ble_eq_true rfl)⟩ rfl rfl hl (Nat.le_of_ble_eq_true rfl) dX1_init_21 ⟨(Nat.le_of_ble_eq_true rfl), (Nat.le_of_ble_eq_true rfl)⟩ (fun w2 H locs hw hH => ?_)
  obtain ⟨q9, rfl⟩ := hw
  have hH : MH D vwA A s.heap ([(q8, .inr (17, [.int 0, .ref q9, .int 0])), (q9, .inl (cA 44, 2, .inr (.inr (.inr (.inr (fun _ => none)))))), (a0, .inr (1, [.ref q1, .null, .long 0, .int 0, .null, .null])), (q1, .inr (2, [.ref q2, .ref q4, .ref q6, .int 4, .int 8, .int 0, .int 0, .int 0])), (q2, .inr (17, [.int 0, .ref q3, .int 0])), (q3, .inl (cA 44, 2, .inr (.inr (.inr (.inr (fun _ => none)))))), (q4, .inr (17, [.int 0, .ref q5, .int 0])), (q5, .inl (cA 44, 2, .inr (.inr (.inr (.inr (fun _ => none)))))), (q6, .inr (17, [.int 0, .ref q7, .int 0])), (q7, .inl (cA 44, 2, .inr (.inr (.inr (.inr (fun _ => none))))))] ++ lo) H locs := hH
  have hH : MH D vwA A s.heap ([(a0, .inr (1, [.ref q1, .null, .long 0, .int 0, .null, .null])), (q1, .inr (2, [.ref q2, .ref q4, .ref q6, .int 4, .int 8, .int 0, .int 0, .int 0])), (q2, .inr (17, [.int 0, .ref q3, .int 0])), (q3, .inl (cA 44, 2, .inr (.inr (.inr (.inr (fun _ => none)))))), (q4, .inr (17, [.int 0, .ref q5, .int 0])), (q5, .inl (cA 44, 2, .inr (.inr (.inr (.inr (fun _ => none)))))), (q6, .inr (17, [.int 0, .ref q7, .int 0])), (q7, .inl (cA 44, 2, .inr (.inr (.inr (.inr (fun _ => none)))))), (q8, .inr (17, [.int 0, .ref q9, .int 0])), (q9, .inl (cA 44, 2, .inr (.inr (.inr (.inr (fun _ => none))))))] ++ lo) H locs := MH.reorder [(q8, .inr (17, [.int 0, .ref q9, .int 0])), (q9, .inl (cA 44, 2, .inr (.inr (.inr (.inr (fun _ => none)))))), (a0, .inr (1, [.ref q1, .null, .long 0, .int 0, .null, .null])), (q1, .inr (2, [.ref q2, .ref q4, .ref q6, .int 4, .int 8, .int 0, .int 0, .int 0])), (q2, .inr (17, [.int 0, .ref q3, .int 0])), (q3, .inl (cA 44, 2, .inr (.inr (.inr (.inr (fun _ => none)))))), (q4, .inr (17, [.int 0, .ref q5, .int 0])), (q5, .inl (cA 44, 2, .inr (.inr (.inr (.inr (fun _ => none)))))), (q6, .inr (17, [.int 0, .ref q7, .int 0])), (q7, .inl (cA 44, 2, .inr (.inr (.inr (.inr (fun _ => none))))))] _ [2, 3, 4, 5, 6, 7, 8, 9, 0, 1] (n := 10) (by decide) rfl rfl hH
  refine va_put (C := RX1) (T := TX1) (N := 6) (ty := (.object "java/util/ArrayList")) hX.1 hX.2.1 hX.2.2.2.2 in_X1 tyX1 tyX1_ok nmX1 hX.2.2.2.1 hK hH.1 hH.2.1 hH.2.2.1 0 rfl rfl 1 (by decide) (hts _ q267) (fun _ h9 => h9) rfl (by decide +kernel) rfl rfl (Nat.le_of_ble_eq_true rfl) dX1_init_24 (fun H locs hP hD hS => ?_)
  have hH : MH D vwA A s.heap ([(a0, .inr (1, [.ref q1, .ref q8, .long 0, .int 0, .null, .null])), (q1, .inr (2, [.ref q2, .ref q4, .ref q6, .int 4, .int 8, .int 0, .int 0, .int 0])), (q2, .inr (17, [.int 0, .ref q3, .int 0])), (q3, .inl (cA 44, 2, .inr (.inr (.inr (.inr (fun _ => none)))))), (q4, .inr (17, [.int 0, .ref q5, .int 0])), (q5, .inl (cA 44, 2, .inr (.inr (.inr (.inr (fun _ => none)))))), (q6, .inr (17, [.int 0, .ref q7, .int 0])), (q7, .inl (cA 44, 2, .inr (.inr (.inr (.inr (fun _ => none)))))), (q8, .inr (17, [.int 0, .ref q9, .int 0])), (q9, .inl (cA 44, 2, .inr (.inr (.inr (.inr (fun _ => none))))))] ++ lo) H locs := ⟨hP, hD, hS, hH.2.2.2⟩
  refine lv_aload_n hx hb dX1_init_27 rfl (lv_at hl 0 rfl) ?_
  refine lv_bipush (v := 8) hx hb dX1_init_28 kyb_8 ?_
  refine mnewa (atype := .int) (ty := .int) (N' := 8) (a0 := (8, .inl fun _ => 0)) hX q292 rfl (fun _ h => h) hK hH 22 rfl (fun _ => rfl) (by decide) (by decide) (Nat.le_of_ble_eq_true rfl) (Nat.le_of_ble_eq_true rfl) (Nat.le_of_ble_eq_true rfl) dX1_init_30 (fun q10 H hH => ?_)
  have hH : MH D vwA A s.heap ([(a0, .inr (1, [.ref q1, .ref q8, .long 0, .int 0, .null, .null])), (q1, .inr (2, [.ref q2, .ref q4, .ref q6, .int 4, .int 8, .int 0, .int 0, .int 0])), (q2, .inr (17, [.int 0, .ref q3, .int 0])), (q3, .inl (cA 44, 2, .inr (.inr (.inr (.inr (fun _ => none)))))), (q4, .inr (17, [.int 0, .ref q5, .int 0])), (q5, .inl (cA 44, 2, .inr (.inr (.inr (.inr (fun _ => none)))))), (q6, .inr (17, [.int 0, .ref q7, .int 0])), (q7, .inl (cA 44, 2, .inr (.inr (.inr (.inr (fun _ => none)))))), (q8, .inr (17, [.int 0, .ref q9, .int 0])), (q9, .inl (cA 44, 2, .inr (.inr (.inr (.inr (fun _ => none)))))), (q10, .inl (cA 34, 8, .inl (fun _ => 0)))] ++ lo) H locs := MH.pull (xs := [(a0, .inr (1, [.ref q1, .ref q8, .long 0, .int 0, .null, .null])), (q1, .inr (2, [.ref q2, .ref q4, .ref q6, .int 4, .int 8, .int 0, .int 0, .int 0])), (q2, .inr (17, [.int 0, .ref q3, .int 0])), (q3, .inl (cA 44, 2, .inr (.inr (.inr (.inr (fun _ => none)))))), (q4, .inr (17, [.int 0, .ref q5, .int 0])), (q5, .inl (cA 44, 2, .inr (.inr (.inr (.inr (fun _ => none)))))), (q6, .inr (17, [.int 0, .ref q7, .int 0])), (q7, .inl (cA 44, 2, .inr (.inr (.inr (.inr (fun _ => none)))))), (q8, .inr (17, [.int 0, .ref q9, .int 0])), (q9, .inl (cA 44, 2, .inr (.inr (.inr (.inr (fun _ => none))))))]) (c0 := (q10, .inl (cA 34, 8, .inl (fun _ => 0)))) hH
  refine va_putF (C := RX1) (T := TX1) (N := 6) (ty := (.array .int)) hX.1 hX.2.1 hX.2.2.2.2 in_X1 tyX1 tyX1_ok nmX1 hX.2.2.2.1 hK hH.1 hH.2.1 hH.2.2.1 0 rfl rfl 4 (by decide) (hts _ q275) (fun _ h9 => h9) rfl hname rfl (by decide +kernel) rfl rfl (Nat.le_of_ble_eq_true rfl) dX1_init_32 (fun H locs hP hD hS => ?_)
  have hH : MH D vwA A s.heap ([(a0, .inr (1, [.ref q1, .ref q8, .long 0, .int 0, .ref q10, .null])), (q1, .inr (2, [.ref q2, .ref q4, .ref q6, .int 4, .int 8, .int 0, .int 0, .int 0])), (q2, .inr (17, [.int 0, .ref q3, .int 0])), (q3, .inl (cA 44, 2, .inr (.inr (.inr (.inr (fun _ => none)))))), (q4, .inr (17, [.int 0, .ref q5, .int 0])), (q5, .inl (cA 44, 2, .inr (.inr (.inr (.inr (fun _ => none)))))), (q6, .inr (17, [.int 0, .ref q7, .int 0])), (q7, .inl (cA 44, 2, .inr (.inr (.inr (.inr (fun _ => none)))))), (q8, .inr (17, [.int 0, .ref q9, .int 0])), (q9, .inl (cA 44, 2, .inr (.inr (.inr (.inr (fun _ => none)))))), (q10, .inl (cA 34, 8, .inl (fun _ => 0)))] ++ lo) H locs := ⟨hP, hD, hS, hH.2.2.2⟩
  refine lv_aload_n hx hb dX1_init_35 rfl (lv_at hl 0 rfl) ?_
  refine lv_bipush (v := 8) hx hb dX1_init_36 kyb_8 ?_
  refine mnewa (atype := .int) (ty := .int) (N' := 8) (a0 := (8, .inl fun _ => 0)) hX q292 rfl (fun _ h => h) hK hH 23 rfl (fun _ => rfl) (by decide) (by decide) (Nat.le_of_ble_eq_true rfl) (Nat.le_of_ble_eq_true rfl) (Nat.le_of_ble_eq_true rfl) dX1_init_38 (fun q11 H hH => ?_)
  have hH : MH D vwA A s.heap ([(a0, .inr (1, [.ref q1, .ref q8, .long 0, .int 0, .ref q10, .null])), (q1, .inr (2, [.ref q2, .ref q4, .ref q6, .int 4, .int 8, .int 0, .int 0, .int 0])), (q2, .inr (17, [.int 0, .ref q3, .int 0])), (q3, .inl (cA 44, 2, .inr (.inr (.inr (.inr (fun _ => none)))))), (q4, .inr (17, [.int 0, .ref q5, .int 0])), (q5, .inl (cA 44, 2, .inr (.inr (.inr (.inr (fun _ => none)))))), (q6, .inr (17, [.int 0, .ref q7, .int 0])), (q7, .inl (cA 44, 2, .inr (.inr (.inr (.inr (fun _ => none)))))), (q8, .inr (17, [.int 0, .ref q9, .int 0])), (q9, .inl (cA 44, 2, .inr (.inr (.inr (.inr (fun _ => none)))))), (q10, .inl (cA 34, 8, .inl (fun _ => 0))), (q11, .inl (cA 35, 8, .inl (fun _ => 0)))] ++ lo) H locs := MH.pull (xs := [(a0, .inr (1, [.ref q1, .ref q8, .long 0, .int 0, .ref q10, .null])), (q1, .inr (2, [.ref q2, .ref q4, .ref q6, .int 4, .int 8, .int 0, .int 0, .int 0])), (q2, .inr (17, [.int 0, .ref q3, .int 0])), (q3, .inl (cA 44, 2, .inr (.inr (.inr (.inr (fun _ => none)))))), (q4, .inr (17, [.int 0, .ref q5, .int 0])), (q5, .inl (cA 44, 2, .inr (.inr (.inr (.inr (fun _ => none)))))), (q6, .inr (17, [.int 0, .ref q7, .int 0])), (q7, .inl (cA 44, 2, .inr (.inr (.inr (.inr (fun _ => none)))))), (q8, .inr (17, [.int 0, .ref q9, .int 0])), (q9, .inl (cA 44, 2, .inr (.inr (.inr (.inr (fun _ => none)))))), (q10, .inl (cA 34, 8, .inl (fun _ => 0)))]) (c0 := (q11, .inl (cA 35, 8, .inl (fun _ => 0)))) hH
  refine va_putF (C := RX1) (T := TX1) (N := 6) (ty := (.array .int)) hX.1 hX.2.1 hX.2.2.2.2 in_X1 tyX1 tyX1_ok nmX1 hX.2.2.2.1 hK hH.1 hH.2.1 hH.2.2.1 0 rfl rfl 5 (by decide) (hts _ q277) (fun _ h9 => h9) rfl hname rfl (by decide +kernel) rfl rfl (Nat.le_of_ble_eq_true rfl) dX1_init_40 (fun H locs hP hD hS => ?_)
  have hH : MH D vwA A s.heap ([(a0, .inr (1, [.ref q1, .ref q8, .long 0, .int 0, .ref q10, .ref q11])), (q1, .inr (2, [.ref q2, .ref q4, .ref q6, .int 4, .int 8, .int 0, .int 0, .int 0])), (q2, .inr (17, [.int 0, .ref q3, .int 0])), (q3, .inl (cA 44, 2, .inr (.inr (.inr (.inr (fun _ => none)))))), (q4, .inr (17, [.int 0, .ref q5, .int 0])), (q5, .inl (cA 44, 2, .inr (.inr (.inr (.inr (fun _ => none)))))), (q6, .inr (17, [.int 0, .ref q7, .int 0])), (q7, .inl (cA 44, 2, .inr (.inr (.inr (.inr (fun _ => none)))))), (q8, .inr (17, [.int 0, .ref q9, .int 0])), (q9, .inl (cA 44, 2, .inr (.inr (.inr (.inr (fun _ => none)))))), (q10, .inl (cA 34, 8, .inl (fun _ => 0))), (q11, .inl (cA 35, 8, .inl (fun _ => 0)))] ++ lo) H locs := ⟨hP, hD, hS, hH.2.2.2⟩
  exact hret _ _ _ _ _ ⟨_, _, _, _, _, _, _, _, _, _, _, rfl⟩ hH dX1_init_43
abbrev rm_X1_copy : Room := { frames := 6, cells := 12, slots := 50, locals := 141 }
set_option maxHeartbeats 4000000 in
theorem met_X1_copy {l : Launch} {D : va_G} {cA : Nat → ClassId} {lo : va_W} {w0 w1 : Nat} {a0 : Nat} {vl : Int64} {vy : Int32} {a1 : Nat} {vc : Nat → Int32} {a2 : Nat} {vt : Nat → Int32}   {r0 : Nat → Int32} {r1 : Nat → Int32} {E : EvT} (hE : EvN E) (hm0 : ((a0, .inr (1, [.ref w0, .ref w1, .long vl, .int vy, .ref a1, .ref a2])) : Nat × va_E) ∈ lo) (hm1 : ((a1, .inl (cA 34, 8, .inl vc)) : Nat × va_E) ∈ lo) (hm2 : ((a2, .inl (cA 35, 8, .inl vt)) : Nat × va_E) ∈ lo) (hF : FX1_copy vc vt = some (r0, r1)) : MR l yX1_copy (ws_ yX1_copy cX1_copy 3 (Option.some (Jvm.ClassFile.FieldType.object "StoneYear$State"))) rm_X1_copy D vwA (cT cA) E [.ref a0] ([] ++ lo) (fun v z => ∃ q0 : Nat, ∃ q1 : Nat, ∃ q2 : Nat, ∃ q3 : Nat, ∃ q4 : Nat, ∃ q5 : Nat, ∃ q6 : Nat, ∃ q7 : Nat, ∃ q8 : Nat, ∃ q9 : Nat, ∃ q10 : Nat, ∃ q11 : Nat, v = some (.ref q0) ∧ z = ([(q0, .inr (1, [.ref w0, .ref w1, .long vl, .int vy, .ref q10, .ref q11])), (q1, .inr (2, [.ref q2, .ref q4, .ref q6, .int 4, .int 8, .int 0, .int 0, .int 0])), (q2, .inr (17, [.int 0, .ref q3, .int 0])), (q3, .inl (cA 44, 2, .inr (.inr (.inr (.inr (fun _ => none)))))), (q4, .inr (17, [.int 0, .ref q5, .int 0])), (q5, .inl (cA 44, 2, .inr (.inr (.inr (.inr (fun _ => none)))))), (q6, .inr (17, [.int 0, .ref q7, .int 0])), (q7, .inl (cA 44, 2, .inr (.inr (.inr (.inr (fun _ => none)))))), (q8, .inr (17, [.int 0, .ref q9, .int 0])), (q9, .inl (cA 44, 2, .inr (.inr (.inr (.inr (fun _ => none)))))), (q10, .inl (cA 34, 8, .inl r0)), (q11, .inl (cA 35, 8, .inl r1))] ++ lo)) := by
  refine MR.of (Or.inl ⟨_, rfl⟩) (by decide) (Nat.le_of_ble_eq_true rfl) ?_
  intro p e s m args below meth c Q A hX hK hE0 hname hret H locs ls hH hl
  have hX : CallFix p m c cX1_copy 3 s args lw_all RX1 := hX
  have hx := hX.1
  have hb := hX.2.1
  have hown := hX.2.2.2.1
  have hts := hX.2.2.2.2
  have hl : lv_has ls 3 [(0, .ref a0)] := hl
  have hEv := hE.1
  have hNW := hE.2.1 _ _ _ hE0
  have hAO := hE.2.2.2 _ _ _ hE0
  delta FX1_copy at hF
  refine va_new (ci := 1) (fs := [.null, .null, .long 0, .int 0, .null, .null]) (C := RX1) (T := TX1) (N := 6) hX.1 hX.2.1 hX.2.2.2.2 in_X1 tyX1 tyX1_ok hX.2.2.2.1 (hts _ q1606) (hts _ q177) (hts _ q130) hK hH.1 hH.2.1 hH.2.2.1 hH.2.2.2 rfl df_X1 (Nat.le_of_ble_eq_true rfl) (Nat.le_of_ble_eq_true rfl) dX1_copy_0 (fun q0 H hP hD hS => ?_)
  have hH : MH D vwA A s.heap ([] ++ (lo ++ [(q0, .inr (1, [.null, .null, .long 0, .int 0, .null, .null]))])) H locs := ⟨hP, hD, hS, hH.2.2.2⟩
  have hH : MH D vwA A s.heap ([(q0, .inr (1, [.null, .null, .long 0, .int 0, .null, .null]))] ++ lo) H locs := MH.pull (xs := []) (c0 := (q0, .inr (1, [.null, .null, .long 0, .int 0, .null, .null]))) hH
  refine lv_dup hx hb dX1_copy_3 rfl ?_
  have hH : MH D vwA A s.heap ([(q0, .inr (1, [.null, .null, .long 0, .int 0, .null, .null]))] ++ ([] ++ lo)) H locs := hH
  refine mxCI hX hK hEv hE0 hH (met_X1_init hE) q180 q130 q1607 q179 rfl hdi_yX1_init ⟨(Nat.le_of_ble_eq_true rfl), (Nat.le_of_ble_eq_true rfl)⟩ rfl rfl hl (Nat.le_of_ble_eq_true rfl) dX1_copy_4 ⟨(Nat.le_of_ble_eq_true rfl), (Nat.le_of_ble_eq_true rfl)⟩ (fun w2 H locs hw hH => ?_)
  obtain ⟨q1, q2, q3, q4, q5, q6, q7, q8, q9, q10, q11, rfl⟩ := hw
  have hH : MH D vwA A s.heap ([(q0, .inr (1, [.ref q1, .ref q8, .long 0, .int 0, .ref q10, .ref q11])), (q1, .inr (2, [.ref q2, .ref q4, .ref q6, .int 4, .int 8, .int 0, .int 0, .int 0])), (q2, .inr (17, [.int 0, .ref q3, .int 0])), (q3, .inl (cA 44, 2, .inr (.inr (.inr (.inr (fun _ => none)))))), (q4, .inr (17, [.int 0, .ref q5, .int 0])), (q5, .inl (cA 44, 2, .inr (.inr (.inr (.inr (fun _ => none)))))), (q6, .inr (17, [.int 0, .ref q7, .int 0])), (q7, .inl (cA 44, 2, .inr (.inr (.inr (.inr (fun _ => none)))))), (q8, .inr (17, [.int 0, .ref q9, .int 0])), (q9, .inl (cA 44, 2, .inr (.inr (.inr (.inr (fun _ => none)))))), (q10, .inl (cA 34, 8, .inl (fun _ => 0))), (q11, .inl (cA 35, 8, .inl (fun _ => 0)))] ++ lo) H locs := hH
  refine lv_astore_n (lv' := [(1, .ref q0), (0, .ref a0)]) hx hb dX1_copy_7 rfl hl (by decide) rfl (fun ls hl => ?_)
  refine lv_aload_n hx hb dX1_copy_8 rfl (lv_at hl 0 rfl) ?_
  refine lv_aload_n hx hb dX1_copy_9 rfl (lv_at hl 1 rfl) ?_
  obtain ⟨k9, hk9⟩ := List.getElem?_of_mem (List.mem_append_right _ hm0)
  refine va_get (C := RX1) (T := TX1) (N := 6) hX.1 hX.2.1 hX.2.2.2.2 in_X1 hX.2.2.2.1 hK hH.1 k9 hk9 rfl 0 (by decide) (hts _ q264) (fun _ h9 => h9) rfl dX1_copy_10 ?_
  refine va_put (C := RX1) (T := TX1) (N := 6) (ty := (.object "StoneYear$Town")) hX.1 hX.2.1 hX.2.2.2.2 in_X1 tyX1 tyX1_ok nmX1 hX.2.2.2.1 hK hH.1 hH.2.1 hH.2.2.1 0 rfl rfl 0 (by decide) (hts _ q264) (fun _ h9 => h9) rfl (by decide +kernel) rfl rfl (Nat.le_of_ble_eq_true rfl) dX1_copy_13 (fun H locs hP hD hS => ?_)
  have hH : MH D vwA A s.heap ([(q0, .inr (1, [.ref w0, .ref q8, .long 0, .int 0, .ref q10, .ref q11])), (q1, .inr (2, [.ref q2, .ref q4, .ref q6, .int 4, .int 8, .int 0, .int 0, .int 0])), (q2, .inr (17, [.int 0, .ref q3, .int 0])), (q3, .inl (cA 44, 2, .inr (.inr (.inr (.inr (fun _ => none)))))), (q4, .inr (17, [.int 0, .ref q5, .int 0])), (q5, .inl (cA 44, 2, .inr (.inr (.inr (.inr (fun _ => none)))))), (q6, .inr (17, [.int 0, .ref q7, .int 0])), (q7, .inl (cA 44, 2, .inr (.inr (.inr (.inr (fun _ => none)))))), (q8, .inr (17, [.int 0, .ref q9, .int 0])), (q9, .inl (cA 44, 2, .inr (.inr (.inr (.inr (fun _ => none)))))), (q10, .inl (cA 34, 8, .inl (fun _ => 0))), (q11, .inl (cA 35, 8, .inl (fun _ => 0)))] ++ lo) H locs := ⟨hP, hD, hS, hH.2.2.2⟩
  refine lv_aload_n hx hb dX1_copy_16 rfl (lv_at hl 0 rfl) ?_
  refine lv_aload_n hx hb dX1_copy_17 rfl (lv_at hl 1 rfl) ?_
  obtain ⟨k9, hk9⟩ := List.getElem?_of_mem (List.mem_append_right _ hm0)
  refine va_get (C := RX1) (T := TX1) (N := 6) hX.1 hX.2.1 hX.2.2.2.2 in_X1 hX.2.2.2.1 hK hH.1 k9 hk9 rfl 1 (by decide) (hts _ q267) (fun _ h9 => h9) rfl dX1_copy_18 ?_
  refine va_put (C := RX1) (T := TX1) (N := 6) (ty := (.object "java/util/ArrayList")) hX.1 hX.2.1 hX.2.2.2.2 in_X1 tyX1 tyX1_ok nmX1 hX.2.2.2.1 hK hH.1 hH.2.1 hH.2.2.1 0 rfl rfl 1 (by decide) (hts _ q267) (fun _ h9 => h9) rfl (by decide +kernel) rfl rfl (Nat.le_of_ble_eq_true rfl) dX1_copy_21 (fun H locs hP hD hS => ?_)
  have hH : MH D vwA A s.heap ([(q0, .inr (1, [.ref w0, .ref w1, .long 0, .int 0, .ref q10, .ref q11])), (q1, .inr (2, [.ref q2, .ref q4, .ref q6, .int 4, .int 8, .int 0, .int 0, .int 0])), (q2, .inr (17, [.int 0, .ref q3, .int 0])), (q3, .inl (cA 44, 2, .inr (.inr (.inr (.inr (fun _ => none)))))), (q4, .inr (17, [.int 0, .ref q5, .int 0])), (q5, .inl (cA 44, 2, .inr (.inr (.inr (.inr (fun _ => none)))))), (q6, .inr (17, [.int 0, .ref q7, .int 0])), (q7, .inl (cA 44, 2, .inr (.inr (.inr (.inr (fun _ => none)))))), (q8, .inr (17, [.int 0, .ref q9, .int 0])), (q9, .inl (cA 44, 2, .inr (.inr (.inr (.inr (fun _ => none)))))), (q10, .inl (cA 34, 8, .inl (fun _ => 0))), (q11, .inl (cA 35, 8, .inl (fun _ => 0)))] ++ lo) H locs := ⟨hP, hD, hS, hH.2.2.2⟩
  refine lv_aload_n hx hb dX1_copy_24 rfl (lv_at hl 0 rfl) ?_
  refine lv_aload_n hx hb dX1_copy_25 rfl (lv_at hl 1 rfl) ?_
  obtain ⟨k9, hk9⟩ := List.getElem?_of_mem (List.mem_append_right _ hm0)
  refine va_get (C := RX1) (T := TX1) (N := 6) hX.1 hX.2.1 hX.2.2.2.2 in_X1 hX.2.2.2.1 hK hH.1 k9 hk9 rfl 2 (by decide) (hts _ q270) (fun _ h9 => h9) rfl dX1_copy_26 ?_
  refine va_put (C := RX1) (T := TX1) (N := 6) (ty := .long) hX.1 hX.2.1 hX.2.2.2.2 in_X1 tyX1 tyX1_ok nmX1 hX.2.2.2.1 hK hH.1 hH.2.1 hH.2.2.1 0 rfl rfl 2 (by decide) (hts _ q270) (fun _ h9 => h9) rfl (by decide +kernel) rfl rfl (Nat.le_of_ble_eq_true rfl) dX1_copy_29 (fun H locs hP hD hS => ?_)
  have hH : MH D vwA A s.heap ([(q0, .inr (1, [.ref w0, .ref w1, .long vl, .int 0, .ref q10, .ref q11])), (q1, .inr (2, [.ref q2, .ref q4, .ref q6, .int 4, .int 8, .int 0, .int 0, .int 0])), (q2, .inr (17, [.int 0, .ref q3, .int 0])), (q3, .inl (cA 44, 2, .inr (.inr (.inr (.inr (fun _ => none)))))), (q4, .inr (17, [.int 0, .ref q5, .int 0])), (q5, .inl (cA 44, 2, .inr (.inr (.inr (.inr (fun _ => none)))))), (q6, .inr (17, [.int 0, .ref q7, .int 0])), (q7, .inl (cA 44, 2, .inr (.inr (.inr (.inr (fun _ => none)))))), (q8, .inr (17, [.int 0, .ref q9, .int 0])), (q9, .inl (cA 44, 2, .inr (.inr (.inr (.inr (fun _ => none)))))), (q10, .inl (cA 34, 8, .inl (fun _ => 0))), (q11, .inl (cA 35, 8, .inl (fun _ => 0)))] ++ lo) H locs := ⟨hP, hD, hS, hH.2.2.2⟩
  refine lv_aload_n hx hb dX1_copy_32 rfl (lv_at hl 0 rfl) ?_
  refine lv_aload_n hx hb dX1_copy_33 rfl (lv_at hl 1 rfl) ?_
  obtain ⟨k9, hk9⟩ := List.getElem?_of_mem (List.mem_append_right _ hm0)
  refine va_get (C := RX1) (T := TX1) (N := 6) hX.1 hX.2.1 hX.2.2.2.2 in_X1 hX.2.2.2.1 hK hH.1 k9 hk9 rfl 3 (by decide) (hts _ q273) (fun _ h9 => h9) rfl dX1_copy_34 ?_
  refine va_put (C := RX1) (T := TX1) (N := 6) (ty := .int) hX.1 hX.2.1 hX.2.2.2.2 in_X1 tyX1 tyX1_ok nmX1 hX.2.2.2.1 hK hH.1 hH.2.1 hH.2.2.1 0 rfl rfl 3 (by decide) (hts _ q273) (fun _ h9 => h9) rfl (by decide +kernel) rfl rfl (Nat.le_of_ble_eq_true rfl) dX1_copy_37 (fun H locs hP hD hS => ?_)
  have hH : MH D vwA A s.heap ([(q0, .inr (1, [.ref w0, .ref w1, .long vl, .int vy, .ref q10, .ref q11])), (q1, .inr (2, [.ref q2, .ref q4, .ref q6, .int 4, .int 8, .int 0, .int 0, .int 0])), (q2, .inr (17, [.int 0, .ref q3, .int 0])), (q3, .inl (cA 44, 2, .inr (.inr (.inr (.inr (fun _ => none)))))), (q4, .inr (17, [.int 0, .ref q5, .int 0])), (q5, .inl (cA 44, 2, .inr (.inr (.inr (.inr (fun _ => none)))))), (q6, .inr (17, [.int 0, .ref q7, .int 0])), (q7, .inl (cA 44, 2, .inr (.inr (.inr (.inr (fun _ => none)))))), (q8, .inr (17, [.int 0, .ref q9, .int 0])), (q9, .inl (cA 44, 2, .inr (.inr (.inr (.inr (fun _ => none)))))), (q10, .inl (cA 34, 8, .inl (fun _ => 0))), (q11, .inl (cA 35, 8, .inl (fun _ => 0)))] ++ lo) H locs := ⟨hP, hD, hS, hH.2.2.2⟩
  refine lv_iconst (v := 0) hx hb dX1_copy_40 kyi_0 ?_
  refine lv_istore_n (lv' := [(2, .int 0), (1, .ref q0), (0, .ref a0)]) hx hb dX1_copy_41 rfl hl (by decide) rfl (fun ls hl => ?_)
  obtain ⟨xx42, ee42, kk42_0⟩ := bd2L hF
  have k42_0 : ∀ (c10_a_16 : Nat → Int32) (c11_a_17 : Nat → Int32), xx42 = (c10_a_16, c11_a_17) → ∀ (H : Heap) (locs : List Loc) (ls : Array Slot), MH D vwA A s.heap ([(q0, .inr (1, [.ref w0, .ref w1, .long vl, .int vy, .ref q10, .ref q11])), (q1, .inr (2, [.ref q2, .ref q4, .ref q6, .int 4, .int 8, .int 0, .int 0, .int 0])), (q2, .inr (17, [.int 0, .ref q3, .int 0])), (q3, .inl (cA 44, 2, .inr (.inr (.inr (.inr (fun _ => none)))))), (q4, .inr (17, [.int 0, .ref q5, .int 0])), (q5, .inl (cA 44, 2, .inr (.inr (.inr (.inr (fun _ => none)))))), (q6, .inr (17, [.int 0, .ref q7, .int 0])), (q7, .inl (cA 44, 2, .inr (.inr (.inr (.inr (fun _ => none)))))), (q8, .inr (17, [.int 0, .ref q9, .int 0])), (q9, .inl (cA 44, 2, .inr (.inr (.inr (.inr (fun _ => none)))))), (q10, .inl (cA 34, 8, .inl c10_a_16)), (q11, .inl (cA 35, 8, .inl c11_a_17))] ++ lo) H locs → lv_has ls 3 [(1, .ref q0)] → W p l e rm_X1_copy s m args below meth c H locs 12 50 Q (F0 m 78 ls []) := by
    intro c10_a_16 c11_a_17 hxx H locs ls hH hl
    have hF := un2e (kk42_0 (c10_a_16, c11_a_17) hxx)
    refine lv_aload_n hx hb dX1_copy_78 rfl (lv_at hl 0 rfl) ?_
    obtain ⟨rfl, rfl⟩ := re2 hF
    exact hret _ (Or.inr ⟨_, rfl⟩) _ _ _ _ _ ⟨_, _, _, _, _, _, _, _, _, _, _, _, rfl, rfl⟩ hH dX1_copy_79
  obtain ⟨nn42, en42⟩ := loopC_some ee42
  have l42 : ∀ (n : Nat) (x_8 : Int32) (c10_a_9 : Nat → Int32) (c11_a_10 : Nat → Int32), loopN (fun s => FX1_copy_b42 vc vt s.1 s.2.1 s.2.2) n (x_8, c10_a_9, c11_a_10) = some xx42 → ∀ (H : Heap) (locs : List Loc) (ls : Array Slot), MH D vwA A s.heap ([(q0, .inr (1, [.ref w0, .ref w1, .long vl, .int vy, .ref q10, .ref q11])), (q1, .inr (2, [.ref q2, .ref q4, .ref q6, .int 4, .int 8, .int 0, .int 0, .int 0])), (q2, .inr (17, [.int 0, .ref q3, .int 0])), (q3, .inl (cA 44, 2, .inr (.inr (.inr (.inr (fun _ => none)))))), (q4, .inr (17, [.int 0, .ref q5, .int 0])), (q5, .inl (cA 44, 2, .inr (.inr (.inr (.inr (fun _ => none)))))), (q6, .inr (17, [.int 0, .ref q7, .int 0])), (q7, .inl (cA 44, 2, .inr (.inr (.inr (.inr (fun _ => none)))))), (q8, .inr (17, [.int 0, .ref q9, .int 0])), (q9, .inl (cA 44, 2, .inr (.inr (.inr (.inr (fun _ => none)))))), (q10, .inl (cA 34, 8, .inl c10_a_9)), (q11, .inl (cA 35, 8, .inl c11_a_10))] ++ lo) H locs → lv_has ls 3 [(0, .ref a0), (1, .ref q0), (2, .int x_8)] → W p l e rm_X1_copy s m args below meth c H locs 12 50 Q (F0 m 42 ls []) := by
    intro n
    induction n with
    | zero =>
      intro x_8 c10_a_9 c11_a_10 hN
      exact absurd hN loopN_zero
    | succ n ih =>
      intro x_8 c10_a_9 c11_a_10 hN H locs ls hH hl
      obtain ⟨yy42, hB42, hY42⟩ := loopN_succ hN
      have hF : FX1_copy_b42 vc vt x_8 c10_a_9 c11_a_10 = some yy42 := hB42
      delta FX1_copy_b42 at hF
      refine lv_iload_n hx hb dX1_copy_42 rfl (lv_at hl 2 rfl) ?_
      refine lv_bipush (v := 8) hx hb dX1_copy_43 kyb_8 ?_
      refine lv_icmp_ge (tgt := 78) hx hb dX1_copy_45 rfl (fun c_11 => ?_) (fun c_11 => ?_)
      · have hF := itp c_11 hF
        obtain rfl := Option.some.inj hF
        exact k42_0 c10_a_9 c11_a_10 hY42 _ _ _ hH (lv_sub hl [1] rfl)
      · have hF := itn c_11 hF
        refine lv_aload_n hx hb dX1_copy_48 rfl (lv_at hl 1 rfl) ?_
        refine va_get (C := RX1) (T := TX1) (N := 6) hX.1 hX.2.1 hX.2.2.2.2 in_X1 hX.2.2.2.1 hK hH.1 0 rfl rfl 4 (by decide) (hts _ q275) (fun _ h9 => h9) rfl dX1_copy_49 ?_
        refine lv_iload_n hx hb dX1_copy_52 rfl (lv_at hl 2 rfl) ?_
        refine lv_aload_n hx hb dX1_copy_53 rfl (lv_at hl 0 rfl) ?_
        obtain ⟨k9, hk9⟩ := List.getElem?_of_mem (List.mem_append_right _ hm0)
        refine va_get (C := RX1) (T := TX1) (N := 6) hX.1 hX.2.1 hX.2.2.2.2 in_X1 hX.2.2.2.1 hK hH.1 k9 hk9 rfl 4 (by decide) (hts _ q275) (fun _ h9 => h9) rfl dX1_copy_54 ?_
        refine lv_iload_n hx hb dX1_copy_57 rfl (lv_at hl 2 rfl) ?_
        obtain ⟨x_12, he, hF⟩ := bd1e hF
        obtain ⟨k9, hk9⟩ := List.getElem?_of_mem (List.mem_append_right _ hm1)
        refine va_iald hX.1 hX.2.1 hK hH.1 k9 22 hk9 rfl (rd_in he) dX1_copy_58 ?_
        rw [rd_eq he]
        obtain ⟨a_13, he, hF⟩ := bd1e hF
        refine va_iast hX.1 hX.2.1 hK hH.1 hH.2.1 hH.2.2.1 10 22 rfl rfl (wrI_in he) dX1_copy_59 (fun H locs hP hD hS => ?_)
        rw [wrI_eq he] at hP hD
        have hH : MH D vwA A s.heap ([(q0, .inr (1, [.ref w0, .ref w1, .long vl, .int vy, .ref q10, .ref q11])), (q1, .inr (2, [.ref q2, .ref q4, .ref q6, .int 4, .int 8, .int 0, .int 0, .int 0])), (q2, .inr (17, [.int 0, .ref q3, .int 0])), (q3, .inl (cA 44, 2, .inr (.inr (.inr (.inr (fun _ => none)))))), (q4, .inr (17, [.int 0, .ref q5, .int 0])), (q5, .inl (cA 44, 2, .inr (.inr (.inr (.inr (fun _ => none)))))), (q6, .inr (17, [.int 0, .ref q7, .int 0])), (q7, .inl (cA 44, 2, .inr (.inr (.inr (.inr (fun _ => none)))))), (q8, .inr (17, [.int 0, .ref q9, .int 0])), (q9, .inl (cA 44, 2, .inr (.inr (.inr (.inr (fun _ => none)))))), (q10, .inl (cA 34, 8, .inl a_13)), (q11, .inl (cA 35, 8, .inl c11_a_10))] ++ lo) H locs := ⟨hP, hD, hS, hH.2.2.2⟩
        refine lv_aload_n hx hb dX1_copy_60 rfl (lv_at hl 1 rfl) ?_
        refine va_get (C := RX1) (T := TX1) (N := 6) hX.1 hX.2.1 hX.2.2.2.2 in_X1 hX.2.2.2.1 hK hH.1 0 rfl rfl 5 (by decide) (hts _ q277) (fun _ h9 => h9) rfl dX1_copy_61 ?_
        refine lv_iload_n hx hb dX1_copy_64 rfl (lv_at hl 2 rfl) ?_
        refine lv_aload_n hx hb dX1_copy_65 rfl (lv_at hl 0 rfl) ?_
        obtain ⟨k9, hk9⟩ := List.getElem?_of_mem (List.mem_append_right _ hm0)
        refine va_get (C := RX1) (T := TX1) (N := 6) hX.1 hX.2.1 hX.2.2.2.2 in_X1 hX.2.2.2.1 hK hH.1 k9 hk9 rfl 5 (by decide) (hts _ q277) (fun _ h9 => h9) rfl dX1_copy_66 ?_
        refine lv_iload_n hx hb dX1_copy_69 rfl (lv_at hl 2 rfl) ?_
        obtain ⟨x_14, he, hF⟩ := bd1e hF
        obtain ⟨k9, hk9⟩ := List.getElem?_of_mem (List.mem_append_right _ hm2)
        refine va_iald hX.1 hX.2.1 hK hH.1 k9 23 hk9 rfl (rd_in he) dX1_copy_70 ?_
        rw [rd_eq he]
        obtain ⟨a_15, he, hF⟩ := bd1e hF
        refine va_iast hX.1 hX.2.1 hK hH.1 hH.2.1 hH.2.2.1 11 23 rfl rfl (wrI_in he) dX1_copy_71 (fun H locs hP hD hS => ?_)
        rw [wrI_eq he] at hP hD
        have hH : MH D vwA A s.heap ([(q0, .inr (1, [.ref w0, .ref w1, .long vl, .int vy, .ref q10, .ref q11])), (q1, .inr (2, [.ref q2, .ref q4, .ref q6, .int 4, .int 8, .int 0, .int 0, .int 0])), (q2, .inr (17, [.int 0, .ref q3, .int 0])), (q3, .inl (cA 44, 2, .inr (.inr (.inr (.inr (fun _ => none)))))), (q4, .inr (17, [.int 0, .ref q5, .int 0])), (q5, .inl (cA 44, 2, .inr (.inr (.inr (.inr (fun _ => none)))))), (q6, .inr (17, [.int 0, .ref q7, .int 0])), (q7, .inl (cA 44, 2, .inr (.inr (.inr (.inr (fun _ => none)))))), (q8, .inr (17, [.int 0, .ref q9, .int 0])), (q9, .inl (cA 44, 2, .inr (.inr (.inr (.inr (fun _ => none)))))), (q10, .inl (cA 34, 8, .inl a_13)), (q11, .inl (cA 35, 8, .inl a_15))] ++ lo) H locs := ⟨hP, hD, hS, hH.2.2.2⟩
        refine lv_iinc (v := (x_8 + 1)) (lv' := [(2, .int (x_8 + 1)), (0, .ref a0), (1, .ref q0)]) hx hb dX1_copy_72 hl (k := 2) rfl (syc kyi_1) (by decide) rfl (fun ls hl => ?_)
        refine lv_goto (tgt := 42) hx hb dX1_copy_75 rfl ?_
        obtain rfl := Option.some.inj hF
        exact ih (x_8 + 1) a_13 a_15 hY42 _ _ _ hH (lv_sub hl [1, 2, 0] rfl)
  exact l42 nn42 0 (fun _ => 0) (fun _ => 0) en42 _ _ _ hH (lv_sub hl [2, 1, 0] rfl)
abbrev rm_X10_copy : Room := { frames := 2, cells := 2, slots := 8, locals := 61 }
set_option maxHeartbeats 4000000 in
theorem met_X10_copy {l : Launch} {D : va_G} {cA : Nat → ClassId} {lo : va_W} {i0 : Int32} {pl : va_W} {tb : Nat → Nat} {u : Nat → Int32}  {i0 : Int32} {r0 : Nat → Int32} {E : EvT} (hE : EvN E) (hU : TownAt cA pl tb u) (hp : PlIn pl lo) (hg0 : alg (u 0) i0 = some ()) (hF : FX10_copy u i0 = some r0) : MR l yX10_copy (ws_ yX10_copy cX10_copy 3 (Option.some (Jvm.ClassFile.FieldType.object "StoneYear$Row"))) rm_X10_copy D vwA (cT cA) E [.ref (tb (10 + i0.toNatClampNeg))] ([] ++ lo) (fun v z => ∃ q0 : Nat, ∃ q1 : Nat, v = some (.ref q0) ∧ z = ([(q0, .inr (10, [.int (u (1 + i0.toNatClampNeg)), .ref q1, .int (u (31 + i0.toNatClampNeg)), .int (u (36 + i0.toNatClampNeg)), .int 0])), (q1, .inl (cA 45, 3, .inl r0))] ++ lo)) := by
  refine MR.of (Or.inl ⟨_, rfl⟩) (by decide) (Nat.le_of_ble_eq_true rfl) ?_
  intro p e s m args below meth c Q A hX hK hE0 hname hret H locs ls hH hl
  have hX : CallFix p m c cX10_copy 3 s args lw_all RX10 := hX
  have hx := hX.1
  have hb := hX.2.1
  have hown := hX.2.2.2.1
  have hts := hX.2.2.2.2
  have hl : lv_has ls 3 [(0, .ref (tb (10 + i0.toNatClampNeg)))] := hl
  have hEv := hE.1
  have hNW := hE.2.1 _ _ _ hE0
  have hAO := hE.2.2.2 _ _ _ hE0
  delta FX10_copy at hF
  refine va_new (ci := 10) (fs := [.int 0, .null, .int 0, .int 0, .int 0]) (C := RX10) (T := TX10) (N := 5) hX.1 hX.2.1 hX.2.2.2.2 in_X10 tyX10 tyX10_ok hX.2.2.2.1 (hts _ q1415) (hts _ q680) (hts _ q147) hK hH.1 hH.2.1 hH.2.2.1 hH.2.2.2 rfl df_X10 (Nat.le_of_ble_eq_true rfl) (Nat.le_of_ble_eq_true rfl) dX10_copy_0 (fun q0 H hP hD hS => ?_)
  have hH : MH D vwA A s.heap ([] ++ (lo ++ [(q0, .inr (10, [.int 0, .null, .int 0, .int 0, .int 0]))])) H locs := ⟨hP, hD, hS, hH.2.2.2⟩
  have hH : MH D vwA A s.heap ([(q0, .inr (10, [.int 0, .null, .int 0, .int 0, .int 0]))] ++ lo) H locs := MH.pull (xs := []) (c0 := (q0, .inr (10, [.int 0, .null, .int 0, .int 0, .int 0]))) hH
  refine lv_dup hx hb dX10_copy_3 rfl ?_
  refine lv_aload_n hx hb dX10_copy_4 rfl (lv_at hl 0 rfl) ?_
  refine cg_Y_Row_row_high hU (alg_lt hg0) (hp.up _) hX hK hNW hH dX10_copy_5 ?_
  have hH : MH D vwA A s.heap ([(q0, .inr (10, [.int 0, .null, .int 0, .int 0, .int 0]))] ++ ([] ++ lo)) H locs := hH
  refine mxCI hX hK hEv hE0 hH (met_X10_init hE) q683 q147 q1416 q682 rfl hdi_yX10_init ⟨(Nat.le_of_ble_eq_true rfl), (Nat.le_of_ble_eq_true rfl)⟩ rfl rfl hl (Nat.le_of_ble_eq_true rfl) dX10_copy_8 ⟨(Nat.le_of_ble_eq_true rfl), (Nat.le_of_ble_eq_true rfl)⟩ (fun w2 H locs hw hH => ?_)
  obtain ⟨q1, rfl⟩ := hw
  have hH : MH D vwA A s.heap ([(q0, .inr (10, [.int (u (1 + i0.toNatClampNeg)), .ref q1, .int (-1), .int (-1), .int 0])), (q1, .inl (cA 45, 3, .inl (upd (upd (upd (fun _ => 0) (0 : Int32).toNatClampNeg (-1)) (1 : Int32).toNatClampNeg (-1)) (2 : Int32).toNatClampNeg (-1))))] ++ lo) H locs := hH
  refine lv_astore_n (lv' := [(1, .ref q0), (0, .ref (tb (10 + i0.toNatClampNeg)))]) hx hb dX10_copy_11 rfl hl (by decide) rfl (fun ls hl => ?_)
  refine lv_aload_n hx hb dX10_copy_12 rfl (lv_at hl 0 rfl) ?_
  refine lv_aload_n hx hb dX10_copy_13 rfl (lv_at hl 1 rfl) ?_
  refine cg_Y_Row_row_wished hU (alg_lt hg0) (hp.up _) hX hK hNW hH dX10_copy_14 ?_
  refine va_put (C := RX10) (T := TX10) (N := 5) (ty := .int) hX.1 hX.2.1 hX.2.2.2.2 in_X10 tyX10 tyX10_ok nmX10 hX.2.2.2.1 hK hH.1 hH.2.1 hH.2.2.1 0 rfl rfl 2 (by decide) (hts _ q694) (fun _ h9 => h9) rfl (by decide +kernel) rfl rfl (Nat.le_of_ble_eq_true rfl) dX10_copy_17 (fun H locs hP hD hS => ?_)
  have hH : MH D vwA A s.heap ([(q0, .inr (10, [.int (u (1 + i0.toNatClampNeg)), .ref q1, .int (u (31 + i0.toNatClampNeg)), .int (-1), .int 0])), (q1, .inl (cA 45, 3, .inl (upd (upd (upd (fun _ => 0) (0 : Int32).toNatClampNeg (-1)) (1 : Int32).toNatClampNeg (-1)) (2 : Int32).toNatClampNeg (-1))))] ++ lo) H locs := ⟨hP, hD, hS, hH.2.2.2⟩
  refine lv_aload_n hx hb dX10_copy_20 rfl (lv_at hl 0 rfl) ?_
  refine lv_aload_n hx hb dX10_copy_21 rfl (lv_at hl 1 rfl) ?_
  refine cg_Y_Row_row_whose hU (alg_lt hg0) (hp.up _) hX hK hNW hH dX10_copy_22 ?_
  refine va_put (C := RX10) (T := TX10) (N := 5) (ty := .int) hX.1 hX.2.1 hX.2.2.2.2 in_X10 tyX10 tyX10_ok nmX10 hX.2.2.2.1 hK hH.1 hH.2.1 hH.2.2.1 0 rfl rfl 3 (by decide) (hts _ q699) (fun _ h9 => h9) rfl (by decide +kernel) rfl rfl (Nat.le_of_ble_eq_true rfl) dX10_copy_25 (fun H locs hP hD hS => ?_)
  have hH : MH D vwA A s.heap ([(q0, .inr (10, [.int (u (1 + i0.toNatClampNeg)), .ref q1, .int (u (31 + i0.toNatClampNeg)), .int (u (36 + i0.toNatClampNeg)), .int 0])), (q1, .inl (cA 45, 3, .inl (upd (upd (upd (fun _ => 0) (0 : Int32).toNatClampNeg (-1)) (1 : Int32).toNatClampNeg (-1)) (2 : Int32).toNatClampNeg (-1))))] ++ lo) H locs := ⟨hP, hD, hS, hH.2.2.2⟩
  refine lv_iconst (v := 0) hx hb dX10_copy_28 kyi_0 ?_
  refine lv_istore_n (lv' := [(2, .int 0), (1, .ref q0), (0, .ref (tb (10 + i0.toNatClampNeg)))]) hx hb dX10_copy_29 rfl hl (by decide) rfl (fun ls hl => ?_)
  obtain ⟨xx30, ee30, kk30_0⟩ := bd1L hF
  have k30_0 : ∀ (c1_a_10 : Nat → Int32), xx30 = c1_a_10 → ∀ (H : Heap) (locs : List Loc) (ls : Array Slot), MH D vwA A s.heap ([(q0, .inr (10, [.int (u (1 + i0.toNatClampNeg)), .ref q1, .int (u (31 + i0.toNatClampNeg)), .int (u (36 + i0.toNatClampNeg)), .int 0])), (q1, .inl (cA 45, 3, .inl c1_a_10))] ++ lo) H locs → lv_has ls 3 [(1, .ref q0)] → W p l e rm_X10_copy s m args below meth c H locs 2 8 Q (F0 m 53 ls []) := by
    intro c1_a_10 hxx H locs ls hH hl
    have hF := un1e (kk30_0 c1_a_10 hxx)
    refine lv_aload_n hx hb dX10_copy_53 rfl (lv_at hl 0 rfl) ?_
    obtain rfl := Option.some.inj hF
    exact hret _ (Or.inr ⟨_, rfl⟩) _ _ _ _ _ ⟨_, _, rfl, rfl⟩ hH dX10_copy_54
  obtain ⟨nn30, en30⟩ := loopC_some ee30
  have l30 : ∀ (n : Nat) (x_5 : Int32) (c1_a_6 : Nat → Int32), loopN (fun s => FX10_copy_b30 u i0 s.1 s.2) n (x_5, c1_a_6) = some xx30 → ∀ (H : Heap) (locs : List Loc) (ls : Array Slot), MH D vwA A s.heap ([(q0, .inr (10, [.int (u (1 + i0.toNatClampNeg)), .ref q1, .int (u (31 + i0.toNatClampNeg)), .int (u (36 + i0.toNatClampNeg)), .int 0])), (q1, .inl (cA 45, 3, .inl c1_a_6))] ++ lo) H locs → lv_has ls 3 [(0, .ref (tb (10 + i0.toNatClampNeg))), (1, .ref q0), (2, .int x_5)] → W p l e rm_X10_copy s m args below meth c H locs 2 8 Q (F0 m 30 ls []) := by
    intro n
    induction n with
    | zero =>
      intro x_5 c1_a_6 hN
      exact absurd hN loopN_zero
    | succ n ih =>
      intro x_5 c1_a_6 hN H locs ls hH hl
      obtain ⟨yy30, hB30, hY30⟩ := loopN_succ hN
      have hF : FX10_copy_b30 u i0 x_5 c1_a_6 = some yy30 := hB30
      delta FX10_copy_b30 at hF
      refine lv_iload_n hx hb dX10_copy_30 rfl (lv_at hl 2 rfl) ?_
      refine lv_iconst (v := 3) hx hb dX10_copy_31 kyi_3 ?_
      refine lv_icmp_ge (tgt := 53) hx hb dX10_copy_32 rfl (fun c_7 => ?_) (fun c_7 => ?_)
      · have hF := itp c_7 hF
        obtain rfl := Option.some.inj hF
        exact k30_0 c1_a_6 hY30 _ _ _ hH (lv_sub hl [1] rfl)
      · have hF := itn c_7 hF
        refine lv_aload_n hx hb dX10_copy_35 rfl (lv_at hl 1 rfl) ?_
        refine va_get (C := RX10) (T := TX10) (N := 5) hX.1 hX.2.1 hX.2.2.2.2 in_X10 hX.2.2.2.1 hK hH.1 0 rfl rfl 1 (by decide) (hts _ q689) (fun _ h9 => h9) rfl dX10_copy_36 ?_
        refine lv_iload_n hx hb dX10_copy_39 rfl (lv_at hl 2 rfl) ?_
        refine lv_aload_n hx hb dX10_copy_40 rfl (lv_at hl 0 rfl) ?_
        refine cg_Y_Row_row_wish hU (alg_lt hg0) (hp.up _) hX hK hNW hH dX10_copy_41 ?_
        refine lv_iload_n hx hb dX10_copy_44 rfl (lv_at hl 2 rfl) ?_
        obtain ⟨x_8, he, hF⟩ := bd1e hF
        refine cl_wish hU (alg_lt hg0) (hp.up _) rfl hX hK hH he dX10_copy_45 ?_
        obtain ⟨a_9, he, hF⟩ := bd1e hF
        refine va_iast hX.1 hX.2.1 hK hH.1 hH.2.1 hH.2.2.1 1 29 rfl rfl (wrI_in he) dX10_copy_46 (fun H locs hP hD hS => ?_)
        rw [wrI_eq he] at hP hD
        have hH : MH D vwA A s.heap ([(q0, .inr (10, [.int (u (1 + i0.toNatClampNeg)), .ref q1, .int (u (31 + i0.toNatClampNeg)), .int (u (36 + i0.toNatClampNeg)), .int 0])), (q1, .inl (cA 45, 3, .inl a_9))] ++ lo) H locs := ⟨hP, hD, hS, hH.2.2.2⟩
        refine lv_iinc (v := (x_5 + 1)) (lv' := [(2, .int (x_5 + 1)), (0, .ref (tb (10 + i0.toNatClampNeg))), (1, .ref q0)]) hx hb dX10_copy_47 hl (k := 2) rfl (syc kyi_1) (by decide) rfl (fun ls hl => ?_)
        refine lv_goto (tgt := 30) hx hb dX10_copy_50 rfl ?_
        obtain rfl := Option.some.inj hF
        exact ih (x_5 + 1) a_9 hY30 _ _ _ hH (lv_sub hl [1, 2, 0] rfl)
  exact l30 nn30 0 (upd (upd (upd (fun _ => 0) (0 : Int32).toNatClampNeg (-1)) (1 : Int32).toNatClampNeg (-1)) (2 : Int32).toNatClampNeg (-1)) en30 _ _ _ hH (lv_sub hl [2, 1, 0] rfl)