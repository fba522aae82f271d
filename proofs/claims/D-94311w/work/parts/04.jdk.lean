set_option maxRecDepth 100000

theorem Met.ofWF {l : Launch} {y : MethodName} {ws ws' : List Cond} {rm : Room} {Pc : Array Value → State → Prop} {Qc : Array Value → State → Outcome → State → Prop} {mc ms : Nat} {free : Addr → Prop} {cc : ByteArray} {maxL : Nat} {ret : Option FieldType}
    (hy : plainFor y = true) (hw : ws = Cond.code y cc maxL ret :: ws')
    (body : ∀ p e s m args below meth c s₁, BodyLoose p l y (headSpec ws rm) cc maxL ret e s m args below meth c s₁ → c.maxLocals = maxL → Pc args s →
      W p l e (headSpec ws rm).room s m args below meth c s.heap [] 0 0 (MQ below Qc args s mc ms free) (entryFrame m args maxL)) : Met l y ws rm Pc Qc mc ms free := by
  refine MetFree.of_bodySF (code := cc) (maxLocals := maxL) (ret := ret) hy ?_ ?_
  · intro args s m h hn
    obtain ⟨meth, c, h1, h2, h3, h4, h5, h6, -, -⟩ := Cond.code_spec hn (atoms_spec (ws := ws) h _ (by rw [hw]; exact List.mem_cons_self))
    exact ⟨meth, c, h1, h2, h3, h4, h5, h6⟩
  · intro p e s m args below meth c s₁ B hml hP _
    have hh0 : s₁.heap = s.heap := by rw [B.state]; rfl
    obtain ⟨t, a1, o, b1, b2, b3⟩ := body p e s m args below meth c s₁ B hml hP s₁ hh0 (Stand.of_body B)
    exact ⟨t, o, a1, b1, b2, ⟨b3.1, b3.2⟩⟩
theorem MM.ofIF {l : Launch} {y : MethodName} {cc : ByteArray} {maxL : Nat} {rm : Room} {D : va_G} {cl : List vw_C} {tys : List (ClassId × FieldType)} {E : EvT} {As : List Value} {w w' : va_W} {r : Int32} (hy : plainFor y = true) (hsz : (lg_sl As).length ≤ maxL)
    (body : ∀ {p : Program} {e : Env} {s : State} {m : MethodId} {args : Array Value} {below : List Frame} {meth : Method} {c : Code} {Q : State → Prop} {A : Nat → Prop}, CallFix p m c cc maxL s args lw_all y.cls → va_K D cl tys s → E A s s.heap →
      (∀ (H : Heap) (locs : List Loc) (pc : Nat) (ls : Array Slot), MH D cl A s.heap w' H locs → decode cc pc = .ok (.ireturn, 1) → W p l e rm s m args below meth c H locs rm.cells rm.slots Q (F0 m pc ls [.int r])) →
      ∀ (H : Heap) (locs : List Loc) (ls : Array Slot), MH D cl A s.heap w H locs → lv_has ls maxL (lv_args 0 As) → W p l e rm s m args below meth c H locs 0 0 Q (F0 m 0 ls [])) : MM l y (ws_ y cc maxL (some .int)) rm D cl tys E As w w' (some (.int r)) := by
  intro sz
  refine Met.ofWF (cc := cc) (maxL := maxL) (ret := some .int) hy rfl ?_
  intro p e s m args below meth c s₁ B hml hv
  obtain ⟨rfl, hz, hP, hK, hD0, hE⟩ := hv
  have hts := atoms_spec (ws := ws_ y cc maxL (some .int)) B.pre
  have hts : ∀ w ∈ lw_all, w.before _ s = true := fun w h => hts w (List.mem_cons_of_mem _ h)
  have hown : s.vm.findClass y.cls = some m.cls := findClass_of_methodNamed B.named
  subst hz
  have hD := hD0.self (sz := s.heap.size)
  have hl := lv_entry As hsz
  have hlo := B.notSynchronized
  rw [lg_entry_eq]
  exact body (A := va_A w s.heap.size) ⟨B.exec, B.bytes, hml, hown, hts⟩ hK hE (fun H locs pc ls hH hdg => W.iret B.exec B.bytes B.returns (fun t ht hW => ⟨⟨rfl, by rw [ht]; exact hH.1, hH.2.1⟩, hH.2.2.1.F ht⟩) hH.2.2.1.2.2 hdg hlo) s.heap [] _ ⟨hP, hD, va_S.rf, fun q h => Or.inr h⟩ hl
theorem MM.ofN {l : Launch} {y : MethodName} {cc : ByteArray} {maxL : Nat} {rm : Room} {D : va_G} {cl : List vw_C} {tys : List (ClassId × FieldType)} {E : EvT} {As : List Value} {w w' : va_W} {r : Int32} {ty : FieldType} (hn : narrow ty (.int r) = .int r) (hy : plainName y.cls = true) (hsz : (lg_sl As).length ≤ maxL)
    (body : ∀ {p : Program} {e : Env} {s : State} {m : MethodId} {args : Array Value} {below : List Frame} {meth : Method} {c : Code} {Q : State → Prop} {A : Nat → Prop}, CallFix p m c cc maxL s args lw_all y.cls → va_K D cl tys s → E A s s.heap →
      (∀ (H : Heap) (locs : List Loc) (pc : Nat) (ls : Array Slot), MH D cl A s.heap w' H locs → decode cc pc = .ok (.ireturn, 1) → W p l e rm s m args below meth c H locs rm.cells rm.slots Q (F0 m pc ls [.int r])) →
      ∀ (H : Heap) (locs : List Loc) (ls : Array Slot), MH D cl A s.heap w H locs → lv_has ls maxL (lv_args 0 As) → W p l e rm s m args below meth c H locs 0 0 Q (F0 m 0 ls [])) : MM l y (ws_ y cc maxL (some ty)) rm D cl tys E As w w' (some (.int r)) := by
  intro sz
  refine Met.ofW (cc := cc) (maxL := maxL) (ret := some ty) hy rfl ?_
  intro p e s m args below meth c s₁ B hml hv
  obtain ⟨rfl, hz, hP, hK, hD0, hE⟩ := hv
  have hts := atoms_spec (ws := ws_ y cc maxL (some ty)) B.pre
  have hts : ∀ w ∈ lw_all, w.before _ s = true := fun w h => hts w (List.mem_cons_of_mem _ h)
  have hown : s.vm.findClass y.cls = some m.cls := findClass_of_methodNamed B.named
  subst hz
  have hD := hD0.self (sz := s.heap.size)
  have hl := lv_entry As hsz
  have hlo := B.notSynchronized
  rw [lg_entry_eq]
  exact body (A := va_A w s.heap.size) ⟨B.exec, B.bytes, hml, hown, hts⟩ hK hE (fun H locs pc ls hH hdg => W.zret B.exec B.bytes B.returns hn (fun t ht hW => ⟨⟨rfl, by rw [ht]; exact hH.1, hH.2.1⟩, hH.2.2.1.F ht⟩) hH.2.2.1.2.2 hdg hlo) s.heap [] _ ⟨hP, hD, va_S.rf, fun q h => Or.inr h⟩ hl
def EvG (E : EvT) : Prop := EvOK E ∧ True
theorem EvG_of {E : EvT} (h : EvOK E) : EvG E := ⟨h, trivial⟩
/-- a string that is there: at ak, its n bytes bs at av -/
def EvS (E : EvT) (ak av fo n : Nat) (bs : Nat → Int32) : Prop := EvOK E ∧ ∀ (A : Nat → Prop) (U : State) (H : Heap), E A U H → va_O "java/lang/String" ak A U H ∧ va_OF "java/lang/String" "coder" "B" (.int 0) ak A U H ∧ va_OF "java/lang/String" "value" "[B" (.ref av) ak A U H ∧ va_T .byte av n (fun j => .int (bs j)) A U H ∧ va_Z "java/lang/String" "COMPACT_STRINGS" "Z" (.int 1) A U H ∧ va_Z "jdk/internal/util/Preconditions" "SIOOBE_FORMATTER" "Ljava/util/function/BiFunction;" (.ref fo) A U H
theorem srecv {D : va_G} {cl : List vw_C} {A : Nat → Prop} {s : State} {w : va_W} {H : Heap} {locs : List Loc} {ak : Nat} {X : Prop} (hSt : va_O "java/lang/String" ak A s s.heap ∧ X) (hH : MH D cl A s.heap w H locs) : ∃ cell : Cell, H[ak]? = some cell ∧ cell.vm.isStatics = false ∧ s.vm.findClass RJ5 = some cell.cls := by
  obtain ⟨cell, h1, h2, h3, -⟩ := hSt.1.kept hH.2.2.1.2.1
  exact ⟨cell, h1, h2, h3⟩

noncomputable def FJ4_checkIndex_n (p0 : Int32) (p1 : Int32) : Option Int32 :=
  if p0 < 0 then
    none
  else
    if p0 < p1 then
      some p0
    else
      none

noncomputable def FJ4_checkIndex_r (p0 : Int32) (p1 : Int32) : Option Int32 :=
  if p0 < 0 then
    none
  else
    if p0 < p1 then
      some p0
    else
      none

noncomputable def FJ3_checkIndex (p0 : Int32) (p1 : Int32) : Option Int32 :=
  bd1 (FJ4_checkIndex_n p0 p1) fun x_3 =>
  some x_3

noncomputable def FJ11_bitCount (p0 : Int32) : Option Int32 :=
  some ((((((((p0 - ((ushI p0 1) &&& 1431655765)) &&& 858993459) + ((ushI (p0 - ((ushI p0 1) &&& 1431655765)) 2) &&& 858993459)) + (ushI (((p0 - ((ushI p0 1) &&& 1431655765)) &&& 858993459) + ((ushI (p0 - ((ushI p0 1) &&& 1431655765)) 2) &&& 858993459)) 4)) &&& 252645135) + (ushI (((((p0 - ((ushI p0 1) &&& 1431655765)) &&& 858993459) + ((ushI (p0 - ((ushI p0 1) &&& 1431655765)) 2) &&& 858993459)) + (ushI (((p0 - ((ushI p0 1) &&& 1431655765)) &&& 858993459) + ((ushI (p0 - ((ushI p0 1) &&& 1431655765)) 2) &&& 858993459)) 4)) &&& 252645135) 8)) + (ushI ((((((p0 - ((ushI p0 1) &&& 1431655765)) &&& 858993459) + ((ushI (p0 - ((ushI p0 1) &&& 1431655765)) 2) &&& 858993459)) + (ushI (((p0 - ((ushI p0 1) &&& 1431655765)) &&& 858993459) + ((ushI (p0 - ((ushI p0 1) &&& 1431655765)) 2) &&& 858993459)) 4)) &&& 252645135) + (ushI (((((p0 - ((ushI p0 1) &&& 1431655765)) &&& 858993459) + ((ushI (p0 - ((ushI p0 1) &&& 1431655765)) 2) &&& 858993459)) + (ushI (((p0 - ((ushI p0 1) &&& 1431655765)) &&& 858993459) + ((ushI (p0 - ((ushI p0 1) &&& 1431655765)) 2) &&& 858993459)) 4)) &&& 252645135) 8)) 16)) &&& 63)

noncomputable def FJ11_signum (p0 : Int32) : Option Int32 :=
  some ((p0 >>> ((31 : Int32) &&& 31)) ||| (ushI (-p0) 31))

noncomputable def FJ9_floorMod (p0 : Int32) (p1 : Int32) : Option Int32 :=
  bd0 (nzI p1) <|
  if 0 ≤ (p0 ^^^ p1) then
    some (p0 - p0 / p1 * p1)
  else
    if (p0 - p0 / p1 * p1) = 0 then
      some (p0 - p0 / p1 * p1)
    else
      some ((p0 - p0 / p1 * p1) + p1)

noncomputable def FJ5_coder : Option Int32 :=
  if (1 : Int32) = 0 then
    some 1
  else
    some 0

noncomputable def FJ5_isLatin1 : Option Bool :=
  if (1 : Int32) = 0 then
    some false
  else
    if (0 : Int32) = 0 then
      some true
    else
      some false

noncomputable def FJ5_length (n : Nat) : Option Int32 :=
  bd1 FJ5_coder fun x_3 =>
  some ((Int32.ofNat n) >>> (x_3 &&& 31))

noncomputable def FJ5_checkIndex (p0 : Int32) (p1 : Int32) : Option Unit :=
  bd1 (FJ4_checkIndex_r p0 p1) fun x_5 =>
  some ()

noncomputable def FJ6_charAt (n : Nat) (bs : Nat → Int32) (p1 : Int32) : Option Int32 :=
  bd0 (FJ5_checkIndex p1 (Int32.ofNat n)) <|
  bd1 (rd n bs p1) fun x_4 =>
  some (cvC (x_4 &&& 255))

noncomputable def FJ5_charAt (n : Nat) (bs : Nat → Int32) (p1 : Int32) : Option Int32 :=
  bd1 FJ5_isLatin1 fun b_4 =>
  if (b2i b_4) = 0 then
    none
  else
    bd1 (FJ6_charAt n bs p1) fun x_6 =>
    some x_6


theorem hd_J9_floorMod : yJ9_floorMod.cls ≠ "java/lang/invoke/MethodHandle" ∧ yJ9_floorMod.cls ≠ "java/lang/invoke/VarHandle" ∧ (parseMethodDescriptor yJ9_floorMod.desc).map (fun d => d.parameters.length) = some 2 := by decide +kernel
theorem nar_J5_coder {r : Int32} (h : FJ5_coder = some r) : narrow .byte (.int r) = .int r := by
  have : r = 0 := by simp [FJ5_coder] at h; exact h.symm
  rw [this]; decide
theorem nar_J6_charAt {n : Nat} {bs : Nat → Int32} {i r : Int32} (h : FJ6_charAt n bs i = some r) : narrow .char (.int r) = .int r := by
  unfold FJ6_charAt at h
  obtain ⟨-, h⟩ := bd0e h
  obtain ⟨x, -, h⟩ := bd1e h
  cases h
  exact pk_nc _
theorem nar_J5_charAt {n : Nat} {bs : Nat → Int32} {i r : Int32} (h : FJ5_charAt n bs i = some r) : narrow .char (.int r) = .int r := by
  unfold FJ5_charAt at h
  obtain ⟨b, -, h⟩ := bd1e h
  split at h
  · cases h
  · obtain ⟨x, h1, h2⟩ := bd1e h
    cases h2
    exact nar_J6_charAt h1

theorem syb_8 : (Int8.ofInt 8).toInt32 = 8 := by decide
theorem syb_16 : (Int8.ofInt 16).toInt32 = 16 := by decide
theorem syb_31 : (Int8.ofInt 31).toInt32 = 31 := by decide
theorem syb_63 : (Int8.ofInt 63).toInt32 = 63 := by decide
theorem syi_1 : Int32.ofInt 1 = 1 := by decide
theorem syi_2 : Int32.ofInt 2 = 2 := by decide
theorem syi_4 : Int32.ofInt 4 = 4 := by decide
theorem syi_0 : Int32.ofInt 0 = 0 := by decide
theorem sys_255 : (Int16.ofInt 255).toInt32 = 255 := by decide
theorem hd_yJ4_checkIndex : yJ4_checkIndex.cls ≠ "java/lang/invoke/MethodHandle" ∧ yJ4_checkIndex.cls ≠ "java/lang/invoke/VarHandle" ∧ (parseMethodDescriptor yJ4_checkIndex.desc).map (fun d => d.parameters.length) = some 3 := by decide +kernel
theorem gw_java_util_Objects_105 : GoodIn lw_all (va_wsS RJ3 105 yJ4_checkIndex (ws_ yJ4_checkIndex cJ4_checkIndex 3 (Option.some Jvm.ClassFile.FieldType.int))) := lw_S q433 q434 q141 q435
theorem hd_yJ5_checkIndex : yJ5_checkIndex.cls ≠ "java/lang/invoke/MethodHandle" ∧ yJ5_checkIndex.cls ≠ "java/lang/invoke/VarHandle" ∧ (parseMethodDescriptor yJ5_checkIndex.desc).map (fun d => d.parameters.length) = some 2 := by decide +kernel
theorem hd_yJ5_coder : yJ5_coder.cls = RJ5 ∧ yJ5_coder.cls ≠ "java/lang/invoke/MethodHandle" ∧ yJ5_coder.cls ≠ "java/lang/invoke/VarHandle" ∧ (parseMethodDescriptor yJ5_coder.desc).map (fun d => d.parameters.length) = some 0 := by decide +kernel
theorem hd_yJ5_isLatin1 : yJ5_isLatin1.cls = RJ5 ∧ yJ5_isLatin1.cls ≠ "java/lang/invoke/MethodHandle" ∧ yJ5_isLatin1.cls ≠ "java/lang/invoke/VarHandle" ∧ (parseMethodDescriptor yJ5_isLatin1.desc).map (fun d => d.parameters.length) = some 0 := by decide +kernel
theorem hd_yJ6_charAt : yJ6_charAt.cls ≠ "java/lang/invoke/MethodHandle" ∧ yJ6_charAt.cls ≠ "java/lang/invoke/VarHandle" ∧ (parseMethodDescriptor yJ6_charAt.desc).map (fun d => d.parameters.length) = some 2 := by decide +kernel
theorem gw_java_lang_String_335 : GoodIn lw_all (wsV RJ5 335 RJ5 yJ5_coder (ws_ yJ5_coder cJ5_coder 1 (Option.some Jvm.ClassFile.FieldType.byte))) := lw_V q616 q617 q618 q144 q619
theorem gw_java_lang_String_492 : GoodIn lw_all (wsV RJ5 492 RJ5 yJ5_isLatin1 (ws_ yJ5_isLatin1 cJ5_isLatin1 1 (Option.some Jvm.ClassFile.FieldType.boolean))) := lw_V q626 q627 q628 q144 q629
theorem gw_java_lang_String_495 : GoodIn lw_all (va_wsS RJ5 495 yJ6_charAt (ws_ yJ6_charAt cJ6_charAt 2 (Option.some Jvm.ClassFile.FieldType.char))) := lw_S q630 q631 q145 q632
theorem gw_java_lang_String_1059 : GoodIn lw_all (va_wsS RJ5 1059 yJ4_checkIndex (ws_ yJ4_checkIndex cJ4_checkIndex 3 (Option.some Jvm.ClassFile.FieldType.int))) := lw_S q638 q434 q141 q435
theorem gw_java_lang_StringLatin1_9 : GoodIn lw_all (va_wsS RJ6 9 yJ5_checkIndex (ws_ yJ5_checkIndex cJ5_checkIndex 2 (Option.none : Option Jvm.ClassFile.FieldType))) := lw_S q633 q634 q144 q635
abbrev rm_J4_checkIndex_n : Room := { frames := 0, cells := 0, slots := 0, locals := 0 }
set_option maxHeartbeats 4000000 in
theorem met_J4_checkIndex_n {l : Launch} {D : va_G} {cl : List vw_C} {tys : List (ClassId × FieldType)} {w : va_W}  {p0 : Int32} {p1 : Int32} {res : Int32} {E : EvT} (hE : EvG E) (hF : FJ4_checkIndex_n p0 p1 = some res) : MM l yJ4_checkIndex (ws_ yJ4_checkIndex cJ4_checkIndex 3 (Option.some Jvm.ClassFile.FieldType.int)) rm_J4_checkIndex_n D cl tys E [.int p0, .int p1, .null] w w (some (.int res)) := by
  refine MM.ofI (by decide) (Nat.le_of_ble_eq_true rfl) ?_
  intro p e s m args below meth c Q A hX hK hE0 hret H locs ls hH hl
  have hX : CallFix p m c cJ4_checkIndex 3 s args lw_all RJ4 := hX
  have hx := hX.1
  have hb := hX.2.1
  have hown := hX.2.2.2.1
  have hts := hX.2.2.2.2
  have hl : lv_has ls 3 [(0, .int p0), (1, .int p1), (2, .null)] := hl
  have hEv := hE.1
  delta FJ4_checkIndex_n at hF
  refine lv_iload_n hx hb dJ4_checkIndex_0 rfl (lv_at hl 0 rfl) ?_
  refine lv_if_lt (tgt := 9) hx hb dJ4_checkIndex_1 rfl (fun c_3 => ?_) (fun c_3 => ?_)
  · have hF := itp c_3 hF
    cases hF
  · have hF := itn c_3 hF
    refine lv_iload_n hx hb dJ4_checkIndex_4 rfl (lv_at hl 0 rfl) ?_
    refine lv_iload_n hx hb dJ4_checkIndex_5 rfl (lv_at hl 1 rfl) ?_
    refine lv_icmp_lt (tgt := 16) hx hb dJ4_checkIndex_6 rfl (fun c_4 => ?_) (fun c_4 => ?_)
    · have hF := itp c_4 hF
      refine lv_iload_n hx hb dJ4_checkIndex_16 rfl (lv_at hl 0 rfl) ?_
      obtain rfl := Option.some.inj hF
      exact hret _ _ _ _ hH dJ4_checkIndex_17
    · have hF := itn c_4 hF
      cases hF
abbrev rm_J4_checkIndex_r : Room := { frames := 0, cells := 0, slots := 0, locals := 0 }
set_option maxHeartbeats 4000000 in
theorem met_J4_checkIndex_r {l : Launch} {D : va_G} {cl : List vw_C} {tys : List (ClassId × FieldType)} {w : va_W} {f2 : Nat}  {p0 : Int32} {p1 : Int32} {res : Int32} {E : EvT} (hE : EvG E) (hF : FJ4_checkIndex_r p0 p1 = some res) : MM l yJ4_checkIndex (ws_ yJ4_checkIndex cJ4_checkIndex 3 (Option.some Jvm.ClassFile.FieldType.int)) rm_J4_checkIndex_r D cl tys E [.int p0, .int p1, .ref f2] w w (some (.int res)) := by
  refine MM.ofI (by decide) (Nat.le_of_ble_eq_true rfl) ?_
  intro p e s m args below meth c Q A hX hK hE0 hret H locs ls hH hl
  have hX : CallFix p m c cJ4_checkIndex 3 s args lw_all RJ4 := hX
  have hx := hX.1
  have hb := hX.2.1
  have hown := hX.2.2.2.1
  have hts := hX.2.2.2.2
  have hl : lv_has ls 3 [(0, .int p0), (1, .int p1), (2, .ref f2)] := hl
  have hEv := hE.1
  delta FJ4_checkIndex_r at hF
  refine lv_iload_n hx hb dJ4_checkIndex_0 rfl (lv_at hl 0 rfl) ?_
  refine lv_if_lt (tgt := 9) hx hb dJ4_checkIndex_1 rfl (fun c_3 => ?_) (fun c_3 => ?_)
  · have hF := itp c_3 hF
    cases hF
  · have hF := itn c_3 hF
    refine lv_iload_n hx hb dJ4_checkIndex_4 rfl (lv_at hl 0 rfl) ?_
    refine lv_iload_n hx hb dJ4_checkIndex_5 rfl (lv_at hl 1 rfl) ?_
    refine lv_icmp_lt (tgt := 16) hx hb dJ4_checkIndex_6 rfl (fun c_4 => ?_) (fun c_4 => ?_)
    · have hF := itp c_4 hF
      refine lv_iload_n hx hb dJ4_checkIndex_16 rfl (lv_at hl 0 rfl) ?_
      obtain rfl := Option.some.inj hF
      exact hret _ _ _ _ hH dJ4_checkIndex_17
    · have hF := itn c_4 hF
      cases hF
abbrev rm_J3_checkIndex : Room := { frames := 1, cells := 0, slots := 0, locals := 22 }
set_option maxHeartbeats 4000000 in
theorem met_J3_checkIndex {l : Launch} {D : va_G} {cl : List vw_C} {tys : List (ClassId × FieldType)} {w : va_W}  {p0 : Int32} {p1 : Int32} {res : Int32} {E : EvT} (hE : EvG E) (hF : FJ3_checkIndex p0 p1 = some res) : MM l yJ3_checkIndex (ws_ yJ3_checkIndex cJ3_checkIndex 2 (Option.some Jvm.ClassFile.FieldType.int)) rm_J3_checkIndex D cl tys E [.int p0, .int p1] w w (some (.int res)) := by
  refine MM.ofI (by decide) (Nat.le_of_ble_eq_true rfl) ?_
  intro p e s m args below meth c Q A hX hK hE0 hret H locs ls hH hl
  have hX : CallFix p m c cJ3_checkIndex 2 s args lw_all RJ3 := hX
  have hx := hX.1
  have hb := hX.2.1
  have hown := hX.2.2.2.1
  have hts := hX.2.2.2.2
  have hl : lv_has ls 2 [(0, .int p0), (1, .int p1)] := hl
  have hEv := hE.1
  delta FJ3_checkIndex at hF
  refine lv_iload_n hx hb dJ3_checkIndex_0 rfl (lv_at hl 0 rfl) ?_
  refine lv_iload_n hx hb dJ3_checkIndex_1 rfl (lv_at hl 1 rfl) ?_
  refine lv_null hx hb dJ3_checkIndex_2 ?_
  obtain ⟨x_3, he, hF⟩ := bd1e hF
  refine mcS hX hK hEv hE0 hH (met_J4_checkIndex_n hE he) gw_java_util_Objects_105 hd_yJ4_checkIndex ⟨Nat.le_of_ble_eq_true rfl, Nat.le_of_ble_eq_true rfl⟩ rfl rfl hl (Nat.le_of_ble_eq_true rfl) dJ3_checkIndex_3 ⟨Nat.le_of_ble_eq_true rfl, Nat.le_of_ble_eq_true rfl⟩ (fun H locs hH => ?_)
  obtain rfl := Option.some.inj hF
  exact hret _ _ _ _ hH dJ3_checkIndex_6
abbrev rm_J11_bitCount : Room := { frames := 0, cells := 0, slots := 0, locals := 0 }
set_option maxHeartbeats 4000000 in
theorem met_J11_bitCount {l : Launch} {D : va_G} {cl : List vw_C} {tys : List (ClassId × FieldType)} {w : va_W}  {p0 : Int32} {res : Int32} {E : EvT} (hE : EvG E) (hF : FJ11_bitCount p0 = some res) : MM l yJ11_bitCount (ws_ yJ11_bitCount cJ11_bitCount 1 (Option.some Jvm.ClassFile.FieldType.int)) rm_J11_bitCount D cl tys E [.int p0] w w (some (.int res)) := by
  refine MM.ofI (by decide) (Nat.le_of_ble_eq_true rfl) ?_
  intro p e s m args below meth c Q A hX hK hE0 hret H locs ls hH hl
  have hX : CallFix p m c cJ11_bitCount 1 s args lw_all RJ11 := hX
  have hx := hX.1
  have hb := hX.2.1
  have hown := hX.2.2.2.1
  have hts := hX.2.2.2.2
  have hl : lv_has ls 1 [(0, .int p0)] := hl
  have hEv := hE.1
  delta FJ11_bitCount at hF
  refine lv_iload_n hx hb dJ11_bitCount_0 rfl (lv_at hl 0 rfl) ?_
  refine lv_iload_n hx hb dJ11_bitCount_1 rfl (lv_at hl 0 rfl) ?_
  refine lv_iconst (v := 1) hx hb dJ11_bitCount_2 syi_1 ?_
  refine lv_iushr hx hb dJ11_bitCount_3 rfl ?_
  refine lv_ldcw (v := 1431655765) hx hb hown (hts _ q1085) dJ11_bitCount_4 ?_
  refine lv_iand hx hb dJ11_bitCount_7 ?_
  refine lv_isub hx hb dJ11_bitCount_8 ?_
  refine lv_istore_n (lv' := [(0, .int (p0 - ((ushI p0 1) &&& 1431655765)))]) hx hb dJ11_bitCount_9 rfl hl (by decide) rfl (fun ls hl => ?_)
  refine lv_iload_n hx hb dJ11_bitCount_10 rfl (lv_at hl 0 rfl) ?_
  refine lv_ldcw (v := 858993459) hx hb hown (hts _ q1086) dJ11_bitCount_11 ?_
  refine lv_iand hx hb dJ11_bitCount_14 ?_
  refine lv_iload_n hx hb dJ11_bitCount_15 rfl (lv_at hl 0 rfl) ?_
  refine lv_iconst (v := 2) hx hb dJ11_bitCount_16 syi_2 ?_
  refine lv_iushr hx hb dJ11_bitCount_17 rfl ?_
  refine lv_ldcw (v := 858993459) hx hb hown (hts _ q1086) dJ11_bitCount_18 ?_
  refine lv_iand hx hb dJ11_bitCount_21 ?_
  refine lv_iadd hx hb dJ11_bitCount_22 ?_
  refine lv_istore_n (lv' := [(0, .int (((p0 - ((ushI p0 1) &&& 1431655765)) &&& 858993459) + ((ushI (p0 - ((ushI p0 1) &&& 1431655765)) 2) &&& 858993459)))]) hx hb dJ11_bitCount_23 rfl hl (by decide) rfl (fun ls hl => ?_)
  refine lv_iload_n hx hb dJ11_bitCount_24 rfl (lv_at hl 0 rfl) ?_
  refine lv_iload_n hx hb dJ11_bitCount_25 rfl (lv_at hl 0 rfl) ?_
  refine lv_iconst (v := 4) hx hb dJ11_bitCount_26 syi_4 ?_
  refine lv_iushr hx hb dJ11_bitCount_27 rfl ?_
  refine lv_iadd hx hb dJ11_bitCount_28 ?_
  refine lv_ldcw (v := 252645135) hx hb hown (hts _ q1087) dJ11_bitCount_29 ?_
  refine lv_iand hx hb dJ11_bitCount_32 ?_
  refine lv_istore_n (lv' := [(0, .int (((((p0 - ((ushI p0 1) &&& 1431655765)) &&& 858993459) + ((ushI (p0 - ((ushI p0 1) &&& 1431655765)) 2) &&& 858993459)) + (ushI (((p0 - ((ushI p0 1) &&& 1431655765)) &&& 858993459) + ((ushI (p0 - ((ushI p0 1) &&& 1431655765)) 2) &&& 858993459)) 4)) &&& 252645135))]) hx hb dJ11_bitCount_33 rfl hl (by decide) rfl (fun ls hl => ?_)
  refine lv_iload_n hx hb dJ11_bitCount_34 rfl (lv_at hl 0 rfl) ?_
  refine lv_iload_n hx hb dJ11_bitCount_35 rfl (lv_at hl 0 rfl) ?_
  refine lv_bipush (v := 8) hx hb dJ11_bitCount_36 syb_8 ?_
  refine lv_iushr hx hb dJ11_bitCount_38 rfl ?_
  refine lv_iadd hx hb dJ11_bitCount_39 ?_
  refine lv_istore_n (lv' := [(0, .int ((((((p0 - ((ushI p0 1) &&& 1431655765)) &&& 858993459) + ((ushI (p0 - ((ushI p0 1) &&& 1431655765)) 2) &&& 858993459)) + (ushI (((p0 - ((ushI p0 1) &&& 1431655765)) &&& 858993459) + ((ushI (p0 - ((ushI p0 1) &&& 1431655765)) 2) &&& 858993459)) 4)) &&& 252645135) + (ushI (((((p0 - ((ushI p0 1) &&& 1431655765)) &&& 858993459) + ((ushI (p0 - ((ushI p0 1) &&& 1431655765)) 2) &&& 858993459)) + (ushI (((p0 - ((ushI p0 1) &&& 1431655765)) &&& 858993459) + ((ushI (p0 - ((ushI p0 1) &&& 1431655765)) 2) &&& 858993459)) 4)) &&& 252645135) 8)))]) hx hb dJ11_bitCount_40 rfl hl (by decide) rfl (fun ls hl => ?_)
  refine lv_iload_n hx hb dJ11_bitCount_41 rfl (lv_at hl 0 rfl) ?_
  refine lv_iload_n hx hb dJ11_bitCount_42 rfl (lv_at hl 0 rfl) ?_
  refine lv_bipush (v := 16) hx hb dJ11_bitCount_43 syb_16 ?_
  refine lv_iushr hx hb dJ11_bitCount_45 rfl ?_
  refine lv_iadd hx hb dJ11_bitCount_46 ?_
  refine lv_istore_n (lv' := [(0, .int (((((((p0 - ((ushI p0 1) &&& 1431655765)) &&& 858993459) + ((ushI (p0 - ((ushI p0 1) &&& 1431655765)) 2) &&& 858993459)) + (ushI (((p0 - ((ushI p0 1) &&& 1431655765)) &&& 858993459) + ((ushI (p0 - ((ushI p0 1) &&& 1431655765)) 2) &&& 858993459)) 4)) &&& 252645135) + (ushI (((((p0 - ((ushI p0 1) &&& 1431655765)) &&& 858993459) + ((ushI (p0 - ((ushI p0 1) &&& 1431655765)) 2) &&& 858993459)) + (ushI (((p0 - ((ushI p0 1) &&& 1431655765)) &&& 858993459) + ((ushI (p0 - ((ushI p0 1) &&& 1431655765)) 2) &&& 858993459)) 4)) &&& 252645135) 8)) + (ushI ((((((p0 - ((ushI p0 1) &&& 1431655765)) &&& 858993459) + ((ushI (p0 - ((ushI p0 1) &&& 1431655765)) 2) &&& 858993459)) + (ushI (((p0 - ((ushI p0 1) &&& 1431655765)) &&& 858993459) + ((ushI (p0 - ((ushI p0 1) &&& 1431655765)) 2) &&& 858993459)) 4)) &&& 252645135) + (ushI (((((p0 - ((ushI p0 1) &&& 1431655765)) &&& 858993459) + ((ushI (p0 - ((ushI p0 1) &&& 1431655765)) 2) &&& 858993459)) + (ushI (((p0 - ((ushI p0 1) &&& 1431655765)) &&& 858993459) + ((ushI (p0 - ((ushI p0 1) &&& 1431655765)) 2) &&& 858993459)) 4)) &&& 252645135) 8)) 16)))]) hx hb dJ11_bitCount_47 rfl hl (by decide) rfl (fun ls hl => ?_)
  refine lv_iload_n hx hb dJ11_bitCount_48 rfl (lv_at hl 0 rfl) ?_
  refine lv_bipush (v := 63) hx hb dJ11_bitCount_49 syb_63 ?_
  refine lv_iand hx hb dJ11_bitCount_51 ?_
  obtain rfl := Option.some.inj hF
  exact hret _ _ _ _ hH dJ11_bitCount_52
abbrev rm_J11_signum : Room := { frames := 0, cells := 0, slots := 0, locals := 0 }
set_option maxHeartbeats 4000000 in
theorem met_J11_signum {l : Launch} {D : va_G} {cl : List vw_C} {tys : List (ClassId × FieldType)} {w : va_W}  {p0 : Int32} {res : Int32} {E : EvT} (hE : EvG E) (hF : FJ11_signum p0 = some res) : MM l yJ11_signum (ws_ yJ11_signum cJ11_signum 1 (Option.some Jvm.ClassFile.FieldType.int)) rm_J11_signum D cl tys E [.int p0] w w (some (.int res)) := by
  refine MM.ofI (by decide) (Nat.le_of_ble_eq_true rfl) ?_
  intro p e s m args below meth c Q A hX hK hE0 hret H locs ls hH hl
  have hX : CallFix p m c cJ11_signum 1 s args lw_all RJ11 := hX
  have hx := hX.1
  have hb := hX.2.1
  have hown := hX.2.2.2.1
  have hts := hX.2.2.2.2
  have hl : lv_has ls 1 [(0, .int p0)] := hl
  have hEv := hE.1
  delta FJ11_signum at hF
  refine lv_iload_n hx hb dJ11_signum_0 rfl (lv_at hl 0 rfl) ?_
  refine lv_bipush (v := 31) hx hb dJ11_signum_1 syb_31 ?_
  refine lv_ishr hx hb dJ11_signum_3 ?_
  refine lv_iload_n hx hb dJ11_signum_4 rfl (lv_at hl 0 rfl) ?_
  refine lv_ineg hx hb dJ11_signum_5 ?_
  refine lv_bipush (v := 31) hx hb dJ11_signum_6 syb_31 ?_
  refine lv_iushr hx hb dJ11_signum_8 rfl ?_
  refine lv_ior hx hb dJ11_signum_9 ?_
  obtain rfl := Option.some.inj hF
  exact hret _ _ _ _ hH dJ11_signum_10
abbrev rm_J9_floorMod : Room := { frames := 0, cells := 0, slots := 0, locals := 0 }
set_option maxHeartbeats 4000000 in
theorem met_J9_floorMod {l : Launch} {D : va_G} {cl : List vw_C} {tys : List (ClassId × FieldType)} {w : va_W}  {p0 : Int32} {p1 : Int32} {res : Int32} {E : EvT} (hE : EvG E) (hF : FJ9_floorMod p0 p1 = some res) : MM l yJ9_floorMod (ws_ yJ9_floorMod cJ9_floorMod 3 (Option.some Jvm.ClassFile.FieldType.int)) rm_J9_floorMod D cl tys E [.int p0, .int p1] w w (some (.int res)) := by
  refine MM.ofIF (by decide +kernel) (Nat.le_of_ble_eq_true rfl) ?_
  intro p e s m args below meth c Q A hX hK hE0 hret H locs ls hH hl
  have hX : CallFix p m c cJ9_floorMod 3 s args lw_all RJ9 := hX
  have hx := hX.1
  have hb := hX.2.1
  have hown := hX.2.2.2.1
  have hts := hX.2.2.2.2
  have hl : lv_has ls 3 [(0, .int p0), (1, .int p1)] := hl
  have hEv := hE.1
  delta FJ9_floorMod at hF
  refine lv_iload_n hx hb dJ9_floorMod_0 rfl (lv_at hl 0 rfl) ?_
  refine lv_iload_n hx hb dJ9_floorMod_1 rfl (lv_at hl 1 rfl) ?_
  obtain ⟨hz, hF⟩ := bd0e hF
  refine lv_irem hx hb dJ9_floorMod_2 (nz_of hz) ?_
  refine lv_istore_n (lv' := [(2, .int (p0 - p0 / p1 * p1)), (0, .int p0), (1, .int p1)]) hx hb dJ9_floorMod_3 rfl hl (by decide) rfl (fun ls hl => ?_)
  refine lv_iload_n hx hb dJ9_floorMod_4 rfl (lv_at hl 1 rfl) ?_
  refine lv_iload_n hx hb dJ9_floorMod_5 rfl (lv_at hl 2 rfl) ?_
  refine lv_ixor hx hb dJ9_floorMod_6 ?_
  refine lv_if_ge (tgt := 18) hx hb dJ9_floorMod_7 rfl (fun c_4 => ?_) (fun c_4 => ?_)
  · have hF := itp c_4 hF
    refine lv_iload_n hx hb dJ9_floorMod_18 rfl (lv_at hl 0 rfl) ?_
    obtain rfl := Option.some.inj hF
    exact hret _ _ _ _ hH dJ9_floorMod_19
  · have hF := itn c_4 hF
    refine lv_iload_n hx hb dJ9_floorMod_10 rfl (lv_at hl 0 rfl) ?_
    refine lv_if_eq (tgt := 18) hx hb dJ9_floorMod_11 rfl (fun c_5 => ?_) (fun c_5 => ?_)
    · have hF := itp c_5 hF
      refine lv_iload_n hx hb dJ9_floorMod_18 rfl (lv_at hl 0 rfl) ?_
      obtain rfl := Option.some.inj hF
      exact hret _ _ _ _ hH dJ9_floorMod_19
    · have hF := itn c_5 hF
      refine lv_iload_n hx hb dJ9_floorMod_14 rfl (lv_at hl 0 rfl) ?_
      refine lv_iload_n hx hb dJ9_floorMod_15 rfl (lv_at hl 2 rfl) ?_
      refine lv_iadd hx hb dJ9_floorMod_16 ?_
      obtain rfl := Option.some.inj hF
      exact hret _ _ _ _ hH dJ9_floorMod_17
abbrev rm_J5_coder : Room := { frames := 0, cells := 0, slots := 0, locals := 0 }
set_option maxHeartbeats 4000000 in
theorem met_J5_coder {l : Launch} {D : va_G} {cl : List vw_C} {tys : List (ClassId × FieldType)} {w : va_W}   {res : Int32} (hn : narrow .byte (.int res) = .int res) {ak av fo n : Nat} {bs : Nat → Int32} {E : EvT} (hE : EvS E ak av fo n bs) (hF : FJ5_coder = some res) : MM l yJ5_coder (ws_ yJ5_coder cJ5_coder 1 (Option.some Jvm.ClassFile.FieldType.byte)) rm_J5_coder D cl tys E [.ref ak] w w (some (.int res)) := by
  refine MM.ofN hn (by decide) (Nat.le_of_ble_eq_true rfl) ?_
  intro p e s m args below meth c Q A hX hK hE0 hret H locs ls hH hl
  have hX : CallFix p m c cJ5_coder 1 s args lw_all RJ5 := hX
  have hx := hX.1
  have hb := hX.2.1
  have hown := hX.2.2.2.1
  have hts := hX.2.2.2.2
  have hl : lv_has ls 1 [(0, .ref ak)] := hl
  have hEv := hE.1
  have hSt := hE.2 _ _ _ hE0
  delta FJ5_coder at hF
  refine va_gets hx hb hSt.2.2.2.2.1 hH.2.2.1 hown (hts _ q620) (fun _ h => h) dJ5_coder_0 ?_
  refine lv_if_eq (tgt := 13) hx hb dJ5_coder_3 rfl (fun c_3 => ?_) (fun c_3 => ?_)
  · have hF := itp c_3 hF
    refine lv_iconst (v := 1) hx hb dJ5_coder_13 syi_1 ?_
    obtain rfl := Option.some.inj hF
    exact hret _ _ _ _ hH dJ5_coder_14
  · have hF := itn c_3 hF
    refine lv_aload_n hx hb dJ5_coder_6 rfl (lv_at hl 0 rfl) ?_
    refine vk_getf hx hb hSt.2.1 hH.2.2.1 hown (hts _ q2269) (fun _ h => h) dJ5_coder_7 ?_
    refine lv_goto (tgt := 14) hx hb dJ5_coder_10 rfl ?_
    obtain rfl := Option.some.inj hF
    exact hret _ _ _ _ hH dJ5_coder_14
abbrev rm_J5_isLatin1 : Room := { frames := 0, cells := 0, slots := 0, locals := 0 }
set_option maxHeartbeats 4000000 in
theorem met_J5_isLatin1 {l : Launch} {D : va_G} {cl : List vw_C} {tys : List (ClassId × FieldType)} {w : va_W}   {res : Bool} {ak av fo n : Nat} {bs : Nat → Int32} {E : EvT} (hE : EvS E ak av fo n bs) (hF : FJ5_isLatin1 = some res) : MM l yJ5_isLatin1 (ws_ yJ5_isLatin1 cJ5_isLatin1 1 (Option.some Jvm.ClassFile.FieldType.boolean)) rm_J5_isLatin1 D cl tys E [.ref ak] w w (some (.int (b2i res))) := by
  refine MM.ofZ (by decide) (Nat.le_of_ble_eq_true rfl) ?_
  intro p e s m args below meth c Q A hX hK hE0 hret H locs ls hH hl
  have hX : CallFix p m c cJ5_isLatin1 1 s args lw_all RJ5 := hX
  have hx := hX.1
  have hb := hX.2.1
  have hown := hX.2.2.2.1
  have hts := hX.2.2.2.2
  have hl : lv_has ls 1 [(0, .ref ak)] := hl
  have hEv := hE.1
  have hSt := hE.2 _ _ _ hE0
  delta FJ5_isLatin1 at hF
  refine va_gets hx hb hSt.2.2.2.2.1 hH.2.2.1 hown (hts _ q620) (fun _ h => h) dJ5_isLatin1_0 ?_
  refine lv_if_eq (tgt := 17) hx hb dJ5_isLatin1_3 rfl (fun c_3 => ?_) (fun c_3 => ?_)
  · have hF := itp c_3 hF
    refine lv_iconst (v := 0) hx hb dJ5_isLatin1_17 syi_0 ?_
    obtain rfl := Option.some.inj hF
    exact hret _ _ _ _ hH dJ5_isLatin1_18
  · have hF := itn c_3 hF
    refine lv_aload_n hx hb dJ5_isLatin1_6 rfl (lv_at hl 0 rfl) ?_
    refine vk_getf hx hb hSt.2.1 hH.2.2.1 hown (hts _ q2269) (fun _ h => h) dJ5_isLatin1_7 ?_
    refine lv_if_ne (tgt := 17) hx hb dJ5_isLatin1_10 rfl (fun c_4 => ?_) (fun c_4 => ?_)
    · have hF := itn c_4 hF
      refine lv_iconst (v := 0) hx hb dJ5_isLatin1_17 syi_0 ?_
      obtain rfl := Option.some.inj hF
      exact hret _ _ _ _ hH dJ5_isLatin1_18
    · have hF := itp c_4 hF
      refine lv_iconst (v := 1) hx hb dJ5_isLatin1_13 syi_1 ?_
      refine lv_goto (tgt := 18) hx hb dJ5_isLatin1_14 rfl ?_
      obtain rfl := Option.some.inj hF
      exact hret _ _ _ _ hH dJ5_isLatin1_18
abbrev rm_J5_length : Room := { frames := 1, cells := 0, slots := 0, locals := 20 }
set_option maxHeartbeats 4000000 in
theorem met_J5_length {l : Launch} {D : va_G} {cl : List vw_C} {tys : List (ClassId × FieldType)} {w : va_W}   {res : Int32} {ak av fo n : Nat} {bs : Nat → Int32} {E : EvT} (hE : EvS E ak av fo n bs) (hF : FJ5_length n = some res) : MM l yJ5_length (ws_ yJ5_length cJ5_length 1 (Option.some Jvm.ClassFile.FieldType.int)) rm_J5_length D cl tys E [.ref ak] w w (some (.int res)) := by
  refine MM.ofI (by decide) (Nat.le_of_ble_eq_true rfl) ?_
  intro p e s m args below meth c Q A hX hK hE0 hret H locs ls hH hl
  have hX : CallFix p m c cJ5_length 1 s args lw_all RJ5 := hX
  have hx := hX.1
  have hb := hX.2.1
  have hown := hX.2.2.2.1
  have hts := hX.2.2.2.2
  have hl : lv_has ls 1 [(0, .ref ak)] := hl
  have hEv := hE.1
  have hSt := hE.2 _ _ _ hE0
  delta FJ5_length at hF
  refine lv_aload_n hx hb dJ5_length_0 rfl (lv_at hl 0 rfl) ?_
  refine vk_getf hx hb hSt.2.2.1 hH.2.2.1 hown (hts _ q2268) (fun _ h => h) dJ5_length_1 ?_
  refine va_tlen hx hb hSt.2.2.2.1 hH.2.2.1 rfl dJ5_length_4 ?_
  refine lv_aload_n hx hb dJ5_length_5 rfl (lv_at hl 0 rfl) ?_
  obtain ⟨x_3, he, hF⟩ := bd1e hF
  refine mcV hX hK hEv hE0 hH (met_J5_coder (nar_J5_coder he) hE he) (srecv hSt hH) gw_java_lang_String_335 hd_yJ5_coder ⟨Nat.le_of_ble_eq_true rfl, Nat.le_of_ble_eq_true rfl⟩ rfl rfl hl (Nat.le_of_ble_eq_true rfl) dJ5_length_6 ⟨Nat.le_of_ble_eq_true rfl, Nat.le_of_ble_eq_true rfl⟩ (fun H locs hH => ?_)
  refine lv_ishr hx hb dJ5_length_9 ?_
  obtain rfl := Option.some.inj hF
  exact hret _ _ _ _ hH dJ5_length_10
abbrev rm_J5_checkIndex : Room := { frames := 1, cells := 0, slots := 0, locals := 22 }
set_option maxHeartbeats 4000000 in
theorem met_J5_checkIndex {l : Launch} {D : va_G} {cl : List vw_C} {tys : List (ClassId × FieldType)} {w : va_W}  {p0 : Int32} {p1 : Int32} {ak av fo n : Nat} {bs : Nat → Int32} {E : EvT} (hE : EvS E ak av fo n bs) (hF : FJ5_checkIndex p0 p1 = some ()) : MM l yJ5_checkIndex (ws_ yJ5_checkIndex cJ5_checkIndex 2 (Option.none : Option Jvm.ClassFile.FieldType)) rm_J5_checkIndex D cl tys E [.int p0, .int p1] w w none := by
  refine MM.ofV (by decide) (Nat.le_of_ble_eq_true rfl) ?_
  intro p e s m args below meth c Q A hX hK hE0 hret H locs ls hH hl
  have hX : CallFix p m c cJ5_checkIndex 2 s args lw_all RJ5 := hX
  have hx := hX.1
  have hb := hX.2.1
  have hown := hX.2.2.2.1
  have hts := hX.2.2.2.2
  have hl : lv_has ls 2 [(0, .int p0), (1, .int p1)] := hl
  have hEv := hE.1
  have hSt := hE.2 _ _ _ hE0
  delta FJ5_checkIndex at hF
  refine lv_iload_n hx hb dJ5_checkIndex_0 rfl (lv_at hl 0 rfl) ?_
  refine lv_iload_n hx hb dJ5_checkIndex_1 rfl (lv_at hl 1 rfl) ?_
  refine va_gets hx hb hSt.2.2.2.2.2 hH.2.2.1 hown (hts _ q636) (fun _ h => h) dJ5_checkIndex_2 ?_
  obtain ⟨x_5, he, hF⟩ := bd1e hF
  refine mcS hX hK hEv hE0 hH (met_J4_checkIndex_r (EvG_of hEv) he) gw_java_lang_String_1059 hd_yJ4_checkIndex ⟨Nat.le_of_ble_eq_true rfl, Nat.le_of_ble_eq_true rfl⟩ rfl rfl hl (Nat.le_of_ble_eq_true rfl) dJ5_checkIndex_5 ⟨Nat.le_of_ble_eq_true rfl, Nat.le_of_ble_eq_true rfl⟩ (fun H locs hH => ?_)
  refine lv_pop hx hb dJ5_checkIndex_8 rfl ?_
  cases hF
  exact hret _ _ _ _ hH dJ5_checkIndex_9
abbrev rm_J6_charAt : Room := { frames := 2, cells := 0, slots := 0, locals := 43 }
set_option maxHeartbeats 4000000 in
theorem met_J6_charAt {l : Launch} {D : va_G} {cl : List vw_C} {tys : List (ClassId × FieldType)} {w : va_W}  {p1 : Int32} {res : Int32} (hn : narrow .char (.int res) = .int res) {ak av fo n : Nat} {bs : Nat → Int32} {E : EvT} (hE : EvS E ak av fo n bs) (hF : FJ6_charAt n bs p1 = some res) : MM l yJ6_charAt (ws_ yJ6_charAt cJ6_charAt 2 (Option.some Jvm.ClassFile.FieldType.char)) rm_J6_charAt D cl tys E [.ref av, .int p1] w w (some (.int res)) := by
  refine MM.ofN hn (by decide) (Nat.le_of_ble_eq_true rfl) ?_
  intro p e s m args below meth c Q A hX hK hE0 hret H locs ls hH hl
  have hX : CallFix p m c cJ6_charAt 2 s args lw_all RJ6 := hX
  have hx := hX.1
  have hb := hX.2.1
  have hown := hX.2.2.2.1
  have hts := hX.2.2.2.2
  have hl : lv_has ls 2 [(0, .ref av), (1, .int p1)] := hl
  have hEv := hE.1
  have hSt := hE.2 _ _ _ hE0
  delta FJ6_charAt at hF
  refine lv_iload_n hx hb dJ6_charAt_0 rfl (lv_at hl 1 rfl) ?_
  refine lv_aload_n hx hb dJ6_charAt_1 rfl (lv_at hl 0 rfl) ?_
  refine va_tlen hx hb hSt.2.2.2.1 hH.2.2.1 rfl dJ6_charAt_2 ?_
  obtain ⟨he, hF⟩ := bd0e hF
  refine mcS hX hK hEv hE0 hH (met_J5_checkIndex hE he) gw_java_lang_StringLatin1_9 hd_yJ5_checkIndex ⟨Nat.le_of_ble_eq_true rfl, Nat.le_of_ble_eq_true rfl⟩ rfl rfl hl (Nat.le_of_ble_eq_true rfl) dJ6_charAt_3 ⟨Nat.le_of_ble_eq_true rfl, Nat.le_of_ble_eq_true rfl⟩ (fun H locs hH => ?_)
  refine lv_aload_n hx hb dJ6_charAt_6 rfl (lv_at hl 0 rfl) ?_
  refine lv_iload_n hx hb dJ6_charAt_7 rfl (lv_at hl 1 rfl) ?_
  obtain ⟨x_4, he, hF⟩ := bd1e hF
  refine va_tb hx hb hSt.2.2.2.1 hH.2.2.1 (rd_in he) (congrArg Value.int (rd_eq he)) dJ6_charAt_8 ?_
  refine lv_sipush (v := 255) hx hb dJ6_charAt_9 sys_255 ?_
  refine lv_iand hx hb dJ6_charAt_12 ?_
  refine lv_i2c (v := (cvC (x_4 &&& 255))) hx hb dJ6_charAt_13 rfl ?_
  obtain rfl := Option.some.inj hF
  exact hret _ _ _ _ hH dJ6_charAt_14
abbrev rm_J5_charAt : Room := { frames := 3, cells := 0, slots := 0, locals := 64 }
set_option maxHeartbeats 4000000 in
theorem met_J5_charAt {l : Launch} {D : va_G} {cl : List vw_C} {tys : List (ClassId × FieldType)} {w : va_W}  {p1 : Int32} {res : Int32} (hn : narrow .char (.int res) = .int res) {ak av fo n : Nat} {bs : Nat → Int32} {E : EvT} (hE : EvS E ak av fo n bs) (hF : FJ5_charAt n bs p1 = some res) : MM l yJ5_charAt (ws_ yJ5_charAt cJ5_charAt 2 (Option.some Jvm.ClassFile.FieldType.char)) rm_J5_charAt D cl tys E [.ref ak, .int p1] w w (some (.int res)) := by
  refine MM.ofN hn (by decide) (Nat.le_of_ble_eq_true rfl) ?_
  intro p e s m args below meth c Q A hX hK hE0 hret H locs ls hH hl
  have hX : CallFix p m c cJ5_charAt 2 s args lw_all RJ5 := hX
  have hx := hX.1
  have hb := hX.2.1
  have hown := hX.2.2.2.1
  have hts := hX.2.2.2.2
  have hl : lv_has ls 2 [(0, .ref ak), (1, .int p1)] := hl
  have hEv := hE.1
  have hSt := hE.2 _ _ _ hE0
  delta FJ5_charAt at hF
  refine lv_aload_n hx hb dJ5_charAt_0 rfl (lv_at hl 0 rfl) ?_
  obtain ⟨b_4, he, hF⟩ := bd1e hF
  refine mcV hX hK hEv hE0 hH (met_J5_isLatin1 hE he) (srecv hSt hH) gw_java_lang_String_492 hd_yJ5_isLatin1 ⟨Nat.le_of_ble_eq_true rfl, Nat.le_of_ble_eq_true rfl⟩ rfl rfl hl (Nat.le_of_ble_eq_true rfl) dJ5_charAt_1 ⟨Nat.le_of_ble_eq_true rfl, Nat.le_of_ble_eq_true rfl⟩ (fun H locs hH => ?_)
  refine lv_if_eq (tgt := 16) hx hb dJ5_charAt_4 rfl (fun c_5 => ?_) (fun c_5 => ?_)
  · have hF := itp c_5 hF
    cases hF
  · have hF := itn c_5 hF
    refine lv_aload_n hx hb dJ5_charAt_7 rfl (lv_at hl 0 rfl) ?_
    refine vk_getf hx hb hSt.2.2.1 hH.2.2.1 hown (hts _ q2268) (fun _ h => h) dJ5_charAt_8 ?_
    refine lv_iload_n hx hb dJ5_charAt_11 rfl (lv_at hl 1 rfl) ?_
    obtain ⟨x_6, he, hF⟩ := bd1e hF
    refine mcS hX hK hEv hE0 hH (met_J6_charAt (nar_J6_charAt he) hE he) gw_java_lang_String_495 hd_yJ6_charAt ⟨Nat.le_of_ble_eq_true rfl, Nat.le_of_ble_eq_true rfl⟩ rfl rfl hl (Nat.le_of_ble_eq_true rfl) dJ5_charAt_12 ⟨Nat.le_of_ble_eq_true rfl, Nat.le_of_ble_eq_true rfl⟩ (fun H locs hH => ?_)
    obtain rfl := Option.some.inj hF
    exact hret _ _ _ _ hH dJ5_charAt_15