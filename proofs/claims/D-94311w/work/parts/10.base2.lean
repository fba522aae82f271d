
set_option maxRecDepth 100000
def mQx (D : va_G) (cl : List vw_C) (W' : va_W → Prop) (A : Nat → Prop) (vo : Option Value) : Array Value → State → Outcome → State → Prop := fun _ st oc t => (oc = .returned vo ∧ ∃ w, W' w ∧ va_P D cl w t.heap ∧ va_D A w) ∧ va_F A st t
/-- a contract whose world behind is told by W' -/
def MX (l : Launch) (y : MethodName) (ws : List Cond) (rm : Room) (D : va_G) (cl : List vw_C) (tys : List (ClassId × FieldType)) (E : EvT) (As : List Value) (w : va_W) (W' : va_W → Prop) (vo : Option Value) : Prop := ∀ sz : Nat, Met l y ws rm (va_Pc As (mPre D cl tys E w sz)) (mQx D cl W' (va_A w sz) vo) rm.cells rm.slots (va_A w sz)
theorem MM.toX {l : Launch} {y : MethodName} {ws : List Cond} {rm : Room} {D : va_G} {cl : List vw_C} {tys : List (ClassId × FieldType)} {E : EvT} {As : List Value} {w w' : va_W} {vo : Option Value} (h : MM l y ws rm D cl tys E As w w' vo) : MX l y ws rm D cl tys E As w (fun z => z = w') vo := by
  have e : ∀ sz, mQx D cl (fun z => z = w') (va_A w sz) vo = mQc D cl w' (va_A w sz) vo := by
    intro sz
    funext a st oc t
    simp only [mQx, mQc]
    refine propext ⟨?_, ?_⟩
    · rintro ⟨⟨h1, z, rfl, h2, h3⟩, h4⟩
      exact ⟨⟨h1, h2, h3⟩, h4⟩
    · rintro ⟨⟨h1, h2, h3⟩, h4⟩
      exact ⟨⟨h1, _, rfl, h2, h3⟩, h4⟩
  intro sz
  rw [e sz]
  exact h sz
theorem MX.ofI {l : Launch} {y : MethodName} {cc : ByteArray} {maxL : Nat} {rm : Room} {D : va_G} {cl : List vw_C} {tys : List (ClassId × FieldType)} {E : EvT} {As : List Value} {w : va_W} {W' : va_W → Prop} {r : Int32} (hy : plainName y.cls = true) (hsz : (lg_sl As).length ≤ maxL)
    (body : ∀ {p : Program} {e : Env} {s : State} {m : MethodId} {args : Array Value} {below : List Frame} {meth : Method} {c : Code} {Q : State → Prop} {A : Nat → Prop}, CallFix p m c cc maxL s args lw_all y.cls → va_K D cl tys s → E A s s.heap → meth.name = y.name →
      (∀ (w' : va_W) (H : Heap) (locs : List Loc) (pc : Nat) (ls : Array Slot), W' w' → MH D cl A s.heap w' H locs → decode cc pc = .ok (.ireturn, 1) → W p l e rm s m args below meth c H locs rm.cells rm.slots Q (F0 m pc ls [.int r])) →
      ∀ (H : Heap) (locs : List Loc) (ls : Array Slot), MH D cl A s.heap w H locs → lv_has ls maxL (lv_args 0 As) → W p l e rm s m args below meth c H locs 0 0 Q (F0 m 0 ls [])) : MX l y (ws_ y cc maxL (some .int)) rm D cl tys E As w W' (some (.int r)) := by
  intro sz
  refine Met.ofW (cc := cc) (maxL := maxL) (ret := (some .int)) hy rfl ?_
  intro p e s m args below meth c s₁ B hml hv
  obtain ⟨rfl, hz, hP, hK, hD0, hE⟩ := hv
  have hts := atoms_spec (ws := ws_ y cc maxL (some .int)) B.pre
  have hts : ∀ w ∈ lw_all, w.before _ s = true := fun w h => hts w (List.mem_cons_of_mem _ h)
  have hown : s.vm.findClass y.cls = some m.cls := findClass_of_methodNamed B.named
  have hin : meth.name = y.name := (name_of_methodNamed B.named B.method).1
  subst hz
  have hD := hD0.self (sz := s.heap.size)
  have hl := lv_entry As hsz
  have hlo := B.notSynchronized
  rw [lg_entry_eq]
  exact body (A := va_A w s.heap.size) ⟨B.exec, B.bytes, hml, hown, hts⟩ hK hE hin (fun w' H locs pc ls hw hH hdg => W.iret B.exec B.bytes B.returns (fun t ht hW => ⟨⟨rfl, w', hw, by rw [ht]; exact hH.1, hH.2.1⟩, hH.2.2.1.F ht⟩) hH.2.2.1.2.2 hdg hlo) s.heap [] _ ⟨hP, hD, va_S.rf, fun q h => Or.inr h⟩ hl
theorem MX.ofZ {l : Launch} {y : MethodName} {cc : ByteArray} {maxL : Nat} {rm : Room} {D : va_G} {cl : List vw_C} {tys : List (ClassId × FieldType)} {E : EvT} {As : List Value} {w : va_W} {W' : va_W → Prop} {r : Bool} (hy : plainName y.cls = true) (hsz : (lg_sl As).length ≤ maxL)
    (body : ∀ {p : Program} {e : Env} {s : State} {m : MethodId} {args : Array Value} {below : List Frame} {meth : Method} {c : Code} {Q : State → Prop} {A : Nat → Prop}, CallFix p m c cc maxL s args lw_all y.cls → va_K D cl tys s → E A s s.heap → meth.name = y.name →
      (∀ (w' : va_W) (H : Heap) (locs : List Loc) (pc : Nat) (ls : Array Slot), W' w' → MH D cl A s.heap w' H locs → decode cc pc = .ok (.ireturn, 1) → W p l e rm s m args below meth c H locs rm.cells rm.slots Q (F0 m pc ls [.int (b2i r)])) →
      ∀ (H : Heap) (locs : List Loc) (ls : Array Slot), MH D cl A s.heap w H locs → lv_has ls maxL (lv_args 0 As) → W p l e rm s m args below meth c H locs 0 0 Q (F0 m 0 ls [])) : MX l y (ws_ y cc maxL (some .boolean)) rm D cl tys E As w W' (some (.int (b2i r))) := by
  intro sz
  refine Met.ofW (cc := cc) (maxL := maxL) (ret := (some .boolean)) hy rfl ?_
  intro p e s m args below meth c s₁ B hml hv
  obtain ⟨rfl, hz, hP, hK, hD0, hE⟩ := hv
  have hts := atoms_spec (ws := ws_ y cc maxL (some .boolean)) B.pre
  have hts : ∀ w ∈ lw_all, w.before _ s = true := fun w h => hts w (List.mem_cons_of_mem _ h)
  have hown : s.vm.findClass y.cls = some m.cls := findClass_of_methodNamed B.named
  have hin : meth.name = y.name := (name_of_methodNamed B.named B.method).1
  subst hz
  have hD := hD0.self (sz := s.heap.size)
  have hl := lv_entry As hsz
  have hlo := B.notSynchronized
  rw [lg_entry_eq]
  exact body (A := va_A w s.heap.size) ⟨B.exec, B.bytes, hml, hown, hts⟩ hK hE hin (fun w' H locs pc ls hw hH hdg => W.zret B.exec B.bytes B.returns (b2i_nar r) (fun t ht hW => ⟨⟨rfl, w', hw, by rw [ht]; exact hH.1, hH.2.1⟩, hH.2.2.1.F ht⟩) hH.2.2.1.2.2 hdg hlo) s.heap [] _ ⟨hP, hD, va_S.rf, fun q h => Or.inr h⟩ hl
theorem MX.ofL {l : Launch} {y : MethodName} {cc : ByteArray} {maxL : Nat} {rm : Room} {D : va_G} {cl : List vw_C} {tys : List (ClassId × FieldType)} {E : EvT} {As : List Value} {w : va_W} {W' : va_W → Prop} {r : Int64} (hy : plainName y.cls = true) (hsz : (lg_sl As).length ≤ maxL)
    (body : ∀ {p : Program} {e : Env} {s : State} {m : MethodId} {args : Array Value} {below : List Frame} {meth : Method} {c : Code} {Q : State → Prop} {A : Nat → Prop}, CallFix p m c cc maxL s args lw_all y.cls → va_K D cl tys s → E A s s.heap → meth.name = y.name →
      (∀ (w' : va_W) (H : Heap) (locs : List Loc) (pc : Nat) (ls : Array Slot), W' w' → MH D cl A s.heap w' H locs → decode cc pc = .ok (.lreturn, 1) → W p l e rm s m args below meth c H locs rm.cells rm.slots Q (F0 m pc ls [.long r])) →
      ∀ (H : Heap) (locs : List Loc) (ls : Array Slot), MH D cl A s.heap w H locs → lv_has ls maxL (lv_args 0 As) → W p l e rm s m args below meth c H locs 0 0 Q (F0 m 0 ls [])) : MX l y (ws_ y cc maxL (some .long)) rm D cl tys E As w W' (some (.long r)) := by
  intro sz
  refine Met.ofW (cc := cc) (maxL := maxL) (ret := (some .long)) hy rfl ?_
  intro p e s m args below meth c s₁ B hml hv
  obtain ⟨rfl, hz, hP, hK, hD0, hE⟩ := hv
  have hts := atoms_spec (ws := ws_ y cc maxL (some .long)) B.pre
  have hts : ∀ w ∈ lw_all, w.before _ s = true := fun w h => hts w (List.mem_cons_of_mem _ h)
  have hown : s.vm.findClass y.cls = some m.cls := findClass_of_methodNamed B.named
  have hin : meth.name = y.name := (name_of_methodNamed B.named B.method).1
  subst hz
  have hD := hD0.self (sz := s.heap.size)
  have hl := lv_entry As hsz
  have hlo := B.notSynchronized
  rw [lg_entry_eq]
  exact body (A := va_A w s.heap.size) ⟨B.exec, B.bytes, hml, hown, hts⟩ hK hE hin (fun w' H locs pc ls hw hH hdg => W.lret B.exec B.bytes B.returns (fun t ht hW => ⟨⟨rfl, w', hw, by rw [ht]; exact hH.1, hH.2.1⟩, hH.2.2.1.F ht⟩) hH.2.2.1.2.2 hdg hlo) s.heap [] _ ⟨hP, hD, va_S.rf, fun q h => Or.inr h⟩ hl
theorem MX.ofV {l : Launch} {y : MethodName} {cc : ByteArray} {maxL : Nat} {rm : Room} {D : va_G} {cl : List vw_C} {tys : List (ClassId × FieldType)} {E : EvT} {As : List Value} {w : va_W} {W' : va_W → Prop} (hy : plainName y.cls = true) (hsz : (lg_sl As).length ≤ maxL)
    (body : ∀ {p : Program} {e : Env} {s : State} {m : MethodId} {args : Array Value} {below : List Frame} {meth : Method} {c : Code} {Q : State → Prop} {A : Nat → Prop}, CallFix p m c cc maxL s args lw_all y.cls → va_K D cl tys s → E A s s.heap → meth.name = y.name →
      (∀ (w' : va_W) (H : Heap) (locs : List Loc) (pc : Nat) (ls : Array Slot), W' w' → MH D cl A s.heap w' H locs → decode cc pc = .ok (.return_, 1) → W p l e rm s m args below meth c H locs rm.cells rm.slots Q (F0 m pc ls [])) →
      ∀ (H : Heap) (locs : List Loc) (ls : Array Slot), MH D cl A s.heap w H locs → lv_has ls maxL (lv_args 0 As) → W p l e rm s m args below meth c H locs 0 0 Q (F0 m 0 ls [])) : MX l y (ws_ y cc maxL none) rm D cl tys E As w W' none := by
  intro sz
  refine Met.ofW (cc := cc) (maxL := maxL) (ret := none) hy rfl ?_
  intro p e s m args below meth c s₁ B hml hv
  obtain ⟨rfl, hz, hP, hK, hD0, hE⟩ := hv
  have hts := atoms_spec (ws := ws_ y cc maxL none) B.pre
  have hts : ∀ w ∈ lw_all, w.before _ s = true := fun w h => hts w (List.mem_cons_of_mem _ h)
  have hown : s.vm.findClass y.cls = some m.cls := findClass_of_methodNamed B.named
  have hin : meth.name = y.name := (name_of_methodNamed B.named B.method).1
  subst hz
  have hD := hD0.self (sz := s.heap.size)
  have hl := lv_entry As hsz
  have hlo := B.notSynchronized
  rw [lg_entry_eq]
  exact body (A := va_A w s.heap.size) ⟨B.exec, B.bytes, hml, hown, hts⟩ hK hE hin (fun w' H locs pc ls hw hH hdg => W.vret B.exec B.bytes B.returns (fun t ht hW => ⟨⟨rfl, w', hw, by rw [ht]; exact hH.1, hH.2.1⟩, hH.2.2.1.F ht⟩) hH.2.2.1.2.2 hdg hlo) s.heap [] _ ⟨hP, hD, va_S.rf, fun q h => Or.inr h⟩ hl
theorem MX.ofR {l : Launch} {y : MethodName} {cc : ByteArray} {maxL : Nat} {rm : Room} {D : va_G} {cl : List vw_C} {tys : List (ClassId × FieldType)} {E : EvT} {As : List Value} {w : va_W} {W' : va_W → Prop} {r : Value} {rt : FieldType} (hrt : (∃ n, rt = .object n) ∨ ∃ t, rt = .array t) (hvr : r = .null ∨ ∃ a, r = .ref a) (hy : plainName y.cls = true) (hsz : (lg_sl As).length ≤ maxL)
    (body : ∀ {p : Program} {e : Env} {s : State} {m : MethodId} {args : Array Value} {below : List Frame} {meth : Method} {c : Code} {Q : State → Prop} {A : Nat → Prop}, CallFix p m c cc maxL s args lw_all y.cls → va_K D cl tys s → E A s s.heap → meth.name = y.name →
      (∀ (w' : va_W) (H : Heap) (locs : List Loc) (pc : Nat) (ls : Array Slot), W' w' → MH D cl A s.heap w' H locs → decode cc pc = .ok (.areturn, 1) → W p l e rm s m args below meth c H locs rm.cells rm.slots Q (F0 m pc ls [r])) →
      ∀ (H : Heap) (locs : List Loc) (ls : Array Slot), MH D cl A s.heap w H locs → lv_has ls maxL (lv_args 0 As) → W p l e rm s m args below meth c H locs 0 0 Q (F0 m 0 ls [])) : MX l y (ws_ y cc maxL (some rt)) rm D cl tys E As w W' (some r) := by
  intro sz
  refine Met.ofW (cc := cc) (maxL := maxL) (ret := (some rt)) hy rfl ?_
  intro p e s m args below meth c s₁ B hml hv
  obtain ⟨rfl, hz, hP, hK, hD0, hE⟩ := hv
  have hts := atoms_spec (ws := ws_ y cc maxL (some rt)) B.pre
  have hts : ∀ w ∈ lw_all, w.before _ s = true := fun w h => hts w (List.mem_cons_of_mem _ h)
  have hown : s.vm.findClass y.cls = some m.cls := findClass_of_methodNamed B.named
  have hin : meth.name = y.name := (name_of_methodNamed B.named B.method).1
  subst hz
  have hD := hD0.self (sz := s.heap.size)
  have hl := lv_entry As hsz
  have hlo := B.notSynchronized
  rw [lg_entry_eq]
  exact body (A := va_A w s.heap.size) ⟨B.exec, B.bytes, hml, hown, hts⟩ hK hE hin (fun w' H locs pc ls hw hH hdg => W.aret B.exec B.bytes B.returns hrt hvr (fun t ht hW => ⟨⟨rfl, w', hw, by rw [ht]; exact hH.1, hH.2.1⟩, hH.2.2.1.F ht⟩) hH.2.2.1.2.2 hdg hlo) s.heap [] _ ⟨hP, hD, va_S.rf, fun q h => Or.inr h⟩ hl

section MXB
variable {p : Program} {l : Launch} {e : Env} {R : Room} {s : State} {m : MethodId} {args : Array Value} {below : List Frame} {meth : Method} {c : Code} {H : Heap} {locs : List Loc} {cells slots : Nat} {Q : State → Prop}
variable {D : va_G} {cl : List vw_C} {A : Nat → Prop} {H0 : Heap} {tys : List (ClassId × FieldType)} {w : va_W} {W' : va_W → Prop} {pc : Nat} {ls : Array Slot} {rest st0 : List Value}
theorem mxRun {mc ms : Nat} {a : Array Value} {vo : Option Value} (hr : va_Run p l e R s m args below meth c H locs cells slots mc ms (F0 m pc ls st0) rest (mQx D cl W' (va_A w H.size) vo a) (va_A w H.size)) (hH : MH D cl A H0 w H locs)
    (kk : ∀ (w' : va_W) (H1 : Heap) (locs1 : List Loc), W' w' → MH D cl A H0 w' H1 locs1 → W p l e R s m args below meth c H1 locs1 (cells + mc) (slots + ms) Q (F0 m (pc + 3) ls (vo.toList ++ rest))) : W p l e R s m args below meth c H locs cells slots Q (F0 m pc ls st0) := by
  have hf := hH.free
  obtain ⟨hP, hD, hS, hA⟩ := hH
  intro T hT X
  obtain ⟨v, st₀, t, T', L, h0, X', hL, e1, e2, ⟨⟨hv, w', hw, hP1, hD1⟩, hz, hk⟩, st⟩ := hr T hT X
  cases hv
  rw [h0] at hz hk
  obtain ⟨t2, a1, b1⟩ := kk w' T'.heap (locs ++ L) hw ⟨by rw [e1]; exact hP1, hD1.weaken (fun _ _ _ h => hf _ h),
    ⟨Nat.le_trans hS.1 (by rw [e1]; exact hz), fun q h1 h2 => by rw [e1, hk q (Nat.lt_of_lt_of_le h1 hS.1) (fun z => h2 (hf q z))]; exact hS.2.1 q h1 h2, fun q hq => by
      rcases List.mem_append.mp hq with h | h
      · exact hS.2.2 q h
      · exact hf _ (hL q h)⟩, hA⟩ T' rfl X'
  exact ⟨t2, st t2 a1, b1⟩
variable {y : MethodName} {bytes cc : ByteArray} {maxL nL n index : Nat} {ret : Option FieldType} {rm : Room} {own C host : String} {b : Addr} {As : List Value} {vo : Option Value} {lv : List (Nat × Value)} {E : EvT}
theorem mxPre (hK : va_K D cl tys s) (hEv : EvOK E) (hE : E A s H0) (hH : MH D cl A H0 w H locs) : ∀ U : State, U.heap = H → s.WarmedH U.vm → va_Pc As (mPre D cl tys E w H.size) As.toArray U :=
  fun U hU hW => ⟨rfl, by rw [hU], by rw [hU]; exact hH.1, va_K.moved hW.alike hK, hH.2.1.weaken (fun _ _ _ _ => trivial), by rw [hU]; exact hEv.2.1 hW (hH.ev hEv hE)⟩
theorem mxV (hX : CallFix p m c cc nL s args lw_all own) (hK : va_K D cl tys s) (hEv : EvOK E) (hE : E A s H0) (hH : MH D cl A H0 w H locs) (hM : MX l y (ws_ y bytes maxL ret) rm D cl tys E (.ref b :: As) w W' vo) (hrc : ∃ cellB : Cell, H[b]? = some cellB ∧ cellB.vm.isStatics = false ∧ s.vm.findClass C = some cellB.cls)
    (hG : GoodIn lw_all (wsV own index C y (ws_ y bytes maxL ret))) (hd : y.cls = C ∧ y.cls ≠ "java/lang/invoke/MethodHandle" ∧ y.cls ≠ "java/lang/invoke/VarHandle" ∧ (parseMethodDescriptor y.desc).map (fun d => d.parameters.length) = some n) (hR : rm.frames + 1 ≤ R.frames ∧ 8 + (maxL + 11) + rm.locals ≤ R.locals)
    (hn : As.length = n) (hst : st0 = As.reverse ++ .ref b :: rest) (hl : lv_has ls nL lv) (hW : (rest.map fun v => v.category).sum ≤ 8) (hdg : decode cc pc = .ok (.invokevirtual index, 3)) (hf : cells + rm.cells ≤ R.cells ∧ slots + rm.slots ≤ R.slots)
    (kk : ∀ (w' : va_W) (H1 : Heap) (locs1 : List Loc), W' w' → MH D cl A H0 w' H1 locs1 → W p l e R s m args below meth c H1 locs1 (cells + rm.cells) (slots + rm.slots) Q (F0 m (pc + 3) ls (vo.toList ++ rest))) : W p l e R s m args below meth c H locs cells slots Q (F0 m pc ls st0) :=
  mxRun (va_runV hX (hM H.size) (cwV n hX.2.2.2.2 hG rfl rfl rfl hd hR) ⟨mPre_blind hEv, hrc, mxPre hK hEv hE hH⟩ rfl hn hl.1 hst (lv_room hW) hdg hf) hH kk
theorem mxS (hX : CallFix p m c cc nL s args lw_all own) (hK : va_K D cl tys s) (hEv : EvOK E) (hE : E A s H0) (hH : MH D cl A H0 w H locs) (hM : MX l y (ws_ y bytes maxL ret) rm D cl tys E As w W' vo)
    (hG : GoodIn lw_all (va_wsS own index y (ws_ y bytes maxL ret))) (hd : y.cls ≠ "java/lang/invoke/MethodHandle" ∧ y.cls ≠ "java/lang/invoke/VarHandle" ∧ (parseMethodDescriptor y.desc).map (fun d => d.parameters.length) = some n) (hR : rm.frames + 1 ≤ R.frames ∧ 8 + (maxL + 11) + rm.locals ≤ R.locals)
    (hn : As.length = n) (hst : st0 = As.reverse ++ rest) (hl : lv_has ls nL lv) (hW : (rest.map fun v => v.category).sum ≤ 8) (hdg : decode cc pc = .ok (.invokestatic index, 3)) (hf : cells + rm.cells ≤ R.cells ∧ slots + rm.slots ≤ R.slots)
    (kk : ∀ (w' : va_W) (H1 : Heap) (locs1 : List Loc), W' w' → MH D cl A H0 w' H1 locs1 → W p l e R s m args below meth c H1 locs1 (cells + rm.cells) (slots + rm.slots) Q (F0 m (pc + 3) ls (vo.toList ++ rest))) : W p l e R s m args below meth c H locs cells slots Q (F0 m pc ls st0) :=
  mxRun (va_runS hX (hM H.size) (va_cwS n hX.2.2.2.2 hG rfl rfl rfl hd hR) ⟨mPre_blind hEv, mxPre hK hEv hE hH⟩ rfl hn hl.1 hst (lv_room hW) hdg hf) hH kk
/-- a nest mate's private method -/
theorem mxVN (hX : CallFix p m c cc nL s args lw_all own) (hK : va_K D cl tys s) (hEv : EvOK E) (hE : E A s H0) (hH : MH D cl A H0 w H locs) (hM : MX l y (ws_ y bytes maxL ret) rm D cl tys E (.ref b :: As) w W' vo) (hrc : ∃ cellB : Cell, H[b]? = some cellB ∧ cellB.vm.isStatics = false ∧ s.vm.findClass C = some cellB.cls)
    (hG : GoodIn lw_all (ws_ y bytes maxL ret)) (hlk : va_Nw (.methodLinkNest own index y host) s) (hini : Cond.initialized y.cls ∈ lw_all) (hins : Cond.instanceMethod y ∈ lw_all) (hsel : Cond.selects C y y ∈ lw_all) (hd : y.cls ≠ "java/lang/invoke/MethodHandle" ∧ y.cls ≠ "java/lang/invoke/VarHandle" ∧ (parseMethodDescriptor y.desc).map (fun d => d.parameters.length) = some n) (hR : rm.frames + 1 ≤ R.frames ∧ 8 + (maxL + 11) + rm.locals ≤ R.locals)
    (hn : As.length = n) (hst : st0 = As.reverse ++ .ref b :: rest) (hl : lv_has ls nL lv) (hW : (rest.map fun v => v.category).sum ≤ 8) (hdg : decode cc pc = .ok (.invokevirtual index, 3)) (hf : cells + rm.cells ≤ R.cells ∧ slots + rm.slots ≤ R.slots)
    (kk : ∀ (w' : va_W) (H1 : Heap) (locs1 : List Loc), W' w' → MH D cl A H0 w' H1 locs1 → W p l e R s m args below meth c H1 locs1 (cells + rm.cells) (slots + rm.slots) Q (F0 m (pc + 3) ls (vo.toList ++ rest))) : W p l e R s m args below meth c H locs cells slots Q (F0 m pc ls st0) :=
  mxRun (va_runVN (host := host) hX (hM H.size) ⟨va_cnB n hX.2.2.2.2 hG rfl rfl rfl hlk (hX.2.2.2.2 _ hini) hd hR, hX.2.2.2.2 _ hins, hX.2.2.2.2 _ hsel⟩ ⟨mPre_blind hEv, hrc, mxPre hK hEv hE hH⟩ rfl hn hl.1 hst (lv_room hW) hdg hf) hH kk
theorem mxSN (hX : CallFix p m c cc nL s args lw_all own) (hK : va_K D cl tys s) (hEv : EvOK E) (hE : E A s H0) (hH : MH D cl A H0 w H locs) (hM : MX l y (ws_ y bytes maxL ret) rm D cl tys E As w W' vo)
    (hG : GoodIn lw_all (ws_ y bytes maxL ret)) (hlk : va_Nw (.methodLinkNest own index y host) s) (hini : Cond.initialized y.cls ∈ lw_all) (hstt : Cond.static y ∈ lw_all) (hd : y.cls ≠ "java/lang/invoke/MethodHandle" ∧ y.cls ≠ "java/lang/invoke/VarHandle" ∧ (parseMethodDescriptor y.desc).map (fun d => d.parameters.length) = some n) (hR : rm.frames + 1 ≤ R.frames ∧ 8 + (maxL + 11) + rm.locals ≤ R.locals)
    (hn : As.length = n) (hst : st0 = As.reverse ++ rest) (hl : lv_has ls nL lv) (hW : (rest.map fun v => v.category).sum ≤ 8) (hdg : decode cc pc = .ok (.invokestatic index, 3)) (hf : cells + rm.cells ≤ R.cells ∧ slots + rm.slots ≤ R.slots)
    (kk : ∀ (w' : va_W) (H1 : Heap) (locs1 : List Loc), W' w' → MH D cl A H0 w' H1 locs1 → W p l e R s m args below meth c H1 locs1 (cells + rm.cells) (slots + rm.slots) Q (F0 m (pc + 3) ls (vo.toList ++ rest))) : W p l e R s m args below meth c H locs cells slots Q (F0 m pc ls st0) :=
  mxRun (va_runSN (host := host) hX (hM H.size) ⟨va_cnB n hX.2.2.2.2 hG rfl rfl rfl hlk (hX.2.2.2.2 _ hini) hd hR, hX.2.2.2.2 _ hstt, trivial⟩ ⟨mPre_blind hEv, mxPre hK hEv hE hH⟩ rfl hn hl.1 hst (lv_room hW) hdg hf) hH kk
/-- an abstract method's call: the class of the receiver says which -/
theorem mxU {owner : String} {x : MethodName} (hX : CallFix p m c cc nL s args lw_all own) (hK : va_K D cl tys s) (hEv : EvOK E) (hE : E A s H0) (hH : MH D cl A H0 w H locs) (hM : MX l y (ws_ y bytes maxL ret) rm D cl tys E (.ref b :: As) w W' vo) (hrc : ∃ cellB : Cell, H[b]? = some cellB ∧ cellB.vm.isStatics = false ∧ s.vm.findClass C = some cellB.cls)
    (hG : GoodIn lw_all (va_wsU own index C owner x y (ws_ y bytes maxL ret))) (hz : va_Nw (.declares ⟨owner, x.name, x.desc⟩) s) (hd : owner ≠ "java/lang/invoke/MethodHandle" ∧ owner ≠ "java/lang/invoke/VarHandle" ∧ (parseMethodDescriptor x.desc).map (fun d => d.parameters.length) = some n) (hR : rm.frames + 1 ≤ R.frames ∧ 8 + (maxL + 11) + rm.locals ≤ R.locals)
    (hn : As.length = n) (hst : st0 = As.reverse ++ .ref b :: rest) (hl : lv_has ls nL lv) (hW : (rest.map fun v => v.category).sum ≤ 8) (hdg : decode cc pc = .ok (.invokevirtual index, 3)) (hf : cells + rm.cells ≤ R.cells ∧ slots + rm.slots ≤ R.slots)
    (kk : ∀ (w' : va_W) (H1 : Heap) (locs1 : List Loc), W' w' → MH D cl A H0 w' H1 locs1 → W p l e R s m args below meth c H1 locs1 (cells + rm.cells) (slots + rm.slots) Q (F0 m (pc + 3) ls (vo.toList ++ rest))) : W p l e R s m args below meth c H locs cells slots Q (F0 m pc ls st0) :=
  mxRun (va_runU hX (hM H.size) (va_cwA n hX.2.2.2.2 hG rfl rfl rfl hz hd hR) ⟨mPre_blind hEv, hrc, mxPre hK hEv hE hH⟩ rfl hn hl.1 hst (lv_room hW) hdg hf) hH kk
theorem lw_U {own C owner : String} {idx L : Nat} {x y : MethodName} {b : ByteArray} {r : Option FieldType} (h1 : Cond.methodLink own idx x ∈ lw_all) (h2 : Cond.sameMethod x.cls owner x.name x.desc ∈ lw_all) (h3 : Cond.selects C x y ∈ lw_all) (h4 : Cond.instanceMethod y ∈ lw_all) (h5 : Cond.initialized y.cls ∈ lw_all) (h6 : Cond.code y b L r ∈ lw_all) : GoodIn lw_all (va_wsU own idx C owner x y (ws_ y b L r)) := by
  refine lw_app ?_ (lw_meth h6)
  intro w hw
  simp only [List.mem_cons, List.not_mem_nil, or_false] at hw
  rcases hw with e | e | e | e | e
  · rw [e]; exact h1
  · rw [e]; exact h2
  · rw [e]; exact h3
  · rw [e]; exact h4
  · rw [e]; exact h5
end MXB
/-! reads of lists and the like -/
def alg (n i : Int32) : Option Unit := if i < 0 ∨ n ≤ i then none else some ()
theorem alg_0 {n i : Int32} (h : alg n i = some ()) : ¬ i < 0 ∧ ¬ n ≤ i := by
  unfold alg at h
  split at h
  · cases h
  · rename_i h1
    exact ⟨fun q => h1 (Or.inl q), fun q => h1 (Or.inr q)⟩
theorem alg_lt {n i : Int32} (h : alg n i = some ()) : i.toNatClampNeg < n.toNatClampNeg := by
  obtain ⟨h1, h2⟩ := alg_0 h
  have h1 := Int32.not_lt.mp h1
  have h2 := Int32.not_le.mp h2
  have h1 : (0 : Int) ≤ i.toInt := by simpa using Int32.le_iff_toInt_le.mp h1
  have h2 := Int32.lt_iff_toInt_lt.mp h2
  show i.toInt.toNat < n.toInt.toNat
  omega
def mxI (x y : Int32) : Int32 := if x < y then y else x
def mnI (x y : Int32) : Int32 := if y < x then y else x

