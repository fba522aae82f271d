set_option maxRecDepth 100000
/-! cells in sight, in any order, ahead of a rest l -/
theorem rf_nar {C : String} (o : Option Nat) : narrow (.object C) (va_rf o) = va_rf o ∧ fits (.object C) (va_rf o) = true := by cases o <;> exact ⟨rfl, rfl⟩
section OB
variable {p : Program} {l : Launch} {e : Env} {R : Room} {s : State} {m : MethodId} {args : Array Value} {below : List Frame} {meth : Method} {c : Code} {H : Heap} {locs : List Loc} {cells slots : Nat} {Q : State → Prop}
variable {D : va_G} {cl : List vw_C} {A : Nat → Prop} {H0 : Heap} {tys : List (ClassId × FieldType)} {w : va_W} {W' : va_W → Prop} {pc : Nat} {ls : Array Slot} {rest st0 : List Value}
theorem MH.perm {w w' : va_W} (hp : w.Perm w') (hH : MH D cl A H0 w H locs) : MH D cl A H0 w' H locs := by
  obtain ⟨hP, hD, hS, hA⟩ := hH
  have hnd : (w.map Prod.fst).Nodup := by
    refine List.pairwise_iff_getElem.mpr ?_
    intro i j hi hj hij e
    rw [List.length_map] at hi hj
    rw [List.getElem_map, List.getElem_map] at e
    have := hD.1 i j _ _ (List.getElem?_eq_getElem hi) (List.getElem?_eq_getElem hj) e
    omega
  have hnd' : (w'.map Prod.fst).Nodup := (hp.map Prod.fst).nodup_iff.mp hnd
  refine ⟨fun k q hk => ?_, ⟨fun i j x y hi hj hxy => ?_, fun k q hk => ?_⟩, hS, hA⟩
  · obtain ⟨i, hi⟩ := List.getElem?_of_mem (hp.mem_iff.mpr (List.mem_of_getElem? hk))
    exact hP i q hi
  · have hi2 : (w'.map Prod.fst)[i]? = some x.1 := by rw [List.getElem?_map, hi]; rfl
    have hj2 : (w'.map Prod.fst)[j]? = some y.1 := by rw [List.getElem?_map, hj]; rfl
    rw [hxy] at hi2
    have li := (List.getElem?_eq_some_iff.mp hi2).1
    have lj := (List.getElem?_eq_some_iff.mp hj2).1
    rcases Nat.lt_trichotomy i j with h | h | h
    · exact absurd ((List.getElem?_eq_some_iff.mp hi2).2.trans (List.getElem?_eq_some_iff.mp hj2).2.symm) (List.pairwise_iff_getElem.mp hnd' i j li lj h)
    · exact h
    · exact absurd ((List.getElem?_eq_some_iff.mp hj2).2.trans (List.getElem?_eq_some_iff.mp hi2).2.symm) (List.pairwise_iff_getElem.mp hnd' j i lj li h)
  · obtain ⟨i, hi⟩ := List.getElem?_of_mem (hp.mem_iff.mpr (List.mem_of_getElem? hk))
    exact hD.2 i q hi
/-- a new cell comes to the others in sight -/
theorem MH.pull {xs lo : va_W} {c0 : Nat × va_E} (hH : MH D cl A H0 (xs ++ (lo ++ [c0])) H locs) : MH D cl A H0 ((xs ++ [c0]) ++ lo) H locs := by
  refine hH.perm ?_
  rw [List.append_assoc]
  exact List.Perm.append_left xs (List.perm_append_comm)
theorem pick_perm {α : Type} (xs : List α) (is : List Nat) (h : is.Perm (List.range xs.length)) : xs.Perm (is.filterMap (fun i => xs[i]?)) := by
  have h1 := h.filterMap (fun i => xs[i]?)
  have h2 : (List.range xs.length).filterMap (fun i => xs[i]?) = xs := by
    have : ∀ (ys zs : List α), (List.range' ys.length zs.length).filterMap (fun i => (ys ++ zs)[i]?) = zs := by
      intro ys zs
      induction zs generalizing ys with
      | nil => rfl
      | cons z zs ih =>
        rw [List.length_cons, List.range'_succ, List.filterMap_cons]
        have e : (ys ++ z :: zs)[ys.length]? = some z := by rw [List.getElem?_append_right (Nat.le_refl _), Nat.sub_self]; rfl
        rw [e]
        have := ih (ys ++ [z])
        rw [List.length_append, List.append_assoc] at this
        exact congrArg (z :: ·) this
    have := this [] xs
    rw [List.range_eq_range']
    exact this
  rw [h2] at h1
  exact h1.symm
theorem MH.reorder (xs xs' : va_W) (is : List Nat) {lo : va_W} {n : Nat} (h : is.Perm (List.range n)) (hn : xs.length = n) (hs : is.filterMap (fun i => xs[i]?) = xs') (hH : MH D cl A H0 (xs ++ lo) H locs) : MH D cl A H0 (xs' ++ lo) H locs := by
  refine hH.perm (List.Perm.append_right lo ?_)
  rw [← hs]
  exact pick_perm xs is (hn ▸ h)
theorem PlIn.up {pl lo : va_W} (h : PlIn pl lo) (xs : va_W) : PlIn pl (xs ++ lo) := fun q hq => by
  obtain ⟨k, hk⟩ := h q hq
  exact List.getElem?_of_mem (List.mem_append_right _ (List.mem_of_getElem? hk))
variable {y : MethodName} {bytes cc : ByteArray} {maxL nL n index : Nat} {rm : Room} {own C host : String} {b : Addr} {As : List Value} {vo : Option Value} {lv : List (Nat × Value)} {E : EvT}
theorem mxCI (hX : CallFix p m c cc nL s args lw_all own) (hK : va_K D cl tys s) (hEv : EvOK E) (hE : E A s H0) (hH : MH D cl A H0 w H locs) (hM : MX l y (ws_ y bytes maxL none) rm D cl tys E (.ref b :: As) w W' none)
    (hcode : Cond.code y bytes maxL none ∈ lw_all) (hini : Cond.initialized y.cls ∈ lw_all) (hlk : Cond.methodLink own index y ∈ lw_all) (hins : Cond.instanceMethod y ∈ lw_all) (hy1 : y.name = "<init>") (hd : y.cls ≠ "java/lang/invoke/MethodHandle" ∧ y.cls ≠ "java/lang/invoke/VarHandle" ∧ (parseMethodDescriptor y.desc).map (fun d => d.parameters.length) = some n) (hR : rm.frames + 1 ≤ R.frames ∧ 8 + (maxL + 11) + rm.locals ≤ R.locals)
    (hn : As.length = n) (hst : st0 = As.reverse ++ .ref b :: rest) (hl : lv_has ls nL lv) (hW : (rest.map fun v => v.category).sum ≤ 8) (hdg : decode cc pc = .ok (.invokespecial index, 3)) (hf : cells + rm.cells ≤ R.cells ∧ slots + rm.slots ≤ R.slots)
    (kk : ∀ (w' : va_W) (H1 : Heap) (locs1 : List Loc), W' w' → MH D cl A H0 w' H1 locs1 → W p l e R s m args below meth c H1 locs1 (cells + rm.cells) (slots + rm.slots) Q (F0 m (pc + 3) ls rest)) : W p l e R s m args below meth c H locs cells slots Q (F0 m pc ls st0) :=
  mxRun (vo := none) (va_runI hX (hM H.size) (cwI n hX.2.2.2.2 (lw_meth hcode) rfl rfl rfl (hX.2.2.2.2 _ hini) (hX.2.2.2.2 _ hlk) (hX.2.2.2.2 _ hins) hy1 hd hR) ⟨mPre_blind hEv, mxPre hK hEv hE hH⟩ rfl hn hl.1 hst (lv_room hW) hdg hf) hH kk
theorem mxCN (hX : CallFix p m c cc nL s args lw_all own) (hK : va_K D cl tys s) (hEv : EvOK E) (hE : E A s H0) (hH : MH D cl A H0 w H locs) (hM : MX l y (ws_ y bytes maxL none) rm D cl tys E (.ref b :: As) w W' none)
    (hcode : Cond.code y bytes maxL none ∈ lw_all) (hini : Cond.initialized y.cls ∈ lw_all) (hlk : va_Nw (.methodLinkNest own index y host) s) (hins : Cond.instanceMethod y ∈ lw_all) (hy1 : y.name = "<init>") (hd : y.cls ≠ "java/lang/invoke/MethodHandle" ∧ y.cls ≠ "java/lang/invoke/VarHandle" ∧ (parseMethodDescriptor y.desc).map (fun d => d.parameters.length) = some n) (hR : rm.frames + 1 ≤ R.frames ∧ 8 + (maxL + 11) + rm.locals ≤ R.locals)
    (hn : As.length = n) (hst : st0 = As.reverse ++ .ref b :: rest) (hl : lv_has ls nL lv) (hW : (rest.map fun v => v.category).sum ≤ 8) (hdg : decode cc pc = .ok (.invokespecial index, 3)) (hf : cells + rm.cells ≤ R.cells ∧ slots + rm.slots ≤ R.slots)
    (kk : ∀ (w' : va_W) (H1 : Heap) (locs1 : List Loc), W' w' → MH D cl A H0 w' H1 locs1 → W p l e R s m args below meth c H1 locs1 (cells + rm.cells) (slots + rm.slots) Q (F0 m (pc + 3) ls rest)) : W p l e R s m args below meth c H locs cells slots Q (F0 m pc ls st0) :=
  mxRun (vo := none) (va_runIN (host := host) hX (hM H.size) ⟨va_cnB n hX.2.2.2.2 (lw_meth hcode) rfl rfl rfl hlk (hX.2.2.2.2 _ hini) hd hR, hy1, hX.2.2.2.2 _ hins⟩ ⟨mPre_blind hEv, mxPre hK hEv hE hH⟩ rfl hn hl.1 hst (lv_room hW) hdg hf) hH kk
/-- a new array of numbers: its class is the one that is known -/
theorem mnewa {atype : ArrayType} (hX : CallFix p m c cc nL s args lw_all own) (harr : Cond.arrayClass (newarray.typeOf atype) ∈ lw_all) {ty : FieldType} (hty : newarray.typeOf atype = ty) (hra : ∀ c : ClassId, va_RA s c ty → s.vm.findClass ("[" ++ ty.toString) = some c) (hK : va_K D cl tys s) (hH : MH D cl A H0 w H locs) (k : Nat) {cK : ClassId} (hk : tys[k]? = some (cK, ty))
    {n : Int32} {N' : Nat} {a0 : vp_A} (ha : ∀ cA : ClassId, vp_cell cA a0 = arrV cA N' (fun _ => defaultValue ty)) (hn : ¬ n < 0) (hN : n.toNatClampNeg = N') (hbytes : N' * componentBytes ty ≤ 536870912) (hcells : cells + 1 ≤ R.cells) (hslots : slots + N' ≤ R.slots) (hdg : decode cc pc = .ok (.newarray atype, 2))
    (kk : ∀ (q : Nat) (H1 : Heap), MH D cl A H0 (w ++ [(q, .inl (cK, a0))]) H1 locs → W p l e R s m args below meth c H1 locs (cells + 1) (slots + N') Q (F0 m (pc + 2) ls (.ref q :: rest))) : W p l e R s m args below meth c H locs cells slots Q (F0 m pc ls (.int n :: rest)) := by
  refine va_newa hX.1 hX.2.1 (hX.2.2.2.2 _ harr) hty hK hH.1 hH.2.1 hH.2.2.1 hH.2.2.2 ha hn hN hbytes hcells hslots hdg (fun q cA H1 hK1 hP hD hS => ?_)
  have e1 : s.vm.findClass ("[" ++ ty.toString) = some cA := hra _ (hK1.2 tys.length (cA, ty) (by rw [List.getElem?_append_right (Nat.le_refl _), Nat.sub_self]; rfl)).2
  have e2 : s.vm.findClass ("[" ++ ty.toString) = some cK := hra _ (hK.2 k _ hk).2
  obtain rfl : cA = cK := Option.some.inj (e1.symm.trans e2)
  exact kk q H1 ⟨hP, hD, hS, hH.2.2.2⟩
theorem mnewq {C : String} (hX : CallFix p m c cc nL s args lw_all own) (hclink : Cond.classLink own index C ∈ lw_all) (hover : va_AO C s) (hK : va_K D cl tys s) (hH : MH D cl A H0 w H locs) (k : Nat) {cK : ClassId} (hk : tys[k]? = some (cK, .object C))
    {n : Int32} {N' : Nat} (hn : ¬ n < 0) (hN : n.toNatClampNeg = N') (hbytes : N' * 4 ≤ 536870912) (hcells : cells + 1 ≤ R.cells) (hslots : slots + N' ≤ R.slots) (hdg : decode cc pc = .ok (.anewarray index, 3))
    (kk : ∀ (q : Nat) (H1 : Heap), MH D cl A H0 (w ++ [(q, .inl (cK, N', .inr (.inr (.inr (.inr (fun _ => none))))))]) H1 locs → W p l e R s m args below meth c H1 locs (cells + 1) (slots + N') Q (F0 m (pc + 3) ls (.ref q :: rest))) : W p l e R s m args below meth c H locs cells slots Q (F0 m pc ls (.int n :: rest)) := by
  refine va_newq hX.1 hX.2.1 hX.2.2.2.1 (hX.2.2.2.2 _ hclink) hover hK hH.1 hH.2.1 hH.2.2.1 hH.2.2.2 hn hN hbytes hcells hslots hdg (fun q cA H1 hK1 hP hD hS => ?_)
  obtain ⟨_, _, _, _, _, e1⟩ := (hK1.2 tys.length (cA, .object C) (by rw [List.getElem?_append_right (Nat.le_refl _), Nat.sub_self]; rfl)).2
  obtain ⟨_, _, _, _, _, e2⟩ := (hK.2 k _ hk).2
  obtain rfl : cA = cK := Option.some.inj (e1.symm.trans e2)
  exact kk q H1 ⟨hP, hD, hS, hH.2.2.2⟩
theorem mObj (hX : CallFix p m c cc nL s args lw_all own) (hlk : Cond.methodLink own index objectInit ∈ lw_all) (hl : lv_has ls nL lv) {a : Nat} (h1 : 1 ≤ R.frames) (h2 : (rest.map fun v => v.category).sum + 12 ≤ R.locals) (hdg : decode cc pc = .ok (.invokespecial index, 3)) (kk : W p l e R s m args below meth c H locs cells slots Q (F0 m (pc + 3) ls rest)) : W p l e R s m args below meth c H locs cells slots Q (F0 m pc ls (.ref a :: rest)) :=
  W.objInit hX.1 hX.2.1 hX.2.2.2.1 (hX.2.2.2.2 _ hlk) (hX.2.2.2.2 _ q174) (hX.2.2.2.2 _ q175) rfl (hl.1.trans hX.2.2.1.symm) rfl hdg h1 (by show 2 * 0 + _ + 12 ≤ _; omega) kk
end OB
/-- a town without a text -/
def u0F : Nat → Int32 := fun k => if k = 75 then 4 else if k = 76 then 8 else if 31 ≤ k ∧ k < 56 then -1 else 0
def tb0 (a q1 q2 q3 q4 q5 q6 : Nat) : Nat → Nat := fun k => if k = 0 then a else if k = 1 then q1 else if k = 2 then q2 else if k = 3 then q3 else if k = 4 then q4 else if k = 5 then q5 else q6
theorem ls0 {cA : Nat → ClassId} {pl : va_W} {a e : Nat} {mc : Int32} {els : Nat → Nat} (h1 : ((a, .inr (17, [.int mc, .ref e, .int 0])) : Nat × va_E) ∈ pl) (h2 : ((e, .inl (cA 44, 2, .inr (.inr (.inr (.inr (fun _ => none)))))) : Nat × va_E) ∈ pl) : LsAt cA pl a e 0 els :=
  ⟨mc, 2, _, h1, h2, Nat.zero_le _, fun i h => absurd h (Nat.not_lt_zero i)⟩
theorem town0 {cA : Nat → ClassId} {pl : va_W} {a q1 q2 q3 q4 q5 q6 : Nat} (h : ∀ x ∈ ([(a, .inr (2, [.ref q1, .ref q3, .ref q5, .int 4, .int 8, .int 0, .int 0, .int 0])), (q1, .inr (17, [.int 0, .ref q2, .int 0])), (q2, .inl (cA 44, 2, .inr (.inr (.inr (.inr (fun _ => none)))))), (q3, .inr (17, [.int 0, .ref q4, .int 0])), (q4, .inl (cA 44, 2, .inr (.inr (.inr (.inr (fun _ => none)))))), (q5, .inr (17, [.int 0, .ref q6, .int 0])), (q6, .inl (cA 44, 2, .inr (.inr (.inr (.inr (fun _ => none))))))] : va_W), x ∈ pl) : TownAt cA pl (tb0 a q1 q2 q3 q4 q5 q6) u0F := by
  refine ⟨h _ (List.mem_of_getElem? (i := 0) rfl), ls0 (mc := 0) (h _ (List.mem_of_getElem? (i := 1) rfl)) (h _ (List.mem_of_getElem? (i := 2) rfl)), ls0 (mc := 0) (h _ (List.mem_of_getElem? (i := 3) rfl)) (h _ (List.mem_of_getElem? (i := 4) rfl)), ls0 (mc := 0) (h _ (List.mem_of_getElem? (i := 5) rfl)) (h _ (List.mem_of_getElem? (i := 6) rfl)), fun i hi => absurd hi (Nat.not_lt_zero i), fun i hi => absurd hi (Nat.not_lt_zero i), fun i hi => absurd hi (Nat.not_lt_zero i)⟩
theorem sub_ix {α : Type} {ys xs : List α} (is : List Nat) (h : is.filterMap (fun i => xs[i]?) = ys) : ∀ x, x ∈ ys → x ∈ xs := by
  intro x hx
  rw [← h] at hx
  obtain ⟨i, -, hi⟩ := List.mem_filterMap.mp hx
  exact List.mem_of_getElem? hi

def mQr (D : va_G) (cl : List vw_C) (W' : Option Value → va_W → Prop) (A : Nat → Prop) : Array Value → State → Outcome → State → Prop := fun _ st oc t => (∃ vo : Option Value, oc = .returned vo ∧ ∃ w, W' vo w ∧ va_P D cl w t.heap ∧ va_D A w) ∧ va_F A st t
def MR (l : Launch) (y : MethodName) (ws : List Cond) (rm : Room) (D : va_G) (cl : List vw_C) (tys : List (ClassId × FieldType)) (E : EvT) (As : List Value) (w : va_W) (W' : Option Value → va_W → Prop) : Prop := ∀ sz : Nat, Met l y ws rm (va_Pc As (mPre D cl tys E w sz)) (mQr D cl W' (va_A w sz)) rm.cells rm.slots (va_A w sz)
theorem MR.of {l : Launch} {y : MethodName} {cc : ByteArray} {maxL : Nat} {rm : Room} {D : va_G} {cl : List vw_C} {tys : List (ClassId × FieldType)} {E : EvT} {As : List Value} {w : va_W} {W' : Option Value → va_W → Prop} {rt : FieldType} (hrt : (∃ n, rt = .object n) ∨ ∃ t, rt = .array t) (hy : plainName y.cls = true) (hsz : (lg_sl As).length ≤ maxL)
    (body : ∀ {p : Program} {e : Env} {s : State} {m : MethodId} {args : Array Value} {below : List Frame} {meth : Method} {c : Code} {Q : State → Prop} {A : Nat → Prop}, CallFix p m c cc maxL s args lw_all y.cls → va_K D cl tys s → E A s s.heap → meth.name = y.name →
      (∀ (r : Value) (hvr : r = .null ∨ ∃ a, r = .ref a) (w' : va_W) (H : Heap) (locs : List Loc) (pc : Nat) (ls : Array Slot), W' (some r) w' → MH D cl A s.heap w' H locs → decode cc pc = .ok (.areturn, 1) → W p l e rm s m args below meth c H locs rm.cells rm.slots Q (F0 m pc ls [r])) →
      ∀ (H : Heap) (locs : List Loc) (ls : Array Slot), MH D cl A s.heap w H locs → lv_has ls maxL (lv_args 0 As) → W p l e rm s m args below meth c H locs 0 0 Q (F0 m 0 ls [])) : MR l y (ws_ y cc maxL (some rt)) rm D cl tys E As w W' := by
  intro sz
  refine Met.ofW (cc := cc) (maxL := maxL) (ret := (some rt)) hy rfl ?_
  intro p e s m args below meth c s₁ B hml hv
  obtain ⟨rfl, hz, hP, hK, hD0, hE⟩ := hv
  have hts := atoms_spec (ws := ws_ y cc maxL (some rt)) B.pre
  have hts : ∀ w ∈ lw_all, w.before _ s = true := fun w h => hts w (List.mem_cons_of_mem _ h)
  have hown : s.vm.findClass y.cls = some m.cls := findClass_of_methodNamed B.named
  have hin : meth.name = y.name := (name_of_methodNamed B.named B.method).1
  subst hz
  have hD := hD0.self (sz := s.heap.size)
  have hl := lv_entry As hsz
  have hlo := B.notSynchronized
  rw [lg_entry_eq]
  exact body (A := va_A w s.heap.size) ⟨B.exec, B.bytes, hml, hown, hts⟩ hK hE hin (fun r hvr w' H locs pc ls hw hH hdg => W.aret B.exec B.bytes B.returns hrt hvr (fun t ht hW => ⟨⟨_, rfl, w', hw, by rw [ht]; exact hH.1, hH.2.1⟩, hH.2.2.1.F ht⟩) hH.2.2.1.2.2 hdg hlo) s.heap [] _ ⟨hP, hD, va_S.rf, fun q h => Or.inr h⟩ hl

section MRB
variable {p : Program} {l : Launch} {e : Env} {R : Room} {s : State} {m : MethodId} {args : Array Value} {below : List Frame} {meth : Method} {c : Code} {H : Heap} {locs : List Loc} {cells slots : Nat} {Q : State → Prop}
variable {D : va_G} {cl : List vw_C} {A : Nat → Prop} {H0 : Heap} {tys : List (ClassId × FieldType)} {w : va_W} {W' : Option Value → va_W → Prop} {pc : Nat} {ls : Array Slot} {rest st0 : List Value}
theorem mrRun {mc ms : Nat} {a : Array Value} (hr : va_Run p l e R s m args below meth c H locs cells slots mc ms (F0 m pc ls st0) rest (mQr D cl W' (va_A w H.size) a) (va_A w H.size)) (hH : MH D cl A H0 w H locs)
    (kk : ∀ (vo : Option Value) (w' : va_W) (H1 : Heap) (locs1 : List Loc), W' vo w' → MH D cl A H0 w' H1 locs1 → W p l e R s m args below meth c H1 locs1 (cells + mc) (slots + ms) Q (F0 m (pc + 3) ls (vo.toList ++ rest))) : W p l e R s m args below meth c H locs cells slots Q (F0 m pc ls st0) := by
  have hf := hH.free
  obtain ⟨hP, hD, hS, hA⟩ := hH
  intro T hT X
  obtain ⟨v, st₀, t, T', L, h0, X', hL, e1, e2, ⟨⟨vo, hv, w', hw, hP1, hD1⟩, hz, hk⟩, st⟩ := hr T hT X
  cases hv
  rw [h0] at hz hk
  obtain ⟨t2, a1, b1⟩ := kk _ w' T'.heap (locs ++ L) hw ⟨by rw [e1]; exact hP1, hD1.weaken (fun _ _ _ h => hf _ h),
    ⟨Nat.le_trans hS.1 (by rw [e1]; exact hz), fun q h1 h2 => by rw [e1, hk q (Nat.lt_of_lt_of_le h1 hS.1) (fun z => h2 (hf q z))]; exact hS.2.1 q h1 h2, fun q hq => by
      rcases List.mem_append.mp hq with h | h
      · exact hS.2.2 q h
      · exact hf _ (hL q h)⟩, hA⟩ T' rfl X'
  exact ⟨t2, st t2 a1, b1⟩
variable {y : MethodName} {bytes cc : ByteArray} {maxL nL n index : Nat} {ret : Option FieldType} {rm : Room} {own C host : String} {b : Addr} {As : List Value} {lv : List (Nat × Value)} {E : EvT}
theorem mrV (hX : CallFix p m c cc nL s args lw_all own) (hK : va_K D cl tys s) (hEv : EvOK E) (hE : E A s H0) (hH : MH D cl A H0 w H locs) (hM : MR l y (ws_ y bytes maxL ret) rm D cl tys E (.ref b :: As) w W') (hrc : ∃ cellB : Cell, H[b]? = some cellB ∧ cellB.vm.isStatics = false ∧ s.vm.findClass C = some cellB.cls)
    (hG : GoodIn lw_all (wsV own index C y (ws_ y bytes maxL ret))) (hd : y.cls = C ∧ y.cls ≠ "java/lang/invoke/MethodHandle" ∧ y.cls ≠ "java/lang/invoke/VarHandle" ∧ (parseMethodDescriptor y.desc).map (fun d => d.parameters.length) = some n) (hR : rm.frames + 1 ≤ R.frames ∧ 8 + (maxL + 11) + rm.locals ≤ R.locals)
    (hn : As.length = n) (hst : st0 = As.reverse ++ .ref b :: rest) (hl : lv_has ls nL lv) (hW : (rest.map fun v => v.category).sum ≤ 8) (hdg : decode cc pc = .ok (.invokevirtual index, 3)) (hf : cells + rm.cells ≤ R.cells ∧ slots + rm.slots ≤ R.slots)
    (kk : ∀ (vo : Option Value) (w' : va_W) (H1 : Heap) (locs1 : List Loc), W' vo w' → MH D cl A H0 w' H1 locs1 → W p l e R s m args below meth c H1 locs1 (cells + rm.cells) (slots + rm.slots) Q (F0 m (pc + 3) ls (vo.toList ++ rest))) : W p l e R s m args below meth c H locs cells slots Q (F0 m pc ls st0) :=
  mrRun (va_runV hX (hM H.size) (cwV n hX.2.2.2.2 hG rfl rfl rfl hd hR) ⟨mPre_blind hEv, hrc, mxPre hK hEv hE hH⟩ rfl hn hl.1 hst (lv_room hW) hdg hf) hH kk
theorem mrS (hX : CallFix p m c cc nL s args lw_all own) (hK : va_K D cl tys s) (hEv : EvOK E) (hE : E A s H0) (hH : MH D cl A H0 w H locs) (hM : MR l y (ws_ y bytes maxL ret) rm D cl tys E As w W')
    (hG : GoodIn lw_all (va_wsS own index y (ws_ y bytes maxL ret))) (hd : y.cls ≠ "java/lang/invoke/MethodHandle" ∧ y.cls ≠ "java/lang/invoke/VarHandle" ∧ (parseMethodDescriptor y.desc).map (fun d => d.parameters.length) = some n) (hR : rm.frames + 1 ≤ R.frames ∧ 8 + (maxL + 11) + rm.locals ≤ R.locals)
    (hn : As.length = n) (hst : st0 = As.reverse ++ rest) (hl : lv_has ls nL lv) (hW : (rest.map fun v => v.category).sum ≤ 8) (hdg : decode cc pc = .ok (.invokestatic index, 3)) (hf : cells + rm.cells ≤ R.cells ∧ slots + rm.slots ≤ R.slots)
    (kk : ∀ (vo : Option Value) (w' : va_W) (H1 : Heap) (locs1 : List Loc), W' vo w' → MH D cl A H0 w' H1 locs1 → W p l e R s m args below meth c H1 locs1 (cells + rm.cells) (slots + rm.slots) Q (F0 m (pc + 3) ls (vo.toList ++ rest))) : W p l e R s m args below meth c H locs cells slots Q (F0 m pc ls st0) :=
  mrRun (va_runS hX (hM H.size) (va_cwS n hX.2.2.2.2 hG rfl rfl rfl hd hR) ⟨mPre_blind hEv, mxPre hK hEv hE hH⟩ rfl hn hl.1 hst (lv_room hW) hdg hf) hH kk
theorem mrVN (hX : CallFix p m c cc nL s args lw_all own) (hK : va_K D cl tys s) (hEv : EvOK E) (hE : E A s H0) (hH : MH D cl A H0 w H locs) (hM : MR l y (ws_ y bytes maxL ret) rm D cl tys E (.ref b :: As) w W') (hrc : ∃ cellB : Cell, H[b]? = some cellB ∧ cellB.vm.isStatics = false ∧ s.vm.findClass C = some cellB.cls)
    (hG : GoodIn lw_all (ws_ y bytes maxL ret)) (hlk : va_Nw (.methodLinkNest own index y host) s) (hini : Cond.initialized y.cls ∈ lw_all) (hins : Cond.instanceMethod y ∈ lw_all) (hsel : Cond.selects C y y ∈ lw_all) (hd : y.cls ≠ "java/lang/invoke/MethodHandle" ∧ y.cls ≠ "java/lang/invoke/VarHandle" ∧ (parseMethodDescriptor y.desc).map (fun d => d.parameters.length) = some n) (hR : rm.frames + 1 ≤ R.frames ∧ 8 + (maxL + 11) + rm.locals ≤ R.locals)
    (hn : As.length = n) (hst : st0 = As.reverse ++ .ref b :: rest) (hl : lv_has ls nL lv) (hW : (rest.map fun v => v.category).sum ≤ 8) (hdg : decode cc pc = .ok (.invokevirtual index, 3)) (hf : cells + rm.cells ≤ R.cells ∧ slots + rm.slots ≤ R.slots)
    (kk : ∀ (vo : Option Value) (w' : va_W) (H1 : Heap) (locs1 : List Loc), W' vo w' → MH D cl A H0 w' H1 locs1 → W p l e R s m args below meth c H1 locs1 (cells + rm.cells) (slots + rm.slots) Q (F0 m (pc + 3) ls (vo.toList ++ rest))) : W p l e R s m args below meth c H locs cells slots Q (F0 m pc ls st0) :=
  mrRun (va_runVN (host := host) hX (hM H.size) ⟨va_cnB n hX.2.2.2.2 hG rfl rfl rfl hlk (hX.2.2.2.2 _ hini) hd hR, hX.2.2.2.2 _ hins, hX.2.2.2.2 _ hsel⟩ ⟨mPre_blind hEv, hrc, mxPre hK hEv hE hH⟩ rfl hn hl.1 hst (lv_room hW) hdg hf) hH kk
end MRB

