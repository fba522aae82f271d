set_option maxRecDepth 100000
/-! a method with a table of its own: its contract -/
theorem Met_ofX {l : Launch} {y : MethodName} {ws : List Cond} {rm : Room} {Pc : Array Value → State → Prop} {Qc : Array Value → State → Outcome → State → Prop} {mc ms : Nat} {free : Addr → Prop} (h : vx_Met l y ws rm Pc Qc (fun _ _ _ => False) mc ms free) : Met l y ws rm Pc Qc mc ms free :=
  MetFree.mono h (fun _ _ h => h) (fun _ _ _ _ _ h => h) (fun a s o t _ hq => by
    rcases hq with hq | ⟨q, -, E, ce, L, hx, -⟩
    · exact hq
    · exact hx.elim)
theorem MX.ofZW {l : Launch} {y : MethodName} {cc : ByteArray} {maxL : Nat} {hh : List (Nat × Nat × Nat × Nat)} {rm : Room} {D : va_G} {cl : List vw_C} {tys : List (ClassId × FieldType)} {E : EvT} {As : List Value} {w : va_W} {W' : va_W → Prop} {r : Bool} (hy : plainName y.cls = true) (hsz : (lg_sl As).length ≤ maxL)
    (body : ∀ {p : Program} {e : Env} {s : State} {m : MethodId} {args : Array Value} {below : List Frame} {meth : Method} {c : Code} {Q : State → Prop} {A : Nat → Prop}, CallFix p m c cc maxL s args lw_all y.cls → va_K D cl tys s → E A s s.heap → c.exceptionTable.toList = tableOf hh → meth.locks = false →
      (∀ (w' : va_W) (H : Heap) (locs : List Loc) (pc : Nat) (ls : Array Slot), W' w' → MH D cl A s.heap w' H locs → decode cc pc = .ok (.ireturn, 1) → W p l e rm s m args below meth c H locs rm.cells rm.slots Q (F0 m pc ls [.int (b2i r)])) →
      ∀ (H : Heap) (locs : List Loc) (ls : Array Slot), MH D cl A s.heap w H locs → lv_has ls maxL (lv_args 0 As) → W p l e rm s m args below meth c H locs 0 0 Q (F0 m 0 ls [])) : MX l y (wsW_ y cc maxL (some .boolean) hh) rm D cl tys E As w W' (some (.int (b2i r))) := by
  intro sz
  refine Met_ofX (vx_ofWH (hh := hh) hy rfl ?_)
  intro p e s m args below meth c s₁ B hml hv
  obtain ⟨rfl, hz, hP, hK, hD0, hE⟩ := hv
  have hts0 := atoms_spec (ws := wsW_ y cc maxL (some .boolean) hh) B.pre
  have hts : ∀ w ∈ lw_all, w.before _ s = true := fun w h => hts0 w (List.mem_cons_of_mem _ h)
  have hown : s.vm.findClass y.cls = some m.cls := findClass_of_methodNamed B.named
  have htab := vx_table (x := y) B (hts0 _ List.mem_cons_self)
  subst hz
  have hD := hD0.self (sz := s.heap.size)
  have hl := lv_entry As hsz
  have hlo := B.notSynchronized
  rw [lg_entry_eq]
  refine vx_ret ?_
  exact body (A := va_A w s.heap.size) ⟨B.exec, B.bytes, hml, hown, hts⟩ hK hE htab hlo (fun w' H locs pc ls hw hH hdg => W.zret B.exec B.bytes B.returns (b2i_nar r) (fun t ht hW => ⟨⟨rfl, w', hw, by rw [ht]; exact hH.1, hH.2.1⟩, hH.2.2.1.F ht⟩) hH.2.2.1.2.2 hdg hlo) s.heap [] _ ⟨hP, hD, va_S.rf, fun q h => Or.inr h⟩ hl
theorem MX.ofLW {l : Launch} {y : MethodName} {cc : ByteArray} {maxL : Nat} {hh : List (Nat × Nat × Nat × Nat)} {rm : Room} {D : va_G} {cl : List vw_C} {tys : List (ClassId × FieldType)} {E : EvT} {As : List Value} {w : va_W} {W' : va_W → Prop} {r : Int64} (hy : plainName y.cls = true) (hsz : (lg_sl As).length ≤ maxL)
    (body : ∀ {p : Program} {e : Env} {s : State} {m : MethodId} {args : Array Value} {below : List Frame} {meth : Method} {c : Code} {Q : State → Prop} {A : Nat → Prop}, CallFix p m c cc maxL s args lw_all y.cls → va_K D cl tys s → E A s s.heap → c.exceptionTable.toList = tableOf hh → meth.locks = false →
      (∀ (w' : va_W) (H : Heap) (locs : List Loc) (pc : Nat) (ls : Array Slot), W' w' → MH D cl A s.heap w' H locs → decode cc pc = .ok (.lreturn, 1) → W p l e rm s m args below meth c H locs rm.cells rm.slots Q (F0 m pc ls [.long r])) →
      ∀ (H : Heap) (locs : List Loc) (ls : Array Slot), MH D cl A s.heap w H locs → lv_has ls maxL (lv_args 0 As) → W p l e rm s m args below meth c H locs 0 0 Q (F0 m 0 ls [])) : MX l y (wsW_ y cc maxL (some .long) hh) rm D cl tys E As w W' (some (.long r)) := by
  intro sz
  refine Met_ofX (vx_ofWH (hh := hh) hy rfl ?_)
  intro p e s m args below meth c s₁ B hml hv
  obtain ⟨rfl, hz, hP, hK, hD0, hE⟩ := hv
  have hts0 := atoms_spec (ws := wsW_ y cc maxL (some .long) hh) B.pre
  have hts : ∀ w ∈ lw_all, w.before _ s = true := fun w h => hts0 w (List.mem_cons_of_mem _ h)
  have hown : s.vm.findClass y.cls = some m.cls := findClass_of_methodNamed B.named
  have htab := vx_table (x := y) B (hts0 _ List.mem_cons_self)
  subst hz
  have hD := hD0.self (sz := s.heap.size)
  have hl := lv_entry As hsz
  have hlo := B.notSynchronized
  rw [lg_entry_eq]
  refine vx_ret ?_
  exact body (A := va_A w s.heap.size) ⟨B.exec, B.bytes, hml, hown, hts⟩ hK hE htab hlo (fun w' H locs pc ls hw hH hdg => W.lret B.exec B.bytes B.returns (fun t ht hW => ⟨⟨rfl, w', hw, by rw [ht]; exact hH.1, hH.2.1⟩, hH.2.2.1.F ht⟩) hH.2.2.1.2.2 hdg hlo) s.heap [] _ ⟨hP, hD, va_S.rf, fun q h => Or.inr h⟩ hl
section NUA
variable {p : Program} {l : Launch} {e : Env} {R : Room} {s : State} {m : MethodId} {args : Array Value} {below : List Frame} {meth : Method} {c : Code} {H : Heap} {locs : List Loc} {cells slots : Nat} {Q : State → Prop}
variable {D : va_G} {cl : List vw_C} {A : Nat → Prop} {H0 : Heap} {tys : List (ClassId × FieldType)} {w : va_W} {W' : va_W → Prop} {pc : Nat} {ls : Array Slot} {rest st0 : List Value}
variable {y : MethodName} {bytes cc : ByteArray} {maxL nL n index : Nat} {ret : Option FieldType} {rm : Room} {own C : String} {b : Addr} {As : List Value} {vo : Option Value} {lv : List (Nat × Value)} {E : EvT} {hh : List (Nat × Nat × Nat × Nat)}
theorem mxVW (hX : CallFix p m c cc nL s args lw_all own) (hK : va_K D cl tys s) (hEv : EvOK E) (hE : E A s H0) (hH : MH D cl A H0 w H locs) (hM : MX l y (wsW_ y bytes maxL ret hh) rm D cl tys E (.ref b :: As) w W' vo) (hrc : ∃ cellB : Cell, H[b]? = some cellB ∧ cellB.vm.isStatics = false ∧ s.vm.findClass C = some cellB.cls)
    (hG : GoodIn lw_all (wsV own index C y (wsW_ y bytes maxL ret hh))) (hd : y.cls = C ∧ y.cls ≠ "java/lang/invoke/MethodHandle" ∧ y.cls ≠ "java/lang/invoke/VarHandle" ∧ (parseMethodDescriptor y.desc).map (fun d => d.parameters.length) = some n) (hR : rm.frames + 1 ≤ R.frames ∧ 8 + (maxL + 11) + rm.locals ≤ R.locals)
    (hn : As.length = n) (hst : st0 = As.reverse ++ .ref b :: rest) (hl : lv_has ls nL lv) (hW : (rest.map fun v => v.category).sum ≤ 8) (hdg : decode cc pc = .ok (.invokevirtual index, 3)) (hf : cells + rm.cells ≤ R.cells ∧ slots + rm.slots ≤ R.slots)
    (kk : ∀ (w' : va_W) (H1 : Heap) (locs1 : List Loc), W' w' → MH D cl A H0 w' H1 locs1 → W p l e R s m args below meth c H1 locs1 (cells + rm.cells) (slots + rm.slots) Q (F0 m (pc + 3) ls (vo.toList ++ rest))) : W p l e R s m args below meth c H locs cells slots Q (F0 m pc ls st0) :=
  mxRun (vx_runVW hX (hM H.size) (vx_cwVW n hX.2.2.2.2 hG rfl rfl rfl hd hR) ⟨mPre_blind hEv, hrc, mxPre hK hEv hE hH⟩ rfl hn hl.1 hst (lv_room hW) hdg hf) hH kk
theorem MH.grow (hH : MH D cl A H0 w H locs) {H1 : Heap} (h : ∀ q : Nat, q < H.size → H1[q]? = H[q]?) (hS : va_S A H0 H1 locs) : MH D cl A H0 w H1 locs :=
  ⟨fun k q hk => (hH.1 k q hk).kept (h q.1 (hH.1 k q hk).lt), hH.2.1, hS, hH.2.2.2⟩
/-- an array of less than no places -/
theorem ex_nas (hX : CallFix p m c cc nL s args lw_all own) (hfl : l.stackTraces = false) (hEX : EvX E) (hE : E A s s.heap) (hH : MH D cl A s.heap w H locs) (hl : lv_has ls nL lv) (hlo : meth.locks = false) {i : Int32} (hi : i < 0) {atype : ArrayType} (hdg : decode cc pc = .ok (.newarray atype, 2)) (hRf : 7 ≤ R.frames) (hRl : (rest.map fun v => v.category).sum + 10240 ≤ R.locals) (hc : cells + 3 ≤ R.cells) (hs : slots + 54 ≤ R.slots)
    (kk : ∀ (H1 : Heap) (q9 : Addr) (ce : Cell), MH D cl A s.heap w H1 locs → H1[q9]? = some ce → ce.vm = .none → s.vm.findClass "java/lang/NegativeArraySizeException" = some ce.cls → vx_W p l e R s m args below meth c H1 locs (cells + 3) (slots + 54) Q (F0 m pc ls rest) q9) : W p l e R s m args below meth c H locs cells slots Q (F0 m pc ls (.int i :: rest)) := by
  have hNW := hEX.1.2.1 _ _ _ hE
  obtain ⟨hU, hN, -⟩ := hEX.2 _ _ _ hE
  refine vx_newarrayZ hX.1 hX.2.1 hi hdg (fun tx htx => ?_)
  subst htx
  exact vx_vm hX.1 hfl (names := ["java/lang/RuntimeException", "java/lang/Exception"]) (nb := 44) (by decide) (by decide) (by decide) (by decide) (xw_nas hX.2.2.2.2 hNW) xw_nas_g hU hN hH.2.2.1 (hl.1.trans hX.2.2.1.symm) (negative_text_modelled hi) (negative_text_bytes i) (by omega) (by show 2 + 4 < _; omega) hRl (by decide) hc hs hlo (fun H1 q9 ce h1 h2 h3 h4 h5 h6 => kk H1 q9 ce (hH.grow h2 h3) h4 h5 h6)
end NUA
def cNB (ad na : Nat → Nat) (a_rsort : Nat → Int32) : va_W := [(ad 29, .inr (7, [va_rf (nheld a_rsort na 0)])), (ad 30, .inr (7, [va_rf (nheld a_rsort na 1)])), (ad 31, .inr (7, [va_rf (nheld a_rsort na 2)])), (ad 32, .inr (7, [va_rf (nheld a_rsort na 3)]))]
def nN4 (cA : Nat → ClassId) (na : Nat → Nat) (rs rm : Nat → Int32) (nu : Nat → Nat → Int64) : va_W := nC cA na rs rm nu 0 ++ (nC cA na rs rm nu 1 ++ (nC cA na rs rm nu 2 ++ nC cA na rs rm nu 3))
section NUB
variable {p : Program} {l : Launch} {e : Env} {R : Room} {s : State} {m : MethodId} {args : Array Value} {below : List Frame} {meth : Method} {c : Code} {H : Heap} {locs : List Loc} {cells slots : Nat} {Q : State → Prop}
variable {D : va_G} {A : Nat → Prop} {H0 : Heap} {pc : Nat} {ls : Array Slot} {rest : List Value} {cc : ByteArray} {nL : Nat} {own : String} {lv : List (Nat × Value)}
variable {ad : Nat → Nat} {cA : Nat → ClassId} {sA ta ba na : Nat → Nat} {gi : Nat → Option Nat} {rh : Option Nat} {rt : Option Nat} {g_sort : Int32} {g_size : Int32} {g_from : Int32} {g_to : Int32} {g_level : Int32} {g_full : Int32} {a_tape : Nat → Int32} {a_hAt : Nat → Int32} {a_hMany : Nat → Int32} {a_tAt : Nat → Int32} {a_tMany : Nat → Int32} {a_least : Nat → Int32} {a_place : Nat → Int32} {a_to : Nat → Int32} {a_order : Nat → Int32} {a_fails : Nat → Int32} {a_sKeys : Nat → Int64} {a_sRow : Nat → Int64} {a_sSlots : Nat → Int32} {a_bKeys : Nat → Int64} {a_bRow : Nat → Int64} {a_bSlots : Nat → Int32} {a_easy : Nat → Int32} {a_wants : Nat → Int32} {a_wantedBy : Nat → Int32} {a_ring : Nat → Int32} {a_carried : Nat → Int32} {a_latest : Nat → Int32} {v_taped : Int32} {v_faultKind : Int32} {v_faultPlace : Int32} {v_x : Int32} {v_ordered : Int32} {v_sought : Int32} {v_lastSought : Int32} {v_hMoved : Int32} {v_hWithout : Int32} {v_tMoved : Int32} {v_tWithout : Int32} {v_places : Int32} {v_elsewhere : Int32} {v_sMany : Int32} {v_bMany : Int32} {v_year : Int32} {y_lies : Int64} {a_rsort : Nat → Int32} {a_rmany : Nat → Int32} {a_nums : Nat → Nat → Int64}  {pl : va_W}
theorem cW_parts : ∃ A9 S9 : va_W, ∀ (na : Nat → Nat) (a_rsort a_rmany : Nat → Int32) (a_nums : Nat → Nat → Int64) (pl : va_W), (cW ad cA sA ta ba na gi rh rt g_sort g_size g_from g_to g_level g_full a_tape a_hAt a_hMany a_tAt a_tMany a_least a_place a_to a_order a_fails a_sKeys a_sRow a_sSlots a_bKeys a_bRow a_bSlots a_easy a_wants a_wantedBy a_ring a_carried a_latest v_taped v_faultKind v_faultPlace v_x v_ordered v_sought v_lastSought v_hMoved v_hWithout v_tMoved v_tWithout v_places v_elsewhere v_sMany v_bMany v_year y_lies a_rsort a_rmany a_nums pl) = A9 ++ (cNB ad na a_rsort ++ (S9 ++ (nN4 cA na a_rsort a_rmany a_nums ++ pl))) :=
  ⟨[(ad 0, .inr (0, [.ref (sA 0), .ref (ad 1), .ref (ad 2), .int v_taped, .int v_faultKind, .int v_faultPlace, .ref (ad 3), .ref (ad 4), .ref (ad 7), .int v_x, .ref (ad 10), .ref (ad 14), .ref (ad 15), .int v_ordered, .ref (ad 16), .ref (ad 20), .int v_sought, .int v_lastSought, .ref (ad 24), .ref (ad 25), .ref (ad 26), .ref (ad 27), .ref (ad 28)])), (ad 1, .inl (cA 1, 2, .inr (.inr (.inr (.inr gi))))), (ad 2, .inl (cA 2, 400, .inl a_tape)), (ad 3, .inr (3, [.int g_sort, .int g_size, .int g_from, .int g_to, .int g_level, .int g_full])), (ad 4, .inr (4, [.ref (ad 5), .ref (ad 6), .int v_hMoved, .int v_hWithout, va_rf rh, .ref (ad 0)])), (ad 5, .inl (cA 5, 15, .inl a_hAt)), (ad 6, .inl (cA 6, 5, .inl a_hMany)), (ad 7, .inr (4, [.ref (ad 8), .ref (ad 9), .int v_tMoved, .int v_tWithout, va_rf rt, .ref (ad 0)])), (ad 8, .inl (cA 8, 15, .inl a_tAt)), (ad 9, .inl (cA 9, 5, .inl a_tMany)), (ad 10, .inr (5, [.ref (ad 11), .ref (ad 12), .ref (ad 13), .int v_places, .int v_elsewhere, .ref (ad 0)])), (ad 11, .inl (cA 11, 294912, .inl a_least)), (ad 12, .inl (cA 12, 15, .inl a_place)), (ad 13, .inl (cA 13, 8, .inl a_to)), (ad 14, .inl (cA 14, 8, .inl a_order)), (ad 15, .inl (cA 15, 256, .inl a_fails)), (ad 16, .inr (6, [.ref (ad 17), .ref (ad 18), .ref (ad 19), .int v_sMany])), (ad 17, .inl (cA 17, 16384, .inr (.inl a_sKeys))), (ad 18, .inl (cA 18, 6002, .inr (.inl a_sRow))), (ad 19, .inl (cA 19, 6002, .inl a_sSlots)), (ad 20, .inr (6, [.ref (ad 21), .ref (ad 22), .ref (ad 23), .int v_bMany])), (ad 21, .inl (cA 21, 16384, .inr (.inl a_bKeys))), (ad 22, .inl (cA 22, 6002, .inr (.inl a_bRow))), (ad 23, .inl (cA 23, 6002, .inl a_bSlots)), (ad 24, .inl (cA 24, 3, .inl a_easy)), (ad 25, .inl (cA 25, 40, .inl a_wants)), (ad 26, .inl (cA 26, 40, .inl a_wantedBy)), (ad 27, .inl (cA 27, 40, .inl a_ring)), (ad 28, .inl (cA 28, 4, .inr (.inr (.inr (.inr fun j => some (ad (29 + j)))))))], [(sA 0, .inr (1, [.ref (ta 0), .ref (ba 0), .long y_lies, .int v_year, .ref (sA 1), .ref (sA 2)])), (sA 1, .inl (cA 34, 8, .inl a_carried)), (sA 2, .inl (cA 35, 8, .inl a_latest))], fun _ _ _ _ _ => by unfold cW cNB nN4; simp only [List.append_assoc, List.cons_append, List.nil_append]⟩
theorem nC_o (na : Nat → Nat) (rs rm : Nat → Int32) (nu : Nat → Nat → Int64) {k j q : Nat} {s0 n0 : Int32} {f : Nat → Int64} (h : j ≠ k) : nC cA (up na k q) (upd rs k s0) (upd rm k n0) (up nu k f) j = nC cA na rs rm nu j := by
  unfold nC
  rw [up_f h, up_f h, upn_f h, upn_f h]
theorem nC_k (na : Nat → Nat) (rs rm : Nat → Int32) (nu : Nat → Nat → Int64) {k q : Nat} {s0 n0 : Int32} {f : Nat → Int64} (h : ¬ s0 = -1) : nC cA (up na k q) (upd rs k s0) (upd rm k n0) (up nu k f) k = [(q, .inl (cA (40 + s0.toNatClampNeg), n0.toNatClampNeg, if s0 = 3 then .inr (.inl f) else .inl fun j => (f j).toInt32))] := by
  unfold nC
  rw [up_t rfl, up_t rfl, upn_t rfl, upn_t rfl, if_neg h]
theorem nh_o (na : Nat → Nat) (rs : Nat → Int32) {k j q : Nat} {s0 : Int32} (h : j ≠ k) : nheld (upd rs k s0) (up na k q) j = nheld rs na j := by
  unfold nheld
  rw [up_f h, upn_f h]
theorem nh_k (na : Nat → Nat) (rs : Nat → Int32) {k q : Nat} {s0 : Int32} (h : ¬ s0 = -1) : nheld (upd rs k s0) (up na k q) k = some q := by
  unfold nheld
  rw [up_t rfl, upn_t rfl, if_neg h]
theorem pm_a {α : Type} (A B S N P X : List α) : ((A ++ (B ++ (S ++ (N ++ P)))) ++ X).Perm (B ++ (X ++ (A ++ (S ++ (N ++ P))))) := by
  classical
  refine List.perm_iff_count.mpr (fun a => ?_)
  simp only [List.count_append]
  omega
theorem pm_0 {α : Type} (A B S P X n0 n1 n2 n3 : List α) : (B ++ (X ++ (A ++ (S ++ ((n0 ++ (n1 ++ (n2 ++ n3))) ++ P))))).Perm ((A ++ (B ++ (S ++ ((X ++ (n1 ++ (n2 ++ n3))) ++ P)))) ++ n0) := by
  classical
  refine List.perm_iff_count.mpr (fun a => ?_)
  simp only [List.count_append]
  omega
theorem pm_1 {α : Type} (A B S P X n0 n1 n2 n3 : List α) : (B ++ (X ++ (A ++ (S ++ ((n0 ++ (n1 ++ (n2 ++ n3))) ++ P))))).Perm ((A ++ (B ++ (S ++ ((n0 ++ (X ++ (n2 ++ n3))) ++ P)))) ++ n1) := by
  classical
  refine List.perm_iff_count.mpr (fun a => ?_)
  simp only [List.count_append]
  omega
theorem pm_2 {α : Type} (A B S P X n0 n1 n2 n3 : List α) : (B ++ (X ++ (A ++ (S ++ ((n0 ++ (n1 ++ (n2 ++ n3))) ++ P))))).Perm ((A ++ (B ++ (S ++ ((n0 ++ (n1 ++ (X ++ n3))) ++ P)))) ++ n2) := by
  classical
  refine List.perm_iff_count.mpr (fun a => ?_)
  simp only [List.count_append]
  omega
theorem pm_3 {α : Type} (A B S P X n0 n1 n2 n3 : List α) : (B ++ (X ++ (A ++ (S ++ ((n0 ++ (n1 ++ (n2 ++ n3))) ++ P))))).Perm ((A ++ (B ++ (S ++ ((n0 ++ (n1 ++ (n2 ++ X))) ++ P)))) ++ n3) := by
  classical
  refine List.perm_iff_count.mpr (fun a => ?_)
  simp only [List.count_append]
  omega
/-- what is made goes into the field of the row's object; what was there is left behind -/
theorem num_put {k q : Nat} {s0 n0 : Int32} {f : Nat → Int64} {arr : vp_A} (hk : k < 4) (hX : CallFix p m c cc nL s args lw_all RX7) (hK : va_K D vwA (cT cA) s) (hs : ¬ s0 = -1) (ha : (cA (40 + s0.toNatClampNeg), arr) = ((cA (40 + s0.toNatClampNeg), n0.toNatClampNeg, if s0 = 3 then .inr (.inl f) else .inl fun j => (f j).toInt32) : ClassId × vp_A)) (hH : MH D vwA A H0 ((cW ad cA sA ta ba na gi rh rt g_sort g_size g_from g_to g_level g_full a_tape a_hAt a_hMany a_tAt a_tMany a_least a_place a_to a_order a_fails a_sKeys a_sRow a_sSlots a_bKeys a_bRow a_bSlots a_easy a_wants a_wantedBy a_ring a_carried a_latest v_taped v_faultKind v_faultPlace v_x v_ordered v_sought v_lastSought v_hMoved v_hWithout v_tMoved v_tWithout v_places v_elsewhere v_sMany v_bMany v_year y_lies a_rsort a_rmany a_nums pl) ++ [(q, .inl (cA (40 + s0.toNatClampNeg), arr))]) H locs) (hdg : decode cc pc = .ok (.putfield 7, 3))
    (kk : ∀ (H1 : Heap) (locs1 : List Loc), MH D vwA A H0 (cW ad cA sA ta ba (up na k q) gi rh rt g_sort g_size g_from g_to g_level g_full a_tape a_hAt a_hMany a_tAt a_tMany a_least a_place a_to a_order a_fails a_sKeys a_sRow a_sSlots a_bKeys a_bRow a_bSlots a_easy a_wants a_wantedBy a_ring a_carried a_latest v_taped v_faultKind v_faultPlace v_x v_ordered v_sought v_lastSought v_hMoved v_hWithout v_tMoved v_tWithout v_places v_elsewhere v_sMany v_bMany v_year y_lies (upd a_rsort k s0) (upd a_rmany k n0) (up a_nums k f) pl) H1 locs1 → W p l e R s m args below meth c H1 locs1 cells slots Q (F0 m (pc + 3) ls rest)) : W p l e R s m args below meth c H locs cells slots Q (F0 m pc ls (.ref q :: .ref (ad (29 + k)) :: rest)) := by
  obtain ⟨A9, S9, e9⟩ := cW_parts (ad := ad) (cA := cA) (sA := sA) (ta := ta) (ba := ba) (gi := gi) (rh := rh) (rt := rt) (g_sort := g_sort) (g_size := g_size) (g_from := g_from) (g_to := g_to) (g_level := g_level) (g_full := g_full) (a_tape := a_tape) (a_hAt := a_hAt) (a_hMany := a_hMany) (a_tAt := a_tAt) (a_tMany := a_tMany) (a_least := a_least) (a_place := a_place) (a_to := a_to) (a_order := a_order) (a_fails := a_fails) (a_sKeys := a_sKeys) (a_sRow := a_sRow) (a_sSlots := a_sSlots) (a_bKeys := a_bKeys) (a_bRow := a_bRow) (a_bSlots := a_bSlots) (a_easy := a_easy) (a_wants := a_wants) (a_wantedBy := a_wantedBy) (a_ring := a_ring) (a_carried := a_carried) (a_latest := a_latest) (v_taped := v_taped) (v_faultKind := v_faultKind) (v_faultPlace := v_faultPlace) (v_x := v_x) (v_ordered := v_ordered) (v_sought := v_sought) (v_lastSought := v_lastSought) (v_hMoved := v_hMoved) (v_hWithout := v_hWithout) (v_tMoved := v_tMoved) (v_tWithout := v_tWithout) (v_places := v_places) (v_elsewhere := v_elsewhere) (v_sMany := v_sMany) (v_bMany := v_bMany) (v_year := v_year) (y_lies := y_lies)
  rw [e9, ha] at hH
  rw [e9] at kk
  have h2 := hH.perm (pm_a _ _ _ _ _ _)
  rcases (show k = 0 ∨ k = 1 ∨ k = 2 ∨ k = 3 by omega) with rfl | rfl | rfl | rfl
  · refine va_put (C := RX7) (T := TX7) (N := 1) (ty := (.object "java/lang/Object")) hX.1 hX.2.1 hX.2.2.2.2 in_X7 tyX7 tyX7_ok nmX7 hX.2.2.2.1 hK h2.1 h2.2.1 h2.2.2.1 0 rfl rfl 0 (by decide) (hX.2.2.2.2 _ q413) (fun _ h9 => h9) rfl (by decide +kernel) rfl rfl (Nat.le_of_ble_eq_true rfl) hdg (fun H1 locs1 hP hD hS => kk H1 locs1 ?_)
    have eB : cNB ad (up na 0 q) (upd a_rsort 0 s0) = (cNB ad na a_rsort).set 0 (ad 29, .inr (7, [.ref q])) := by
      unfold cNB
      rw [nh_k _ _ hs, nh_o (k := 0) (j := 1) na a_rsort (by decide), nh_o (k := 0) (j := 2) na a_rsort (by decide), nh_o (k := 0) (j := 3) na a_rsort (by decide)]
      rfl
    have eN : nN4 cA (up na 0 q) (upd a_rsort 0 s0) (upd a_rmany 0 n0) (up a_nums 0 f) = [(q, .inl (cA (40 + s0.toNatClampNeg), n0.toNatClampNeg, if s0 = 3 then .inr (.inl f) else .inl fun j => (f j).toInt32))] ++ (nC cA na a_rsort a_rmany a_nums 1 ++ (nC cA na a_rsort a_rmany a_nums 2 ++ nC cA na a_rsort a_rmany a_nums 3)) := by
      unfold nN4
      rw [nC_k _ _ _ _ hs, nC_o (k := 0) (j := 1) na a_rsort a_rmany a_nums (by decide), nC_o (k := 0) (j := 2) na a_rsort a_rmany a_nums (by decide), nC_o (k := 0) (j := 3) na a_rsort a_rmany a_nums (by decide)]
    have h3 : MH D vwA A H0 (cNB ad (up na 0 q) (upd a_rsort 0 s0) ++ ([(q, .inl (cA (40 + s0.toNatClampNeg), n0.toNatClampNeg, if s0 = 3 then .inr (.inl f) else .inl fun j => (f j).toInt32))] ++ (A9 ++ (S9 ++ (nN4 cA na a_rsort a_rmany a_nums ++ pl))))) H1 locs1 := by
      rw [eB]
      exact ⟨hP, hD, hS, hH.2.2.2⟩
    have h4 := h3.perm (pm_0 A9 (cNB ad (up na 0 q) (upd a_rsort 0 s0)) S9 pl [(q, .inl (cA (40 + s0.toNatClampNeg), n0.toNatClampNeg, if s0 = 3 then .inr (.inl f) else .inl fun j => (f j).toInt32))] (nC cA na a_rsort a_rmany a_nums 0) (nC cA na a_rsort a_rmany a_nums 1) (nC cA na a_rsort a_rmany a_nums 2) (nC cA na a_rsort a_rmany a_nums 3))
    rw [eN]
    exact h4.left
  · refine va_put (C := RX7) (T := TX7) (N := 1) (ty := (.object "java/lang/Object")) hX.1 hX.2.1 hX.2.2.2.2 in_X7 tyX7 tyX7_ok nmX7 hX.2.2.2.1 hK h2.1 h2.2.1 h2.2.2.1 1 rfl rfl 0 (by decide) (hX.2.2.2.2 _ q413) (fun _ h9 => h9) rfl (by decide +kernel) rfl rfl (Nat.le_of_ble_eq_true rfl) hdg (fun H1 locs1 hP hD hS => kk H1 locs1 ?_)
    have eB : cNB ad (up na 1 q) (upd a_rsort 1 s0) = (cNB ad na a_rsort).set 1 (ad 30, .inr (7, [.ref q])) := by
      unfold cNB
      rw [nh_k _ _ hs, nh_o (k := 1) (j := 0) na a_rsort (by decide), nh_o (k := 1) (j := 2) na a_rsort (by decide), nh_o (k := 1) (j := 3) na a_rsort (by decide)]
      rfl
    have eN : nN4 cA (up na 1 q) (upd a_rsort 1 s0) (upd a_rmany 1 n0) (up a_nums 1 f) = nC cA na a_rsort a_rmany a_nums 0 ++ ([(q, .inl (cA (40 + s0.toNatClampNeg), n0.toNatClampNeg, if s0 = 3 then .inr (.inl f) else .inl fun j => (f j).toInt32))] ++ (nC cA na a_rsort a_rmany a_nums 2 ++ nC cA na a_rsort a_rmany a_nums 3)) := by
      unfold nN4
      rw [nC_k _ _ _ _ hs, nC_o (k := 1) (j := 0) na a_rsort a_rmany a_nums (by decide), nC_o (k := 1) (j := 2) na a_rsort a_rmany a_nums (by decide), nC_o (k := 1) (j := 3) na a_rsort a_rmany a_nums (by decide)]
    have h3 : MH D vwA A H0 (cNB ad (up na 1 q) (upd a_rsort 1 s0) ++ ([(q, .inl (cA (40 + s0.toNatClampNeg), n0.toNatClampNeg, if s0 = 3 then .inr (.inl f) else .inl fun j => (f j).toInt32))] ++ (A9 ++ (S9 ++ (nN4 cA na a_rsort a_rmany a_nums ++ pl))))) H1 locs1 := by
      rw [eB]
      exact ⟨hP, hD, hS, hH.2.2.2⟩
    have h4 := h3.perm (pm_1 A9 (cNB ad (up na 1 q) (upd a_rsort 1 s0)) S9 pl [(q, .inl (cA (40 + s0.toNatClampNeg), n0.toNatClampNeg, if s0 = 3 then .inr (.inl f) else .inl fun j => (f j).toInt32))] (nC cA na a_rsort a_rmany a_nums 0) (nC cA na a_rsort a_rmany a_nums 1) (nC cA na a_rsort a_rmany a_nums 2) (nC cA na a_rsort a_rmany a_nums 3))
    rw [eN]
    exact h4.left
  · refine va_put (C := RX7) (T := TX7) (N := 1) (ty := (.object "java/lang/Object")) hX.1 hX.2.1 hX.2.2.2.2 in_X7 tyX7 tyX7_ok nmX7 hX.2.2.2.1 hK h2.1 h2.2.1 h2.2.2.1 2 rfl rfl 0 (by decide) (hX.2.2.2.2 _ q413) (fun _ h9 => h9) rfl (by decide +kernel) rfl rfl (Nat.le_of_ble_eq_true rfl) hdg (fun H1 locs1 hP hD hS => kk H1 locs1 ?_)
    have eB : cNB ad (up na 2 q) (upd a_rsort 2 s0) = (cNB ad na a_rsort).set 2 (ad 31, .inr (7, [.ref q])) := by
      unfold cNB
      rw [nh_k _ _ hs, nh_o (k := 2) (j := 0) na a_rsort (by decide), nh_o (k := 2) (j := 1) na a_rsort (by decide), nh_o (k := 2) (j := 3) na a_rsort (by decide)]
      rfl
    have eN : nN4 cA (up na 2 q) (upd a_rsort 2 s0) (upd a_rmany 2 n0) (up a_nums 2 f) = nC cA na a_rsort a_rmany a_nums 0 ++ (nC cA na a_rsort a_rmany a_nums 1 ++ ([(q, .inl (cA (40 + s0.toNatClampNeg), n0.toNatClampNeg, if s0 = 3 then .inr (.inl f) else .inl fun j => (f j).toInt32))] ++ nC cA na a_rsort a_rmany a_nums 3)) := by
      unfold nN4
      rw [nC_k _ _ _ _ hs, nC_o (k := 2) (j := 0) na a_rsort a_rmany a_nums (by decide), nC_o (k := 2) (j := 1) na a_rsort a_rmany a_nums (by decide), nC_o (k := 2) (j := 3) na a_rsort a_rmany a_nums (by decide)]
    have h3 : MH D vwA A H0 (cNB ad (up na 2 q) (upd a_rsort 2 s0) ++ ([(q, .inl (cA (40 + s0.toNatClampNeg), n0.toNatClampNeg, if s0 = 3 then .inr (.inl f) else .inl fun j => (f j).toInt32))] ++ (A9 ++ (S9 ++ (nN4 cA na a_rsort a_rmany a_nums ++ pl))))) H1 locs1 := by
      rw [eB]
      exact ⟨hP, hD, hS, hH.2.2.2⟩
    have h4 := h3.perm (pm_2 A9 (cNB ad (up na 2 q) (upd a_rsort 2 s0)) S9 pl [(q, .inl (cA (40 + s0.toNatClampNeg), n0.toNatClampNeg, if s0 = 3 then .inr (.inl f) else .inl fun j => (f j).toInt32))] (nC cA na a_rsort a_rmany a_nums 0) (nC cA na a_rsort a_rmany a_nums 1) (nC cA na a_rsort a_rmany a_nums 2) (nC cA na a_rsort a_rmany a_nums 3))
    rw [eN]
    exact h4.left
  · refine va_put (C := RX7) (T := TX7) (N := 1) (ty := (.object "java/lang/Object")) hX.1 hX.2.1 hX.2.2.2.2 in_X7 tyX7 tyX7_ok nmX7 hX.2.2.2.1 hK h2.1 h2.2.1 h2.2.2.1 3 rfl rfl 0 (by decide) (hX.2.2.2.2 _ q413) (fun _ h9 => h9) rfl (by decide +kernel) rfl rfl (Nat.le_of_ble_eq_true rfl) hdg (fun H1 locs1 hP hD hS => kk H1 locs1 ?_)
    have eB : cNB ad (up na 3 q) (upd a_rsort 3 s0) = (cNB ad na a_rsort).set 3 (ad 32, .inr (7, [.ref q])) := by
      unfold cNB
      rw [nh_k _ _ hs, nh_o (k := 3) (j := 0) na a_rsort (by decide), nh_o (k := 3) (j := 1) na a_rsort (by decide), nh_o (k := 3) (j := 2) na a_rsort (by decide)]
      rfl
    have eN : nN4 cA (up na 3 q) (upd a_rsort 3 s0) (upd a_rmany 3 n0) (up a_nums 3 f) = nC cA na a_rsort a_rmany a_nums 0 ++ (nC cA na a_rsort a_rmany a_nums 1 ++ (nC cA na a_rsort a_rmany a_nums 2 ++ [(q, .inl (cA (40 + s0.toNatClampNeg), n0.toNatClampNeg, if s0 = 3 then .inr (.inl f) else .inl fun j => (f j).toInt32))])) := by
      unfold nN4
      rw [nC_k _ _ _ _ hs, nC_o (k := 3) (j := 0) na a_rsort a_rmany a_nums (by decide), nC_o (k := 3) (j := 1) na a_rsort a_rmany a_nums (by decide), nC_o (k := 3) (j := 2) na a_rsort a_rmany a_nums (by decide)]
    have h3 : MH D vwA A H0 (cNB ad (up na 3 q) (upd a_rsort 3 s0) ++ ([(q, .inl (cA (40 + s0.toNatClampNeg), n0.toNatClampNeg, if s0 = 3 then .inr (.inl f) else .inl fun j => (f j).toInt32))] ++ (A9 ++ (S9 ++ (nN4 cA na a_rsort a_rmany a_nums ++ pl))))) H1 locs1 := by
      rw [eB]
      exact ⟨hP, hD, hS, hH.2.2.2⟩
    have h4 := h3.perm (pm_3 A9 (cNB ad (up na 3 q) (upd a_rsort 3 s0)) S9 pl [(q, .inl (cA (40 + s0.toNatClampNeg), n0.toNatClampNeg, if s0 = 3 then .inr (.inl f) else .inl fun j => (f j).toInt32))] (nC cA na a_rsort a_rmany a_nums 0) (nC cA na a_rsort a_rmany a_nums 1) (nC cA na a_rsort a_rmany a_nums 2) (nC cA na a_rsort a_rmany a_nums 3))
    rw [eN]
    exact h4.left
end NUB
