set_option maxRecDepth 100000
theorem vps {i k L : Nat} (h : i + k < L) (hL : L ≤ 384) : vp_in (nI i + nI k) L := by
  rw [n_add]
  exact vp_in_nI h (by omega)
theorem rc0 {ad ad8 : Nat → Nat} {cA cA8 : Nat → ClassId} {j : Nat} {w0 w8 v : va_W} {D : va_G} {tys : List (ClassId × FieldType)} {s : State} {A : Nat → Prop} {H0 H : Heap} {locs : List Loc} (hI : InvW ad cA ad8 cA8 j w0 w8) (hK : va_K D vwA tys s) (hH : MH D vwA A H0 (w0 ++ v) H locs) : ∃ cell : Cell, H[ad 0]? = some cell ∧ cell.vm.isStatics = false ∧ s.vm.findClass RX0 = some cell.cls := by
  obtain ⟨sA, ta, ba, na, gi, rh, rt, y_lies, a_nums, pl, F1, F2, F3, G1, G2, G3, T, M, V, t, im, tp, mk, bk, rfl, rfl, hcur, htf, hpo, hims, himc, hnum, htape, htpl, htabc, htabm, hmkb, hbkb⟩ := hI
  exact crecv hK hH.left 0 0 rfl rfl
theorem rc8 {ad ad8 : Nat → Nat} {cA cA8 : Nat → ClassId} {j : Nat} {w0 w8 v : va_W} {D : va_G} {tys : List (ClassId × FieldType)} {s : State} {A : Nat → Prop} {H0 H : Heap} {locs : List Loc} (hI : InvW ad cA ad8 cA8 j w0 w8) (hK : va_K D vwA tys s) (hH : MH D vwA A H0 (w8 ++ v) H locs) : ∃ cell : Cell, H[ad8 0]? = some cell ∧ cell.vm.isStatics = false ∧ s.vm.findClass RX8 = some cell.cls := by
  obtain ⟨sA, ta, ba, na, gi, rh, rt, y_lies, a_nums, pl, F1, F2, F3, G1, G2, G3, T, M, V, t, im, tp, mk, bk, rfl, rfl, hcur, htf, hpo, hims, himc, hnum, htape, htpl, htabc, htabm, hmkb, hbkb⟩ := hI
  exact crecv hK hH.left 0 8 rfl rfl
section LVF
variable {p : Program} {l : Launch} {e : Env} {R : Room} {s : State} {m : MethodId} {args : Array Value} {below : List Frame} {meth : Method} {c : Code} {H : Heap} {locs : List Loc} {cells slots : Nat} {Q : State → Prop}
variable {D : va_G} {cl : List vw_C} {A : Nat → Prop} {H0 : Heap} {tys : List (ClassId × FieldType)} {w v : va_W} {W' : va_W → Prop} {pc : Nat} {ls : Array Slot} {rest st0 : List Value}
variable {y : MethodName} {bytes cc : ByteArray} {maxL nL n index : Nat} {ret : Option FieldType} {rm : Room} {own C : String} {b : Addr} {As : List Value} {vo : Option Value} {lv : List (Nat × Value)} {E : EvT} {hh : List (Nat × Nat × Nat × Nat)}
theorem mxVWF (hX : CallFix p m c cc nL s args lw_all own) (hK : va_K D cl tys s) (hEv : EvOK E) (hE : E A s H0) (hH : MH D cl A H0 (w ++ v) H locs) (hM : MX l y (wsW_ y bytes maxL ret hh) rm D cl tys E (.ref b :: As) w W' vo) (hrc : ∃ cellB : Cell, H[b]? = some cellB ∧ cellB.vm.isStatics = false ∧ s.vm.findClass C = some cellB.cls)
    (hG : GoodIn lw_all (wsV own index C y (wsW_ y bytes maxL ret hh))) (hd : y.cls = C ∧ y.cls ≠ "java/lang/invoke/MethodHandle" ∧ y.cls ≠ "java/lang/invoke/VarHandle" ∧ (parseMethodDescriptor y.desc).map (fun d => d.parameters.length) = some n) (hR : rm.frames + 1 ≤ R.frames ∧ 8 + (maxL + 11) + rm.locals ≤ R.locals)
    (hn : As.length = n) (hst : st0 = As.reverse ++ .ref b :: rest) (hl : lv_has ls nL lv) (hW : (rest.map fun v => v.category).sum ≤ 8) (hdg : decode cc pc = .ok (.invokevirtual index, 3)) (hf : cells + rm.cells ≤ R.cells ∧ slots + rm.slots ≤ R.slots)
    (kk : ∀ (w' : va_W) (H1 : Heap) (locs1 : List Loc), W' w' → MH D cl A H0 (w' ++ v) H1 locs1 → W p l e R s m args below meth c H1 locs1 (cells + rm.cells) (slots + rm.slots) Q (F0 m (pc + 3) ls (vo.toList ++ rest))) : W p l e R s m args below meth c H locs cells slots Q (F0 m pc ls st0) :=
  mxRunF (vx_runVW hX (hM H.size) (vx_cwVW n hX.2.2.2.2 hG rfl rfl rfl hd hR) ⟨mPre_blind hEv, hrc, mxPre hK hEv hE hH.left⟩ rfl hn hl.1 hst (lv_room hW) hdg hf) hH kk
end LVF
