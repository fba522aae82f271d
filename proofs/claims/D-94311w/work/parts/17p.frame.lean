set_option maxRecDepth 100000
/-! a call whose contract speaks of a part of the world: the rest stays -/
section MXF
variable {p : Program} {l : Launch} {e : Env} {R : Room} {s : State} {m : MethodId} {args : Array Value} {below : List Frame} {meth : Method} {c : Code} {H : Heap} {locs : List Loc} {cells slots : Nat} {Q : State → Prop}
variable {D : va_G} {cl : List vw_C} {A : Nat → Prop} {H0 : Heap} {tys : List (ClassId × FieldType)} {w v : va_W} {W' : va_W → Prop} {pc : Nat} {ls : Array Slot} {rest st0 : List Value}
theorem fr_left {α : Type} {w v : List α} {k : Nat} {q : α} (h : w[k]? = some q) : (w ++ v)[k]? = some q := by
  rw [List.getElem?_append_left (List.getElem?_eq_some_iff.mp h).1]
  exact h
theorem fr_right {α : Type} {w v : List α} {k : Nat} {q : α} (h : v[k]? = some q) : (w ++ v)[w.length + k]? = some q := by
  rw [List.getElem?_append_right (Nat.le_add_right _ _), Nat.add_sub_cancel_left]
  exact h
theorem MH.left (hH : MH D cl A H0 (w ++ v) H locs) : MH D cl A H0 w H locs := by
  obtain ⟨hP, hD, hS, hA⟩ := hH
  exact ⟨fun k q hk => hP k q (fr_left hk), ⟨fun i j x y hx hy hxy => hD.1 i j x y (fr_left hx) (fr_left hy) hxy, fun k q hk => hD.2 k q (fr_left hk)⟩, hS, hA⟩
theorem mxRunF {mc ms : Nat} {a : Array Value} {vo : Option Value} (hr : va_Run p l e R s m args below meth c H locs cells slots mc ms (F0 m pc ls st0) rest (mQx D cl W' (va_A w H.size) vo a) (va_A w H.size)) (hH : MH D cl A H0 (w ++ v) H locs)
    (kk : ∀ (w' : va_W) (H1 : Heap) (locs1 : List Loc), W' w' → MH D cl A H0 (w' ++ v) H1 locs1 → W p l e R s m args below meth c H1 locs1 (cells + mc) (slots + ms) Q (F0 m (pc + 3) ls (vo.toList ++ rest))) : W p l e R s m args below meth c H locs cells slots Q (F0 m pc ls st0) := by
  have hf := hH.left.free
  have hPv : ∀ (k : Nat) (q : Nat × va_E), v[k]? = some q → va_at D cl q H := fun k q hk => hH.1 _ q (fr_right hk)
  have hap : ∀ (k : Nat) (q : Nat × va_E), v[k]? = some q → q.1 < H.size ∧ ¬ va_A w H.size q.1 := by
    intro k q hk
    have hl := (hPv k q hk).lt
    refine ⟨hl, fun h => ?_⟩
    rcases h with ⟨k2, x, h⟩ | h
    · have h1 := hH.2.1.1 _ _ (q.1, x) q (fr_left h) (fr_right hk) rfl
      have h2 := (List.getElem?_eq_some_iff.mp h).1
      omega
    · omega
  obtain ⟨hP, hD, hS, hA⟩ := hH
  intro T hT X
  obtain ⟨v1, st₀, t, T', L, h0, X', hL, e1, e2, ⟨⟨hv, w', hw, hP1, hD1⟩, hz, hk⟩, st⟩ := hr T hT X
  cases hv
  rw [h0] at hz hk
  have hPn : va_P D cl (w' ++ v) T'.heap := va_P.app (by rw [e1]; exact hP1) (fun k q hq => by
    obtain ⟨g1, g2⟩ := hap k q hq
    rw [e1]
    exact (hPv k q hq).kept (hk q.1 g1 g2))
  have hDn : va_D A (w' ++ v) := va_D.app (hD1.weaken (fun _ _ _ h => hf _ h)) ⟨fun i j x y hx hy hxy => by
    have := hD.1 _ _ x y (fr_right hx) (fr_right hy) hxy
    omega, fun k q hq => hD.2 _ q (fr_right hq)⟩ (fun i j x y hx hy hxy => (hap j y hy).2 (by rw [← hxy]; exact hD1.2 i x hx))
  obtain ⟨t2, a1, b1⟩ := kk w' T'.heap (locs ++ L) hw ⟨hPn, hDn,
    ⟨Nat.le_trans hS.1 (by rw [e1]; exact hz), fun q h1 h2 => by rw [e1, hk q (Nat.lt_of_lt_of_le h1 hS.1) (fun z => h2 (hf q z))]; exact hS.2.1 q h1 h2, fun q hq => by
      rcases List.mem_append.mp hq with h | h
      · exact hS.2.2 q h
      · exact hf _ (hL q h)⟩, hA⟩ T' rfl X'
  exact ⟨t2, st t2 a1, b1⟩
variable {y : MethodName} {bytes cc : ByteArray} {maxL nL n index : Nat} {ret : Option FieldType} {rm : Room} {own C host : String} {b : Addr} {As : List Value} {vo : Option Value} {lv : List (Nat × Value)} {E : EvT}
theorem mxVF (hX : CallFix p m c cc nL s args lw_all own) (hK : va_K D cl tys s) (hEv : EvOK E) (hE : E A s H0) (hH : MH D cl A H0 (w ++ v) H locs) (hM : MX l y (ws_ y bytes maxL ret) rm D cl tys E (.ref b :: As) w W' vo) (hrc : ∃ cellB : Cell, H[b]? = some cellB ∧ cellB.vm.isStatics = false ∧ s.vm.findClass C = some cellB.cls)
    (hG : GoodIn lw_all (wsV own index C y (ws_ y bytes maxL ret))) (hd : y.cls = C ∧ y.cls ≠ "java/lang/invoke/MethodHandle" ∧ y.cls ≠ "java/lang/invoke/VarHandle" ∧ (parseMethodDescriptor y.desc).map (fun d => d.parameters.length) = some n) (hR : rm.frames + 1 ≤ R.frames ∧ 8 + (maxL + 11) + rm.locals ≤ R.locals)
    (hn : As.length = n) (hst : st0 = As.reverse ++ .ref b :: rest) (hl : lv_has ls nL lv) (hW : (rest.map fun v => v.category).sum ≤ 8) (hdg : decode cc pc = .ok (.invokevirtual index, 3)) (hf : cells + rm.cells ≤ R.cells ∧ slots + rm.slots ≤ R.slots)
    (kk : ∀ (w' : va_W) (H1 : Heap) (locs1 : List Loc), W' w' → MH D cl A H0 (w' ++ v) H1 locs1 → W p l e R s m args below meth c H1 locs1 (cells + rm.cells) (slots + rm.slots) Q (F0 m (pc + 3) ls (vo.toList ++ rest))) : W p l e R s m args below meth c H locs cells slots Q (F0 m pc ls st0) :=
  mxRunF (va_runV hX (hM H.size) (cwV n hX.2.2.2.2 hG rfl rfl rfl hd hR) ⟨mPre_blind hEv, hrc, mxPre hK hEv hE hH.left⟩ rfl hn hl.1 hst (lv_room hW) hdg hf) hH kk
theorem mxSF (hX : CallFix p m c cc nL s args lw_all own) (hK : va_K D cl tys s) (hEv : EvOK E) (hE : E A s H0) (hH : MH D cl A H0 (w ++ v) H locs) (hM : MX l y (ws_ y bytes maxL ret) rm D cl tys E As w W' vo)
    (hG : GoodIn lw_all (va_wsS own index y (ws_ y bytes maxL ret))) (hd : y.cls ≠ "java/lang/invoke/MethodHandle" ∧ y.cls ≠ "java/lang/invoke/VarHandle" ∧ (parseMethodDescriptor y.desc).map (fun d => d.parameters.length) = some n) (hR : rm.frames + 1 ≤ R.frames ∧ 8 + (maxL + 11) + rm.locals ≤ R.locals)
    (hn : As.length = n) (hst : st0 = As.reverse ++ rest) (hl : lv_has ls nL lv) (hW : (rest.map fun v => v.category).sum ≤ 8) (hdg : decode cc pc = .ok (.invokestatic index, 3)) (hf : cells + rm.cells ≤ R.cells ∧ slots + rm.slots ≤ R.slots)
    (kk : ∀ (w' : va_W) (H1 : Heap) (locs1 : List Loc), W' w' → MH D cl A H0 (w' ++ v) H1 locs1 → W p l e R s m args below meth c H1 locs1 (cells + rm.cells) (slots + rm.slots) Q (F0 m (pc + 3) ls (vo.toList ++ rest))) : W p l e R s m args below meth c H locs cells slots Q (F0 m pc ls st0) :=
  mxRunF (va_runS hX (hM H.size) (va_cwS n hX.2.2.2.2 hG rfl rfl rfl hd hR) ⟨mPre_blind hEv, mxPre hK hEv hE hH.left⟩ rfl hn hl.1 hst (lv_room hW) hdg hf) hH kk
end MXF
