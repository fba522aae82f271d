set_option maxRecDepth 100000
/-! facts: values that are references or null -/
theorem va_rf_oq (r : Option Nat) : va_rf r = .null ∨ ∃ a, va_rf r = .ref a := by
  cases r with
  | none => exact Or.inl rfl
  | some a => exact Or.inr ⟨a, rfl⟩
section QQ
variable {p : Program} {l : Launch} {e : Env} {R : Room} {s : State} {m : MethodId} {args : Array Value} {below : List Frame} {meth : Method} {c : Code} {H : Heap} {locs : List Loc} {cells slots : Nat} {Q : State → Prop}
variable {D : va_G} {A : Nat → Prop} {H0 : Heap} {pc : Nat} {ls : Array Slot} {rest st0 : List Value} {cc : ByteArray} {nL : Nat} {own : String} {lv lv' : List (Nat × Value)} {index : Nat}
theorem lv_aload_nq (hexec : p.tables.exec = Jvm.exec) (hb : c.code = cc) {k : Fin 4} {i : Nat} {r : Option Nat} (hdg : decode cc pc = .ok (.aload_n k, 1)) (hi : (k : Nat) = i) (hl : ls[i]? = some (.val (va_rf r))) (kk : W p l e R s m args below meth c H locs cells slots Q (F0 m (pc + 1) ls (va_rf r :: rest))) : W p l e R s m args below meth c H locs cells slots Q (F0 m pc ls rest) := by
  cases r with
  | none => exact lv_aload_nN hexec hb hdg hi hl kk
  | some a => exact lv_aload_n hexec hb hdg hi hl kk
theorem lv_astore_nq (hexec : p.tables.exec = Jvm.exec) (hb : c.code = cc) {k : Fin 4} {i : Nat} {r : Option Nat} (hdg : decode cc pc = .ok (.astore_n k, 1)) (hi : (k : Nat) = i) (h : lv_has ls nL lv) (hn : i < nL) (hl : (i, va_rf r) :: lv.filter (fun q => !(q.1 == i) && !(q.1 + 1 == i && q.2.category == 2)) = lv')
    (kk : ∀ ls' : Array Slot, lv_has ls' nL lv' → W p l e R s m args below meth c H locs cells slots Q (F0 m (pc + 1) ls' rest)) : W p l e R s m args below meth c H locs cells slots Q (F0 m pc ls (va_rf r :: rest)) := by
  cases r with
  | none => exact lv_astore_nN hexec hb hdg hi h hn hl kk
  | some a => exact lv_astore_n hexec hb hdg hi h hn hl kk
theorem va_rf_cat1 (r : Option Nat) : (va_rf r).category = 1 := by cases r <;> rfl
variable {cA : Nat → ClassId} {ra x0 tp : Nat} {size : Int32} {tape : Nat → Int32} {fw : va_W} {lo : va_W} {ta ba : Nat → Nat} {v_at v_begin v_token v_value v_open v_fault v_place : Int32} {u : Nat → Int32} {nb : Int32} {bo : Nat → FcT}
/-- the outer object, among the cells that stay -/
def OUT (cA : Nat → ClassId) (x0 tp : Nat) (tape : Nat → Int32) (fw : va_W) : Prop := (∃ fs : List Value, ((x0, .inr (0, fs)) : Nat × va_E) ∈ fw ∧ fs[2]? = some (.ref tp)) ∧ ((tp, .inl (cA 2, 400, .inl tape)) : Nat × va_E) ∈ fw
theorem RWP.out (hH : RHG (RWP cA ra x0 tp size tape fw lo ta ba v_at v_begin v_token v_value v_open v_fault v_place u nb bo) D A H0 H locs) : OUT cA x0 tp tape fw := by
  obtain ⟨w, ⟨nr, ns, nm, nn, mr, ms, mm, mb, cr, cs, cm, cb, fr, fs, fm, fb, g, rfl, hI⟩, hm⟩ := hH
  exact hI.2.2.2.2.2
/-- a new object, not begun yet, among the cells that stay -/
theorem rxNew {C : String} {T : u_T} {N ci : Nat} {fs : List Value} (hX : CallFix p m c cc nL s args lw_all own) (hK : va_K D vwA (cT cA) s) (hcl : (Cond.classLink own index C).before args s = true) (hinst : (Cond.instantiable C N).before args s = true) (hini : (Cond.initialized C).before args s = true) (hin : ∀ w ∈ u_ws C T N, w ∈ lw_all) (ty : Nat → FieldType) (hty : ∀ k, k < N → parseFieldDescriptor (T k).2.2.1 = some (ty k)) (hc : vwA[ci]? = some (C, T, N)) (hfs : ∀ j, j < N → defaultValue (ty j) = vp_V fs j) (hH : RHG (RWP cA ra x0 tp size tape fw lo ta ba v_at v_begin v_token v_value v_open v_fault v_place u nb bo) D A H0 H locs) (hcells : cells + 1 ≤ R.cells) (hslots : slots + N ≤ R.slots) (hdg : decode cc pc = .ok (.new index, 3))
    (kk : ∀ (q : Nat) (H1 : Heap), RHG (RWP cA ra x0 tp size tape ((q, .inr (ci, fs)) :: fw) lo ta ba v_at v_begin v_token v_value v_open v_fault v_place u nb bo) D A H0 H1 locs → W p l e R s m args below meth c H1 locs (cells + 1) (slots + N) Q (F0 m (pc + 3) ls (.ref q :: rest))) : W p l e R s m args below meth c H locs cells slots Q (F0 m pc ls rest) := by
  obtain ⟨w, ⟨nr, ns, nm, nn, mr, ms, mm, mb, cr, cs, cm, cb, fr, fs', fm, fb, g, rfl, hI⟩, hm⟩ := hH
  refine va_new (ci := ci) (fs := fs) (C := C) (T := T) (N := N) hX.1 hX.2.1 hX.2.2.2.2 hin ty hty hX.2.2.2.1 hcl hinst hini hK hm.1 hm.2.1 hm.2.2.1 hm.2.2.2 hc hfs hcells hslots hdg (fun q H hP hD hS => kk q H ⟨_, ⟨nr, ns, nm, nn, mr, ms, mm, mb, cr, cs, cm, cb, fr, fs', fm, fb, g, rfl, ?_⟩, ?_⟩)
  · obtain ⟨a1, a2, a3, a4, a5, ⟨ofs, o1, o2⟩, o3⟩ := hI
    exact ⟨a1, a2, a3, a4, a5, ⟨ofs, List.mem_cons_of_mem _ o1, o2⟩, List.mem_cons_of_mem _ o3⟩
  · refine MH.perm ?_ (show MH D vwA A H0 _ H locs from ⟨hP, hD, hS, hm.2.2.2⟩)
    rw [List.append_assoc, List.append_assoc, List.append_assoc]
    exact List.Perm.append_left _ (List.Perm.append_left _ (List.Perm.append_left _ List.perm_append_comm))
/-- the constructor of the new object; then it's among the reader's own cells -/
theorem rxInit {y : MethodName} {bytes : ByteArray} {maxL n : Nat} {rm : Room} {As : List Value} {E : EvT} {c0 c1 : Nat × va_E} (hX : CallFix p m c cc nL s args lw_all own) (hK : va_K D vwA (cT cA) s) (hEv : EvOK E) (hE : E A s H0) (hO : OUT cA x0 tp tape fw) (hH : RHG (RWP cA ra x0 tp size tape (c0 :: fw) lo ta ba v_at v_begin v_token v_value v_open v_fault v_place u nb bo) D A H0 H locs)
    (hM : ∀ lo' : va_W, MX l y (ws_ y bytes maxL none) rm D vwA (cT cA) E (.ref c0.1 :: As) ([c0] ++ lo') (fun z => z = [c1] ++ lo') none)
    (hcode : Cond.code y bytes maxL none ∈ lw_all) (hini : Cond.initialized y.cls ∈ lw_all) (hlk : Cond.methodLink own index y ∈ lw_all) (hins : Cond.instanceMethod y ∈ lw_all) (hy1 : y.name = "<init>") (hd : y.cls ≠ "java/lang/invoke/MethodHandle" ∧ y.cls ≠ "java/lang/invoke/VarHandle" ∧ (parseMethodDescriptor y.desc).map (fun d => d.parameters.length) = some n) (hR : rm.frames + 1 ≤ R.frames ∧ 8 + (maxL + 11) + rm.locals ≤ R.locals)
    (hn : As.length = n) (hst : st0 = As.reverse ++ .ref c0.1 :: rest) (hl : lv_has ls nL lv) (hW : (rest.map fun v => v.category).sum ≤ 8) (hdg : decode cc pc = .ok (.invokespecial index, 3)) (hf : cells + rm.cells ≤ R.cells ∧ slots + rm.slots ≤ R.slots)
    (kk : ∀ (H1 : Heap) (locs1 : List Loc), RHG (RWP cA ra x0 tp size tape fw (c1 :: lo) ta ba v_at v_begin v_token v_value v_open v_fault v_place u nb bo) D A H0 H1 locs1 → W p l e R s m args below meth c H1 locs1 (cells + rm.cells) (slots + rm.slots) Q (F0 m (pc + 3) ls rest)) : W p l e R s m args below meth c H locs cells slots Q (F0 m pc ls st0) := by
  obtain ⟨w, ⟨nr, ns, nm, nn, mr, ms, mm, mb, cr, cs, cm, cb, fr, fs', fm, fb, g, rfl, hI⟩, hm⟩ := hH
  have e : ∀ (x : Nat × va_E) (h r a b : va_W), (h ++ (r ++ (a ++ (x :: b)))).Perm ([x] ++ (h ++ (r ++ (a ++ b)))) := fun x h r a b => by
    have : ∀ l1 l2 : va_W, (l1 ++ x :: l2).Perm ([x] ++ (l1 ++ l2)) := fun l1 l2 => List.perm_middle
    have h1 := this (h ++ (r ++ a)) b
    rw [List.append_assoc, List.append_assoc, List.append_assoc, List.append_assoc] at h1
    exact h1
  have hm := hm.perm (e c0 _ _ _ _)
  refine mxCI hX hK hEv hE hm (hM _) hcode hini hlk hins hy1 hd hR hn hst hl hW hdg hf (fun w1 H1 locs1 hw1 hm1 => ?_)
  subst hw1
  refine kk H1 locs1 ⟨_, ⟨nr, ns, nm, nn, mr, ms, mm, mb, cr, cs, cm, cb, fr, fs', fm, fb, g, rfl, ?_⟩, ?_⟩
  · obtain ⟨a1, ⟨b1, b2, b3, b4, b5, b6, b7⟩, a3, a4, a5, -⟩ := hI
    exact ⟨a1, ⟨b1, b2, b3, b4, b5, b6, fun i hi => (b7 i hi).mono (fun q hq => List.mem_cons_of_mem _ hq)⟩, a3, fun i hi => List.mem_cons_of_mem _ (a4 i hi), fun i hi => List.mem_cons_of_mem _ (a5 i hi), hO⟩
  · refine hm1.perm ?_
    have h2 : ∀ (x : Nat × va_E) (h r b : va_W), ([x] ++ (h ++ (r ++ b))).Perm (h ++ (r ++ (x :: b))) := fun x h r b => by
      have : ∀ l1 l2 : va_W, (l1 ++ x :: l2).Perm ([x] ++ (l1 ++ l2)) := fun l1 l2 => List.perm_middle
      have h1 := this (h ++ r) b
      rw [List.append_assoc, List.append_assoc] at h1
      exact h1.symm
    exact h2 _ _ _ _
/-- the contract of fact, all, some: what they answer is a fact that is held -/
def FactC (l : Launch) (D : va_G) (cA : Nat → ClassId) (E : EvT) (y : MethodName) (ws : List Cond) (rm : Nat → Room) (size : Int32) (tape : Nat → Int32) (F : FaF) : Prop :=
  ∀ (ra x0 tp : Nat) (fw lo : va_W) (ta ba : Nat → Nat) (v_at v_begin v_token v_value v_open v_fault v_place : Int32) (u : Nat → Int32) (nb : Int32) (bo : Nat → FcT) (o : FcT) (r_at r_begin r_token r_value r_open r_fault r_place : Int32) (k : Nat), F v_at v_begin v_token v_value v_open v_fault v_place = some (o, r_at, r_begin, r_token, r_value, r_open, r_fault, r_place, k) → ∀ w, (RWP cA ra x0 tp size tape fw lo ta ba v_at v_begin v_token v_value v_open v_fault v_place u nb bo) w →
    MR l y ws (rm k) D vwA (cT cA) E [.ref ra] w (fun v z => ∃ (r : Option Nat) (lo' : va_W), v = some (va_rf r) ∧ (∀ q ∈ lo, q ∈ lo') ∧ FactV lo' r o ∧ RWP cA ra x0 tp size tape fw lo' ta ba r_at r_begin r_token r_value r_open r_fault r_place u nb bo z)
theorem rxF {y : MethodName} {bytes : ByteArray} {maxL : Nat} {ret : Option FieldType} {rm : Nat → Room} {E : EvT} {F : FaF} {o : FcT} {r_at r_begin r_token r_value r_open r_fault r_place : Int32} {k : Nat} (hX : CallFix p m c cc nL s args lw_all own) (hK : va_K D vwA (cT cA) s) (hEv : EvOK E) (hE : E A s H0) (hH : RHG (RWP cA ra x0 tp size tape fw lo ta ba v_at v_begin v_token v_value v_open v_fault v_place u nb bo) D A H0 H locs) (hM : FactC l D cA E y (ws_ y bytes maxL ret) rm size tape F) (hF : F v_at v_begin v_token v_value v_open v_fault v_place = some (o, r_at, r_begin, r_token, r_value, r_open, r_fault, r_place, k))
    (hG : GoodIn lw_all (wsV own index RX9 y (ws_ y bytes maxL ret))) (hd : y.cls = RX9 ∧ y.cls ≠ "java/lang/invoke/MethodHandle" ∧ y.cls ≠ "java/lang/invoke/VarHandle" ∧ (parseMethodDescriptor y.desc).map (fun d => d.parameters.length) = some 0) (hR : (rm k).frames + 1 ≤ R.frames ∧ 8 + (maxL + 11) + (rm k).locals ≤ R.locals)
    (hst : st0 = .ref ra :: rest) (hl : lv_has ls nL lv) (hW : (rest.map fun v => v.category).sum ≤ 8) (hdg : decode cc pc = .ok (.invokevirtual index, 3)) (hf : cells + (rm k).cells ≤ R.cells ∧ slots + (rm k).slots ≤ R.slots)
    (kk : ∀ (r : Option Nat) (lo' : va_W) (H1 : Heap) (locs1 : List Loc), (∀ q ∈ lo, q ∈ lo') → FactV lo' r o → RHG (RWP cA ra x0 tp size tape fw lo' ta ba r_at r_begin r_token r_value r_open r_fault r_place u nb bo) D A H0 H1 locs1 → W p l e R s m args below meth c H1 locs1 (cells + (rm k).cells) (slots + (rm k).slots) Q (F0 m (pc + 3) ls (va_rf r :: rest))) : W p l e R s m args below meth c H locs cells slots Q (F0 m pc ls st0) := by
  obtain ⟨w, hw, hm⟩ := hH
  obtain ⟨fs, h0⟩ := hw.rd0
  refine mrV hX hK hEv hE hm (hM ra x0 tp fw lo ta ba _ _ _ _ _ _ _ u nb bo o _ _ _ _ _ _ _ k hF w hw) (crecv hK hm 0 9 h0 rfl) hG hd hR rfl hst hl hW hdg hf (fun vo w1 H1 locs1 hw1 hm1 => ?_)
  obtain ⟨r, lo', rfl, h1, h2, h3⟩ := hw1
  exact kk r lo' H1 locs1 h1 h2 ⟨w1, h3, hm1⟩
theorem ch_mono {size : Int32} {tape : Nat → Int32} {n0 : Nat} {bs : Nat → Int32} {i : Int32} {rf : FaF} {o : FcT} {r_at r_begin r_token r_value r_open r_fault r_place : Int32} {k : Nat} : ∀ (n : Nat) (o2 : FcT) (v_at v_begin v_token v_value v_open v_fault v_place : Int32) (k2 : Nat), loopN (fun (s : FaR) => FX9_ch_b size tape n0 bs i rf s.1 s.2.1 s.2.2.1 s.2.2.2.1 s.2.2.2.2.1 s.2.2.2.2.2.1 s.2.2.2.2.2.2.1 s.2.2.2.2.2.2.2.1 s.2.2.2.2.2.2.2.2) n (o2, v_at, v_begin, v_token, v_value, v_open, v_fault, v_place, k2) = some (o, r_at, r_begin, r_token, r_value, r_open, r_fault, r_place, k) → k2 ≤ k := by
  intro n
  induction n with
  | zero => intro o2 v_at v_begin v_token v_value v_open v_fault v_place k2 h; exact absurd h loopN_zero
  | succ n ih =>
    intro o2 v_at v_begin v_token v_value v_open v_fault v_place k2 h
    obtain ⟨yy, hB, hY⟩ := loopN_succ h
    have hF : FX9_ch_b size tape n0 bs i rf o2 v_at v_begin v_token v_value v_open v_fault v_place k2 = some yy := hB
    unfold FX9_ch_b at hF
    obtain ⟨b, a1, a2, a3, a4, -, hF⟩ := bd5e hF
    split at hF
    · obtain rfl := Option.some.inj hF
      obtain ⟨-, -, -, -, -, -, -, -, h9⟩ := re9 (congrArg some (show _ = _ from hY))
      omega
    · obtain ⟨q2, b1, b2, b3, b4, b5, b6, b7, k3, -, hF⟩ := bd9e hF
      obtain rfl := Option.some.inj hF
      have := ih _ _ _ _ _ _ _ _ _ hY
      omega
end QQ

abbrev rm_X9_fact (d k : Nat) : Room := { frames := 20 + 3 * d, cells := k, slots := 3 * k, locals := 600 + 120 * d }
abbrev rm_X9_all (d k : Nat) : Room := { frames := 20 + 3 * d + 1, cells := k, slots := 3 * k, locals := 600 + 120 * d + 40 }
abbrev rm_X9_some (d k : Nat) : Room := { frames := 20 + 3 * d + 2, cells := k, slots := 3 * k, locals := 600 + 120 * d + 80 }
set_option maxHeartbeats 4000000 in
theorem met_X9_all {l : Launch} {D : va_G} {cA : Nat → ClassId} {size : Int32} {tape : Nat → Int32} {E : EvT} {ks vs : Nat → Nat} {fo mi : Nat} (hE : EvR E ks vs fo mi) (d : Nat) {rf : FaF} (hrf : FactC l D cA E yX9_fact (ws_ yX9_fact cX9_fact 2 (Option.some (Jvm.ClassFile.FieldType.object "StoneYear$Fact"))) (rm_X9_fact d) size tape rf) : FactC l D cA E yX9_all (ws_ yX9_all cX9_all 2 (Option.some (Jvm.ClassFile.FieldType.object "StoneYear$Fact"))) (rm_X9_all d) size tape (FX9_ch size tape 3 kb_247 1 rf) := by
  intro ra x0 tp fw lo ta ba v_at v_begin v_token v_value v_open v_fault v_place u nb bo o r_at r_begin r_token r_value r_open r_fault r_place k hF w hw
  refine MR.of (Or.inl ⟨_, rfl⟩) (by decide) (Nat.le_of_ble_eq_true rfl) ?_
  intro p e s m args below meth c Q A hX hK hE0 hname hret H locs ls hH hl
  have hX : CallFix p m c cX9_all 2 s args lw_all RX9 := hX
  have hx := hX.1
  have hb := hX.2.1
  have hown := hX.2.2.2.1
  have hts := hX.2.2.2.2
  have hEv := hE.1.1.1
  have hNW := hE.1.1.2.1 _ _ _ hE0
  have hl : lv_has ls 2 [(0, .ref ra)] := hl
  have hH : RHG (RWP cA ra x0 tp size tape fw lo ta ba v_at v_begin v_token v_value v_open v_fault v_place u nb bo) D A s.heap H locs := ⟨w, hw, hH⟩
  delta FX9_ch at hF
  obtain ⟨o1, x_at, x_begin, x_token, x_value, x_open, x_fault, x_place, k1, he, hF⟩ := bd9e hF
  obtain ⟨nn, en⟩ := loopC_some hF
  have hk1 := ch_mono nn o1 x_at x_begin x_token x_value x_open x_fault x_place k1 en
  have loop : ∀ (n : Nat) (o2 : FcT) (z_at z_begin z_token z_value z_open z_fault z_place : Int32) (k2 : Nat) (r : Option Nat) (lo2 : va_W), loopN (fun (s : FaR) => FX9_ch_b size tape 3 kb_247 1 rf s.1 s.2.1 s.2.2.1 s.2.2.2.1 s.2.2.2.2.1 s.2.2.2.2.2.1 s.2.2.2.2.2.2.1 s.2.2.2.2.2.2.2.1 s.2.2.2.2.2.2.2.2) n (o2, z_at, z_begin, z_token, z_value, z_open, z_fault, z_place, k2) = some (o, r_at, r_begin, r_token, r_value, r_open, r_fault, r_place, k) → ∀ (H : Heap) (locs : List Loc) (ls : Array Slot), (∀ q ∈ lo, q ∈ lo2) → FactV lo2 r o2 → RHG (RWP cA ra x0 tp size tape fw lo2 ta ba z_at z_begin z_token z_value z_open z_fault z_place u nb bo) D A s.heap H locs → lv_has ls 2 [(1, va_rf r), (0, .ref ra)] → W p l e (rm_X9_all d k) s m args below meth c H locs k2 (3 * k2) Q (F0 m 5 ls []) := by
    intro n
    induction n with
    | zero => intro o2 z_at z_begin z_token z_value z_open z_fault z_place k2 r lo2 hN; exact absurd hN loopN_zero
    | succ n ih =>
      intro o2 z_at z_begin z_token z_value z_open z_fault z_place k2 r lo2 hN H locs ls hlo hfv hH hl
      have hk2 := ch_mono (n + 1) o2 z_at z_begin z_token z_value z_open z_fault z_place k2 hN
      obtain ⟨yy, hB, hY⟩ := loopN_succ hN
      have hF : FX9_ch_b size tape 3 kb_247 1 rf o2 z_at z_begin z_token z_value z_open z_fault z_place k2 = some yy := hB
      delta FX9_ch_b at hF
      obtain ⟨b, a_at, a_begin, a_token, a_value, he, hF⟩ := bd5e hF
      refine lv_aload_n hx hb dX9_all_5 rfl (lv_at hl 1 rfl) ?_
      refine va_ldcS (tx := "and") hx hb hown (hE.r247 _ _ _ hE0) dX9_all_6 ?_
      refine rxV hX hK hEv hE0 hH (met_X9_takes hE hE.s247 he) (lw_V q792 q794 qs17 q143 q795) (n := 1) ⟨rfl, by decide, by decide, by decide +kernel⟩ ⟨Nat.le_trans (m := 20) (Nat.le_of_ble_eq_true rfl) (by dsimp only; omega), Nat.le_trans (m := 600) (Nat.le_of_ble_eq_true rfl) (by dsimp only; omega)⟩ rfl rfl hl (Nat.le_of_ble_eq_true rfl) dX9_all_8 ⟨by dsimp only; omega, by dsimp only; omega⟩ (fun H locs hH => ?_)
      refine lv_if_eq (tgt := 31) hx hb dX9_all_11 rfl (fun c9 => ?_) (fun c9 => ?_)
      · have hF := itp c9 hF
        obtain rfl := Option.some.inj hF
        obtain ⟨h1, h2, h3, h4, h5, h6, h7, h8, h9⟩ := re9 (congrArg some (show _ = _ from hY))
        subst h1 h2 h3 h4 h5 h6 h7 h8 h9
        refine lv_aload_nq hx hb dX9_all_31 rfl (lv_at hl 0 rfl) ?_
        obtain ⟨w, hw, hm⟩ := hH
        exact hret (va_rf r) (va_rf_oq r) w _ _ _ _ ⟨r, lo2, rfl, hlo, hfv, hw⟩ hm dX9_all_32
      · have hF := itn c9 hF
        obtain ⟨q2, y_at, y_begin, y_token, y_value, y_open, y_fault, y_place, k3, he, hF⟩ := bd9e hF
        obtain rfl := Option.some.inj hF
        have hN2 : loopN (fun (s : FaR) => FX9_ch_b size tape 3 kb_247 1 rf s.1 s.2.1 s.2.2.1 s.2.2.2.1 s.2.2.2.2.1 s.2.2.2.2.2.1 s.2.2.2.2.2.2.1 s.2.2.2.2.2.2.2.1 s.2.2.2.2.2.2.2.2) n (bothO 1 o2 q2, y_at, y_begin, y_token, y_value, y_open, y_fault, y_place, k2 + 1 + k3) = some (o, r_at, r_begin, r_token, r_value, r_open, r_fault, r_place, k) := hY
        have hk3 := ch_mono n _ _ _ _ _ _ _ _ _ hN2
        have hO := RWP.out hH
        refine rxNew (ci := 16) (fs := [.int 0, .null, .null]) (C := RX18) (T := TX18) (N := 3) hX hK (hts _ q937) (hts _ q938) (hts _ q159) in_X18 tyX18 tyX18_ok rfl df_X18 hH (by dsimp only; omega) (by dsimp only; omega) dX9_all_14 (fun q9 H hH => ?_)
        refine lv_dup hx hb dX9_all_17 rfl ?_
        refine lv_iconst (v := 1) hx hb dX9_all_18 kyi_1 ?_
        refine lv_aload_nq hx hb dX9_all_19 rfl (lv_at hl 0 rfl) ?_
        refine lv_aload_n hx hb dX9_all_20 rfl (lv_at hl 1 rfl) ?_
        refine rxF hX hK hEv hE0 hH hrf he (lw_V q896 q898 qs24 q143 q899) ⟨rfl, by decide, by decide, by decide +kernel⟩ ⟨by dsimp only; omega, by dsimp only; omega⟩ rfl hl (by cases r <;> exact Nat.le_of_ble_eq_true rfl) dX9_all_21 ⟨by dsimp only; omega, by dsimp only; omega⟩ (fun r2 lo3 H locs hlo2 hfv2 hH => ?_)
        refine rxInit (c1 := (q9, .inr (16, [.int 1, va_rf r, va_rf r2]))) hX hK hEv hE0 hO hH (fun lo' => met_X18_init hE.1.1 ⟨by decide, by decide⟩) q941 q159 q939 q940 rfl hdi_yX18_init ⟨Nat.le_trans (m := 20) (Nat.le_of_ble_eq_true rfl) (by dsimp only; omega), Nat.le_trans (m := 600) (Nat.le_of_ble_eq_true rfl) (by dsimp only; omega)⟩ rfl rfl hl (Nat.le_of_ble_eq_true rfl) dX9_all_24 ⟨by dsimp only; omega, by dsimp only; omega⟩ (fun H locs hH => ?_)
        have hfv3 : FactV ((q9, .inr (16, [.int 1, va_rf r, va_rf r2])) :: lo3) (some q9) (bothO 1 o2 q2) := FactV.both List.mem_cons_self (hfv.mono (fun q hq => List.mem_cons_of_mem _ (hlo2 q hq))) (hfv2.mono (fun q hq => List.mem_cons_of_mem _ hq))
        refine lv_astore_nq (r := some q9) (lv' := [(1, va_rf (some q9)), (0, .ref ra)]) hx hb dX9_all_27 rfl hl (by decide) rfl (fun ls hl => ?_)
        refine lv_goto (tgt := 5) hx hb dX9_all_28 rfl ?_
        refine W.widen (k := k2 + 1 + k3) (n := 3 * (k2 + 1 + k3)) (by dsimp only; omega) (by dsimp only; omega) ?_
        exact ih _ _ _ _ _ _ _ _ _ (some q9) _ hN2 _ _ _ (fun q hq => List.mem_cons_of_mem _ (hlo2 q (hlo q hq))) hfv3 hH hl
  refine lv_aload_n hx hb dX9_all_0 rfl (lv_at hl 0 rfl) ?_
  refine rxF hX hK hEv hE0 hH hrf he (lw_V q896 q898 qs24 q143 q899) ⟨rfl, by decide, by decide, by decide +kernel⟩ ⟨by dsimp only; omega, by dsimp only; omega⟩ rfl hl (Nat.le_of_ble_eq_true rfl) dX9_all_1 ⟨by dsimp only; omega, by dsimp only; omega⟩ (fun r lo2 H locs hlo hfv hH => ?_)
  refine lv_astore_nq (r := r) (lv' := [(1, va_rf r), (0, .ref ra)]) hx hb dX9_all_4 rfl hl (by decide) rfl (fun ls hl => ?_)
  refine W.widen (k := k1) (n := 3 * k1) (by dsimp only; omega) (by dsimp only; omega) ?_
  exact loop nn o1 x_at x_begin x_token x_value x_open x_fault x_place k1 r lo2 en H locs ls hlo hfv hH hl
set_option maxHeartbeats 4000000 in
theorem met_X9_some {l : Launch} {D : va_G} {cA : Nat → ClassId} {size : Int32} {tape : Nat → Int32} {E : EvT} {ks vs : Nat → Nat} {fo mi : Nat} (hE : EvR E ks vs fo mi) (d : Nat) {rf : FaF} (hrf : FactC l D cA E yX9_all (ws_ yX9_all cX9_all 2 (Option.some (Jvm.ClassFile.FieldType.object "StoneYear$Fact"))) (rm_X9_all d) size tape rf) : FactC l D cA E yX9_some (ws_ yX9_some cX9_some 2 (Option.some (Jvm.ClassFile.FieldType.object "StoneYear$Fact"))) (rm_X9_some d) size tape (FX9_ch size tape 2 kb_237 0 rf) := by
  intro ra x0 tp fw lo ta ba v_at v_begin v_token v_value v_open v_fault v_place u nb bo o r_at r_begin r_token r_value r_open r_fault r_place k hF w hw
  refine MR.of (Or.inl ⟨_, rfl⟩) (by decide) (Nat.le_of_ble_eq_true rfl) ?_
  intro p e s m args below meth c Q A hX hK hE0 hname hret H locs ls hH hl
  have hX : CallFix p m c cX9_some 2 s args lw_all RX9 := hX
  have hx := hX.1
  have hb := hX.2.1
  have hown := hX.2.2.2.1
  have hts := hX.2.2.2.2
  have hEv := hE.1.1.1
  have hNW := hE.1.1.2.1 _ _ _ hE0
  have hl : lv_has ls 2 [(0, .ref ra)] := hl
  have hH : RHG (RWP cA ra x0 tp size tape fw lo ta ba v_at v_begin v_token v_value v_open v_fault v_place u nb bo) D A s.heap H locs := ⟨w, hw, hH⟩
  delta FX9_ch at hF
  obtain ⟨o1, x_at, x_begin, x_token, x_value, x_open, x_fault, x_place, k1, he, hF⟩ := bd9e hF
  obtain ⟨nn, en⟩ := loopC_some hF
  have hk1 := ch_mono nn o1 x_at x_begin x_token x_value x_open x_fault x_place k1 en
  have loop : ∀ (n : Nat) (o2 : FcT) (z_at z_begin z_token z_value z_open z_fault z_place : Int32) (k2 : Nat) (r : Option Nat) (lo2 : va_W), loopN (fun (s : FaR) => FX9_ch_b size tape 2 kb_237 0 rf s.1 s.2.1 s.2.2.1 s.2.2.2.1 s.2.2.2.2.1 s.2.2.2.2.2.1 s.2.2.2.2.2.2.1 s.2.2.2.2.2.2.2.1 s.2.2.2.2.2.2.2.2) n (o2, z_at, z_begin, z_token, z_value, z_open, z_fault, z_place, k2) = some (o, r_at, r_begin, r_token, r_value, r_open, r_fault, r_place, k) → ∀ (H : Heap) (locs : List Loc) (ls : Array Slot), (∀ q ∈ lo, q ∈ lo2) → FactV lo2 r o2 → RHG (RWP cA ra x0 tp size tape fw lo2 ta ba z_at z_begin z_token z_value z_open z_fault z_place u nb bo) D A s.heap H locs → lv_has ls 2 [(1, va_rf r), (0, .ref ra)] → W p l e (rm_X9_some d k) s m args below meth c H locs k2 (3 * k2) Q (F0 m 5 ls []) := by
    intro n
    induction n with
    | zero => intro o2 z_at z_begin z_token z_value z_open z_fault z_place k2 r lo2 hN; exact absurd hN loopN_zero
    | succ n ih =>
      intro o2 z_at z_begin z_token z_value z_open z_fault z_place k2 r lo2 hN H locs ls hlo hfv hH hl
      have hk2 := ch_mono (n + 1) o2 z_at z_begin z_token z_value z_open z_fault z_place k2 hN
      obtain ⟨yy, hB, hY⟩ := loopN_succ hN
      have hF : FX9_ch_b size tape 2 kb_237 0 rf o2 z_at z_begin z_token z_value z_open z_fault z_place k2 = some yy := hB
      delta FX9_ch_b at hF
      obtain ⟨b, a_at, a_begin, a_token, a_value, he, hF⟩ := bd5e hF
      refine lv_aload_n hx hb dX9_some_5 rfl (lv_at hl 1 rfl) ?_
      refine va_ldcS (tx := "or") hx hb hown (hE.r237 _ _ _ hE0) dX9_some_6 ?_
      refine rxV hX hK hEv hE0 hH (met_X9_takes hE hE.s237 he) (lw_V q792 q794 qs17 q143 q795) (n := 1) ⟨rfl, by decide, by decide, by decide +kernel⟩ ⟨Nat.le_trans (m := 20) (Nat.le_of_ble_eq_true rfl) (by dsimp only; omega), Nat.le_trans (m := 600) (Nat.le_of_ble_eq_true rfl) (by dsimp only; omega)⟩ rfl rfl hl (Nat.le_of_ble_eq_true rfl) dX9_some_8 ⟨by dsimp only; omega, by dsimp only; omega⟩ (fun H locs hH => ?_)
      refine lv_if_eq (tgt := 31) hx hb dX9_some_11 rfl (fun c9 => ?_) (fun c9 => ?_)
      · have hF := itp c9 hF
        obtain rfl := Option.some.inj hF
        obtain ⟨h1, h2, h3, h4, h5, h6, h7, h8, h9⟩ := re9 (congrArg some (show _ = _ from hY))
        subst h1 h2 h3 h4 h5 h6 h7 h8 h9
        refine lv_aload_nq hx hb dX9_some_31 rfl (lv_at hl 0 rfl) ?_
        obtain ⟨w, hw, hm⟩ := hH
        exact hret (va_rf r) (va_rf_oq r) w _ _ _ _ ⟨r, lo2, rfl, hlo, hfv, hw⟩ hm dX9_some_32
      · have hF := itn c9 hF
        obtain ⟨q2, y_at, y_begin, y_token, y_value, y_open, y_fault, y_place, k3, he, hF⟩ := bd9e hF
        obtain rfl := Option.some.inj hF
        have hN2 : loopN (fun (s : FaR) => FX9_ch_b size tape 2 kb_237 0 rf s.1 s.2.1 s.2.2.1 s.2.2.2.1 s.2.2.2.2.1 s.2.2.2.2.2.1 s.2.2.2.2.2.2.1 s.2.2.2.2.2.2.2.1 s.2.2.2.2.2.2.2.2) n (bothO 0 o2 q2, y_at, y_begin, y_token, y_value, y_open, y_fault, y_place, k2 + 1 + k3) = some (o, r_at, r_begin, r_token, r_value, r_open, r_fault, r_place, k) := hY
        have hk3 := ch_mono n _ _ _ _ _ _ _ _ _ hN2
        have hO := RWP.out hH
        refine rxNew (ci := 16) (fs := [.int 0, .null, .null]) (C := RX18) (T := TX18) (N := 3) hX hK (hts _ q937) (hts _ q938) (hts _ q159) in_X18 tyX18 tyX18_ok rfl df_X18 hH (by dsimp only; omega) (by dsimp only; omega) dX9_some_14 (fun q9 H hH => ?_)
        refine lv_dup hx hb dX9_some_17 rfl ?_
        refine lv_iconst (v := 0) hx hb dX9_some_18 kyi_0 ?_
        refine lv_aload_nq hx hb dX9_some_19 rfl (lv_at hl 0 rfl) ?_
        refine lv_aload_n hx hb dX9_some_20 rfl (lv_at hl 1 rfl) ?_
        refine rxF hX hK hEv hE0 hH hrf he (lw_V q892 q894 qs23 q143 q895) ⟨rfl, by decide, by decide, by decide +kernel⟩ ⟨by dsimp only; omega, by dsimp only; omega⟩ rfl hl (by cases r <;> exact Nat.le_of_ble_eq_true rfl) dX9_some_21 ⟨by dsimp only; omega, by dsimp only; omega⟩ (fun r2 lo3 H locs hlo2 hfv2 hH => ?_)
        refine rxInit (c1 := (q9, .inr (16, [.int 0, va_rf r, va_rf r2]))) hX hK hEv hE0 hO hH (fun lo' => met_X18_init hE.1.1 ⟨by decide, by decide⟩) q941 q159 q939 q940 rfl hdi_yX18_init ⟨Nat.le_trans (m := 20) (Nat.le_of_ble_eq_true rfl) (by dsimp only; omega), Nat.le_trans (m := 600) (Nat.le_of_ble_eq_true rfl) (by dsimp only; omega)⟩ rfl rfl hl (Nat.le_of_ble_eq_true rfl) dX9_some_24 ⟨by dsimp only; omega, by dsimp only; omega⟩ (fun H locs hH => ?_)
        have hfv3 : FactV ((q9, .inr (16, [.int 0, va_rf r, va_rf r2])) :: lo3) (some q9) (bothO 0 o2 q2) := FactV.both List.mem_cons_self (hfv.mono (fun q hq => List.mem_cons_of_mem _ (hlo2 q hq))) (hfv2.mono (fun q hq => List.mem_cons_of_mem _ hq))
        refine lv_astore_nq (r := some q9) (lv' := [(1, va_rf (some q9)), (0, .ref ra)]) hx hb dX9_some_27 rfl hl (by decide) rfl (fun ls hl => ?_)
        refine lv_goto (tgt := 5) hx hb dX9_some_28 rfl ?_
        refine W.widen (k := k2 + 1 + k3) (n := 3 * (k2 + 1 + k3)) (by dsimp only; omega) (by dsimp only; omega) ?_
        exact ih _ _ _ _ _ _ _ _ _ (some q9) _ hN2 _ _ _ (fun q hq => List.mem_cons_of_mem _ (hlo2 q (hlo q hq))) hfv3 hH hl
  refine lv_aload_n hx hb dX9_some_0 rfl (lv_at hl 0 rfl) ?_
  refine rxF hX hK hEv hE0 hH hrf he (lw_V q892 q894 qs23 q143 q895) ⟨rfl, by decide, by decide, by decide +kernel⟩ ⟨by dsimp only; omega, by dsimp only; omega⟩ rfl hl (Nat.le_of_ble_eq_true rfl) dX9_some_1 ⟨by dsimp only; omega, by dsimp only; omega⟩ (fun r lo2 H locs hlo hfv hH => ?_)
  refine lv_astore_nq (r := r) (lv' := [(1, va_rf r), (0, .ref ra)]) hx hb dX9_some_4 rfl hl (by decide) rfl (fun ls hl => ?_)
  refine W.widen (k := k1) (n := 3 * k1) (by dsimp only; omega) (by dsimp only; omega) ?_
  exact loop nn o1 x_at x_begin x_token x_value x_open x_fault x_place k1 r lo2 en H locs ls hlo hfv hH hl
theorem fq_k {size : Int32} {tape : Nat → Int32} {o o2 : FcT} {v_at v_begin v_token v_value v_open v_fault v_place : Int32} {r_at r_begin r_token r_value r_open r_fault r_place : Int32} {k k2 : Nat} (h : FX9_fact_q size tape o2 v_at v_begin v_token v_value v_open v_fault v_place k2 = some (o, r_at, r_begin, r_token, r_value, r_open, r_fault, r_place, k)) : k2 = k := by
  unfold FX9_fact_q at h
  split at h
  · obtain ⟨a1, a2, a3, a4, -, h⟩ := bd4e h
    exact (re9 h).2.2.2.2.2.2.2.2
  · exact (re9 h).2.2.2.2.2.2.2.2
theorem fp_k {size : Int32} {tape : Nat → Int32} {o o2 : FcT} {v_at v_begin v_token v_value v_open v_fault v_place : Int32} {r_at r_begin r_token r_value r_open r_fault r_place : Int32} {k k2 : Nat} (h : FX9_fact_p size tape o2 v_at v_begin v_token v_value v_open v_fault v_place k2 = some (o, r_at, r_begin, r_token, r_value, r_open, r_fault, r_place, k)) : k2 = k := by
  unfold FX9_fact_p at h
  split at h
  · split at h
    · exact fq_k h
    · obtain ⟨a1, a2, -, h⟩ := bd2e h
      exact fq_k h
  · exact fq_k h
theorem fn_k {size : Int32} {tape : Nat → Int32} {w lo hi v_at v_begin v_token v_value v_open v_fault v_place : Int32} {o : FcT} {r_at r_begin r_token r_value r_open r_fault r_place : Int32} {k : Nat} (h : FX9_fact_n size tape w lo hi v_at v_begin v_token v_value v_open v_fault v_place = some (o, r_at, r_begin, r_token, r_value, r_open, r_fault, r_place, k)) : k = 1 := by
  unfold FX9_fact_n at h
  obtain ⟨x, a1, a2, a3, a4, a5, a6, -, h⟩ := bd7e h
  obtain ⟨-, -, -, -, -, -, -, -, h9⟩ := re9 h
  exact h9.symm
theorem fh_k {size : Int32} {tape : Nat → Int32} {w lo v_at v_begin v_token v_value v_open v_fault v_place : Int32} {o : FcT} {r_at r_begin r_token r_value r_open r_fault r_place : Int32} {k : Nat} (h : FX9_fact_h size tape w lo v_at v_begin v_token v_value v_open v_fault v_place = some (o, r_at, r_begin, r_token, r_value, r_open, r_fault, r_place, k)) : k = 1 := by
  unfold FX9_fact_h at h
  split at h
  · exact fn_k h
  · split at h
    · exact fn_k h
    · split at h
      · split at h
        · exact fn_k h
        · exact fn_k h
      · exact fn_k h
theorem fa_k {size : Int32} {tape : Nat → Int32} {w v_at v_begin v_token v_value v_open v_fault v_place : Int32} {o : FcT} {r_at r_begin r_token r_value r_open r_fault r_place : Int32} {k : Nat} (h : FX9_fact_a size tape w v_at v_begin v_token v_value v_open v_fault v_place = some (o, r_at, r_begin, r_token, r_value, r_open, r_fault, r_place, k)) : k = 1 := by
  unfold FX9_fact_a at h
  split at h
  · exact fh_k h
  · exact fh_k h
set_option maxHeartbeats 4000000 in
theorem met_X9_fact_b {l : Launch} {D : va_G} {cA : Nat → ClassId} {size : Int32} {tape : Nat → Int32} {E : EvT} {ks vs : Nat → Nat} {fo mi : Nat} (hE : EvR E ks vs fo mi) (d : Nat) {rf : FaF} (hrf : FactC l D cA E yX9_fact (ws_ yX9_fact cX9_fact 2 (Option.some (Jvm.ClassFile.FieldType.object "StoneYear$Fact"))) (rm_X9_fact d) size tape rf) : FactC l D cA E yX9_fact (ws_ yX9_fact cX9_fact 2 (Option.some (Jvm.ClassFile.FieldType.object "StoneYear$Fact"))) (rm_X9_fact (d + 1)) size tape (FX9_fact_b size tape rf) := by
  have hsome : FactC l D cA E yX9_some (ws_ yX9_some cX9_some 2 (Option.some (Jvm.ClassFile.FieldType.object "StoneYear$Fact"))) (rm_X9_some d) size tape (FX9_some size tape rf) := met_X9_some hE d (rf := FX9_all size tape rf) (met_X9_all hE d hrf)
  intro ra x0 tp fw lo ta ba v_at v_begin v_token v_value v_open v_fault v_place u nb bo o r_at r_begin r_token r_value r_open r_fault r_place k hF w hw
  refine MR.of (Or.inl ⟨_, rfl⟩) (by decide) (Nat.le_of_ble_eq_true rfl) ?_
  intro p e s m args below meth c Q A hX hK hE0 hname hret H locs ls hH hl
  have hX : CallFix p m c cX9_fact 2 s args lw_all RX9 := hX
  have hx := hX.1
  have hb := hX.2.1
  have hown := hX.2.2.2.1
  have hts := hX.2.2.2.2
  have hEv := hE.1.1.1
  have hNW := hE.1.1.2.1 _ _ _ hE0
  have hl : lv_has ls 2 [(0, .ref ra)] := hl
  have hH : RHG (RWP cA ra x0 tp size tape fw lo ta ba v_at v_begin v_token v_value v_open v_fault v_place u nb bo) D A s.heap H locs := ⟨w, hw, hH⟩
  have e116 : ∀ (op : Int32) (r : Option Nat) (lo2 : va_W) (H : Heap) (locs : List Loc) (ls : Array Slot), op - 1 = r_open → (∀ q ∈ lo, q ∈ lo2) → FactV lo2 r o → RHG (RWP cA ra x0 tp size tape fw lo2 ta ba r_at r_begin r_token r_value op r_fault r_place u nb bo) D A s.heap H locs → lv_has ls 2 [(1, va_rf r), (0, .ref ra)] → W p l e (rm_X9_fact (d + 1) k) s m args below meth c H locs k (3 * k) Q (F0 m 116 ls []) := by
    intro op r lo2 H locs ls hop hlo hfv hH hl
    refine lv_aload_n hx hb dX9_fact_116 rfl (lv_at hl 1 rfl) ?_
    refine lv_dup hx hb dX9_fact_117 rfl ?_
    refine rg_open hX hK hH dX9_fact_118 ?_
    refine lv_iconst (v := 1) hx hb dX9_fact_121 kyi_1 ?_
    refine lv_isub hx hb dX9_fact_122 ?_
    rw [hop]
    refine rp_open hX hK hH dX9_fact_123 (fun H locs hH => ?_)
    refine lv_aload_nq hx hb dX9_fact_126 rfl (lv_at hl 0 rfl) ?_
    obtain ⟨w, hw, hm⟩ := hH
    exact hret (va_rf r) (va_rf_oq r) w _ _ _ _ ⟨r, lo2, rfl, hlo, hfv, hw⟩ hm dX9_fact_127
  have e36 : ∀ (op : Int32) (r : Option Nat) (lo2 : va_W) (H : Heap) (locs : List Loc) (ls : Array Slot), op - 1 = r_open → (∀ q ∈ lo, q ∈ lo2) → FactV lo2 r o → RHG (RWP cA ra x0 tp size tape fw lo2 ta ba r_at r_begin r_token r_value op r_fault r_place u nb bo) D A s.heap H locs → lv_has ls 2 [(1, va_rf r), (0, .ref ra)] → W p l e (rm_X9_fact (d + 1) k) s m args below meth c H locs k (3 * k) Q (F0 m 36 ls []) := by
    intro op r lo2 H locs ls hop hlo hfv hH hl
    refine lv_aload_n hx hb dX9_fact_36 rfl (lv_at hl 1 rfl) ?_
    refine lv_dup hx hb dX9_fact_37 rfl ?_
    refine rg_open hX hK hH dX9_fact_38 ?_
    refine lv_iconst (v := 1) hx hb dX9_fact_41 kyi_1 ?_
    refine lv_isub hx hb dX9_fact_42 ?_
    rw [hop]
    refine rp_open hX hK hH dX9_fact_43 (fun H locs hH => ?_)
    refine lv_aload_nq hx hb dX9_fact_46 rfl (lv_at hl 0 rfl) ?_
    obtain ⟨w, hw, hm⟩ := hH
    exact hret (va_rf r) (va_rf_oq r) w _ _ _ _ ⟨r, lo2, rfl, hlo, hfv, hw⟩ hm dX9_fact_47
  have q105 : ∀ (o2 : FcT) (z_at z_begin z_token z_value z_open z_fault z_place : Int32) (k2 : Nat) (r : Option Nat) (lo2 : va_W), FX9_fact_q size tape o2 z_at z_begin z_token z_value z_open z_fault z_place k2 = some (o, r_at, r_begin, r_token, r_value, r_open, r_fault, r_place, k) → ∀ (H : Heap) (locs : List Loc) (ls : Array Slot), (∀ q ∈ lo, q ∈ lo2) → FactV lo2 r o2 → RHG (RWP cA ra x0 tp size tape fw lo2 ta ba z_at z_begin z_token z_value z_open z_fault z_place u nb bo) D A s.heap H locs → lv_has ls 2 [(1, va_rf r), (0, .ref ra)] → W p l e (rm_X9_fact (d + 1) k) s m args below meth c H locs k2 (3 * k2) Q (F0 m 105 ls []) := by
    intro o2 z_at z_begin z_token z_value z_open z_fault z_place k2 r lo2 hF H locs ls hlo hfv hH hl
    delta FX9_fact_q at hF
    refine lv_aload_n hx hb dX9_fact_105 rfl (lv_at hl 1 rfl) ?_
    refine rg_fault hX hK hH dX9_fact_106 ?_
    refine lv_if_ne (tgt := 116) hx hb dX9_fact_109 rfl (fun c9 => ?_) (fun c9 => ?_)
    · have hF := itn c9 hF
      obtain ⟨h1, h2, h3, h4, h5, h6, h7, h8, h9⟩ := re9 hF
      subst h1 h2 h3 h4 h5 h6 h7 h8 h9
      exact e116 _ r lo2 H locs ls rfl hlo hfv hH hl
    · have hF := itp c9 hF
      obtain ⟨x_at, x_begin, x_token, x_value, he, hF⟩ := bd4e hF
      obtain ⟨h1, h2, h3, h4, h5, h6, h7, h8, h9⟩ := re9 hF
      subst h1 h2 h3 h4 h5 h6 h7 h8 h9
      refine lv_aload_n hx hb dX9_fact_112 rfl (lv_at hl 1 rfl) ?_
      refine rxV hX hK hEv hE0 hH (met_X9_next hE he) (lw_V q582 q584 qs1 q143 q585) (n := 0) ⟨rfl, by decide, by decide, by decide +kernel⟩ ⟨Nat.le_trans (m := 20) (Nat.le_of_ble_eq_true rfl) (by dsimp only; omega), Nat.le_trans (m := 600) (Nat.le_of_ble_eq_true rfl) (by dsimp only; omega)⟩ rfl rfl hl (Nat.le_of_ble_eq_true rfl) dX9_fact_113 ⟨by dsimp only; omega, by dsimp only; omega⟩ (fun H locs hH => ?_)
      exact e116 _ r lo2 H locs ls rfl hlo hfv hH hl
  have p84 : ∀ (o2 : FcT) (z_at z_begin z_token z_value z_open z_fault z_place : Int32) (k2 : Nat) (r : Option Nat) (lo2 : va_W), FX9_fact_p size tape o2 z_at z_begin z_token z_value z_open z_fault z_place k2 = some (o, r_at, r_begin, r_token, r_value, r_open, r_fault, r_place, k) → ∀ (H : Heap) (locs : List Loc) (ls : Array Slot), (∀ q ∈ lo, q ∈ lo2) → FactV lo2 r o2 → RHG (RWP cA ra x0 tp size tape fw lo2 ta ba z_at z_begin z_token z_value z_open z_fault z_place u nb bo) D A s.heap H locs → lv_has ls 2 [(1, va_rf r), (0, .ref ra)] → W p l e (rm_X9_fact (d + 1) k) s m args below meth c H locs k2 (3 * k2) Q (F0 m 84 ls []) := by
    intro o2 z_at z_begin z_token z_value z_open z_fault z_place k2 r lo2 hF H locs ls hlo hfv hH hl
    have hk2 := fp_k hF
    delta FX9_fact_p at hF
    refine lv_aload_n hx hb dX9_fact_84 rfl (lv_at hl 1 rfl) ?_
    refine rg_fault hX hK hH dX9_fact_85 ?_
    refine lv_if_ne (tgt := 105) hx hb dX9_fact_88 rfl (fun c9 => ?_) (fun c9 => ?_)
    · have hF := itn c9 hF
      exact q105 _ _ _ _ _ _ _ _ _ r lo2 hF H locs ls hlo hfv hH hl
    · have hF := itp c9 hF
      refine lv_aload_n hx hb dX9_fact_91 rfl (lv_at hl 1 rfl) ?_
      refine rg_token hX hK hH dX9_fact_92 ?_
      refine lv_bipush (v := 41) hx hb dX9_fact_95 kyb_41 ?_
      refine lv_icmp_eq (tgt := 105) hx hb dX9_fact_97 rfl (fun c8 => ?_) (fun c8 => ?_)
      · have hF := itp c8 hF
        exact q105 _ _ _ _ _ _ _ _ _ r lo2 hF H locs ls hlo hfv hH hl
      · have hF := itn c8 hF
        obtain ⟨x_fault, x_place, he, hF⟩ := bd2e hF
        refine lv_aload_n hx hb dX9_fact_100 rfl (lv_at hl 1 rfl) ?_
        refine lv_iconst (v := 2) hx hb dX9_fact_101 kyi_2 ?_
        refine rxV hX hK hEv hE0 hH (met_X9_wrong hE he) (lw_V q667 q669 qs9 q143 q670) (n := 1) ⟨rfl, by decide, by decide, by decide +kernel⟩ ⟨Nat.le_trans (m := 20) (Nat.le_of_ble_eq_true rfl) (by dsimp only; omega), Nat.le_trans (m := 600) (Nat.le_of_ble_eq_true rfl) (by dsimp only; omega)⟩ rfl rfl hl (Nat.le_of_ble_eq_true rfl) dX9_fact_102 ⟨by dsimp only; omega, by dsimp only; omega⟩ (fun H locs hH => ?_)
        exact q105 _ _ _ _ _ _ _ _ _ r lo2 hF H locs ls hlo hfv hH hl
  -- a question
  have n277 : ∀ (w0 low high z_at z_begin z_token z_value z_open z_fault z_place : Int32) (q9 : Nat), FX9_fact_n size tape w0 low high z_at z_begin z_token z_value z_open z_fault z_place = some (o, r_at, r_begin, r_token, r_value, r_open, r_fault, r_place, k) → OUT cA x0 tp tape fw → ∀ (H : Heap) (locs : List Loc) (ls : Array Slot), RHG (RWP cA ra x0 tp size tape ((q9, .inr (15, [.int 0, .int 0])) :: fw) lo ta ba z_at z_begin z_token z_value z_open z_fault z_place u nb bo) D A s.heap H locs → lv_has ls 2 [(1, .int w0), (0, .ref ra)] → W p l e (rm_X9_fact (d + 1) k) s m args below meth c H locs 1 2 Q (F0 m 277 ls [.int high, .int low, .ref ra, .int w0, .ref q9, .ref q9]) := by
    intro w0 low high z_at z_begin z_token z_value z_open z_fault z_place q9 hF hO H locs ls hH hl
    have hk := fn_k hF
    delta FX9_fact_n at hF
    obtain ⟨x, x_at, x_begin, x_token, x_value, x_fault, x_place, he, hF⟩ := bd7e hF
    obtain ⟨h1, h2, h3, h4, h5, h6, h7, h8, h9⟩ := re9 hF
    subst h1 h2 h3 h4 h5 h6 h7 h8 h9
    refine rxV hX hK hEv hE0 hH (met_X9_number hE he) (lw_V q671 q673 qs10 q143 q674) (n := 2) ⟨rfl, by decide, by decide, by decide +kernel⟩ ⟨Nat.le_trans (m := 20) (Nat.le_of_ble_eq_true rfl) (by dsimp only; omega), Nat.le_trans (m := 600) (Nat.le_of_ble_eq_true rfl) (by dsimp only; omega)⟩ rfl rfl hl (Nat.le_of_ble_eq_true rfl) dX9_fact_277 ⟨by dsimp only; omega, by dsimp only; omega⟩ (fun H locs hH => ?_)
    refine rxInit (c1 := (q9, .inr (15, [.int w0, .int x]))) hX hK hEv hE0 hO hH (fun lo' => met_X17_init hE.1.1) q927 q158 q925 q926 rfl hdi_yX17_init ⟨Nat.le_trans (m := 20) (Nat.le_of_ble_eq_true rfl) (by dsimp only; omega), Nat.le_trans (m := 600) (Nat.le_of_ble_eq_true rfl) (by dsimp only; omega)⟩ rfl rfl hl (Nat.le_of_ble_eq_true rfl) dX9_fact_280 ⟨by dsimp only; omega, by dsimp only; omega⟩ (fun H locs hH => ?_)
    refine W.widen (k := 1) (n := 3) (by dsimp only; omega) (by dsimp only; omega) ?_
    obtain ⟨w, hw, hm⟩ := hH
    exact hret (.ref q9) (Or.inr ⟨q9, rfl⟩) w _ _ _ _ ⟨some q9, _, rfl, fun q hq => List.mem_cons_of_mem _ hq, FactV.ask List.mem_cons_self, hw⟩ hm dX9_fact_283
  have h239 : ∀ (w0 low z_at z_begin z_token z_value z_open z_fault z_place : Int32) (q9 : Nat), FX9_fact_h size tape w0 low z_at z_begin z_token z_value z_open z_fault z_place = some (o, r_at, r_begin, r_token, r_value, r_open, r_fault, r_place, k) → OUT cA x0 tp tape fw → ∀ (H : Heap) (locs : List Loc) (ls : Array Slot), RHG (RWP cA ra x0 tp size tape ((q9, .inr (15, [.int 0, .int 0])) :: fw) lo ta ba z_at z_begin z_token z_value z_open z_fault z_place u nb bo) D A s.heap H locs → lv_has ls 2 [(1, .int w0), (0, .ref ra)] → W p l e (rm_X9_fact (d + 1) k) s m args below meth c H locs 1 2 Q (F0 m 239 ls [.int low, .ref ra, .int w0, .ref q9, .ref q9]) := by
    intro w0 low z_at z_begin z_token z_value z_open z_fault z_place q9 hF hO H locs ls hH hl
    delta FX9_fact_h at hF
    refine lv_iload_n hx hb dX9_fact_239 rfl (lv_at hl 0 rfl) ?_
    refine lv_if_ne (tgt := 248) hx hb dX9_fact_240 rfl (fun c9 => ?_) (fun c9 => ?_)
    · have hF := itn c9 hF
      refine lv_iload_n hx hb dX9_fact_248 rfl (lv_at hl 0 rfl) ?_
      refine lv_iconst (v := 1) hx hb dX9_fact_249 kyi_1 ?_
      refine lv_icmp_ne (tgt := 258) hx hb dX9_fact_250 rfl (fun c8 => ?_) (fun c8 => ?_)
      · have hF := itn c8 hF
        refine lv_iload_n hx hb dX9_fact_258 rfl (lv_at hl 0 rfl) ?_
        refine lv_iconst (v := 4) hx hb dX9_fact_259 kyi_4 ?_
        refine lv_icmp_ge (tgt := 267) hx hb dX9_fact_260 rfl (fun c7 => ?_) (fun c7 => ?_)
        · have hF := itp c7 hF
          refine lv_iload_n hx hb dX9_fact_267 rfl (lv_at hl 0 rfl) ?_
          refine lv_iconst (v := 4) hx hb dX9_fact_268 kyi_4 ?_
          refine lv_icmp_ne (tgt := 276) hx hb dX9_fact_269 rfl (fun c6 => ?_) (fun c6 => ?_)
          · have hF := itn c6 hF
            refine lv_iconst (v := 3) hx hb dX9_fact_276 kyi_3 ?_
            exact n277 _ _ _ _ _ _ _ _ _ _ q9 hF hO H locs ls hH hl
          · have hF := itp c6 hF
            refine lv_iconst (v := 2) hx hb dX9_fact_272 kyi_2 ?_
            refine lv_goto (tgt := 277) hx hb dX9_fact_273 rfl ?_
            exact n277 _ _ _ _ _ _ _ _ _ _ q9 hF hO H locs ls hH hl
        · have hF := itn c7 hF
          refine lv_iconst (v := 4) hx hb dX9_fact_263 kyi_4 ?_
          refine lv_goto (tgt := 277) hx hb dX9_fact_264 rfl ?_
          exact n277 _ _ _ _ _ _ _ _ _ _ q9 hF hO H locs ls hH hl
      · have hF := itp c8 hF
        refine lv_bipush (v := 9) hx hb dX9_fact_253 kyb_9 ?_
        refine lv_goto (tgt := 277) hx hb dX9_fact_255 rfl ?_
        exact n277 _ _ _ _ _ _ _ _ _ _ q9 hF hO H locs ls hH hl
    · have hF := itp c9 hF
      refine lv_bipush (v := 7) hx hb dX9_fact_243 kyb_7 ?_
      refine lv_goto (tgt := 277) hx hb dX9_fact_245 rfl ?_
      exact n277 _ _ _ _ _ _ _ _ _ _ q9 hF hO H locs ls hH hl
  have a223 : ∀ (w0 z_at z_begin z_token z_value z_open z_fault z_place : Int32), FX9_fact_a size tape w0 z_at z_begin z_token z_value z_open z_fault z_place = some (o, r_at, r_begin, r_token, r_value, r_open, r_fault, r_place, k) → ∀ (H : Heap) (locs : List Loc) (ls : Array Slot), RHG (RWP cA ra x0 tp size tape fw lo ta ba z_at z_begin z_token z_value z_open z_fault z_place u nb bo) D A s.heap H locs → lv_has ls 2 [(1, .int w0), (0, .ref ra)] → W p l e (rm_X9_fact (d + 1) k) s m args below meth c H locs 0 0 Q (F0 m 223 ls []) := by
    intro w0 z_at z_begin z_token z_value z_open z_fault z_place hF H locs ls hH hl
    have hk := fa_k hF
    have hO := RWP.out hH
    delta FX9_fact_a at hF
    refine rxNew (ci := 15) (fs := [.int 0, .int 0]) (C := RX17) (T := TX17) (N := 2) hX hK (hts _ q923) (hts _ q924) (hts _ q158) in_X17 tyX17 tyX17_ok rfl df_X17 hH (by dsimp only; omega) (by dsimp only; omega) dX9_fact_223 (fun q9 H hH => ?_)
    refine lv_dup hx hb dX9_fact_226 rfl ?_
    refine lv_iload_n hx hb dX9_fact_227 rfl (lv_at hl 0 rfl) ?_
    refine lv_aload_n hx hb dX9_fact_228 rfl (lv_at hl 1 rfl) ?_
    refine lv_iload_n hx hb dX9_fact_229 rfl (lv_at hl 0 rfl) ?_
    refine lv_iconst (v := 1) hx hb dX9_fact_230 kyi_1 ?_
    refine lv_icmp_ne (tgt := 238) hx hb dX9_fact_231 rfl (fun c9 => ?_) (fun c9 => ?_)
    · have hF := itn c9 hF
      refine lv_iconst (v := 0) hx hb dX9_fact_238 kyi_0 ?_
      exact h239 _ _ _ _ _ _ _ _ _ q9 hF hO H locs ls hH hl
    · have hF := itp c9 hF
      refine lv_iconst (v := 1) hx hb dX9_fact_234 kyi_1 ?_
      refine lv_goto (tgt := 239) hx hb dX9_fact_235 rfl ?_
      exact h239 _ _ _ _ _ _ _ _ _ q9 hF hO H locs ls hH hl
  have w212 : ∀ (w0 z_at z_begin z_token z_value z_open z_fault z_place : Int32), FX9_fact_w size tape w0 z_at z_begin z_token z_value z_open z_fault z_place = some (o, r_at, r_begin, r_token, r_value, r_open, r_fault, r_place, k) → ∀ (H : Heap) (locs : List Loc) (ls : Array Slot), RHG (RWP cA ra x0 tp size tape fw lo ta ba z_at z_begin z_token z_value z_open z_fault z_place u nb bo) D A s.heap H locs → lv_has ls 2 [(0, .ref ra)] → W p l e (rm_X9_fact (d + 1) k) s m args below meth c H locs 0 0 Q (F0 m 212 ls [.int w0]) := by
    intro w0 z_at z_begin z_token z_value z_open z_fault z_place hF H locs ls hH hl
    delta FX9_fact_w at hF
    refine lv_istore_n (lv' := [(1, .int w0), (0, .ref ra)]) hx hb dX9_fact_212 rfl hl (by decide) rfl (fun ls hl => ?_)
    refine lv_iload_n hx hb dX9_fact_213 rfl (lv_at hl 0 rfl) ?_
    refine lv_iconst (v := (-1)) hx hb dX9_fact_214 kyi_m1 ?_
    refine lv_icmp_ne (tgt := 223) hx hb dX9_fact_215 rfl (fun c9 => ?_) (fun c9 => ?_)
    · have hF := itn c9 hF
      exact a223 _ _ _ _ _ _ _ _ hF H locs ls hH hl
    · have hF := itp c9 hF
      obtain ⟨x_fault, x_place, he, hF⟩ := bd2e hF
      refine lv_aload_n hx hb dX9_fact_218 rfl (lv_at hl 1 rfl) ?_
      refine lv_iconst (v := 2) hx hb dX9_fact_219 kyi_2 ?_
      refine rxV hX hK hEv hE0 hH (met_X9_wrong hE he) (lw_V q667 q669 qs9 q143 q670) (n := 1) ⟨rfl, by decide, by decide, by decide +kernel⟩ ⟨Nat.le_trans (m := 20) (Nat.le_of_ble_eq_true rfl) (by dsimp only; omega), Nat.le_trans (m := 600) (Nat.le_of_ble_eq_true rfl) (by dsimp only; omega)⟩ rfl rfl hl (Nat.le_of_ble_eq_true rfl) dX9_fact_220 ⟨by dsimp only; omega, by dsimp only; omega⟩ (fun H locs hH => ?_)
      exact a223 _ _ _ _ _ _ _ _ hF H locs ls hH hl
  have t197 : ∀ (z_at z_begin z_token z_value z_open z_fault z_place : Int32), FX9_fact_t5 size tape z_at z_begin z_token z_value z_open z_fault z_place = some (o, r_at, r_begin, r_token, r_value, r_open, r_fault, r_place, k) → ∀ (H : Heap) (locs : List Loc) (ls : Array Slot), RHG (RWP cA ra x0 tp size tape fw lo ta ba z_at z_begin z_token z_value z_open z_fault z_place u nb bo) D A s.heap H locs → lv_has ls 2 [(0, .ref ra)] → W p l e (rm_X9_fact (d + 1) k) s m args below meth c H locs 0 0 Q (F0 m 197 ls []) := by
    intro z_at z_begin z_token z_value z_open z_fault z_place hF H locs ls hH hl
    delta FX9_fact_t5 at hF
    obtain ⟨b, x_at, x_begin, x_token, x_value, he, hF⟩ := bd5e hF
    refine lv_aload_n hx hb dX9_fact_197 rfl (lv_at hl 0 rfl) ?_
    refine va_ldcWS (tx := "full") hx hb hown (hE.r269 _ _ _ hE0) dX9_fact_198 ?_
    refine rxV hX hK hEv hE0 hH (met_X9_takes hE hE.s269 he) (lw_V q792 q794 qs17 q143 q795) (n := 1) ⟨rfl, by decide, by decide, by decide +kernel⟩ ⟨Nat.le_trans (m := 20) (Nat.le_of_ble_eq_true rfl) (by dsimp only; omega), Nat.le_trans (m := 600) (Nat.le_of_ble_eq_true rfl) (by dsimp only; omega)⟩ rfl rfl hl (Nat.le_of_ble_eq_true rfl) dX9_fact_201 ⟨by dsimp only; omega, by dsimp only; omega⟩ (fun H locs hH => ?_)
    refine lv_if_eq (tgt := 211) hx hb dX9_fact_204 rfl (fun c9 => ?_) (fun c9 => ?_)
    · have hF := itp c9 hF
      refine lv_iconst (v := (-1)) hx hb dX9_fact_211 kyi_m1 ?_
      exact w212 _ _ _ _ _ _ _ _ hF H locs ls hH hl
    · have hF := itn c9 hF
      refine lv_iconst (v := 5) hx hb dX9_fact_207 kyi_5 ?_
      refine lv_goto (tgt := 212) hx hb dX9_fact_208 rfl ?_
      exact w212 _ _ _ _ _ _ _ _ hF H locs ls hH hl
  have t183 : ∀ (z_at z_begin z_token z_value z_open z_fault z_place : Int32), FX9_fact_t4 size tape z_at z_begin z_token z_value z_open z_fault z_place = some (o, r_at, r_begin, r_token, r_value, r_open, r_fault, r_place, k) → ∀ (H : Heap) (locs : List Loc) (ls : Array Slot), RHG (RWP cA ra x0 tp size tape fw lo ta ba z_at z_begin z_token z_value z_open z_fault z_place u nb bo) D A s.heap H locs → lv_has ls 2 [(0, .ref ra)] → W p l e (rm_X9_fact (d + 1) k) s m args below meth c H locs 0 0 Q (F0 m 183 ls []) := by
    intro z_at z_begin z_token z_value z_open z_fault z_place hF H locs ls hH hl
    delta FX9_fact_t4 at hF
    obtain ⟨b, x_at, x_begin, x_token, x_value, he, hF⟩ := bd5e hF
    refine lv_aload_n hx hb dX9_fact_183 rfl (lv_at hl 0 rfl) ?_
    refine va_ldcWS (tx := "high") hx hb hown (hE.r268 _ _ _ hE0) dX9_fact_184 ?_
    refine rxV hX hK hEv hE0 hH (met_X9_takes hE hE.s268 he) (lw_V q792 q794 qs17 q143 q795) (n := 1) ⟨rfl, by decide, by decide, by decide +kernel⟩ ⟨Nat.le_trans (m := 20) (Nat.le_of_ble_eq_true rfl) (by dsimp only; omega), Nat.le_trans (m := 600) (Nat.le_of_ble_eq_true rfl) (by dsimp only; omega)⟩ rfl rfl hl (Nat.le_of_ble_eq_true rfl) dX9_fact_187 ⟨by dsimp only; omega, by dsimp only; omega⟩ (fun H locs hH => ?_)
    refine lv_if_eq (tgt := 197) hx hb dX9_fact_190 rfl (fun c9 => ?_) (fun c9 => ?_)
    · have hF := itp c9 hF
      exact t197 _ _ _ _ _ _ _ hF H locs ls hH hl
    · have hF := itn c9 hF
      refine lv_iconst (v := 4) hx hb dX9_fact_193 kyi_4 ?_
      refine lv_goto (tgt := 212) hx hb dX9_fact_194 rfl ?_
      exact w212 _ _ _ _ _ _ _ _ hF H locs ls hH hl
  have t169 : ∀ (z_at z_begin z_token z_value z_open z_fault z_place : Int32), FX9_fact_t3 size tape z_at z_begin z_token z_value z_open z_fault z_place = some (o, r_at, r_begin, r_token, r_value, r_open, r_fault, r_place, k) → ∀ (H : Heap) (locs : List Loc) (ls : Array Slot), RHG (RWP cA ra x0 tp size tape fw lo ta ba z_at z_begin z_token z_value z_open z_fault z_place u nb bo) D A s.heap H locs → lv_has ls 2 [(0, .ref ra)] → W p l e (rm_X9_fact (d + 1) k) s m args below meth c H locs 0 0 Q (F0 m 169 ls []) := by
    intro z_at z_begin z_token z_value z_open z_fault z_place hF H locs ls hH hl
    delta FX9_fact_t3 at hF
    obtain ⟨b, x_at, x_begin, x_token, x_value, he, hF⟩ := bd5e hF
    refine lv_aload_n hx hb dX9_fact_169 rfl (lv_at hl 0 rfl) ?_
    refine va_ldcWS (tx := "to") hx hb hown (hE.r266 _ _ _ hE0) dX9_fact_170 ?_
    refine rxV hX hK hEv hE0 hH (met_X9_takes hE hE.s266 he) (lw_V q792 q794 qs17 q143 q795) (n := 1) ⟨rfl, by decide, by decide, by decide +kernel⟩ ⟨Nat.le_trans (m := 20) (Nat.le_of_ble_eq_true rfl) (by dsimp only; omega), Nat.le_trans (m := 600) (Nat.le_of_ble_eq_true rfl) (by dsimp only; omega)⟩ rfl rfl hl (Nat.le_of_ble_eq_true rfl) dX9_fact_173 ⟨by dsimp only; omega, by dsimp only; omega⟩ (fun H locs hH => ?_)
    refine lv_if_eq (tgt := 183) hx hb dX9_fact_176 rfl (fun c9 => ?_) (fun c9 => ?_)
    · have hF := itp c9 hF
      exact t183 _ _ _ _ _ _ _ hF H locs ls hH hl
    · have hF := itn c9 hF
      refine lv_iconst (v := 3) hx hb dX9_fact_179 kyi_3 ?_
      refine lv_goto (tgt := 212) hx hb dX9_fact_180 rfl ?_
      exact w212 _ _ _ _ _ _ _ _ hF H locs ls hH hl
  have t155 : ∀ (z_at z_begin z_token z_value z_open z_fault z_place : Int32), FX9_fact_t2 size tape z_at z_begin z_token z_value z_open z_fault z_place = some (o, r_at, r_begin, r_token, r_value, r_open, r_fault, r_place, k) → ∀ (H : Heap) (locs : List Loc) (ls : Array Slot), RHG (RWP cA ra x0 tp size tape fw lo ta ba z_at z_begin z_token z_value z_open z_fault z_place u nb bo) D A s.heap H locs → lv_has ls 2 [(0, .ref ra)] → W p l e (rm_X9_fact (d + 1) k) s m args below meth c H locs 0 0 Q (F0 m 155 ls []) := by
    intro z_at z_begin z_token z_value z_open z_fault z_place hF H locs ls hH hl
    delta FX9_fact_t2 at hF
    obtain ⟨b, x_at, x_begin, x_token, x_value, he, hF⟩ := bd5e hF
    refine lv_aload_n hx hb dX9_fact_155 rfl (lv_at hl 0 rfl) ?_
    refine va_ldcWS (tx := "from") hx hb hown (hE.r264 _ _ _ hE0) dX9_fact_156 ?_
    refine rxV hX hK hEv hE0 hH (met_X9_takes hE hE.s264 he) (lw_V q792 q794 qs17 q143 q795) (n := 1) ⟨rfl, by decide, by decide, by decide +kernel⟩ ⟨Nat.le_trans (m := 20) (Nat.le_of_ble_eq_true rfl) (by dsimp only; omega), Nat.le_trans (m := 600) (Nat.le_of_ble_eq_true rfl) (by dsimp only; omega)⟩ rfl rfl hl (Nat.le_of_ble_eq_true rfl) dX9_fact_159 ⟨by dsimp only; omega, by dsimp only; omega⟩ (fun H locs hH => ?_)
    refine lv_if_eq (tgt := 169) hx hb dX9_fact_162 rfl (fun c9 => ?_) (fun c9 => ?_)
    · have hF := itp c9 hF
      exact t169 _ _ _ _ _ _ _ hF H locs ls hH hl
    · have hF := itn c9 hF
      refine lv_iconst (v := 2) hx hb dX9_fact_165 kyi_2 ?_
      refine lv_goto (tgt := 212) hx hb dX9_fact_166 rfl ?_
      exact w212 _ _ _ _ _ _ _ _ hF H locs ls hH hl
  have t142 : ∀ (z_at z_begin z_token z_value z_open z_fault z_place : Int32), FX9_fact_t1 size tape z_at z_begin z_token z_value z_open z_fault z_place = some (o, r_at, r_begin, r_token, r_value, r_open, r_fault, r_place, k) → ∀ (H : Heap) (locs : List Loc) (ls : Array Slot), RHG (RWP cA ra x0 tp size tape fw lo ta ba z_at z_begin z_token z_value z_open z_fault z_place u nb bo) D A s.heap H locs → lv_has ls 2 [(0, .ref ra)] → W p l e (rm_X9_fact (d + 1) k) s m args below meth c H locs 0 0 Q (F0 m 142 ls []) := by
    intro z_at z_begin z_token z_value z_open z_fault z_place hF H locs ls hH hl
    delta FX9_fact_t1 at hF
    obtain ⟨b, x_at, x_begin, x_token, x_value, he, hF⟩ := bd5e hF
    refine lv_aload_n hx hb dX9_fact_142 rfl (lv_at hl 0 rfl) ?_
    refine va_ldcS (tx := "size") hx hb hown (hE.r179 _ _ _ hE0) dX9_fact_143 ?_
    refine rxV hX hK hEv hE0 hH (met_X9_takes hE hE.s179 he) (lw_V q792 q794 qs17 q143 q795) (n := 1) ⟨rfl, by decide, by decide, by decide +kernel⟩ ⟨Nat.le_trans (m := 20) (Nat.le_of_ble_eq_true rfl) (by dsimp only; omega), Nat.le_trans (m := 600) (Nat.le_of_ble_eq_true rfl) (by dsimp only; omega)⟩ rfl rfl hl (Nat.le_of_ble_eq_true rfl) dX9_fact_145 ⟨by dsimp only; omega, by dsimp only; omega⟩ (fun H locs hH => ?_)
    refine lv_if_eq (tgt := 155) hx hb dX9_fact_148 rfl (fun c9 => ?_) (fun c9 => ?_)
    · have hF := itp c9 hF
      exact t155 _ _ _ _ _ _ _ hF H locs ls hH hl
    · have hF := itn c9 hF
      refine lv_iconst (v := 1) hx hb dX9_fact_151 kyi_1 ?_
      refine lv_goto (tgt := 212) hx hb dX9_fact_152 rfl ?_
      exact w212 _ _ _ _ _ _ _ _ hF H locs ls hH hl
  have t128 : ∀ (z_at z_begin z_token z_value z_open z_fault z_place : Int32), FX9_fact_t0 size tape z_at z_begin z_token z_value z_open z_fault z_place = some (o, r_at, r_begin, r_token, r_value, r_open, r_fault, r_place, k) → ∀ (H : Heap) (locs : List Loc) (ls : Array Slot), RHG (RWP cA ra x0 tp size tape fw lo ta ba z_at z_begin z_token z_value z_open z_fault z_place u nb bo) D A s.heap H locs → lv_has ls 2 [(0, .ref ra)] → W p l e (rm_X9_fact (d + 1) k) s m args below meth c H locs 0 0 Q (F0 m 128 ls []) := by
    intro z_at z_begin z_token z_value z_open z_fault z_place hF H locs ls hH hl
    delta FX9_fact_t0 at hF
    obtain ⟨b, x_at, x_begin, x_token, x_value, he, hF⟩ := bd5e hF
    refine lv_aload_n hx hb dX9_fact_128 rfl (lv_at hl 0 rfl) ?_
    refine va_ldcWS (tx := "sort") hx hb hown (hE.r262 _ _ _ hE0) dX9_fact_129 ?_
    refine rxV hX hK hEv hE0 hH (met_X9_takes hE hE.s262 he) (lw_V q792 q794 qs17 q143 q795) (n := 1) ⟨rfl, by decide, by decide, by decide +kernel⟩ ⟨Nat.le_trans (m := 20) (Nat.le_of_ble_eq_true rfl) (by dsimp only; omega), Nat.le_trans (m := 600) (Nat.le_of_ble_eq_true rfl) (by dsimp only; omega)⟩ rfl rfl hl (Nat.le_of_ble_eq_true rfl) dX9_fact_132 ⟨by dsimp only; omega, by dsimp only; omega⟩ (fun H locs hH => ?_)
    refine lv_if_eq (tgt := 142) hx hb dX9_fact_135 rfl (fun c9 => ?_) (fun c9 => ?_)
    · have hF := itp c9 hF
      exact t142 _ _ _ _ _ _ _ hF H locs ls hH hl
    · have hF := itn c9 hF
      refine lv_iconst (v := 0) hx hb dX9_fact_138 kyi_0 ?_
      refine lv_goto (tgt := 212) hx hb dX9_fact_139 rfl ?_
      exact w212 _ _ _ _ _ _ _ _ hF H locs ls hH hl
  delta FX9_fact_b at hF
  obtain ⟨b, he, hF⟩ := bd1e hF
  refine lv_aload_n hx hb dX9_fact_0 rfl (lv_at hl 0 rfl) ?_
  refine va_ldcS (tx := "not") hx hb hown (hE.r252 _ _ _ hE0) dX9_fact_1 ?_
  refine rxV hX hK hEv hE0 hH (met_X9_is hE hE.s252 he) (lw_V q608 q610 qs6 q143 q611) (n := 1) ⟨rfl, by decide, by decide, by decide +kernel⟩ ⟨Nat.le_trans (m := 20) (Nat.le_of_ble_eq_true rfl) (by dsimp only; omega), Nat.le_trans (m := 600) (Nat.le_of_ble_eq_true rfl) (by dsimp only; omega)⟩ rfl rfl hl (Nat.le_of_ble_eq_true rfl) dX9_fact_3 ⟨by dsimp only; omega, by dsimp only; omega⟩ (fun H locs hH => ?_)
  refine lv_if_eq (tgt := 48) hx hb dX9_fact_6 rfl (fun c9 => ?_) (fun c9 => ?_)
  · have hF := itp c9 hF
    refine lv_aload_n hx hb dX9_fact_48 rfl (lv_at hl 0 rfl) ?_
    refine rg_fault hX hK hH dX9_fact_49 ?_
    refine lv_if_ne (tgt := 128) hx hb dX9_fact_52 rfl (fun c8 => ?_) (fun c8 => ?_)
    · have hF := itn c8 hF
      exact t128 _ _ _ _ _ _ _ hF _ _ _ hH hl
    · have hF := itp c8 hF
      refine lv_aload_n hx hb dX9_fact_55 rfl (lv_at hl 0 rfl) ?_
      refine rg_token hX hK hH dX9_fact_56 ?_
      refine lv_bipush (v := 40) hx hb dX9_fact_59 kyb_40 ?_
      refine lv_icmp_ne (tgt := 128) hx hb dX9_fact_61 rfl (fun c7 => ?_) (fun c7 => ?_)
      · have hF := itn c7 hF
        exact t128 _ _ _ _ _ _ _ hF _ _ _ hH hl
      · have hF := itp c7 hF
        obtain ⟨x_at, x_begin, x_token, x_value, x_open, x_fault, x_place, he, hF⟩ := bd7e hF
        refine lv_aload_n hx hb dX9_fact_64 rfl (lv_at hl 0 rfl) ?_
        refine rxV hX hK hEv hE0 hH (met_X9_opens hE he) (lw_V q901 q903 qs25 q143 q904) (n := 0) ⟨rfl, by decide, by decide, by decide +kernel⟩ ⟨Nat.le_trans (m := 20) (Nat.le_of_ble_eq_true rfl) (by dsimp only; omega), Nat.le_trans (m := 600) (Nat.le_of_ble_eq_true rfl) (by dsimp only; omega)⟩ rfl rfl hl (Nat.le_of_ble_eq_true rfl) dX9_fact_65 ⟨by dsimp only; omega, by dsimp only; omega⟩ (fun H locs hH => ?_)
        refine lv_aload_n hx hb dX9_fact_68 rfl (lv_at hl 0 rfl) ?_
        refine rg_fault hX hK hH dX9_fact_69 ?_
        refine lv_if_ne (tgt := 82) hx hb dX9_fact_72 rfl (fun c6 => ?_) (fun c6 => ?_)
        · have hF := itn c6 hF
          refine lv_null hx hb dX9_fact_82 ?_
          refine lv_astore_nq (r := none) (lv' := [(1, va_rf none), (0, .ref ra)]) hx hb dX9_fact_83 rfl hl (by decide) rfl (fun ls hl => ?_)
          exact p84 none _ _ _ _ _ _ _ 0 none lo hF _ _ _ (fun q hq => hq) FactV.null hH hl
        · have hF := itp c6 hF
          obtain ⟨o1, y_at, y_begin, y_token, y_value, y_open, y_fault, y_place, k1, he, hF⟩ := bd9e hF
          have hk1 : k1 = k := fp_k hF
          refine lv_aload_n hx hb dX9_fact_75 rfl (lv_at hl 0 rfl) ?_
          refine rxF hX hK hEv hE0 hH hsome he (lw_V q888 q890 qs22 q143 q891) ⟨rfl, by decide, by decide, by decide +kernel⟩ ⟨by dsimp only; omega, by dsimp only; omega⟩ rfl hl (Nat.le_of_ble_eq_true rfl) dX9_fact_76 ⟨by dsimp only; omega, by dsimp only; omega⟩ (fun r lo2 H locs hlo hfv hH => ?_)
          refine lv_goto (tgt := 83) hx hb dX9_fact_79 rfl ?_
          refine lv_astore_nq (r := r) (lv' := [(1, va_rf r), (0, .ref ra)]) hx hb dX9_fact_83 rfl hl (by decide) rfl (fun ls hl => ?_)
          refine W.widen (k := k1) (n := 3 * k1) (by dsimp only; omega) (by dsimp only; omega) ?_
          exact p84 o1 _ _ _ _ _ _ _ k1 r lo2 hF _ _ _ hlo hfv hH hl
  · have hF := itn c9 hF
    obtain ⟨x_at, x_begin, x_token, x_value, x_open, x_fault, x_place, he, hF⟩ := bd7e hF
    refine lv_aload_n hx hb dX9_fact_9 rfl (lv_at hl 0 rfl) ?_
    refine rxV hX hK hEv hE0 hH (met_X9_opens hE he) (lw_V q901 q903 qs25 q143 q904) (n := 0) ⟨rfl, by decide, by decide, by decide +kernel⟩ ⟨Nat.le_trans (m := 20) (Nat.le_of_ble_eq_true rfl) (by dsimp only; omega), Nat.le_trans (m := 600) (Nat.le_of_ble_eq_true rfl) (by dsimp only; omega)⟩ rfl rfl hl (Nat.le_of_ble_eq_true rfl) dX9_fact_10 ⟨by dsimp only; omega, by dsimp only; omega⟩ (fun H locs hH => ?_)
    refine lv_aload_n hx hb dX9_fact_13 rfl (lv_at hl 0 rfl) ?_
    refine rg_fault hX hK hH dX9_fact_14 ?_
    refine lv_if_ne (tgt := 34) hx hb dX9_fact_17 rfl (fun c6 => ?_) (fun c6 => ?_)
    · have hF := itn c6 hF
      obtain ⟨h1, h2, h3, h4, h5, h6, h7, h8, h9⟩ := re9 hF
      subst h1 h2 h3 h4 h5 h6 h7 h8 h9
      refine lv_null hx hb dX9_fact_34 ?_
      refine lv_astore_nq (r := none) (lv' := [(1, va_rf none), (0, .ref ra)]) hx hb dX9_fact_35 rfl hl (by decide) rfl (fun ls hl => ?_)
      exact e36 _ none lo _ _ _ rfl (fun q hq => hq) FactV.null hH hl
    · have hF := itp c6 hF
      obtain ⟨o1, y_at, y_begin, y_token, y_value, y_open, y_fault, y_place, k1, he, hF⟩ := bd9e hF
      obtain ⟨h1, h2, h3, h4, h5, h6, h7, h8, h9⟩ := re9 hF
      subst h1 h2 h3 h4 h5 h6 h7 h8 h9
      have hO := RWP.out hH
      refine rxNew (ci := 14) (fs := [.null]) (C := RX16) (T := TX16) (N := 1) hX hK (hts _ q905) (hts _ q906) (hts _ q157) in_X16 tyX16 tyX16_ok rfl df_X16 hH (by dsimp only; omega) (by dsimp only; omega) dX9_fact_20 (fun q9 H hH => ?_)
      refine lv_dup hx hb dX9_fact_23 rfl ?_
      refine lv_aload_n hx hb dX9_fact_24 rfl (lv_at hl 0 rfl) ?_
      refine rxF hX hK hEv hE0 hH hrf he (lw_V q896 q898 qs24 q143 q899) ⟨rfl, by decide, by decide, by decide +kernel⟩ ⟨by dsimp only; omega, by dsimp only; omega⟩ rfl hl (Nat.le_of_ble_eq_true rfl) dX9_fact_25 ⟨by dsimp only; omega, by dsimp only; omega⟩ (fun r lo2 H locs hlo hfv hH => ?_)
      refine rxInit (c1 := (q9, .inr (14, [va_rf r]))) hX hK hEv hE0 hO hH (fun lo' => met_X16_init hE.1.1) q909 q157 q907 q908 rfl hdi_yX16_init ⟨Nat.le_trans (m := 20) (Nat.le_of_ble_eq_true rfl) (by dsimp only; omega), Nat.le_trans (m := 600) (Nat.le_of_ble_eq_true rfl) (by dsimp only; omega)⟩ rfl rfl hl (Nat.le_of_ble_eq_true rfl) dX9_fact_28 ⟨by dsimp only; omega, by dsimp only; omega⟩ (fun H locs hH => ?_)
      have hfv2 : FactV ((q9, .inr (14, [va_rf r])) :: lo2) (some q9) (notO o1) := FactV.not List.mem_cons_self (hfv.mono (fun q hq => List.mem_cons_of_mem _ hq))
      refine lv_goto (tgt := 35) hx hb dX9_fact_31 rfl ?_
      refine lv_astore_nq (r := some q9) (lv' := [(1, va_rf (some q9)), (0, .ref ra)]) hx hb dX9_fact_35 rfl hl (by decide) rfl (fun ls hl => ?_)
      refine W.widen (k := 1 + k1) (n := 3 * (1 + k1)) (by dsimp only; omega) (by dsimp only; omega) ?_
      exact e36 _ (some q9) _ _ _ _ rfl (fun q hq => List.mem_cons_of_mem _ (hlo q hq)) hfv2 hH hl
theorem met_X9_fact {l : Launch} {D : va_G} {cA : Nat → ClassId} {size : Int32} {tape : Nat → Int32} {E : EvT} {ks vs : Nat → Nat} {fo mi : Nat} (hE : EvR E ks vs fo mi) : ∀ d : Nat, FactC l D cA E yX9_fact (ws_ yX9_fact cX9_fact 2 (Option.some (Jvm.ClassFile.FieldType.object "StoneYear$Fact"))) (rm_X9_fact d) size tape (FX9_fact size tape d) := by
  intro d
  induction d with
  | zero => intro ra x0 tp fw lo ta ba v_at v_begin v_token v_value v_open v_fault v_place u nb bo o r_at r_begin r_token r_value r_open r_fault r_place k hF w hw; exact absurd hF (fun z => by cases z)
  | succ d ih => exact met_X9_fact_b hE d ih
