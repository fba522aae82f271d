set_option maxRecDepth 100000
abbrev EzR : Type := (Nat → Int32) × (Nat → Int32) × (Nat → Int64) × (Nat → Int64) × (Nat → Int32) × (Nat → Int64) × (Nat → Int64) × (Nat → Int32) × Int32 × Int32 × Int32 × Int32 × Int32 × (Nat → Int32)
noncomputable def FX0_eases_f (z : EzR) (v p1 p2 : Int32) : Option EzR :=
  bd1 (wrI 3 z.2.2.2.2.2.2.2.2.2.2.2.2.2 0 v) fun e1 => bd1 (wrI 3 e1 1 p1) fun e2 => bd1 (wrI 3 e2 2 p2) fun e3 => some (z.1, z.2.1, z.2.2.1, z.2.2.2.1, z.2.2.2.2.1, z.2.2.2.2.2.1, z.2.2.2.2.2.2.1, z.2.2.2.2.2.2.2.1, z.2.2.2.2.2.2.2.2.1, z.2.2.2.2.2.2.2.2.2.1, z.2.2.2.2.2.2.2.2.2.2.1, z.2.2.2.2.2.2.2.2.2.2.2.1, z.2.2.2.2.2.2.2.2.2.2.2.2.1, e3)
noncomputable def FX0_eases_g (z : EzR) (v p1 p2 : Int32) : Option EzR :=
  if v < 0 then some z else bd1 (rd 3 z.2.2.2.2.2.2.2.2.2.2.2.2.2 0) fun e0 => if e0 = (-1) then FX0_eases_f z v p1 p2 else if v < e0 then FX0_eases_f z v p1 p2 else some z
noncomputable def FX0_eases (t : Nat → Int32) (nb : Int32) (bv : Nat → BvT) (y_lies : Int64) (p1 p2 : Int32) (z : EzR) : Option EzR :=
  bd1 (FX0_exchanged t p1 p2) fun u => bd14 (FX0_seeks u z.1 z.2.1 z.2.2.1 z.2.2.2.1 z.2.2.2.2.1 z.2.2.2.2.2.1 z.2.2.2.2.2.2.1 z.2.2.2.2.2.2.2.1 z.2.2.2.2.2.2.2.2.2.2.2.1 z.2.2.2.2.2.2.2.2.2.2.2.2.1 nb bv y_lies (-1) (-1)) fun v y_tAt y_tMany y_sKeys y_sRow y_sSlots y_bKeys y_bRow y_bSlots y_sought y_tMoved y_tWithout y_sMany y_bMany => FX0_eases_g (y_tAt, y_tMany, y_sKeys, y_sRow, y_sSlots, y_bKeys, y_bRow, y_bSlots, y_sought, y_tMoved, y_tWithout, y_sMany, y_bMany, z.2.2.2.2.2.2.2.2.2.2.2.2.2) v p1 p2
noncomputable def FX0_easierQ (t : Nat → Int32) (nb : Int32) (bv : Nat → BvT) (y_lies : Int64) (p1 : Int32) : Nat → Int32 → EzR → Option EzR
  | 0, _, z => some z
  | d + 1, q, z => bd1 (FX0_isExchange t p1 q) fun b => if b2i b = 0 then FX0_easierQ t nb bv y_lies p1 d (q + 1) z else bd1 (FX0_eases t nb bv y_lies p1 q z) fun z2 => FX0_easierQ t nb bv y_lies p1 d (q + 1) z2
noncomputable def FX0_easierP (t : Nat → Int32) (nb : Int32) (bv : Nat → BvT) (y_lies : Int64) : Nat → Int32 → EzR → Option EzR
  | 0, _, z => some z
  | d + 1, q, z => bd1 (FX0_easierQ t nb bv y_lies q d (q + 1) z) fun z2 => FX0_easierP t nb bv y_lies d (q + 1) z2
noncomputable def FX0_easier_e (p1 : Int32) (z : EzR) : Option (Int32 × EzR) := bd1 (rd 3 z.2.2.2.2.2.2.2.2.2.2.2.2.2 1) fun e1 => if e1 = (-1) then some ((-1), z) else bd1 (rd 3 z.2.2.2.2.2.2.2.2.2.2.2.2.2 p1) fun e => some (e, z)
noncomputable def FX0_easier (t : Nat → Int32) (nb : Int32) (bv : Nat → BvT) (y_lies : Int64) (p1 : Int32) (z : EzR) : Option (Int32 × EzR) :=
  bd1 (FX0_in (Int32.toInt64 p1) 0 2) fun b => if b2i b = 0 then some ((-2), z)
  else bd14 (FX0_seeks t z.1 z.2.1 z.2.2.1 z.2.2.2.1 z.2.2.2.2.1 z.2.2.2.2.2.1 z.2.2.2.2.2.2.1 z.2.2.2.2.2.2.2.1 z.2.2.2.2.2.2.2.2.2.2.2.1 z.2.2.2.2.2.2.2.2.2.2.2.2.1 nb bv y_lies (-1) (-1)) fun v y_tAt y_tMany y_sKeys y_sRow y_sSlots y_bKeys y_bRow y_bSlots y_sought y_tMoved y_tWithout y_sMany y_bMany =>
  if v = (-4) then some ((-4), (y_tAt, y_tMany, y_sKeys, y_sRow, y_sSlots, y_bKeys, y_bRow, y_bSlots, y_sought, y_tMoved, y_tWithout, y_sMany, y_bMany, z.2.2.2.2.2.2.2.2.2.2.2.2.2))
  else bd1 (FX0_eases_f (y_tAt, y_tMany, y_sKeys, y_sRow, y_sSlots, y_bKeys, y_bRow, y_bSlots, y_sought, y_tMoved, y_tWithout, y_sMany, y_bMany, z.2.2.2.2.2.2.2.2.2.2.2.2.2) v (-1) (-1)) fun z2 => bd1 (FX0_easierP t nb bv y_lies 15 0 z2) fun z3 => FX0_easier_e p1 z3
theorem re2z {a b : Int32} {c d : EzR} (h : some (a, c) = some (b, d)) : a = b ∧ c = d := by cases h; exact ⟨rfl, rfl⟩
/-- the world, whatever the trial's town and the carrying are -/
def EZW (ad : Nat → Nat) (cA : Nat → ClassId) (sA ta ba na : Nat → Nat) (gi : Nat → Option Nat) (rh : Option Nat) (a_tape : Nat → Int32) (a_hAt : Nat → Int32) (a_hMany : Nat → Int32) (a_least : Nat → Int32) (a_place : Nat → Int32) (a_to : Nat → Int32) (a_order : Nat → Int32) (a_fails : Nat → Int32) (a_wants : Nat → Int32) (a_wantedBy : Nat → Int32) (a_ring : Nat → Int32) (a_carried : Nat → Int32) (a_latest : Nat → Int32) (v_taped : Int32) (v_faultKind : Int32) (v_faultPlace : Int32) (v_x : Int32) (v_ordered : Int32) (v_lastSought : Int32) (v_hMoved : Int32) (v_hWithout : Int32) (v_places : Int32) (v_elsewhere : Int32) (v_year : Int32) (y_lies : Int64) (a_rsort : Nat → Int32) (a_rmany : Nat → Int32) (a_nums : Nat → Nat → Int64) (z : EzR) (pl : va_W) (w : va_W) : Prop := ∃ (rt : Option Nat) (g_sort : Int32) (g_size : Int32) (g_from : Int32) (g_to : Int32) (g_level : Int32) (g_full : Int32), w = (cW ad cA sA ta ba na gi rh rt g_sort g_size g_from g_to g_level g_full a_tape a_hAt a_hMany z.1 z.2.1 a_least a_place a_to a_order a_fails z.2.2.1 z.2.2.2.1 z.2.2.2.2.1 z.2.2.2.2.2.1 z.2.2.2.2.2.2.1 z.2.2.2.2.2.2.2.1 z.2.2.2.2.2.2.2.2.2.2.2.2.2 a_wants a_wantedBy a_ring a_carried a_latest v_taped v_faultKind v_faultPlace v_x v_ordered z.2.2.2.2.2.2.2.2.1 v_lastSought v_hMoved v_hWithout z.2.2.2.2.2.2.2.2.2.1 z.2.2.2.2.2.2.2.2.2.2.1 v_places v_elsewhere z.2.2.2.2.2.2.2.2.2.2.2.1 z.2.2.2.2.2.2.2.2.2.2.2.2.1 v_year y_lies a_rsort a_rmany a_nums pl)
abbrev rm_X0_eases : Room := { frames := 300, cells := 36, slots := 443, locals := 7000 }
abbrev rm_X0_easier : Room := { frames := 330, cells := 3780, slots := 46515, locals := 8000 }
section RZE
variable {p : Program} {l : Launch} {e : Env} {R : Room} {s : State} {m : MethodId} {args : Array Value} {below : List Frame} {meth : Method} {c : Code} {H : Heap} {locs : List Loc} {cells slots : Nat} {Q : State → Prop}
variable {D : va_G} {A : Nat → Prop} {H0 : Heap} {pc : Nat} {ls : Array Slot} {rest : List Value} {cc : ByteArray} {nL : Nat} {own : String} {lv : List (Nat × Value)}
variable {ad : Nat → Nat} {cA : Nat → ClassId} {sA ta ba na : Nat → Nat} {gi : Nat → Option Nat} {rh : Option Nat} {rt : Option Nat} {g_sort : Int32} {g_size : Int32} {g_from : Int32} {g_to : Int32} {g_level : Int32} {g_full : Int32} {a_tape : Nat → Int32} {a_hAt : Nat → Int32} {a_hMany : Nat → Int32} {a_tAt : Nat → Int32} {a_tMany : Nat → Int32} {a_least : Nat → Int32} {a_place : Nat → Int32} {a_to : Nat → Int32} {a_order : Nat → Int32} {a_fails : Nat → Int32} {a_sKeys : Nat → Int64} {a_sRow : Nat → Int64} {a_sSlots : Nat → Int32} {a_bKeys : Nat → Int64} {a_bRow : Nat → Int64} {a_bSlots : Nat → Int32} {a_easy : Nat → Int32} {a_wants : Nat → Int32} {a_wantedBy : Nat → Int32} {a_ring : Nat → Int32} {a_carried : Nat → Int32} {a_latest : Nat → Int32} {v_taped : Int32} {v_faultKind : Int32} {v_faultPlace : Int32} {v_x : Int32} {v_ordered : Int32} {v_sought : Int32} {v_lastSought : Int32} {v_hMoved : Int32} {v_hWithout : Int32} {v_tMoved : Int32} {v_tWithout : Int32} {v_places : Int32} {v_elsewhere : Int32} {v_sMany : Int32} {v_bMany : Int32} {v_year : Int32} {y_lies : Int64} {a_rsort : Nat → Int32} {a_rmany : Nat → Int32} {a_nums : Nat → Nat → Int64} {pl : va_W}
theorem cg_Y_this_easy (hX : CallFix p m c cc nL s args lw_all RX0) (hK : va_K D vwA (cT cA) s) (hNW : NW s) (hH : MH D vwA A H0 (cW ad cA sA ta ba na gi rh rt g_sort g_size g_from g_to g_level g_full a_tape a_hAt a_hMany a_tAt a_tMany a_least a_place a_to a_order a_fails a_sKeys a_sRow a_sSlots a_bKeys a_bRow a_bSlots a_easy a_wants a_wantedBy a_ring a_carried a_latest v_taped v_faultKind v_faultPlace v_x v_ordered v_sought v_lastSought v_hMoved v_hWithout v_tMoved v_tWithout v_places v_elsewhere v_sMany v_bMany v_year y_lies a_rsort a_rmany a_nums pl) H locs) (hdg : decode cc pc = .ok (.getfield 72, 3)) (kk : W p l e R s m args below meth c H locs cells slots Q (F0 m (pc + 3) ls (.ref (ad 24) :: rest))) : W p l e R s m args below meth c H locs cells slots Q (F0 m pc ls (.ref (ad 0) :: rest)) := va_get (C := RX0) (T := TX0) (N := 23) hX.1 hX.2.1 hX.2.2.2.2 in_X0 hX.2.2.2.1 hK hH.1 0 rfl rfl 18 (by decide) (hX.2.2.2.2 _ q463) (fun _ h9 => h9) rfl hdg kk
end RZE
set_option maxHeartbeats 8000000 in
theorem met_X0_eases {l : Launch} {D : va_G} {ad : Nat → Nat} {cA : Nat → ClassId} {sA ta ba na : Nat → Nat} {gi : Nat → Option Nat} {rh : Option Nat} {a_tape : Nat → Int32} {a_hAt : Nat → Int32} {a_hMany : Nat → Int32} {a_least : Nat → Int32} {a_place : Nat → Int32} {a_to : Nat → Int32} {a_order : Nat → Int32} {a_fails : Nat → Int32} {a_wants : Nat → Int32} {a_wantedBy : Nat → Int32} {a_ring : Nat → Int32} {a_carried : Nat → Int32} {a_latest : Nat → Int32} {v_taped : Int32} {v_faultKind : Int32} {v_faultPlace : Int32} {v_x : Int32} {v_ordered : Int32} {v_lastSought : Int32} {v_hMoved : Int32} {v_hWithout : Int32} {v_places : Int32} {v_elsewhere : Int32} {v_year : Int32} {y_lies : Int64} {a_rsort : Nat → Int32} {a_rmany : Nat → Int32} {a_nums : Nat → Nat → Int64} {t : Nat → Int32} {nb : Int32} {bv : Nat → BvT} {pl : va_W} {z z2 : EzR} {p1 p2 : Int32} {E : EvT} {mi : Nat} (hE : EvL E mi) (hPO : PO cA pl ta ba t nb bv) (hF : FX0_eases t nb bv y_lies p1 p2 z = some z2) : ∀ w, (EZW ad cA sA ta ba na gi rh a_tape a_hAt a_hMany a_least a_place a_to a_order a_fails a_wants a_wantedBy a_ring a_carried a_latest v_taped v_faultKind v_faultPlace v_x v_ordered v_lastSought v_hMoved v_hWithout v_places v_elsewhere v_year y_lies a_rsort a_rmany a_nums z pl) w → MX l yX0_eases (ws_ yX0_eases cX0_eases 4 (Option.none : Option Jvm.ClassFile.FieldType)) rm_X0_eases D vwA (cT cA) E [.ref (ad 0), .int p1, .int p2] w (fun y => ∃ X : va_W, (EZW ad cA sA ta ba na gi rh a_tape a_hAt a_hMany a_least a_place a_to a_order a_fails a_wants a_wantedBy a_ring a_carried a_latest v_taped v_faultKind v_faultPlace v_x v_ordered v_lastSought v_hMoved v_hWithout v_places v_elsewhere v_year y_lies a_rsort a_rmany a_nums z2 (pl ++ X)) y) none := by
  intro w hw0
  obtain ⟨rt, g_sort, g_size, g_from, g_to, g_level, g_full, rfl⟩ := hw0
  refine MX.ofV (by decide) (Nat.le_of_ble_eq_true rfl) ?_
  intro p e s m args below meth c Q A hX hK hE0 hname hret H locs ls hH hl
  have hX : CallFix p m c cX0_eases 4 s args lw_all RX0 := hX
  have hx := hX.1
  have hb := hX.2.1
  have hown := hX.2.2.2.1
  have hts := hX.2.2.2.2
  have hl : lv_has ls 4 [(0, .ref (ad 0)), (1, .int p1), (2, .int p2)] := hl
  have hN := hE.1
  have hEv := hE.1.1
  have hNW := hE.1.2.1 _ _ _ hE0
  delta FX0_eases at hF
  obtain ⟨u, he, hF⟩ := bd1e hF
  obtain ⟨v, y_tAt, y_tMany, y_sKeys, y_sRow, y_sSlots, y_bKeys, y_bRow, y_bSlots, y_sought, y_tMoved, y_tWithout, y_sMany, y_bMany, he2, hF⟩ := bd14e hF
  refine lv_aload_n hx hb dX0_eases_0 rfl (lv_at hl 0 rfl) ?_
  refine lv_aload_n hx hb dX0_eases_1 rfl (lv_at hl 0 rfl) ?_
  refine lv_iload_n hx hb dX0_eases_2 rfl (lv_at hl 1 rfl) ?_
  refine lv_iload_n hx hb dX0_eases_3 rfl (lv_at hl 2 rfl) ?_
  refine mrV hX hK hEv hE0 hH (met_X0_exchanged hE hPO he) (crecv hK hH 0 0 rfl rfl) (lw_V q1405 q1407 qs58 q129 q1408) (n := 2) ⟨rfl, by decide, by decide, by decide +kernel⟩ ⟨(Nat.le_of_ble_eq_true rfl), (Nat.le_of_ble_eq_true rfl)⟩ rfl rfl hl (Nat.le_of_ble_eq_true rfl) dX0_eases_4 ⟨(Nat.le_of_ble_eq_true rfl), (Nat.le_of_ble_eq_true rfl)⟩ (fun vo w2 H locs hw hH => ?_)
  obtain ⟨X, tb, rfl, hTb, rfl⟩ := hw
  refine lv_aload_n hx hb dX0_eases_7 rfl (lv_at hl 0 rfl) ?_
  refine cg_Y_this_s hX hK hNW hH dX0_eases_8 ?_
  refine cg_Y_state_lies hX hK hNW hH dX0_eases_11 ?_
  refine lv_iconst (v := (-1)) hx hb dX0_eases_14 kyi_m1 ?_
  refine lv_iconst (v := (-1)) hx hb dX0_eases_15 kyi_m1 ?_
  refine mxV hX hK hEv hE0 hH (met_X0_seeks hN (hPO.app X) hTb he2) (crecv hK hH 0 0 rfl rfl) (lw_V q1303 q1305 qs46 q129 q1306) (n := 4) ⟨rfl, by decide, by decide, by decide +kernel⟩ ⟨(Nat.le_of_ble_eq_true rfl), (Nat.le_of_ble_eq_true rfl)⟩ rfl rfl hl (Nat.le_of_ble_eq_true rfl) dX0_eases_16 ⟨(Nat.le_of_ble_eq_true rfl), (Nat.le_of_ble_eq_true rfl)⟩ (fun w2 H locs hw hH => ?_)
  obtain ⟨rt, g_sort, g_size, g_from, g_to, g_level, g_full, rfl⟩ := hw
  refine lv_istore_n (lv' := [(3, .int v), (0, .ref (ad 0)), (1, .int p1), (2, .int p2)]) hx hb dX0_eases_19 rfl hl (by decide) rfl (fun ls hl => ?_)
  refine W.widen (k := 36) (n := 443) (Nat.le_of_ble_eq_true rfl) (Nat.le_of_ble_eq_true rfl) ?_
  generalize hz : ((y_tAt, y_tMany, y_sKeys, y_sRow, y_sSlots, y_bKeys, y_bRow, y_bSlots, y_sought, y_tMoved, y_tWithout, y_sMany, y_bMany, z.2.2.2.2.2.2.2.2.2.2.2.2.2) : EzR) = z3 at hF
  have hH : RHG (EZW ad cA sA ta ba na gi rh a_tape a_hAt a_hMany a_least a_place a_to a_order a_fails a_wants a_wantedBy a_ring a_carried a_latest v_taped v_faultKind v_faultPlace v_x v_ordered v_lastSought v_hMoved v_hWithout v_places v_elsewhere v_year y_lies a_rsort a_rmany a_nums z3 (pl ++ X)) D A s.heap H locs := ⟨_, ⟨rt, g_sort, g_size, g_from, g_to, g_level, g_full, by subst hz; rfl⟩, hH⟩
  have fin : ∀ (H : Heap) (locs : List Loc) (ls : Array Slot) (z4 : EzR), some z4 = some z2 → RHG (EZW ad cA sA ta ba na gi rh a_tape a_hAt a_hMany a_least a_place a_to a_order a_fails a_wants a_wantedBy a_ring a_carried a_latest v_taped v_faultKind v_faultPlace v_x v_ordered v_lastSought v_hMoved v_hWithout v_places v_elsewhere v_year y_lies a_rsort a_rmany a_nums z4 (pl ++ X)) D A s.heap H locs → (W p l e rm_X0_eases s m args below meth c H locs 36 443 Q (F0 m 44 ls []) ∧ W p l e rm_X0_eases s m args below meth c H locs 36 443 Q (F0 m 66 ls [])) := by
    intro H locs ls z4 h hH
    cases h
    obtain ⟨w, hw, hm⟩ := hH
    exact ⟨hret _ _ _ _ _ ⟨X, hw⟩ hm dX0_eases_44, hret _ _ _ _ _ ⟨X, hw⟩ hm dX0_eases_66⟩
  have put : ∀ (H : Heap) (locs : List Loc) (ls : Array Slot), FX0_eases_f z3 v p1 p2 = some z2 → RHG (EZW ad cA sA ta ba na gi rh a_tape a_hAt a_hMany a_least a_place a_to a_order a_fails a_wants a_wantedBy a_ring a_carried a_latest v_taped v_faultKind v_faultPlace v_x v_ordered v_lastSought v_hMoved v_hWithout v_places v_elsewhere v_year y_lies a_rsort a_rmany a_nums z3 (pl ++ X)) D A s.heap H locs → lv_has ls 4 [(3, .int v), (0, .ref (ad 0)), (1, .int p1), (2, .int p2)] → W p l e rm_X0_eases s m args below meth c H locs 36 443 Q (F0 m 45 ls []) := by
    intro H locs ls hF hH hl
    unfold FX0_eases_f at hF
    obtain ⟨e1, he1, hF⟩ := bd1e hF
    obtain ⟨e2, he2, hF⟩ := bd1e hF
    obtain ⟨e3, he3, hF⟩ := bd1e hF
    obtain ⟨w, ⟨rt, g_sort, g_size, g_from, g_to, g_level, g_full, rfl⟩, hH⟩ := hH
    refine lv_aload_n hx hb dX0_eases_45 rfl (lv_at hl 1 rfl) ?_
    refine cg_Y_this_easy hX hK hNW hH dX0_eases_46 ?_
    refine lv_iconst (v := 0) hx hb dX0_eases_49 kyi_0 ?_
    refine lv_iload_n hx hb dX0_eases_50 rfl (lv_at hl 0 rfl) ?_
    refine cs_easy hX hK hH he1 dX0_eases_51 (fun H locs hH => ?_)
    refine lv_aload_n hx hb dX0_eases_52 rfl (lv_at hl 1 rfl) ?_
    refine cg_Y_this_easy hX hK hNW hH dX0_eases_53 ?_
    refine lv_iconst (v := 1) hx hb dX0_eases_56 kyi_1 ?_
    refine lv_iload_n hx hb dX0_eases_57 rfl (lv_at hl 2 rfl) ?_
    refine cs_easy hX hK hH he2 dX0_eases_58 (fun H locs hH => ?_)
    refine lv_aload_n hx hb dX0_eases_59 rfl (lv_at hl 1 rfl) ?_
    refine cg_Y_this_easy hX hK hNW hH dX0_eases_60 ?_
    refine lv_iconst (v := 2) hx hb dX0_eases_63 kyi_2 ?_
    refine lv_iload_n hx hb dX0_eases_64 rfl (lv_at hl 3 rfl) ?_
    refine cs_easy hX hK hH he3 dX0_eases_65 (fun H locs hH => ?_)
    exact (fin H locs ls _ hF ⟨_, ⟨rt, g_sort, g_size, g_from, g_to, g_level, g_full, rfl⟩, hH⟩).2
  unfold FX0_eases_g at hF
  refine lv_iload_n hx hb dX0_eases_20 rfl (lv_at hl 0 rfl) ?_
  refine lv_if_lt (tgt := 44) hx hb dX0_eases_21 rfl (fun c1 => ?_) (fun c1 => ?_)
  · have hF := itp c1 hF
    exact (fin H locs ls _ hF hH).1
  · have hF := itn c1 hF
    obtain ⟨e0, he, hF⟩ := bd1e hF
    obtain ⟨w, ⟨rt, g_sort, g_size, g_from, g_to, g_level, g_full, rfl⟩, hH⟩ := hH
    refine lv_aload_n hx hb dX0_eases_24 rfl (lv_at hl 1 rfl) ?_
    refine cg_Y_this_easy hX hK hNW hH dX0_eases_25 ?_
    refine lv_iconst (v := 0) hx hb dX0_eases_28 kyi_0 ?_
    refine cl_easy hX hK hH he dX0_eases_29 ?_
    refine lv_iconst (v := (-1)) hx hb dX0_eases_30 kyi_m1 ?_
    refine lv_icmp_eq (tgt := 45) hx hb dX0_eases_31 rfl (fun c2 => ?_) (fun c2 => ?_)
    · exact put H locs ls (itp c2 hF) ⟨_, ⟨rt, g_sort, g_size, g_from, g_to, g_level, g_full, rfl⟩, hH⟩ hl
    · have hF := itn c2 hF
      refine lv_iload_n hx hb dX0_eases_34 rfl (lv_at hl 0 rfl) ?_
      refine lv_aload_n hx hb dX0_eases_35 rfl (lv_at hl 1 rfl) ?_
      refine cg_Y_this_easy hX hK hNW hH dX0_eases_36 ?_
      refine lv_iconst (v := 0) hx hb dX0_eases_39 kyi_0 ?_
      refine cl_easy hX hK hH he dX0_eases_40 ?_
      refine lv_icmp_lt (tgt := 45) hx hb dX0_eases_41 rfl (fun c3 => ?_) (fun c3 => ?_)
      · exact put H locs ls (itp c3 hF) ⟨_, ⟨rt, g_sort, g_size, g_from, g_to, g_level, g_full, rfl⟩, hH⟩ hl
      · exact (fin H locs ls _ (itn c3 hF) ⟨_, ⟨rt, g_sort, g_size, g_from, g_to, g_level, g_full, rfl⟩, hH⟩).1
section XEZ
variable {p : Program} {l : Launch} {e : Env} {R : Room} {s : State} {m : MethodId} {args : Array Value} {below : List Frame} {meth : Method} {c : Code} {H : Heap} {locs : List Loc} {cells slots : Nat} {Q : State → Prop}
variable {D : va_G} {A : Nat → Prop} {H0 : Heap} {pc : Nat} {ls : Array Slot} {rest : List Value} {cc : ByteArray} {nL : Nat} {own : String} {lv : List (Nat × Value)}
variable {ad : Nat → Nat} {cA : Nat → ClassId} {sA ta ba na : Nat → Nat} {gi : Nat → Option Nat} {rh : Option Nat} {a_tape : Nat → Int32} {a_hAt : Nat → Int32} {a_hMany : Nat → Int32} {a_least : Nat → Int32} {a_place : Nat → Int32} {a_to : Nat → Int32} {a_order : Nat → Int32} {a_fails : Nat → Int32} {a_wants : Nat → Int32} {a_wantedBy : Nat → Int32} {a_ring : Nat → Int32} {a_carried : Nat → Int32} {a_latest : Nat → Int32} {v_taped : Int32} {v_faultKind : Int32} {v_faultPlace : Int32} {v_x : Int32} {v_ordered : Int32} {v_lastSought : Int32} {v_hMoved : Int32} {v_hWithout : Int32} {v_places : Int32} {v_elsewhere : Int32} {v_year : Int32} {y_lies : Int64} {a_rsort : Nat → Int32} {a_rmany : Nat → Int32} {a_nums : Nat → Nat → Int64} {t : Nat → Int32} {nb : Int32} {bv : Nat → BvT} {v p1 : Int32} {E : EvT} {mi : Nat}
theorem EZW.pl9 {z : EzR} {pl w : va_W} (h : (EZW ad cA sA ta ba na gi rh a_tape a_hAt a_hMany a_least a_place a_to a_order a_fails a_wants a_wantedBy a_ring a_carried a_latest v_taped v_faultKind v_faultPlace v_x v_ordered v_lastSought v_hMoved v_hWithout v_places v_elsewhere v_year y_lies a_rsort a_rmany a_nums z pl) w) : PlIn pl w := by
  obtain ⟨rt, g_sort, g_size, g_from, g_to, g_level, g_full, rfl⟩ := h
  exact fun q hq => cW_pl hq
theorem EZW.th {z : EzR} {pl w : va_W} (h : (EZW ad cA sA ta ba na gi rh a_tape a_hAt a_hMany a_least a_place a_to a_order a_fails a_wants a_wantedBy a_ring a_carried a_latest v_taped v_faultKind v_faultPlace v_x v_ordered v_lastSought v_hMoved v_hWithout v_places v_elsewhere v_year y_lies a_rsort a_rmany a_nums z pl) w) : ∃ fs : List Value, w[0]? = some (ad 0, .inr (0, fs)) := by
  obtain ⟨rt, g_sort, g_size, g_from, g_to, g_level, g_full, rfl⟩ := h
  exact ⟨_, rfl⟩
set_option maxHeartbeats 4000000 in
theorem xz_q (hE : EvL E mi) (hX : CallFix p m c cX0_easier 5 s args lw_all RX0) (hK : va_K D vwA (cT cA) s) (hNW : NW s) (hE0 : E A s H0) (hR : 310 ≤ R.frames ∧ 7500 ≤ R.locals) {pp : Nat} {z2 : EzR} : ∀ (dd q : Nat) (pl : va_W) (z : EzR) (H : Heap) (locs : List Loc) (ls : Array Slot) (cells slots : Nat), q + dd = 15 → PO cA pl ta ba t nb bv → FX0_easierQ t nb bv y_lies (nI pp) dd (nI q) z = some z2 → RHG (EZW ad cA sA ta ba na gi rh a_tape a_hAt a_hMany a_least a_place a_to a_order a_fails a_wants a_wantedBy a_ring a_carried a_latest v_taped v_faultKind v_faultPlace v_x v_ordered v_lastSought v_hMoved v_hWithout v_places v_elsewhere v_year y_lies a_rsort a_rmany a_nums z pl) D A H0 H locs → lv_has ls 5 [(4, .int (nI q)), (3, .int (nI pp)), (2, .int v), (0, .ref (ad 0)), (1, .int p1)] → cells + 36 * dd ≤ R.cells → slots + 443 * dd ≤ R.slots →
    (∀ (X : va_W) (H : Heap) (locs : List Loc) (ls : Array Slot), RHG (EZW ad cA sA ta ba na gi rh a_tape a_hAt a_hMany a_least a_place a_to a_order a_fails a_wants a_wantedBy a_ring a_carried a_latest v_taped v_faultKind v_faultPlace v_x v_ordered v_lastSought v_hMoved v_hWithout v_places v_elsewhere v_year y_lies a_rsort a_rmany a_nums z2 (pl ++ X)) D A H0 H locs → lv_has ls 5 [(4, .int (nI 15)), (3, .int (nI pp)), (2, .int v), (0, .ref (ad 0)), (1, .int p1)] → W p l e R s m args below meth c H locs (cells + 36 * dd) (slots + 443 * dd) Q (F0 m 109 ls [])) → W p l e R s m args below meth c H locs cells slots Q (F0 m 79 ls []) := by
  have hx := hX.1
  have hb := hX.2.1
  have hN := hE.1
  have hEv := hE.1.1
  intro dd
  induction dd with
  | zero =>
    intro q pl z H locs ls cells slots hq hPO hF hH hl hc hs kk
    obtain rfl : q = 15 := by omega
    cases hF
    refine lv_iload hx hb dX0_easier_79 (lv_at hl 0 rfl) ?_
    refine lv_bipush (v := 15) hx hb dX0_easier_81 kyb_15 ?_
    refine lv_icmp_ge (tgt := 109) hx hb dX0_easier_83 rfl (fun c9 => ?_) (fun c9 => ?_)
    · have := kk [] H locs ls (by rw [List.append_nil]; exact hH) hl
      exact this
    · exact absurd (show (15 : Int32) ≤ nI 15 by decide) c9
  | succ dd ih =>
    intro q pl z H locs ls cells slots hq hPO hF hH hl hc hs kk
    refine lv_iload hx hb dX0_easier_79 (lv_at hl 0 rfl) ?_
    refine lv_bipush (v := 15) hx hb dX0_easier_81 kyb_15 ?_
    have hlt : ¬ (15 : Int32) ≤ nI q := by
      rw [show (15 : Int32) = nI 15 by decide, le_f (by omega) (by omega)]
      exact id
    refine lv_icmp_ge (tgt := 109) hx hb dX0_easier_83 rfl (fun c9 => absurd c9 hlt) (fun c9 => ?_)
    obtain ⟨b, he, hF⟩ := bd1e (show bd1 (FX0_isExchange t (nI pp) (nI q)) _ = _ from hF)
    obtain ⟨w, hw, hm⟩ := hH
    obtain ⟨rt, g_sort, g_size, g_from, g_to, g_level, g_full, rfl⟩ := hw
    refine lv_aload_n hx hb dX0_easier_86 rfl (lv_at hl 3 rfl) ?_
    refine lv_iload_n hx hb dX0_easier_87 rfl (lv_at hl 1 rfl) ?_
    refine lv_iload hx hb dX0_easier_88 (lv_at hl 0 rfl) ?_
    refine mxV hX hK hEv hE0 hm (met_X0_isExchange hN hPO he) (crecv hK hm 0 0 rfl rfl) (lw_V q1397 q1399 qs56 q129 q1400) (n := 2) ⟨rfl, by decide, by decide, by decide +kernel⟩ ⟨Nat.le_trans (m := 310) (Nat.le_of_ble_eq_true rfl) hR.1, Nat.le_trans (m := 7500) (Nat.le_of_ble_eq_true rfl) hR.2⟩ rfl rfl hl (Nat.le_of_ble_eq_true rfl) dX0_easier_90 ⟨by show cells + 0 ≤ _; omega, by show slots + 0 ≤ _; omega⟩ (fun w2 H locs hw2 hm => ?_)
    subst hw2
    have nx : ∀ (X : va_W) (z3 : EzR) (H : Heap) (locs : List Loc) (ls : Array Slot), FX0_easierQ t nb bv y_lies (nI pp) dd (nI q + 1) z3 = some z2 → RHG (EZW ad cA sA ta ba na gi rh a_tape a_hAt a_hMany a_least a_place a_to a_order a_fails a_wants a_wantedBy a_ring a_carried a_latest v_taped v_faultKind v_faultPlace v_x v_ordered v_lastSought v_hMoved v_hWithout v_places v_elsewhere v_year y_lies a_rsort a_rmany a_nums z3 (pl ++ X)) D A H0 H locs → lv_has ls 5 [(4, .int (nI q)), (3, .int (nI pp)), (2, .int v), (0, .ref (ad 0)), (1, .int p1)] → W p l e R s m args below meth c H locs (cells + 36) (slots + 443) Q (F0 m 103 ls []) := by
      intro X z3 H locs ls hF hH hl
      refine lv_iinc (v := (nI q + 1)) (lv' := [(4, .int (nI q + 1)), (3, .int (nI pp)), (2, .int v), (0, .ref (ad 0)), (1, .int p1)]) hx hb dX0_easier_103 hl (k := 0) rfl (syc kyi_1) (by decide) rfl (fun ls hl => ?_)
      refine lv_goto (tgt := 79) hx hb dX0_easier_106 rfl ?_
      rw [show nI q + 1 = nI (q + 1) from n_add q 1] at hl hF
      refine ih (q + 1) (pl ++ X) z3 H locs ls (cells + 36) (slots + 443) (by omega) (hPO.app X) hF hH hl (by omega) (by omega) (fun X2 H locs ls hH hl => ?_)
      refine W.widen (k := cells + 36 * (dd + 1)) (n := slots + 443 * (dd + 1)) (by omega) (by omega) (kk (X ++ X2) H locs ls ?_ hl)
      rw [← List.append_assoc]
      exact hH
    refine lv_if_eq (tgt := 103) hx hb dX0_easier_93 rfl (fun c8 => ?_) (fun c8 => ?_)
    · have hF := itp c8 hF
      refine W.widen (k := cells + 36) (n := slots + 443) (by show cells + 0 ≤ _; omega) (by show slots + 0 ≤ _; omega) (nx [] z H locs ls hF ?_ hl)
      rw [List.append_nil]
      exact ⟨_, ⟨rt, g_sort, g_size, g_from, g_to, g_level, g_full, rfl⟩, hm⟩
    · have hF := itn c8 hF
      obtain ⟨z3, he3, hF⟩ := bd1e hF
      refine lv_aload_n hx hb dX0_easier_96 rfl (lv_at hl 3 rfl) ?_
      refine lv_iload_n hx hb dX0_easier_97 rfl (lv_at hl 1 rfl) ?_
      refine lv_iload hx hb dX0_easier_98 (lv_at hl 0 rfl) ?_
      refine mxV hX hK hEv hE0 hm (met_X0_eases hE hPO he3 _ ⟨rt, g_sort, g_size, g_from, g_to, g_level, g_full, rfl⟩) (crecv hK hm 0 0 rfl rfl) (lw_V q1401 q1403 qs57 q129 q1404) (n := 2) ⟨rfl, by decide, by decide, by decide +kernel⟩ ⟨Nat.le_trans (m := 310) (Nat.le_of_ble_eq_true rfl) hR.1, Nat.le_trans (m := 7500) (Nat.le_of_ble_eq_true rfl) hR.2⟩ rfl rfl hl (Nat.le_of_ble_eq_true rfl) dX0_easier_100 ⟨by show cells + 0 + 36 ≤ _; omega, by show slots + 0 + 443 ≤ _; omega⟩ (fun w2 H locs hw2 hm => ?_)
      obtain ⟨X, hw3⟩ := hw2
      exact W.widen (k := cells + 36) (n := slots + 443) (by show cells + 0 + 36 ≤ _; omega) (by show slots + 0 + 443 ≤ _; omega) (nx X z3 H locs ls hF ⟨_, hw3, hm⟩ hl)
def tri : Nat → Nat
  | 0 => 0
  | n + 1 => n + tri n
set_option maxHeartbeats 4000000 in
theorem xz_p (hE : EvL E mi) (hX : CallFix p m c cX0_easier 5 s args lw_all RX0) (hK : va_K D vwA (cT cA) s) (hNW : NW s) (hE0 : E A s H0) (hR : 310 ≤ R.frames ∧ 7500 ≤ R.locals) {z2 : EzR} : ∀ (dd q : Nat) (pl : va_W) (z : EzR) (H : Heap) (locs : List Loc) (ls : Array Slot) (cells slots : Nat), q + dd = 15 → PO cA pl ta ba t nb bv → FX0_easierP t nb bv y_lies dd (nI q) z = some z2 → RHG (EZW ad cA sA ta ba na gi rh a_tape a_hAt a_hMany a_least a_place a_to a_order a_fails a_wants a_wantedBy a_ring a_carried a_latest v_taped v_faultKind v_faultPlace v_x v_ordered v_lastSought v_hMoved v_hWithout v_places v_elsewhere v_year y_lies a_rsort a_rmany a_nums z pl) D A H0 H locs → lv_has ls 5 [(3, .int (nI q)), (2, .int v), (0, .ref (ad 0)), (1, .int p1)] → cells + 36 * tri dd ≤ R.cells → slots + 443 * tri dd ≤ R.slots →
    (∀ (X : va_W) (H : Heap) (locs : List Loc) (ls : Array Slot), RHG (EZW ad cA sA ta ba na gi rh a_tape a_hAt a_hMany a_least a_place a_to a_order a_fails a_wants a_wantedBy a_ring a_carried a_latest v_taped v_faultKind v_faultPlace v_x v_ordered v_lastSought v_hMoved v_hWithout v_places v_elsewhere v_year y_lies a_rsort a_rmany a_nums z2 (pl ++ X)) D A H0 H locs → lv_has ls 5 [(3, .int (nI 15)), (2, .int v), (0, .ref (ad 0)), (1, .int p1)] → W p l e R s m args below meth c H locs (cells + 36 * tri dd) (slots + 443 * tri dd) Q (F0 m 115 ls [])) → W p l e R s m args below meth c H locs cells slots Q (F0 m 68 ls []) := by
  have hx := hX.1
  have hb := hX.2.1
  intro dd
  induction dd with
  | zero =>
    intro q pl z H locs ls cells slots hq hPO hF hH hl hc hs kk
    obtain rfl : q = 15 := by omega
    cases hF
    refine lv_iload_n hx hb dX0_easier_68 rfl (lv_at hl 0 rfl) ?_
    refine lv_bipush (v := 15) hx hb dX0_easier_69 kyb_15 ?_
    refine lv_icmp_ge (tgt := 115) hx hb dX0_easier_71 rfl (fun c9 => ?_) (fun c9 => ?_)
    · exact kk [] H locs ls (by rw [List.append_nil]; exact hH) hl
    · exact absurd (show (15 : Int32) ≤ nI 15 by decide) c9
  | succ dd ih =>
    intro q pl z H locs ls cells slots hq hPO hF hH hl hc hs kk
    have et : tri (dd + 1) = dd + tri dd := rfl
    rw [et] at hc hs kk
    refine lv_iload_n hx hb dX0_easier_68 rfl (lv_at hl 0 rfl) ?_
    refine lv_bipush (v := 15) hx hb dX0_easier_69 kyb_15 ?_
    have hlt : ¬ (15 : Int32) ≤ nI q := by
      rw [show (15 : Int32) = nI 15 by decide, le_f (by omega) (by omega)]
      exact id
    refine lv_icmp_ge (tgt := 115) hx hb dX0_easier_71 rfl (fun c9 => absurd c9 hlt) (fun c9 => ?_)
    obtain ⟨z3, he3, hF⟩ := bd1e (show bd1 (FX0_easierQ t nb bv y_lies (nI q) dd (nI q + 1) z) _ = _ from hF)
    refine lv_iload_n hx hb dX0_easier_74 rfl (lv_at hl 0 rfl) ?_
    refine lv_iconst (v := 1) hx hb dX0_easier_75 kyi_1 ?_
    refine lv_iadd hx hb dX0_easier_76 ?_
    refine lv_istore (lv' := [(4, .int (nI q + 1)), (3, .int (nI q)), (2, .int v), (0, .ref (ad 0)), (1, .int p1)]) hx hb dX0_easier_77 hl (by decide) rfl (fun ls hl => ?_)
    rw [show nI q + 1 = nI (q + 1) from n_add q 1] at hl he3 hF
    refine xz_q hE hX hK hNW hE0 hR dd (q + 1) pl z H locs ls cells slots (by omega) hPO he3 hH hl (by omega) (by omega) (fun X H locs ls hH hl => ?_)
    refine lv_iinc (v := (nI q + 1)) (lv' := [(3, .int (nI q + 1)), (4, .int (nI 15)), (2, .int v), (0, .ref (ad 0)), (1, .int p1)]) hx hb dX0_easier_109 hl (k := 1) rfl (syc kyi_1) (by decide) rfl (fun ls hl => ?_)
    have hl := lv_sub hl [0, 2, 3, 4] rfl
    refine lv_goto (tgt := 68) hx hb dX0_easier_112 rfl ?_
    rw [show nI q + 1 = nI (q + 1) from n_add q 1] at hl
    refine ih (q + 1) (pl ++ X) z3 H locs ls (cells + 36 * dd) (slots + 443 * dd) (by omega) (hPO.app X) hF hH hl (by omega) (by omega) (fun X2 H locs ls hH hl => ?_)
    refine W.widen (k := cells + 36 * (dd + tri dd)) (n := slots + 443 * (dd + tri dd)) (by omega) (by omega) (kk (X ++ X2) H locs ls ?_ hl)
    rw [← List.append_assoc]
    exact hH
end XEZ
theorem EZW.up {ad : Nat → Nat} {cA : Nat → ClassId} {sA ta ba na : Nat → Nat} {gi : Nat → Option Nat} {rh : Option Nat} {a_tape : Nat → Int32} {a_hAt : Nat → Int32} {a_hMany : Nat → Int32} {a_least : Nat → Int32} {a_place : Nat → Int32} {a_to : Nat → Int32} {a_order : Nat → Int32} {a_fails : Nat → Int32} {a_wants : Nat → Int32} {a_wantedBy : Nat → Int32} {a_ring : Nat → Int32} {a_carried : Nat → Int32} {a_latest : Nat → Int32} {v_taped : Int32} {v_faultKind : Int32} {v_faultPlace : Int32} {v_x : Int32} {v_ordered : Int32} {v_lastSought : Int32} {v_hMoved : Int32} {v_hWithout : Int32} {v_places : Int32} {v_elsewhere : Int32} {v_year : Int32} {y_lies : Int64} {a_rsort : Nat → Int32} {a_rmany : Nat → Int32} {a_nums : Nat → Nat → Int64} {t : Nat → Int32} {nb : Int32} {bv : Nat → BvT} {z : EzR} {pl w : va_W} (h : (EZW ad cA sA ta ba na gi rh a_tape a_hAt a_hMany a_least a_place a_to a_order a_fails a_wants a_wantedBy a_ring a_carried a_latest v_taped v_faultKind v_faultPlace v_x v_ordered v_lastSought v_hMoved v_hWithout v_places v_elsewhere v_year y_lies a_rsort a_rmany a_nums z pl) w) : (EZW ad cA sA ta ba na gi rh a_tape a_hAt a_hMany a_least a_place a_to a_order a_fails a_wants a_wantedBy a_ring a_carried a_latest v_taped v_faultKind v_faultPlace v_x v_ordered v_lastSought v_hMoved v_hWithout v_places v_elsewhere v_year y_lies a_rsort a_rmany a_nums z (pl ++ [])) w := by
  rw [List.append_nil]
  exact h
set_option maxHeartbeats 8000000 in
theorem met_X0_easier {l : Launch} {D : va_G} {ad : Nat → Nat} {cA : Nat → ClassId} {sA ta ba na : Nat → Nat} {gi : Nat → Option Nat} {rh : Option Nat} {a_tape : Nat → Int32} {a_hAt : Nat → Int32} {a_hMany : Nat → Int32} {a_least : Nat → Int32} {a_place : Nat → Int32} {a_to : Nat → Int32} {a_order : Nat → Int32} {a_fails : Nat → Int32} {a_wants : Nat → Int32} {a_wantedBy : Nat → Int32} {a_ring : Nat → Int32} {a_carried : Nat → Int32} {a_latest : Nat → Int32} {v_taped : Int32} {v_faultKind : Int32} {v_faultPlace : Int32} {v_x : Int32} {v_ordered : Int32} {v_lastSought : Int32} {v_hMoved : Int32} {v_hWithout : Int32} {v_places : Int32} {v_elsewhere : Int32} {v_year : Int32} {y_lies : Int64} {a_rsort : Nat → Int32} {a_rmany : Nat → Int32} {a_nums : Nat → Nat → Int64} {t : Nat → Int32} {nb : Int32} {bv : Nat → BvT} {pl : va_W} {z z2 : EzR} {p1 q_ans : Int32} {E : EvT} {mi : Nat} (hE : EvL E mi) (hPO : PO cA pl ta ba t nb bv) (hF : FX0_easier t nb bv y_lies p1 z = some (q_ans, z2)) : ∀ w, (EZW ad cA sA ta ba na gi rh a_tape a_hAt a_hMany a_least a_place a_to a_order a_fails a_wants a_wantedBy a_ring a_carried a_latest v_taped v_faultKind v_faultPlace v_x v_ordered v_lastSought v_hMoved v_hWithout v_places v_elsewhere v_year y_lies a_rsort a_rmany a_nums z pl) w → MX l yX0_easier (ws_ yX0_easier cX0_easier 5 (some .int)) rm_X0_easier D vwA (cT cA) E [.ref (ad 0), .int p1] w (fun y => ∃ X : va_W, (EZW ad cA sA ta ba na gi rh a_tape a_hAt a_hMany a_least a_place a_to a_order a_fails a_wants a_wantedBy a_ring a_carried a_latest v_taped v_faultKind v_faultPlace v_x v_ordered v_lastSought v_hMoved v_hWithout v_places v_elsewhere v_year y_lies a_rsort a_rmany a_nums z2 (pl ++ X)) y) (some (.int q_ans)) := by
  intro w hw0
  have hw1 := hw0
  obtain ⟨rt, g_sort, g_size, g_from, g_to, g_level, g_full, rfl⟩ := hw0
  refine MX.ofI (by decide) (Nat.le_of_ble_eq_true rfl) ?_
  intro p e s m args below meth c Q A hX hK hE0 hname hret H locs ls hH hl
  have hX : CallFix p m c cX0_easier 5 s args lw_all RX0 := hX
  have hx := hX.1
  have hb := hX.2.1
  have hown := hX.2.2.2.1
  have hts := hX.2.2.2.2
  have hl : lv_has ls 5 [(0, .ref (ad 0)), (1, .int p1)] := hl
  have hN := hE.1
  have hEv := hE.1.1
  have hNW := hE.1.2.1 _ _ _ hE0
  delta FX0_easier at hF
  refine lv_iload_n hx hb dX0_easier_0 rfl (lv_at hl 1 rfl) ?_
  refine lv_i2l (v := (Int32.toInt64 p1)) hx hb dX0_easier_1 rfl ?_
  refine lv_lconst (v := 0) hx hb dX0_easier_2 rfl ?_
  refine lv_ldc2 (v := 2) hx hb hown (hts _ q1396) dX0_easier_3 ?_
  obtain ⟨b1, he, hF⟩ := bd1e hF
  refine mxS hX hK hEv hE0 hH (MM.toX (met_X0_in_g (EvG_of hEv) he)) gw_StoneYear_106 hd_yX0_in ⟨(Nat.le_of_ble_eq_true rfl), (Nat.le_of_ble_eq_true rfl)⟩ rfl rfl hl (Nat.le_of_ble_eq_true rfl) dX0_easier_6 ⟨(Nat.le_of_ble_eq_true rfl), (Nat.le_of_ble_eq_true rfl)⟩ (fun w2 H locs hw hH => ?_)
  subst hw
  refine lv_if_ne (tgt := 15) hx hb dX0_easier_9 rfl (fun c1 => ?_) (fun c1 => ?_)
  rotate_left
  · have hF := itp c1 hF
    refine lv_bipush (v := (-2)) hx hb dX0_easier_12 kyb_m2 ?_
    obtain ⟨h0, h1⟩ := re2z hF
    subst h0 h1
    refine W.widen (k := 3780) (n := 46515) (Nat.le_of_ble_eq_true rfl) (Nat.le_of_ble_eq_true rfl) ?_
    exact hret _ _ _ _ _ ⟨[], EZW.up (t := t) (nb := nb) (bv := bv) hw1⟩ hH dX0_easier_14
  have hF := itn c1 hF
  obtain ⟨v, y_tAt, y_tMany, y_sKeys, y_sRow, y_sSlots, y_bKeys, y_bRow, y_bSlots, y_sought, y_tMoved, y_tWithout, y_sMany, y_bMany, he2, hF⟩ := bd14e hF
  refine lv_aload_n hx hb dX0_easier_15 rfl (lv_at hl 0 rfl) ?_
  refine lv_aload_n hx hb dX0_easier_16 rfl (lv_at hl 0 rfl) ?_
  refine cg_Y_this_s hX hK hNW hH dX0_easier_17 ?_
  refine cg_Y_state_town hX hK hNW hH dX0_easier_20 ?_
  refine lv_aload_n hx hb dX0_easier_23 rfl (lv_at hl 0 rfl) ?_
  refine cg_Y_this_s hX hK hNW hH dX0_easier_24 ?_
  refine cg_Y_state_lies hX hK hNW hH dX0_easier_27 ?_
  refine lv_iconst (v := (-1)) hx hb dX0_easier_30 kyi_m1 ?_
  refine lv_iconst (v := (-1)) hx hb dX0_easier_31 kyi_m1 ?_
  refine mxV hX hK hEv hE0 hH (met_X0_seeks hN hPO hPO.1 he2) (crecv hK hH 0 0 rfl rfl) (lw_V q1303 q1305 qs46 q129 q1306) (n := 4) ⟨rfl, by decide, by decide, by decide +kernel⟩ ⟨(Nat.le_of_ble_eq_true rfl), (Nat.le_of_ble_eq_true rfl)⟩ rfl rfl hl (Nat.le_of_ble_eq_true rfl) dX0_easier_32 ⟨(Nat.le_of_ble_eq_true rfl), (Nat.le_of_ble_eq_true rfl)⟩ (fun w2 H locs hw hH => ?_)
  obtain ⟨rt, g_sort, g_size, g_from, g_to, g_level, g_full, rfl⟩ := hw
  refine lv_istore_n (lv' := [(2, .int v), (0, .ref (ad 0)), (1, .int p1)]) hx hb dX0_easier_35 rfl hl (by decide) rfl (fun ls hl => ?_)
  generalize hz : ((y_tAt, y_tMany, y_sKeys, y_sRow, y_sSlots, y_bKeys, y_bRow, y_bSlots, y_sought, y_tMoved, y_tWithout, y_sMany, y_bMany, z.2.2.2.2.2.2.2.2.2.2.2.2.2) : EzR) = z3 at hF
  have hH : RHG (EZW ad cA sA ta ba na gi rh a_tape a_hAt a_hMany a_least a_place a_to a_order a_fails a_wants a_wantedBy a_ring a_carried a_latest v_taped v_faultKind v_faultPlace v_x v_ordered v_lastSought v_hMoved v_hWithout v_places v_elsewhere v_year y_lies a_rsort a_rmany a_nums z3 pl) D A s.heap H locs := ⟨_, ⟨rt, g_sort, g_size, g_from, g_to, g_level, g_full, by subst hz; rfl⟩, hH⟩
  refine lv_iload_n hx hb dX0_easier_36 rfl (lv_at hl 0 rfl) ?_
  refine lv_bipush (v := (-4)) hx hb dX0_easier_37 kyb_m4 ?_
  refine lv_icmp_ne (tgt := 45) hx hb dX0_easier_39 rfl (fun c2 => ?_) (fun c2 => ?_)
  rotate_left
  · have hF := itp c2 hF
    refine lv_bipush (v := (-4)) hx hb dX0_easier_42 kyb_m4 ?_
    obtain ⟨h0, h1⟩ := re2z hF
    subst h0 h1
    refine W.widen (k := 3780) (n := 46515) (Nat.le_of_ble_eq_true rfl) (Nat.le_of_ble_eq_true rfl) ?_
    obtain ⟨w, hw, hm⟩ := hH
    exact hret _ _ _ _ _ ⟨[], EZW.up (t := t) (nb := nb) (bv := bv) hw⟩ hm dX0_easier_44
  have hF := itn c2 hF
  obtain ⟨z4, hz4, hF⟩ := bd1e hF
  obtain ⟨z5, hz5, hF5⟩ := bd1e hF
  unfold FX0_eases_f at hz4
  obtain ⟨e1, he1, hz4⟩ := bd1e hz4
  obtain ⟨e2, he2, hz4⟩ := bd1e hz4
  obtain ⟨e3, he3, hz4⟩ := bd1e hz4
  obtain ⟨w, ⟨rt, g_sort, g_size, g_from, g_to, g_level, g_full, rfl⟩, hH⟩ := hH
  refine lv_aload_n hx hb dX0_easier_45 rfl (lv_at hl 1 rfl) ?_
  refine cg_Y_this_easy hX hK hNW hH dX0_easier_46 ?_
  refine lv_iconst (v := 0) hx hb dX0_easier_49 kyi_0 ?_
  refine lv_iload_n hx hb dX0_easier_50 rfl (lv_at hl 0 rfl) ?_
  refine cs_easy hX hK hH he1 dX0_easier_51 (fun H locs hH => ?_)
  refine lv_aload_n hx hb dX0_easier_52 rfl (lv_at hl 1 rfl) ?_
  refine cg_Y_this_easy hX hK hNW hH dX0_easier_53 ?_
  refine lv_iconst (v := 1) hx hb dX0_easier_56 kyi_1 ?_
  refine lv_iconst (v := (-1)) hx hb dX0_easier_57 kyi_m1 ?_
  refine cs_easy hX hK hH he2 dX0_easier_58 (fun H locs hH => ?_)
  refine lv_aload_n hx hb dX0_easier_59 rfl (lv_at hl 1 rfl) ?_
  refine cg_Y_this_easy hX hK hNW hH dX0_easier_60 ?_
  refine lv_iconst (v := 2) hx hb dX0_easier_63 kyi_2 ?_
  refine lv_iconst (v := (-1)) hx hb dX0_easier_64 kyi_m1 ?_
  refine cs_easy hX hK hH he3 dX0_easier_65 (fun H locs hH => ?_)
  cases hz4
  refine lv_iconst (v := 0) hx hb dX0_easier_66 kyi_0 ?_
  refine lv_istore_n (lv' := [(3, .int 0), (2, .int v), (0, .ref (ad 0)), (1, .int p1)]) hx hb dX0_easier_67 rfl hl (by decide) rfl (fun ls hl => ?_)
  refine W.widen (k := 0) (n := 0) (Nat.le_of_ble_eq_true rfl) (Nat.le_of_ble_eq_true rfl) ?_
  refine xz_p hE hX hK hNW hE0 ⟨(Nat.le_of_ble_eq_true rfl), (Nat.le_of_ble_eq_true rfl)⟩ (v := v) (p1 := p1) 15 0 pl _ H locs ls 0 0 rfl hPO hz5 ⟨_, ⟨rt, g_sort, g_size, g_from, g_to, g_level, g_full, rfl⟩, hH⟩ hl (by decide) (by decide) (fun X H locs ls hH hl => ?_)
  refine W.widen (k := 3780) (n := 46515) (by decide) (by decide) ?_
  unfold FX0_easier_e at hF5
  obtain ⟨e9, he9, hF⟩ := bd1e hF5
  obtain ⟨w, ⟨rt, g_sort, g_size, g_from, g_to, g_level, g_full, rfl⟩, hH⟩ := hH
  have fin : RHG (EZW ad cA sA ta ba na gi rh a_tape a_hAt a_hMany a_least a_place a_to a_order a_fails a_wants a_wantedBy a_ring a_carried a_latest v_taped v_faultKind v_faultPlace v_x v_ordered v_lastSought v_hMoved v_hWithout v_places v_elsewhere v_year y_lies a_rsort a_rmany a_nums z5 (pl ++ X)) D A s.heap H locs := ⟨_, ⟨rt, g_sort, g_size, g_from, g_to, g_level, g_full, rfl⟩, hH⟩
  obtain ⟨w, hw, hm⟩ := fin
  refine lv_aload_n hx hb dX0_easier_115 rfl (lv_at hl 2 rfl) ?_
  refine cg_Y_this_easy hX hK hNW hH dX0_easier_116 ?_
  refine lv_iconst (v := 1) hx hb dX0_easier_119 kyi_1 ?_
  refine cl_easy hX hK hH he9 dX0_easier_120 ?_
  refine lv_iconst (v := (-1)) hx hb dX0_easier_121 kyi_m1 ?_
  refine lv_icmp_ne (tgt := 129) hx hb dX0_easier_122 rfl (fun c3 => ?_) (fun c3 => ?_)
  · have hF := itn c3 hF
    obtain ⟨e8, he8, hF⟩ := bd1e hF
    obtain ⟨h0, h1⟩ := re2z hF
    subst h0 h1
    refine lv_aload_n hx hb dX0_easier_129 rfl (lv_at hl 2 rfl) ?_
    refine cg_Y_this_easy hX hK hNW hH dX0_easier_130 ?_
    refine lv_iload_n hx hb dX0_easier_133 rfl (lv_at hl 3 rfl) ?_
    refine cl_easy hX hK hH he8 dX0_easier_134 ?_
    exact hret _ _ _ _ _ ⟨X, hw⟩ hm dX0_easier_135
  · have hF := itp c3 hF
    obtain ⟨h0, h1⟩ := re2z hF
    subst h0 h1
    refine lv_iconst (v := (-1)) hx hb dX0_easier_125 kyi_m1 ?_
    refine lv_goto (tgt := 135) hx hb dX0_easier_126 rfl ?_
    exact hret _ _ _ _ _ ⟨X, hw⟩ hm dX0_easier_135