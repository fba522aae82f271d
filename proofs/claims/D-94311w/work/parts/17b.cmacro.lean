set_option maxRecDepth 100000
abbrev rm_fact (d : Nat) : Room := { frames := d, cells := 0, slots := 0, locals := 21 * d }
/-- a fact of depth d may be asked: at any call of Fact.is -/
def FCall (d : Nat) : Prop := ∀ {p : Program} {l : Launch} {e : Env} {R : Room} {s : State} {m : MethodId} {args : Array Value} {below : List Frame} {meth : Method} {c : Code} {H : Heap} {locs : List Loc} {cells slots : Nat} {Q : State → Prop} {D : va_G} {A : Nat → Prop} {H0 : Heap} {pc : Nat} {ls : Array Slot} {rest : List Value} {cc : ByteArray} {nL : Nat} {own : String} {lv : List (Nat × Value)} {index : Nat} {E : EvT} {ad : Nat → Nat} {cA : Nat → ClassId} {sA ta ba na : Nat → Nat} {gi : Nat → Option Nat} {rh : Option Nat} {rt : Option Nat} {g_sort : Int32} {g_size : Int32} {g_from : Int32} {g_to : Int32} {g_level : Int32} {g_full : Int32} {a_tape : Nat → Int32} {a_hAt : Nat → Int32} {a_hMany : Nat → Int32} {a_tAt : Nat → Int32} {a_tMany : Nat → Int32} {a_least : Nat → Int32} {a_place : Nat → Int32} {a_to : Nat → Int32} {a_order : Nat → Int32} {a_fails : Nat → Int32} {a_sKeys : Nat → Int64} {a_sRow : Nat → Int64} {a_sSlots : Nat → Int32} {a_bKeys : Nat → Int64} {a_bRow : Nat → Int64} {a_bSlots : Nat → Int32} {a_easy : Nat → Int32} {a_wants : Nat → Int32} {a_wantedBy : Nat → Int32} {a_ring : Nat → Int32} {a_carried : Nat → Int32} {a_latest : Nat → Int32} {v_taped : Int32} {v_faultKind : Int32} {v_faultPlace : Int32} {v_x : Int32} {v_ordered : Int32} {v_sought : Int32} {v_lastSought : Int32} {v_hMoved : Int32} {v_hWithout : Int32} {v_tMoved : Int32} {v_tWithout : Int32} {v_places : Int32} {v_elsewhere : Int32} {v_sMany : Int32} {v_bMany : Int32} {v_year : Int32} {y_lies : Int64} {a_rsort : Nat → Int32} {a_rmany : Nat → Int32} {a_nums : Nat → Nat → Int64} {pl : va_W} {a : Nat} {f : BvT}, FactAt pl d a f → CallFix p m c cc nL s args lw_all own → va_K D vwA (cT cA) s → EvN E → E A s H0 → MH D vwA A H0 (cW ad cA sA ta ba na gi rh rt g_sort g_size g_from g_to g_level g_full a_tape a_hAt a_hMany a_tAt a_tMany a_least a_place a_to a_order a_fails a_sKeys a_sRow a_sSlots a_bKeys a_bRow a_bSlots a_easy a_wants a_wantedBy a_ring a_carried a_latest v_taped v_faultKind v_faultPlace v_x v_ordered v_sought v_lastSought v_hMoved v_hWithout v_tMoved v_tWithout v_places v_elsewhere v_sMany v_bMany v_year y_lies a_rsort a_rmany a_nums pl) H locs → Cond.methodLink own index ⟨"StoneYear$Fact", "is", "(LStoneYear$Going;)Z"⟩ ∈ lw_all → lv_has ls nL lv → (d + 1 ≤ R.frames ∧ 21 * (d + 1) ≤ R.locals) → (cells ≤ R.cells ∧ slots ≤ R.slots) → (rest.map fun v => v.category).sum ≤ 8 → decode cc pc = .ok (.invokevirtual index, 3) → (∀ (H : Heap) (locs : List Loc), MH D vwA A H0 (cW ad cA sA ta ba na gi rh rt g_sort g_size g_from g_to g_level g_full a_tape a_hAt a_hMany a_tAt a_tMany a_least a_place a_to a_order a_fails a_sKeys a_sRow a_sSlots a_bKeys a_bRow a_bSlots a_easy a_wants a_wantedBy a_ring a_carried a_latest v_taped v_faultKind v_faultPlace v_x v_ordered v_sought v_lastSought v_hMoved v_hWithout v_tMoved v_tWithout v_places v_elsewhere v_sMany v_bMany v_year y_lies a_rsort a_rmany a_nums pl) H locs → W p l e R s m args below meth c H locs cells slots Q (F0 m (pc + 3) ls (.int (b2i (f g_sort g_size g_from g_to g_level g_full)) :: rest))) → W p l e R s m args below meth c H locs cells slots Q (F0 m pc ls (.ref (ad 3) :: .ref a :: rest))
noncomputable def FX13_isKept (n0 : Int32) (p1 : Int32) : Option Bool :=
  if p1 < n0 then
    some false
  else
    some true

noncomputable def FX14_isKept (n0 : Int32) (p1 : Int32) : Option Bool :=
  if n0 < p1 then
    some false
  else
    some true

noncomputable def FX17_is (g_sort : Int32) (g_size : Int32) (g_from : Int32) (g_to : Int32) (g_level : Int32) (g_full : Int32) (w0 : Int32) (n0 : Int32) : Option Bool :=
  if w0 = 0 then
    if g_sort = n0 then
      some true
    else
      some false
  else
  if w0 = 1 then
    if g_size < n0 then
      some false
    else
      some true
  else
  if w0 = 2 then
    if g_from = n0 then
      some true
    else
      some false
  else
  if w0 = 3 then
    if g_to = n0 then
      some true
    else
      some false
  else
  if w0 = 4 then
    if g_level < n0 then
      some false
    else
      some true
  else
    if g_full < n0 then
      some false
    else
      some true

noncomputable def FX16_is (g_sort : Int32) (g_size : Int32) (g_from : Int32) (g_to : Int32) (g_level : Int32) (g_full : Int32) (f0 : BvT) : Option Bool :=
  if (b2i (f0 g_sort g_size g_from g_to g_level g_full)) = 0 then
    some true
  else
    some false

noncomputable def FX18_is_j59 : Option Bool :=
  some true

noncomputable def FX18_is_j33 : Option Bool :=
  some false

noncomputable def FX18_is (g_sort : Int32) (g_size : Int32) (g_from : Int32) (g_to : Int32) (g_level : Int32) (g_full : Int32) (i0 : Int32) (f0 : BvT) (f1 : BvT) : Option Bool :=
  if i0 = 0 then
    if (b2i (f0 g_sort g_size g_from g_to g_level g_full)) = 0 then
      if (b2i (f1 g_sort g_size g_from g_to g_level g_full)) = 0 then
        some false
      else
        FX18_is_j59
    else
      FX18_is_j59
  else
    if (b2i (f0 g_sort g_size g_from g_to g_level g_full)) = 0 then
      FX18_is_j33
    else
      if (b2i (f1 g_sort g_size g_from g_to g_level g_full)) = 0 then
        FX18_is_j33
      else
        some true

noncomputable def FX7_many_0 (k : Nat) (a_rmany : Nat → Int32) : Option Int32 :=
  some (Int32.ofNat (a_rmany k).toNatClampNeg)

noncomputable def FX7_number_0 (k : Nat) (a_rmany : Nat → Int32) (a_nums : Nat → Nat → Int64) (p1 : Int32) : Option Int64 :=
  bd1 (rd (a_rmany k).toNatClampNeg (fun j => (a_nums k j).toInt32) p1) fun x_56 =>
  some (Int32.toInt64 x_56)

noncomputable def FX7_many_1 (k : Nat) (a_rmany : Nat → Int32) : Option Int32 :=
  some (Int32.ofNat (a_rmany k).toNatClampNeg)

noncomputable def FX7_number_1 (k : Nat) (a_rmany : Nat → Int32) (a_nums : Nat → Nat → Int64) (p1 : Int32) : Option Int64 :=
  bd1 (rd (a_rmany k).toNatClampNeg (fun j => (a_nums k j).toInt32) p1) fun x_56 =>
  some (Int32.toInt64 x_56)

noncomputable def FX7_many_2 (k : Nat) (a_rmany : Nat → Int32) : Option Int32 :=
  some (Int32.ofNat (a_rmany k).toNatClampNeg)

noncomputable def FX7_number_2 (k : Nat) (a_rmany : Nat → Int32) (a_nums : Nat → Nat → Int64) (p1 : Int32) : Option Int64 :=
  bd1 (rd (a_rmany k).toNatClampNeg (fun j => (a_nums k j).toInt32) p1) fun x_56 =>
  some (Int32.toInt64 x_56)

noncomputable def FX7_many_3 (k : Nat) (a_rmany : Nat → Int32) : Option Int32 :=
  some (Int32.ofNat (a_rmany k).toNatClampNeg)

noncomputable def FX7_number_3 (k : Nat) (a_rmany : Nat → Int32) (a_nums : Nat → Nat → Int64) (p1 : Int32) : Option Int64 :=
  bd1 (rd (a_rmany k).toNatClampNeg (a_nums k) p1) fun y_56 =>
  some y_56

section CN
variable {p : Program} {l : Launch} {e : Env} {R : Room} {s : State} {m : MethodId} {args : Array Value} {below : List Frame} {meth : Method} {c : Code} {H : Heap} {locs : List Loc} {cells slots : Nat} {Q : State → Prop}
variable {D : va_G} {A : Nat → Prop} {H0 : Heap} {pc : Nat} {ls : Array Slot} {rest : List Value} {cc : ByteArray} {nL : Nat} {own : String} {k : Nat}
variable {ad : Nat → Nat} {cA : Nat → ClassId} {sA ta ba na : Nat → Nat} {gi : Nat → Option Nat} {rh : Option Nat} {rt : Option Nat} {g_sort : Int32} {g_size : Int32} {g_from : Int32} {g_to : Int32} {g_level : Int32} {g_full : Int32} {a_tape : Nat → Int32} {a_hAt : Nat → Int32} {a_hMany : Nat → Int32} {a_tAt : Nat → Int32} {a_tMany : Nat → Int32} {a_least : Nat → Int32} {a_place : Nat → Int32} {a_to : Nat → Int32} {a_order : Nat → Int32} {a_fails : Nat → Int32} {a_sKeys : Nat → Int64} {a_sRow : Nat → Int64} {a_sSlots : Nat → Int32} {a_bKeys : Nat → Int64} {a_bRow : Nat → Int64} {a_bSlots : Nat → Int32} {a_easy : Nat → Int32} {a_wants : Nat → Int32} {a_wantedBy : Nat → Int32} {a_ring : Nat → Int32} {a_carried : Nat → Int32} {a_latest : Nat → Int32} {v_taped : Int32} {v_faultKind : Int32} {v_faultPlace : Int32} {v_x : Int32} {v_ordered : Int32} {v_sought : Int32} {v_lastSought : Int32} {v_hMoved : Int32} {v_hWithout : Int32} {v_tMoved : Int32} {v_tWithout : Int32} {v_places : Int32} {v_elsewhere : Int32} {v_sMany : Int32} {v_bMany : Int32} {v_year : Int32} {y_lies : Int64} {a_rsort : Nat → Int32} {a_rmany : Nat → Int32} {a_nums : Nat → Nat → Int64} {pl : va_W}
theorem cn_mem (hk : k < (4 : Int32).toNatClampNeg) {q : Nat × va_E} (h : q ∈ nC cA na a_rsort a_rmany a_nums k) : ∃ q0 : Nat, (cW ad cA sA ta ba na gi rh rt g_sort g_size g_from g_to g_level g_full a_tape a_hAt a_hMany a_tAt a_tMany a_least a_place a_to a_order a_fails a_sKeys a_sRow a_sSlots a_bKeys a_bRow a_bSlots a_easy a_wants a_wantedBy a_ring a_carried a_latest v_taped v_faultKind v_faultPlace v_x v_ordered v_sought v_lastSought v_hMoved v_hWithout v_tMoved v_tWithout v_places v_elsewhere v_sMany v_bMany v_year y_lies a_rsort a_rmany a_nums pl)[q0]? = some q := by
  have hk : k < 4 := hk
  refine List.getElem?_of_mem ?_
  unfold cW
  refine List.mem_append_right _ ?_
  rcases (show k = 0 ∨ k = 1 ∨ k = 2 ∨ k = 3 by omega) with rfl | rfl | rfl | rfl
  · exact List.mem_append_left _ h
  · exact List.mem_append_right _ (List.mem_append_left _ h)
  · exact List.mem_append_right _ (List.mem_append_right _ (List.mem_append_left _ h))
  · exact List.mem_append_right _ (List.mem_append_right _ (List.mem_append_right _ (List.mem_append_left _ h)))
theorem cn_cell0 (hk : k < (4 : Int32).toNatClampNeg) (hs : a_rsort k = 0) : ∃ q0 : Nat, (cW ad cA sA ta ba na gi rh rt g_sort g_size g_from g_to g_level g_full a_tape a_hAt a_hMany a_tAt a_tMany a_least a_place a_to a_order a_fails a_sKeys a_sRow a_sSlots a_bKeys a_bRow a_bSlots a_easy a_wants a_wantedBy a_ring a_carried a_latest v_taped v_faultKind v_faultPlace v_x v_ordered v_sought v_lastSought v_hMoved v_hWithout v_tMoved v_tWithout v_places v_elsewhere v_sMany v_bMany v_year y_lies a_rsort a_rmany a_nums pl)[q0]? = some (na k, .inl (cA 40, (a_rmany k).toNatClampNeg, .inl fun j => (a_nums k j).toInt32)) := by
  refine cn_mem (ad := ad) (cA := cA) (sA := sA) (ta := ta) (ba := ba) (na := na) (gi := gi) (rh := rh) (rt := rt) (g_sort := g_sort) (g_size := g_size) (g_from := g_from) (g_to := g_to) (g_level := g_level) (g_full := g_full) (a_tape := a_tape) (a_hAt := a_hAt) (a_hMany := a_hMany) (a_tAt := a_tAt) (a_tMany := a_tMany) (a_least := a_least) (a_place := a_place) (a_to := a_to) (a_order := a_order) (a_fails := a_fails) (a_sKeys := a_sKeys) (a_sRow := a_sRow) (a_sSlots := a_sSlots) (a_bKeys := a_bKeys) (a_bRow := a_bRow) (a_bSlots := a_bSlots) (a_easy := a_easy) (a_wants := a_wants) (a_wantedBy := a_wantedBy) (a_ring := a_ring) (a_carried := a_carried) (a_latest := a_latest) (v_taped := v_taped) (v_faultKind := v_faultKind) (v_faultPlace := v_faultPlace) (v_x := v_x) (v_ordered := v_ordered) (v_sought := v_sought) (v_lastSought := v_lastSought) (v_hMoved := v_hMoved) (v_hWithout := v_hWithout) (v_tMoved := v_tMoved) (v_tWithout := v_tWithout) (v_places := v_places) (v_elsewhere := v_elsewhere) (v_sMany := v_sMany) (v_bMany := v_bMany) (v_year := v_year) (y_lies := y_lies) (a_rsort := a_rsort) (a_rmany := a_rmany) (a_nums := a_nums) hk ?_
  have e : nC cA na a_rsort a_rmany a_nums k = [(na k, .inl (cA 40, (a_rmany k).toNatClampNeg, .inl fun j => (a_nums k j).toInt32))] := by
    unfold nC
    rw [hs, if_neg (by decide), if_neg (by decide)]
    rfl
  rw [e]
  exact List.mem_singleton.mpr rfl
theorem cn_at0 (hK : va_K D vwA (cT cA) s) (hH : MH D vwA A H0 (cW ad cA sA ta ba na gi rh rt g_sort g_size g_from g_to g_level g_full a_tape a_hAt a_hMany a_tAt a_tMany a_least a_place a_to a_order a_fails a_sKeys a_sRow a_sSlots a_bKeys a_bRow a_bSlots a_easy a_wants a_wantedBy a_ring a_carried a_latest v_taped v_faultKind v_faultPlace v_x v_ordered v_sought v_lastSought v_hMoved v_hWithout v_tMoved v_tWithout v_places v_elsewhere v_sMany v_bMany v_year y_lies a_rsort a_rmany a_nums pl) H locs) (hk : k < (4 : Int32).toNatClampNeg) (hs : a_rsort k = 0) : ∃ cell : Cell, H[na k]? = some cell ∧ cell.vm.isStatics = false ∧ s.vm.findClass "[B" = some cell.cls := by
  obtain ⟨q0, hq⟩ := cn_cell0 (ad := ad) (cA := cA) (sA := sA) (ta := ta) (ba := ba) (na := na) (gi := gi) (rh := rh) (rt := rt) (g_sort := g_sort) (g_size := g_size) (g_from := g_from) (g_to := g_to) (g_level := g_level) (g_full := g_full) (a_tape := a_tape) (a_hAt := a_hAt) (a_hMany := a_hMany) (a_tAt := a_tAt) (a_tMany := a_tMany) (a_least := a_least) (a_place := a_place) (a_to := a_to) (a_order := a_order) (a_fails := a_fails) (a_sKeys := a_sKeys) (a_sRow := a_sRow) (a_sSlots := a_sSlots) (a_bKeys := a_bKeys) (a_bRow := a_bRow) (a_bSlots := a_bSlots) (a_easy := a_easy) (a_wants := a_wants) (a_wantedBy := a_wantedBy) (a_ring := a_ring) (a_carried := a_carried) (a_latest := a_latest) (v_taped := v_taped) (v_faultKind := v_faultKind) (v_faultPlace := v_faultPlace) (v_x := v_x) (v_ordered := v_ordered) (v_sought := v_sought) (v_lastSought := v_lastSought) (v_hMoved := v_hMoved) (v_hWithout := v_hWithout) (v_tMoved := v_tMoved) (v_tWithout := v_tWithout) (v_places := v_places) (v_elsewhere := v_elsewhere) (v_sMany := v_sMany) (v_bMany := v_bMany) (v_year := v_year) (y_lies := y_lies) (a_rsort := a_rsort) (a_rmany := a_rmany) (a_nums := a_nums) hk hs
  have h1 := hH.1 q0 _ hq
  exact ⟨_, h1, rfl, (hK.2 24 _ rfl).2⟩
theorem cn_len0 (hX : CallFix p m c cc nL s args lw_all own) (hK : va_K D vwA (cT cA) s) (hH : MH D vwA A H0 (cW ad cA sA ta ba na gi rh rt g_sort g_size g_from g_to g_level g_full a_tape a_hAt a_hMany a_tAt a_tMany a_least a_place a_to a_order a_fails a_sKeys a_sRow a_sSlots a_bKeys a_bRow a_bSlots a_easy a_wants a_wantedBy a_ring a_carried a_latest v_taped v_faultKind v_faultPlace v_x v_ordered v_sought v_lastSought v_hMoved v_hWithout v_tMoved v_tWithout v_places v_elsewhere v_sMany v_bMany v_year y_lies a_rsort a_rmany a_nums pl) H locs) (hk : k < (4 : Int32).toNatClampNeg) (hs : a_rsort k = 0) (hdg : decode cc pc = .ok (.arraylength, 1)) (kk : W p l e R s m args below meth c H locs cells slots Q (F0 m (pc + 1) ls (.int (Int32.ofNat (a_rmany k).toNatClampNeg) :: rest))) : W p l e R s m args below meth c H locs cells slots Q (F0 m pc ls (.ref (na k) :: rest)) := by
  obtain ⟨q0, hq⟩ := cn_cell0 (ad := ad) (cA := cA) (sA := sA) (ta := ta) (ba := ba) (na := na) (gi := gi) (rh := rh) (rt := rt) (g_sort := g_sort) (g_size := g_size) (g_from := g_from) (g_to := g_to) (g_level := g_level) (g_full := g_full) (a_tape := a_tape) (a_hAt := a_hAt) (a_hMany := a_hMany) (a_tAt := a_tAt) (a_tMany := a_tMany) (a_least := a_least) (a_place := a_place) (a_to := a_to) (a_order := a_order) (a_fails := a_fails) (a_sKeys := a_sKeys) (a_sRow := a_sRow) (a_sSlots := a_sSlots) (a_bKeys := a_bKeys) (a_bRow := a_bRow) (a_bSlots := a_bSlots) (a_easy := a_easy) (a_wants := a_wants) (a_wantedBy := a_wantedBy) (a_ring := a_ring) (a_carried := a_carried) (a_latest := a_latest) (v_taped := v_taped) (v_faultKind := v_faultKind) (v_faultPlace := v_faultPlace) (v_x := v_x) (v_ordered := v_ordered) (v_sought := v_sought) (v_lastSought := v_lastSought) (v_hMoved := v_hMoved) (v_hWithout := v_hWithout) (v_tMoved := v_tMoved) (v_tWithout := v_tWithout) (v_places := v_places) (v_elsewhere := v_elsewhere) (v_sMany := v_sMany) (v_bMany := v_bMany) (v_year := v_year) (y_lies := y_lies) (a_rsort := a_rsort) (a_rmany := a_rmany) (a_nums := a_nums) hk hs
  exact va_alen hX.1 hX.2.1 hK hH.1 q0 24 hq rfl rfl hdg kk
theorem cn_ld0 (hX : CallFix p m c cc nL s args lw_all own) (hK : va_K D vwA (cT cA) s) (hH : MH D vwA A H0 (cW ad cA sA ta ba na gi rh rt g_sort g_size g_from g_to g_level g_full a_tape a_hAt a_hMany a_tAt a_tMany a_least a_place a_to a_order a_fails a_sKeys a_sRow a_sSlots a_bKeys a_bRow a_bSlots a_easy a_wants a_wantedBy a_ring a_carried a_latest v_taped v_faultKind v_faultPlace v_x v_ordered v_sought v_lastSought v_hMoved v_hWithout v_tMoved v_tWithout v_places v_elsewhere v_sMany v_bMany v_year y_lies a_rsort a_rmany a_nums pl) H locs) (hk : k < (4 : Int32).toNatClampNeg) (hs : a_rsort k = 0) {i : Int32} {v : Int32} (he : rd (a_rmany k).toNatClampNeg (fun j => (a_nums k j).toInt32) i = some v) (hdg : decode cc pc = .ok (.baload, 1)) (kk : W p l e R s m args below meth c H locs cells slots Q (F0 m (pc + 1) ls (.int v :: rest))) : W p l e R s m args below meth c H locs cells slots Q (F0 m pc ls (.int i :: .ref (na k) :: rest)) := by
  obtain ⟨q0, hq⟩ := cn_cell0 (ad := ad) (cA := cA) (sA := sA) (ta := ta) (ba := ba) (na := na) (gi := gi) (rh := rh) (rt := rt) (g_sort := g_sort) (g_size := g_size) (g_from := g_from) (g_to := g_to) (g_level := g_level) (g_full := g_full) (a_tape := a_tape) (a_hAt := a_hAt) (a_hMany := a_hMany) (a_tAt := a_tAt) (a_tMany := a_tMany) (a_least := a_least) (a_place := a_place) (a_to := a_to) (a_order := a_order) (a_fails := a_fails) (a_sKeys := a_sKeys) (a_sRow := a_sRow) (a_sSlots := a_sSlots) (a_bKeys := a_bKeys) (a_bRow := a_bRow) (a_bSlots := a_bSlots) (a_easy := a_easy) (a_wants := a_wants) (a_wantedBy := a_wantedBy) (a_ring := a_ring) (a_carried := a_carried) (a_latest := a_latest) (v_taped := v_taped) (v_faultKind := v_faultKind) (v_faultPlace := v_faultPlace) (v_x := v_x) (v_ordered := v_ordered) (v_sought := v_sought) (v_lastSought := v_lastSought) (v_hMoved := v_hMoved) (v_hWithout := v_hWithout) (v_tMoved := v_tMoved) (v_tWithout := v_tWithout) (v_places := v_places) (v_elsewhere := v_elsewhere) (v_sMany := v_sMany) (v_bMany := v_bMany) (v_year := v_year) (y_lies := y_lies) (a_rsort := a_rsort) (a_rmany := a_rmany) (a_nums := a_nums) hk hs
  exact va_bald hX.1 hX.2.1 hK hH.1 q0 24 hq rfl (rd_in he) hdg (by have ev : (a_nums k i.toNatClampNeg).toInt32 = v := rd_eq he; rw [ev]; exact kk)
theorem cn_cell1 (hk : k < (4 : Int32).toNatClampNeg) (hs : a_rsort k = 1) : ∃ q0 : Nat, (cW ad cA sA ta ba na gi rh rt g_sort g_size g_from g_to g_level g_full a_tape a_hAt a_hMany a_tAt a_tMany a_least a_place a_to a_order a_fails a_sKeys a_sRow a_sSlots a_bKeys a_bRow a_bSlots a_easy a_wants a_wantedBy a_ring a_carried a_latest v_taped v_faultKind v_faultPlace v_x v_ordered v_sought v_lastSought v_hMoved v_hWithout v_tMoved v_tWithout v_places v_elsewhere v_sMany v_bMany v_year y_lies a_rsort a_rmany a_nums pl)[q0]? = some (na k, .inl (cA 41, (a_rmany k).toNatClampNeg, .inl fun j => (a_nums k j).toInt32)) := by
  refine cn_mem (ad := ad) (cA := cA) (sA := sA) (ta := ta) (ba := ba) (na := na) (gi := gi) (rh := rh) (rt := rt) (g_sort := g_sort) (g_size := g_size) (g_from := g_from) (g_to := g_to) (g_level := g_level) (g_full := g_full) (a_tape := a_tape) (a_hAt := a_hAt) (a_hMany := a_hMany) (a_tAt := a_tAt) (a_tMany := a_tMany) (a_least := a_least) (a_place := a_place) (a_to := a_to) (a_order := a_order) (a_fails := a_fails) (a_sKeys := a_sKeys) (a_sRow := a_sRow) (a_sSlots := a_sSlots) (a_bKeys := a_bKeys) (a_bRow := a_bRow) (a_bSlots := a_bSlots) (a_easy := a_easy) (a_wants := a_wants) (a_wantedBy := a_wantedBy) (a_ring := a_ring) (a_carried := a_carried) (a_latest := a_latest) (v_taped := v_taped) (v_faultKind := v_faultKind) (v_faultPlace := v_faultPlace) (v_x := v_x) (v_ordered := v_ordered) (v_sought := v_sought) (v_lastSought := v_lastSought) (v_hMoved := v_hMoved) (v_hWithout := v_hWithout) (v_tMoved := v_tMoved) (v_tWithout := v_tWithout) (v_places := v_places) (v_elsewhere := v_elsewhere) (v_sMany := v_sMany) (v_bMany := v_bMany) (v_year := v_year) (y_lies := y_lies) (a_rsort := a_rsort) (a_rmany := a_rmany) (a_nums := a_nums) hk ?_
  have e : nC cA na a_rsort a_rmany a_nums k = [(na k, .inl (cA 41, (a_rmany k).toNatClampNeg, .inl fun j => (a_nums k j).toInt32))] := by
    unfold nC
    rw [hs, if_neg (by decide), if_neg (by decide)]
    rfl
  rw [e]
  exact List.mem_singleton.mpr rfl
theorem cn_at1 (hK : va_K D vwA (cT cA) s) (hH : MH D vwA A H0 (cW ad cA sA ta ba na gi rh rt g_sort g_size g_from g_to g_level g_full a_tape a_hAt a_hMany a_tAt a_tMany a_least a_place a_to a_order a_fails a_sKeys a_sRow a_sSlots a_bKeys a_bRow a_bSlots a_easy a_wants a_wantedBy a_ring a_carried a_latest v_taped v_faultKind v_faultPlace v_x v_ordered v_sought v_lastSought v_hMoved v_hWithout v_tMoved v_tWithout v_places v_elsewhere v_sMany v_bMany v_year y_lies a_rsort a_rmany a_nums pl) H locs) (hk : k < (4 : Int32).toNatClampNeg) (hs : a_rsort k = 1) : ∃ cell : Cell, H[na k]? = some cell ∧ cell.vm.isStatics = false ∧ s.vm.findClass "[S" = some cell.cls := by
  obtain ⟨q0, hq⟩ := cn_cell1 (ad := ad) (cA := cA) (sA := sA) (ta := ta) (ba := ba) (na := na) (gi := gi) (rh := rh) (rt := rt) (g_sort := g_sort) (g_size := g_size) (g_from := g_from) (g_to := g_to) (g_level := g_level) (g_full := g_full) (a_tape := a_tape) (a_hAt := a_hAt) (a_hMany := a_hMany) (a_tAt := a_tAt) (a_tMany := a_tMany) (a_least := a_least) (a_place := a_place) (a_to := a_to) (a_order := a_order) (a_fails := a_fails) (a_sKeys := a_sKeys) (a_sRow := a_sRow) (a_sSlots := a_sSlots) (a_bKeys := a_bKeys) (a_bRow := a_bRow) (a_bSlots := a_bSlots) (a_easy := a_easy) (a_wants := a_wants) (a_wantedBy := a_wantedBy) (a_ring := a_ring) (a_carried := a_carried) (a_latest := a_latest) (v_taped := v_taped) (v_faultKind := v_faultKind) (v_faultPlace := v_faultPlace) (v_x := v_x) (v_ordered := v_ordered) (v_sought := v_sought) (v_lastSought := v_lastSought) (v_hMoved := v_hMoved) (v_hWithout := v_hWithout) (v_tMoved := v_tMoved) (v_tWithout := v_tWithout) (v_places := v_places) (v_elsewhere := v_elsewhere) (v_sMany := v_sMany) (v_bMany := v_bMany) (v_year := v_year) (y_lies := y_lies) (a_rsort := a_rsort) (a_rmany := a_rmany) (a_nums := a_nums) hk hs
  have h1 := hH.1 q0 _ hq
  exact ⟨_, h1, rfl, (hK.2 25 _ rfl).2⟩
theorem cn_len1 (hX : CallFix p m c cc nL s args lw_all own) (hK : va_K D vwA (cT cA) s) (hH : MH D vwA A H0 (cW ad cA sA ta ba na gi rh rt g_sort g_size g_from g_to g_level g_full a_tape a_hAt a_hMany a_tAt a_tMany a_least a_place a_to a_order a_fails a_sKeys a_sRow a_sSlots a_bKeys a_bRow a_bSlots a_easy a_wants a_wantedBy a_ring a_carried a_latest v_taped v_faultKind v_faultPlace v_x v_ordered v_sought v_lastSought v_hMoved v_hWithout v_tMoved v_tWithout v_places v_elsewhere v_sMany v_bMany v_year y_lies a_rsort a_rmany a_nums pl) H locs) (hk : k < (4 : Int32).toNatClampNeg) (hs : a_rsort k = 1) (hdg : decode cc pc = .ok (.arraylength, 1)) (kk : W p l e R s m args below meth c H locs cells slots Q (F0 m (pc + 1) ls (.int (Int32.ofNat (a_rmany k).toNatClampNeg) :: rest))) : W p l e R s m args below meth c H locs cells slots Q (F0 m pc ls (.ref (na k) :: rest)) := by
  obtain ⟨q0, hq⟩ := cn_cell1 (ad := ad) (cA := cA) (sA := sA) (ta := ta) (ba := ba) (na := na) (gi := gi) (rh := rh) (rt := rt) (g_sort := g_sort) (g_size := g_size) (g_from := g_from) (g_to := g_to) (g_level := g_level) (g_full := g_full) (a_tape := a_tape) (a_hAt := a_hAt) (a_hMany := a_hMany) (a_tAt := a_tAt) (a_tMany := a_tMany) (a_least := a_least) (a_place := a_place) (a_to := a_to) (a_order := a_order) (a_fails := a_fails) (a_sKeys := a_sKeys) (a_sRow := a_sRow) (a_sSlots := a_sSlots) (a_bKeys := a_bKeys) (a_bRow := a_bRow) (a_bSlots := a_bSlots) (a_easy := a_easy) (a_wants := a_wants) (a_wantedBy := a_wantedBy) (a_ring := a_ring) (a_carried := a_carried) (a_latest := a_latest) (v_taped := v_taped) (v_faultKind := v_faultKind) (v_faultPlace := v_faultPlace) (v_x := v_x) (v_ordered := v_ordered) (v_sought := v_sought) (v_lastSought := v_lastSought) (v_hMoved := v_hMoved) (v_hWithout := v_hWithout) (v_tMoved := v_tMoved) (v_tWithout := v_tWithout) (v_places := v_places) (v_elsewhere := v_elsewhere) (v_sMany := v_sMany) (v_bMany := v_bMany) (v_year := v_year) (y_lies := y_lies) (a_rsort := a_rsort) (a_rmany := a_rmany) (a_nums := a_nums) hk hs
  exact va_alen hX.1 hX.2.1 hK hH.1 q0 25 hq rfl rfl hdg kk
theorem cn_ld1 (hX : CallFix p m c cc nL s args lw_all own) (hK : va_K D vwA (cT cA) s) (hH : MH D vwA A H0 (cW ad cA sA ta ba na gi rh rt g_sort g_size g_from g_to g_level g_full a_tape a_hAt a_hMany a_tAt a_tMany a_least a_place a_to a_order a_fails a_sKeys a_sRow a_sSlots a_bKeys a_bRow a_bSlots a_easy a_wants a_wantedBy a_ring a_carried a_latest v_taped v_faultKind v_faultPlace v_x v_ordered v_sought v_lastSought v_hMoved v_hWithout v_tMoved v_tWithout v_places v_elsewhere v_sMany v_bMany v_year y_lies a_rsort a_rmany a_nums pl) H locs) (hk : k < (4 : Int32).toNatClampNeg) (hs : a_rsort k = 1) {i : Int32} {v : Int32} (he : rd (a_rmany k).toNatClampNeg (fun j => (a_nums k j).toInt32) i = some v) (hdg : decode cc pc = .ok (.saload, 1)) (kk : W p l e R s m args below meth c H locs cells slots Q (F0 m (pc + 1) ls (.int v :: rest))) : W p l e R s m args below meth c H locs cells slots Q (F0 m pc ls (.int i :: .ref (na k) :: rest)) := by
  obtain ⟨q0, hq⟩ := cn_cell1 (ad := ad) (cA := cA) (sA := sA) (ta := ta) (ba := ba) (na := na) (gi := gi) (rh := rh) (rt := rt) (g_sort := g_sort) (g_size := g_size) (g_from := g_from) (g_to := g_to) (g_level := g_level) (g_full := g_full) (a_tape := a_tape) (a_hAt := a_hAt) (a_hMany := a_hMany) (a_tAt := a_tAt) (a_tMany := a_tMany) (a_least := a_least) (a_place := a_place) (a_to := a_to) (a_order := a_order) (a_fails := a_fails) (a_sKeys := a_sKeys) (a_sRow := a_sRow) (a_sSlots := a_sSlots) (a_bKeys := a_bKeys) (a_bRow := a_bRow) (a_bSlots := a_bSlots) (a_easy := a_easy) (a_wants := a_wants) (a_wantedBy := a_wantedBy) (a_ring := a_ring) (a_carried := a_carried) (a_latest := a_latest) (v_taped := v_taped) (v_faultKind := v_faultKind) (v_faultPlace := v_faultPlace) (v_x := v_x) (v_ordered := v_ordered) (v_sought := v_sought) (v_lastSought := v_lastSought) (v_hMoved := v_hMoved) (v_hWithout := v_hWithout) (v_tMoved := v_tMoved) (v_tWithout := v_tWithout) (v_places := v_places) (v_elsewhere := v_elsewhere) (v_sMany := v_sMany) (v_bMany := v_bMany) (v_year := v_year) (y_lies := y_lies) (a_rsort := a_rsort) (a_rmany := a_rmany) (a_nums := a_nums) hk hs
  exact va_sald hX.1 hX.2.1 hK hH.1 q0 25 hq rfl (rd_in he) hdg (by have ev : (a_nums k i.toNatClampNeg).toInt32 = v := rd_eq he; rw [ev]; exact kk)
theorem cn_cell2 (hk : k < (4 : Int32).toNatClampNeg) (hs : a_rsort k = 2) : ∃ q0 : Nat, (cW ad cA sA ta ba na gi rh rt g_sort g_size g_from g_to g_level g_full a_tape a_hAt a_hMany a_tAt a_tMany a_least a_place a_to a_order a_fails a_sKeys a_sRow a_sSlots a_bKeys a_bRow a_bSlots a_easy a_wants a_wantedBy a_ring a_carried a_latest v_taped v_faultKind v_faultPlace v_x v_ordered v_sought v_lastSought v_hMoved v_hWithout v_tMoved v_tWithout v_places v_elsewhere v_sMany v_bMany v_year y_lies a_rsort a_rmany a_nums pl)[q0]? = some (na k, .inl (cA 42, (a_rmany k).toNatClampNeg, .inl fun j => (a_nums k j).toInt32)) := by
  refine cn_mem (ad := ad) (cA := cA) (sA := sA) (ta := ta) (ba := ba) (na := na) (gi := gi) (rh := rh) (rt := rt) (g_sort := g_sort) (g_size := g_size) (g_from := g_from) (g_to := g_to) (g_level := g_level) (g_full := g_full) (a_tape := a_tape) (a_hAt := a_hAt) (a_hMany := a_hMany) (a_tAt := a_tAt) (a_tMany := a_tMany) (a_least := a_least) (a_place := a_place) (a_to := a_to) (a_order := a_order) (a_fails := a_fails) (a_sKeys := a_sKeys) (a_sRow := a_sRow) (a_sSlots := a_sSlots) (a_bKeys := a_bKeys) (a_bRow := a_bRow) (a_bSlots := a_bSlots) (a_easy := a_easy) (a_wants := a_wants) (a_wantedBy := a_wantedBy) (a_ring := a_ring) (a_carried := a_carried) (a_latest := a_latest) (v_taped := v_taped) (v_faultKind := v_faultKind) (v_faultPlace := v_faultPlace) (v_x := v_x) (v_ordered := v_ordered) (v_sought := v_sought) (v_lastSought := v_lastSought) (v_hMoved := v_hMoved) (v_hWithout := v_hWithout) (v_tMoved := v_tMoved) (v_tWithout := v_tWithout) (v_places := v_places) (v_elsewhere := v_elsewhere) (v_sMany := v_sMany) (v_bMany := v_bMany) (v_year := v_year) (y_lies := y_lies) (a_rsort := a_rsort) (a_rmany := a_rmany) (a_nums := a_nums) hk ?_
  have e : nC cA na a_rsort a_rmany a_nums k = [(na k, .inl (cA 42, (a_rmany k).toNatClampNeg, .inl fun j => (a_nums k j).toInt32))] := by
    unfold nC
    rw [hs, if_neg (by decide), if_neg (by decide)]
    rfl
  rw [e]
  exact List.mem_singleton.mpr rfl
theorem cn_at2 (hK : va_K D vwA (cT cA) s) (hH : MH D vwA A H0 (cW ad cA sA ta ba na gi rh rt g_sort g_size g_from g_to g_level g_full a_tape a_hAt a_hMany a_tAt a_tMany a_least a_place a_to a_order a_fails a_sKeys a_sRow a_sSlots a_bKeys a_bRow a_bSlots a_easy a_wants a_wantedBy a_ring a_carried a_latest v_taped v_faultKind v_faultPlace v_x v_ordered v_sought v_lastSought v_hMoved v_hWithout v_tMoved v_tWithout v_places v_elsewhere v_sMany v_bMany v_year y_lies a_rsort a_rmany a_nums pl) H locs) (hk : k < (4 : Int32).toNatClampNeg) (hs : a_rsort k = 2) : ∃ cell : Cell, H[na k]? = some cell ∧ cell.vm.isStatics = false ∧ s.vm.findClass "[I" = some cell.cls := by
  obtain ⟨q0, hq⟩ := cn_cell2 (ad := ad) (cA := cA) (sA := sA) (ta := ta) (ba := ba) (na := na) (gi := gi) (rh := rh) (rt := rt) (g_sort := g_sort) (g_size := g_size) (g_from := g_from) (g_to := g_to) (g_level := g_level) (g_full := g_full) (a_tape := a_tape) (a_hAt := a_hAt) (a_hMany := a_hMany) (a_tAt := a_tAt) (a_tMany := a_tMany) (a_least := a_least) (a_place := a_place) (a_to := a_to) (a_order := a_order) (a_fails := a_fails) (a_sKeys := a_sKeys) (a_sRow := a_sRow) (a_sSlots := a_sSlots) (a_bKeys := a_bKeys) (a_bRow := a_bRow) (a_bSlots := a_bSlots) (a_easy := a_easy) (a_wants := a_wants) (a_wantedBy := a_wantedBy) (a_ring := a_ring) (a_carried := a_carried) (a_latest := a_latest) (v_taped := v_taped) (v_faultKind := v_faultKind) (v_faultPlace := v_faultPlace) (v_x := v_x) (v_ordered := v_ordered) (v_sought := v_sought) (v_lastSought := v_lastSought) (v_hMoved := v_hMoved) (v_hWithout := v_hWithout) (v_tMoved := v_tMoved) (v_tWithout := v_tWithout) (v_places := v_places) (v_elsewhere := v_elsewhere) (v_sMany := v_sMany) (v_bMany := v_bMany) (v_year := v_year) (y_lies := y_lies) (a_rsort := a_rsort) (a_rmany := a_rmany) (a_nums := a_nums) hk hs
  have h1 := hH.1 q0 _ hq
  exact ⟨_, h1, rfl, (hK.2 26 _ rfl).2⟩
theorem cn_len2 (hX : CallFix p m c cc nL s args lw_all own) (hK : va_K D vwA (cT cA) s) (hH : MH D vwA A H0 (cW ad cA sA ta ba na gi rh rt g_sort g_size g_from g_to g_level g_full a_tape a_hAt a_hMany a_tAt a_tMany a_least a_place a_to a_order a_fails a_sKeys a_sRow a_sSlots a_bKeys a_bRow a_bSlots a_easy a_wants a_wantedBy a_ring a_carried a_latest v_taped v_faultKind v_faultPlace v_x v_ordered v_sought v_lastSought v_hMoved v_hWithout v_tMoved v_tWithout v_places v_elsewhere v_sMany v_bMany v_year y_lies a_rsort a_rmany a_nums pl) H locs) (hk : k < (4 : Int32).toNatClampNeg) (hs : a_rsort k = 2) (hdg : decode cc pc = .ok (.arraylength, 1)) (kk : W p l e R s m args below meth c H locs cells slots Q (F0 m (pc + 1) ls (.int (Int32.ofNat (a_rmany k).toNatClampNeg) :: rest))) : W p l e R s m args below meth c H locs cells slots Q (F0 m pc ls (.ref (na k) :: rest)) := by
  obtain ⟨q0, hq⟩ := cn_cell2 (ad := ad) (cA := cA) (sA := sA) (ta := ta) (ba := ba) (na := na) (gi := gi) (rh := rh) (rt := rt) (g_sort := g_sort) (g_size := g_size) (g_from := g_from) (g_to := g_to) (g_level := g_level) (g_full := g_full) (a_tape := a_tape) (a_hAt := a_hAt) (a_hMany := a_hMany) (a_tAt := a_tAt) (a_tMany := a_tMany) (a_least := a_least) (a_place := a_place) (a_to := a_to) (a_order := a_order) (a_fails := a_fails) (a_sKeys := a_sKeys) (a_sRow := a_sRow) (a_sSlots := a_sSlots) (a_bKeys := a_bKeys) (a_bRow := a_bRow) (a_bSlots := a_bSlots) (a_easy := a_easy) (a_wants := a_wants) (a_wantedBy := a_wantedBy) (a_ring := a_ring) (a_carried := a_carried) (a_latest := a_latest) (v_taped := v_taped) (v_faultKind := v_faultKind) (v_faultPlace := v_faultPlace) (v_x := v_x) (v_ordered := v_ordered) (v_sought := v_sought) (v_lastSought := v_lastSought) (v_hMoved := v_hMoved) (v_hWithout := v_hWithout) (v_tMoved := v_tMoved) (v_tWithout := v_tWithout) (v_places := v_places) (v_elsewhere := v_elsewhere) (v_sMany := v_sMany) (v_bMany := v_bMany) (v_year := v_year) (y_lies := y_lies) (a_rsort := a_rsort) (a_rmany := a_rmany) (a_nums := a_nums) hk hs
  exact va_alen hX.1 hX.2.1 hK hH.1 q0 26 hq rfl rfl hdg kk
theorem cn_ld2 (hX : CallFix p m c cc nL s args lw_all own) (hK : va_K D vwA (cT cA) s) (hH : MH D vwA A H0 (cW ad cA sA ta ba na gi rh rt g_sort g_size g_from g_to g_level g_full a_tape a_hAt a_hMany a_tAt a_tMany a_least a_place a_to a_order a_fails a_sKeys a_sRow a_sSlots a_bKeys a_bRow a_bSlots a_easy a_wants a_wantedBy a_ring a_carried a_latest v_taped v_faultKind v_faultPlace v_x v_ordered v_sought v_lastSought v_hMoved v_hWithout v_tMoved v_tWithout v_places v_elsewhere v_sMany v_bMany v_year y_lies a_rsort a_rmany a_nums pl) H locs) (hk : k < (4 : Int32).toNatClampNeg) (hs : a_rsort k = 2) {i : Int32} {v : Int32} (he : rd (a_rmany k).toNatClampNeg (fun j => (a_nums k j).toInt32) i = some v) (hdg : decode cc pc = .ok (.iaload, 1)) (kk : W p l e R s m args below meth c H locs cells slots Q (F0 m (pc + 1) ls (.int v :: rest))) : W p l e R s m args below meth c H locs cells slots Q (F0 m pc ls (.int i :: .ref (na k) :: rest)) := by
  obtain ⟨q0, hq⟩ := cn_cell2 (ad := ad) (cA := cA) (sA := sA) (ta := ta) (ba := ba) (na := na) (gi := gi) (rh := rh) (rt := rt) (g_sort := g_sort) (g_size := g_size) (g_from := g_from) (g_to := g_to) (g_level := g_level) (g_full := g_full) (a_tape := a_tape) (a_hAt := a_hAt) (a_hMany := a_hMany) (a_tAt := a_tAt) (a_tMany := a_tMany) (a_least := a_least) (a_place := a_place) (a_to := a_to) (a_order := a_order) (a_fails := a_fails) (a_sKeys := a_sKeys) (a_sRow := a_sRow) (a_sSlots := a_sSlots) (a_bKeys := a_bKeys) (a_bRow := a_bRow) (a_bSlots := a_bSlots) (a_easy := a_easy) (a_wants := a_wants) (a_wantedBy := a_wantedBy) (a_ring := a_ring) (a_carried := a_carried) (a_latest := a_latest) (v_taped := v_taped) (v_faultKind := v_faultKind) (v_faultPlace := v_faultPlace) (v_x := v_x) (v_ordered := v_ordered) (v_sought := v_sought) (v_lastSought := v_lastSought) (v_hMoved := v_hMoved) (v_hWithout := v_hWithout) (v_tMoved := v_tMoved) (v_tWithout := v_tWithout) (v_places := v_places) (v_elsewhere := v_elsewhere) (v_sMany := v_sMany) (v_bMany := v_bMany) (v_year := v_year) (y_lies := y_lies) (a_rsort := a_rsort) (a_rmany := a_rmany) (a_nums := a_nums) hk hs
  exact va_iald hX.1 hX.2.1 hK hH.1 q0 26 hq rfl (rd_in he) hdg (by have ev : (a_nums k i.toNatClampNeg).toInt32 = v := rd_eq he; rw [ev]; exact kk)
theorem cn_cell3 (hk : k < (4 : Int32).toNatClampNeg) (hs : a_rsort k = 3) : ∃ q0 : Nat, (cW ad cA sA ta ba na gi rh rt g_sort g_size g_from g_to g_level g_full a_tape a_hAt a_hMany a_tAt a_tMany a_least a_place a_to a_order a_fails a_sKeys a_sRow a_sSlots a_bKeys a_bRow a_bSlots a_easy a_wants a_wantedBy a_ring a_carried a_latest v_taped v_faultKind v_faultPlace v_x v_ordered v_sought v_lastSought v_hMoved v_hWithout v_tMoved v_tWithout v_places v_elsewhere v_sMany v_bMany v_year y_lies a_rsort a_rmany a_nums pl)[q0]? = some (na k, .inl (cA 43, (a_rmany k).toNatClampNeg, .inr (.inl (a_nums k)))) := by
  refine cn_mem (ad := ad) (cA := cA) (sA := sA) (ta := ta) (ba := ba) (na := na) (gi := gi) (rh := rh) (rt := rt) (g_sort := g_sort) (g_size := g_size) (g_from := g_from) (g_to := g_to) (g_level := g_level) (g_full := g_full) (a_tape := a_tape) (a_hAt := a_hAt) (a_hMany := a_hMany) (a_tAt := a_tAt) (a_tMany := a_tMany) (a_least := a_least) (a_place := a_place) (a_to := a_to) (a_order := a_order) (a_fails := a_fails) (a_sKeys := a_sKeys) (a_sRow := a_sRow) (a_sSlots := a_sSlots) (a_bKeys := a_bKeys) (a_bRow := a_bRow) (a_bSlots := a_bSlots) (a_easy := a_easy) (a_wants := a_wants) (a_wantedBy := a_wantedBy) (a_ring := a_ring) (a_carried := a_carried) (a_latest := a_latest) (v_taped := v_taped) (v_faultKind := v_faultKind) (v_faultPlace := v_faultPlace) (v_x := v_x) (v_ordered := v_ordered) (v_sought := v_sought) (v_lastSought := v_lastSought) (v_hMoved := v_hMoved) (v_hWithout := v_hWithout) (v_tMoved := v_tMoved) (v_tWithout := v_tWithout) (v_places := v_places) (v_elsewhere := v_elsewhere) (v_sMany := v_sMany) (v_bMany := v_bMany) (v_year := v_year) (y_lies := y_lies) (a_rsort := a_rsort) (a_rmany := a_rmany) (a_nums := a_nums) hk ?_
  have e : nC cA na a_rsort a_rmany a_nums k = [(na k, .inl (cA 43, (a_rmany k).toNatClampNeg, .inr (.inl (a_nums k))))] := by
    unfold nC
    rw [hs, if_neg (by decide), if_pos rfl]
    rfl
  rw [e]
  exact List.mem_singleton.mpr rfl
theorem cn_at3 (hK : va_K D vwA (cT cA) s) (hH : MH D vwA A H0 (cW ad cA sA ta ba na gi rh rt g_sort g_size g_from g_to g_level g_full a_tape a_hAt a_hMany a_tAt a_tMany a_least a_place a_to a_order a_fails a_sKeys a_sRow a_sSlots a_bKeys a_bRow a_bSlots a_easy a_wants a_wantedBy a_ring a_carried a_latest v_taped v_faultKind v_faultPlace v_x v_ordered v_sought v_lastSought v_hMoved v_hWithout v_tMoved v_tWithout v_places v_elsewhere v_sMany v_bMany v_year y_lies a_rsort a_rmany a_nums pl) H locs) (hk : k < (4 : Int32).toNatClampNeg) (hs : a_rsort k = 3) : ∃ cell : Cell, H[na k]? = some cell ∧ cell.vm.isStatics = false ∧ s.vm.findClass "[J" = some cell.cls := by
  obtain ⟨q0, hq⟩ := cn_cell3 (ad := ad) (cA := cA) (sA := sA) (ta := ta) (ba := ba) (na := na) (gi := gi) (rh := rh) (rt := rt) (g_sort := g_sort) (g_size := g_size) (g_from := g_from) (g_to := g_to) (g_level := g_level) (g_full := g_full) (a_tape := a_tape) (a_hAt := a_hAt) (a_hMany := a_hMany) (a_tAt := a_tAt) (a_tMany := a_tMany) (a_least := a_least) (a_place := a_place) (a_to := a_to) (a_order := a_order) (a_fails := a_fails) (a_sKeys := a_sKeys) (a_sRow := a_sRow) (a_sSlots := a_sSlots) (a_bKeys := a_bKeys) (a_bRow := a_bRow) (a_bSlots := a_bSlots) (a_easy := a_easy) (a_wants := a_wants) (a_wantedBy := a_wantedBy) (a_ring := a_ring) (a_carried := a_carried) (a_latest := a_latest) (v_taped := v_taped) (v_faultKind := v_faultKind) (v_faultPlace := v_faultPlace) (v_x := v_x) (v_ordered := v_ordered) (v_sought := v_sought) (v_lastSought := v_lastSought) (v_hMoved := v_hMoved) (v_hWithout := v_hWithout) (v_tMoved := v_tMoved) (v_tWithout := v_tWithout) (v_places := v_places) (v_elsewhere := v_elsewhere) (v_sMany := v_sMany) (v_bMany := v_bMany) (v_year := v_year) (y_lies := y_lies) (a_rsort := a_rsort) (a_rmany := a_rmany) (a_nums := a_nums) hk hs
  have h1 := hH.1 q0 _ hq
  exact ⟨_, h1, rfl, (hK.2 27 _ rfl).2⟩
theorem cn_len3 (hX : CallFix p m c cc nL s args lw_all own) (hK : va_K D vwA (cT cA) s) (hH : MH D vwA A H0 (cW ad cA sA ta ba na gi rh rt g_sort g_size g_from g_to g_level g_full a_tape a_hAt a_hMany a_tAt a_tMany a_least a_place a_to a_order a_fails a_sKeys a_sRow a_sSlots a_bKeys a_bRow a_bSlots a_easy a_wants a_wantedBy a_ring a_carried a_latest v_taped v_faultKind v_faultPlace v_x v_ordered v_sought v_lastSought v_hMoved v_hWithout v_tMoved v_tWithout v_places v_elsewhere v_sMany v_bMany v_year y_lies a_rsort a_rmany a_nums pl) H locs) (hk : k < (4 : Int32).toNatClampNeg) (hs : a_rsort k = 3) (hdg : decode cc pc = .ok (.arraylength, 1)) (kk : W p l e R s m args below meth c H locs cells slots Q (F0 m (pc + 1) ls (.int (Int32.ofNat (a_rmany k).toNatClampNeg) :: rest))) : W p l e R s m args below meth c H locs cells slots Q (F0 m pc ls (.ref (na k) :: rest)) := by
  obtain ⟨q0, hq⟩ := cn_cell3 (ad := ad) (cA := cA) (sA := sA) (ta := ta) (ba := ba) (na := na) (gi := gi) (rh := rh) (rt := rt) (g_sort := g_sort) (g_size := g_size) (g_from := g_from) (g_to := g_to) (g_level := g_level) (g_full := g_full) (a_tape := a_tape) (a_hAt := a_hAt) (a_hMany := a_hMany) (a_tAt := a_tAt) (a_tMany := a_tMany) (a_least := a_least) (a_place := a_place) (a_to := a_to) (a_order := a_order) (a_fails := a_fails) (a_sKeys := a_sKeys) (a_sRow := a_sRow) (a_sSlots := a_sSlots) (a_bKeys := a_bKeys) (a_bRow := a_bRow) (a_bSlots := a_bSlots) (a_easy := a_easy) (a_wants := a_wants) (a_wantedBy := a_wantedBy) (a_ring := a_ring) (a_carried := a_carried) (a_latest := a_latest) (v_taped := v_taped) (v_faultKind := v_faultKind) (v_faultPlace := v_faultPlace) (v_x := v_x) (v_ordered := v_ordered) (v_sought := v_sought) (v_lastSought := v_lastSought) (v_hMoved := v_hMoved) (v_hWithout := v_hWithout) (v_tMoved := v_tMoved) (v_tWithout := v_tWithout) (v_places := v_places) (v_elsewhere := v_elsewhere) (v_sMany := v_sMany) (v_bMany := v_bMany) (v_year := v_year) (y_lies := y_lies) (a_rsort := a_rsort) (a_rmany := a_rmany) (a_nums := a_nums) hk hs
  exact va_alen hX.1 hX.2.1 hK hH.1 q0 27 hq rfl rfl hdg kk
theorem cn_ld3 (hX : CallFix p m c cc nL s args lw_all own) (hK : va_K D vwA (cT cA) s) (hH : MH D vwA A H0 (cW ad cA sA ta ba na gi rh rt g_sort g_size g_from g_to g_level g_full a_tape a_hAt a_hMany a_tAt a_tMany a_least a_place a_to a_order a_fails a_sKeys a_sRow a_sSlots a_bKeys a_bRow a_bSlots a_easy a_wants a_wantedBy a_ring a_carried a_latest v_taped v_faultKind v_faultPlace v_x v_ordered v_sought v_lastSought v_hMoved v_hWithout v_tMoved v_tWithout v_places v_elsewhere v_sMany v_bMany v_year y_lies a_rsort a_rmany a_nums pl) H locs) (hk : k < (4 : Int32).toNatClampNeg) (hs : a_rsort k = 3) {i : Int32} {v : Int64} (he : rd (a_rmany k).toNatClampNeg (a_nums k) i = some v) (hdg : decode cc pc = .ok (.laload, 1)) (kk : W p l e R s m args below meth c H locs cells slots Q (F0 m (pc + 1) ls (.long v :: rest))) : W p l e R s m args below meth c H locs cells slots Q (F0 m pc ls (.int i :: .ref (na k) :: rest)) := by
  obtain ⟨q0, hq⟩ := cn_cell3 (ad := ad) (cA := cA) (sA := sA) (ta := ta) (ba := ba) (na := na) (gi := gi) (rh := rh) (rt := rt) (g_sort := g_sort) (g_size := g_size) (g_from := g_from) (g_to := g_to) (g_level := g_level) (g_full := g_full) (a_tape := a_tape) (a_hAt := a_hAt) (a_hMany := a_hMany) (a_tAt := a_tAt) (a_tMany := a_tMany) (a_least := a_least) (a_place := a_place) (a_to := a_to) (a_order := a_order) (a_fails := a_fails) (a_sKeys := a_sKeys) (a_sRow := a_sRow) (a_sSlots := a_sSlots) (a_bKeys := a_bKeys) (a_bRow := a_bRow) (a_bSlots := a_bSlots) (a_easy := a_easy) (a_wants := a_wants) (a_wantedBy := a_wantedBy) (a_ring := a_ring) (a_carried := a_carried) (a_latest := a_latest) (v_taped := v_taped) (v_faultKind := v_faultKind) (v_faultPlace := v_faultPlace) (v_x := v_x) (v_ordered := v_ordered) (v_sought := v_sought) (v_lastSought := v_lastSought) (v_hMoved := v_hMoved) (v_hWithout := v_hWithout) (v_tMoved := v_tMoved) (v_tWithout := v_tWithout) (v_places := v_places) (v_elsewhere := v_elsewhere) (v_sMany := v_sMany) (v_bMany := v_bMany) (v_year := v_year) (y_lies := y_lies) (a_rsort := a_rsort) (a_rmany := a_rmany) (a_nums := a_nums) hk hs
  exact va_lald hX.1 hX.2.1 hK hH.1 q0 27 hq rfl (rd_in he) hdg (by have ev : a_nums k i.toNatClampNeg = v := rd_eq he; rw [ev]; exact kk)
theorem cgn_held (hX : CallFix p m c cc nL s args lw_all RX7) (hK : va_K D vwA (cT cA) s) (hH : MH D vwA A H0 (cW ad cA sA ta ba na gi rh rt g_sort g_size g_from g_to g_level g_full a_tape a_hAt a_hMany a_tAt a_tMany a_least a_place a_to a_order a_fails a_sKeys a_sRow a_sSlots a_bKeys a_bRow a_bSlots a_easy a_wants a_wantedBy a_ring a_carried a_latest v_taped v_faultKind v_faultPlace v_x v_ordered v_sought v_lastSought v_hMoved v_hWithout v_tMoved v_tWithout v_places v_elsewhere v_sMany v_bMany v_year y_lies a_rsort a_rmany a_nums pl) H locs) (hk : k < (4 : Int32).toNatClampNeg) (hs : ¬ a_rsort k = (-1)) (hdg : decode cc pc = .ok (.getfield 7, 3)) (kk : W p l e R s m args below meth c H locs cells slots Q (F0 m (pc + 3) ls (.ref (na k) :: rest))) : W p l e R s m args below meth c H locs cells slots Q (F0 m pc ls (.ref (ad (29 + k)) :: rest)) := by
  have hk : k < 4 := hk
  have kk : W p l e R s m args below meth c H locs cells slots Q (F0 m (pc + 3) ls (va_rf (nheld a_rsort na k) :: rest)) := by
    rw [show nheld a_rsort na k = some (na k) from if_neg hs]
    exact kk
  rcases (show k = 0 ∨ k = 1 ∨ k = 2 ∨ k = 3 by omega) with rfl | rfl | rfl | rfl
  · exact va_get (C := RX7) (T := TX7) (N := 1) hX.1 hX.2.1 hX.2.2.2.2 in_X7 hX.2.2.2.1 hK hH.1 29 rfl rfl 0 (by decide) (hX.2.2.2.2 _ q413) (fun _ h9 => h9) rfl hdg kk
  · exact va_get (C := RX7) (T := TX7) (N := 1) hX.1 hX.2.1 hX.2.2.2.2 in_X7 hX.2.2.2.1 hK hH.1 30 rfl rfl 0 (by decide) (hX.2.2.2.2 _ q413) (fun _ h9 => h9) rfl hdg kk
  · exact va_get (C := RX7) (T := TX7) (N := 1) hX.1 hX.2.1 hX.2.2.2.2 in_X7 hX.2.2.2.1 hK hH.1 31 rfl rfl 0 (by decide) (hX.2.2.2.2 _ q413) (fun _ h9 => h9) rfl hdg kk
  · exact va_get (C := RX7) (T := TX7) (N := 1) hX.1 hX.2.1 hX.2.2.2.2 in_X7 hX.2.2.2.1 hK hH.1 32 rfl rfl 0 (by decide) (hX.2.2.2.2 _ q413) (fun _ h9 => h9) rfl hdg kk
end CN
set_option maxHeartbeats 4000000 in
theorem met_X13_isKept {l : Launch} {D : va_G} {ad : Nat → Nat} {cA : Nat → ClassId} {sA ta ba na : Nat → Nat} {gi : Nat → Option Nat} {rh : Option Nat} {rt : Option Nat} {g_sort : Int32} {g_size : Int32} {g_from : Int32} {g_to : Int32} {g_level : Int32} {g_full : Int32} {a_tape : Nat → Int32} {a_hAt : Nat → Int32} {a_hMany : Nat → Int32} {a_tAt : Nat → Int32} {a_tMany : Nat → Int32} {a_least : Nat → Int32} {a_place : Nat → Int32} {a_to : Nat → Int32} {a_order : Nat → Int32} {a_fails : Nat → Int32} {a_sKeys : Nat → Int64} {a_sRow : Nat → Int64} {a_sSlots : Nat → Int32} {a_bKeys : Nat → Int64} {a_bRow : Nat → Int64} {a_bSlots : Nat → Int32} {a_easy : Nat → Int32} {a_wants : Nat → Int32} {a_wantedBy : Nat → Int32} {a_ring : Nat → Int32} {a_carried : Nat → Int32} {a_latest : Nat → Int32} {v_taped : Int32} {v_faultKind : Int32} {v_faultPlace : Int32} {v_x : Int32} {v_ordered : Int32} {v_sought : Int32} {v_lastSought : Int32} {v_hMoved : Int32} {v_hWithout : Int32} {v_tMoved : Int32} {v_tWithout : Int32} {v_places : Int32} {v_elsewhere : Int32} {v_sMany : Int32} {v_bMany : Int32} {v_year : Int32} {y_lies : Int64} {a_rsort : Nat → Int32} {a_rmany : Nat → Int32} {a_nums : Nat → Nat → Int64} {pl : va_W} {a0 : Nat} {r0 : Int32} {n0 : Int32}  {p1 : Int32} {res : Bool} {E : EvT} (hE : EvN E) (hm : ((a0, .inr (12, [.int r0, .int n0])) : Nat × va_E) ∈ pl) (hF : FX13_isKept n0 p1 = some res) : MX l yX13_isKept (ws_ yX13_isKept cX13_isKept 2 (Option.some Jvm.ClassFile.FieldType.boolean)) rm_J2_size D vwA (cT cA) E [.ref a0, .int p1] (cW ad cA sA ta ba na gi rh rt g_sort g_size g_from g_to g_level g_full a_tape a_hAt a_hMany a_tAt a_tMany a_least a_place a_to a_order a_fails a_sKeys a_sRow a_sSlots a_bKeys a_bRow a_bSlots a_easy a_wants a_wantedBy a_ring a_carried a_latest v_taped v_faultKind v_faultPlace v_x v_ordered v_sought v_lastSought v_hMoved v_hWithout v_tMoved v_tWithout v_places v_elsewhere v_sMany v_bMany v_year y_lies a_rsort a_rmany a_nums pl) (fun z => z = (cW ad cA sA ta ba na gi rh rt g_sort g_size g_from g_to g_level g_full a_tape a_hAt a_hMany a_tAt a_tMany a_least a_place a_to a_order a_fails a_sKeys a_sRow a_sSlots a_bKeys a_bRow a_bSlots a_easy a_wants a_wantedBy a_ring a_carried a_latest v_taped v_faultKind v_faultPlace v_x v_ordered v_sought v_lastSought v_hMoved v_hWithout v_tMoved v_tWithout v_places v_elsewhere v_sMany v_bMany v_year y_lies a_rsort a_rmany a_nums pl)) (some (.int (b2i res))) := by
  refine MX.ofZ (by decide) (Nat.le_of_ble_eq_true rfl) ?_
  intro p e s m args below meth c Q A hX hK hE0 hname hret H locs ls hH hl
  have hX : CallFix p m c cX13_isKept 2 s args lw_all RX13 := hX
  have hx := hX.1
  have hb := hX.2.1
  have hown := hX.2.2.2.1
  have hts := hX.2.2.2.2
  have hl : lv_has ls 2 [(0, .ref a0), (1, .int p1)] := hl
  have hEv := hE.1
  obtain ⟨q0, hq⟩ := cW_pl (ad := ad) (cA := cA) (sA := sA) (ta := ta) (ba := ba) (na := na) (gi := gi) (rh := rh) (rt := rt) (g_sort := g_sort) (g_size := g_size) (g_from := g_from) (g_to := g_to) (g_level := g_level) (g_full := g_full) (a_tape := a_tape) (a_hAt := a_hAt) (a_hMany := a_hMany) (a_tAt := a_tAt) (a_tMany := a_tMany) (a_least := a_least) (a_place := a_place) (a_to := a_to) (a_order := a_order) (a_fails := a_fails) (a_sKeys := a_sKeys) (a_sRow := a_sRow) (a_sSlots := a_sSlots) (a_bKeys := a_bKeys) (a_bRow := a_bRow) (a_bSlots := a_bSlots) (a_easy := a_easy) (a_wants := a_wants) (a_wantedBy := a_wantedBy) (a_ring := a_ring) (a_carried := a_carried) (a_latest := a_latest) (v_taped := v_taped) (v_faultKind := v_faultKind) (v_faultPlace := v_faultPlace) (v_x := v_x) (v_ordered := v_ordered) (v_sought := v_sought) (v_lastSought := v_lastSought) (v_hMoved := v_hMoved) (v_hWithout := v_hWithout) (v_tMoved := v_tMoved) (v_tWithout := v_tWithout) (v_places := v_places) (v_elsewhere := v_elsewhere) (v_sMany := v_sMany) (v_bMany := v_bMany) (v_year := v_year) (y_lies := y_lies) (a_rsort := a_rsort) (a_rmany := a_rmany) (a_nums := a_nums) hm
  have hNW := hE.2.1 _ _ _ hE0
  delta FX13_isKept at hF
  refine lv_iload_n hx hb dX13_isKept_0 rfl (lv_at hl 1 rfl) ?_
  refine lv_aload_n hx hb dX13_isKept_1 rfl (lv_at hl 0 rfl) ?_
  refine va_get (C := RX13) (T := TX13) (N := 2) hX.1 hX.2.1 hX.2.2.2.2 in_X13 hX.2.2.2.1 hK hH.1 q0 hq rfl 1 (by decide) (hts _ q854) (fun x9 h9 => u_same (hts _ q855) x9 h9) rfl dX13_isKept_2 ?_
  refine lv_icmp_lt (tgt := 12) hx hb dX13_isKept_5 rfl (fun c_57 => ?_) (fun c_57 => ?_)
  · have hF := itp c_57 hF
    refine lv_iconst (v := 0) hx hb dX13_isKept_12 kyi_0 ?_
    obtain rfl := Option.some.inj hF
    exact hret _ _ _ _ _ rfl hH dX13_isKept_13
  · have hF := itn c_57 hF
    refine lv_iconst (v := 1) hx hb dX13_isKept_8 kyi_1 ?_
    refine lv_goto (tgt := 13) hx hb dX13_isKept_9 rfl ?_
    obtain rfl := Option.some.inj hF
    exact hret _ _ _ _ _ rfl hH dX13_isKept_13
set_option maxHeartbeats 4000000 in
theorem met_X14_isKept {l : Launch} {D : va_G} {ad : Nat → Nat} {cA : Nat → ClassId} {sA ta ba na : Nat → Nat} {gi : Nat → Option Nat} {rh : Option Nat} {rt : Option Nat} {g_sort : Int32} {g_size : Int32} {g_from : Int32} {g_to : Int32} {g_level : Int32} {g_full : Int32} {a_tape : Nat → Int32} {a_hAt : Nat → Int32} {a_hMany : Nat → Int32} {a_tAt : Nat → Int32} {a_tMany : Nat → Int32} {a_least : Nat → Int32} {a_place : Nat → Int32} {a_to : Nat → Int32} {a_order : Nat → Int32} {a_fails : Nat → Int32} {a_sKeys : Nat → Int64} {a_sRow : Nat → Int64} {a_sSlots : Nat → Int32} {a_bKeys : Nat → Int64} {a_bRow : Nat → Int64} {a_bSlots : Nat → Int32} {a_easy : Nat → Int32} {a_wants : Nat → Int32} {a_wantedBy : Nat → Int32} {a_ring : Nat → Int32} {a_carried : Nat → Int32} {a_latest : Nat → Int32} {v_taped : Int32} {v_faultKind : Int32} {v_faultPlace : Int32} {v_x : Int32} {v_ordered : Int32} {v_sought : Int32} {v_lastSought : Int32} {v_hMoved : Int32} {v_hWithout : Int32} {v_tMoved : Int32} {v_tWithout : Int32} {v_places : Int32} {v_elsewhere : Int32} {v_sMany : Int32} {v_bMany : Int32} {v_year : Int32} {y_lies : Int64} {a_rsort : Nat → Int32} {a_rmany : Nat → Int32} {a_nums : Nat → Nat → Int64} {pl : va_W} {a0 : Nat} {r0 : Int32} {n0 : Int32}  {p1 : Int32} {res : Bool} {E : EvT} (hE : EvN E) (hm : ((a0, .inr (13, [.int r0, .int n0])) : Nat × va_E) ∈ pl) (hF : FX14_isKept n0 p1 = some res) : MX l yX14_isKept (ws_ yX14_isKept cX14_isKept 2 (Option.some Jvm.ClassFile.FieldType.boolean)) rm_J2_size D vwA (cT cA) E [.ref a0, .int p1] (cW ad cA sA ta ba na gi rh rt g_sort g_size g_from g_to g_level g_full a_tape a_hAt a_hMany a_tAt a_tMany a_least a_place a_to a_order a_fails a_sKeys a_sRow a_sSlots a_bKeys a_bRow a_bSlots a_easy a_wants a_wantedBy a_ring a_carried a_latest v_taped v_faultKind v_faultPlace v_x v_ordered v_sought v_lastSought v_hMoved v_hWithout v_tMoved v_tWithout v_places v_elsewhere v_sMany v_bMany v_year y_lies a_rsort a_rmany a_nums pl) (fun z => z = (cW ad cA sA ta ba na gi rh rt g_sort g_size g_from g_to g_level g_full a_tape a_hAt a_hMany a_tAt a_tMany a_least a_place a_to a_order a_fails a_sKeys a_sRow a_sSlots a_bKeys a_bRow a_bSlots a_easy a_wants a_wantedBy a_ring a_carried a_latest v_taped v_faultKind v_faultPlace v_x v_ordered v_sought v_lastSought v_hMoved v_hWithout v_tMoved v_tWithout v_places v_elsewhere v_sMany v_bMany v_year y_lies a_rsort a_rmany a_nums pl)) (some (.int (b2i res))) := by
  refine MX.ofZ (by decide) (Nat.le_of_ble_eq_true rfl) ?_
  intro p e s m args below meth c Q A hX hK hE0 hname hret H locs ls hH hl
  have hX : CallFix p m c cX14_isKept 2 s args lw_all RX14 := hX
  have hx := hX.1
  have hb := hX.2.1
  have hown := hX.2.2.2.1
  have hts := hX.2.2.2.2
  have hl : lv_has ls 2 [(0, .ref a0), (1, .int p1)] := hl
  have hEv := hE.1
  obtain ⟨q0, hq⟩ := cW_pl (ad := ad) (cA := cA) (sA := sA) (ta := ta) (ba := ba) (na := na) (gi := gi) (rh := rh) (rt := rt) (g_sort := g_sort) (g_size := g_size) (g_from := g_from) (g_to := g_to) (g_level := g_level) (g_full := g_full) (a_tape := a_tape) (a_hAt := a_hAt) (a_hMany := a_hMany) (a_tAt := a_tAt) (a_tMany := a_tMany) (a_least := a_least) (a_place := a_place) (a_to := a_to) (a_order := a_order) (a_fails := a_fails) (a_sKeys := a_sKeys) (a_sRow := a_sRow) (a_sSlots := a_sSlots) (a_bKeys := a_bKeys) (a_bRow := a_bRow) (a_bSlots := a_bSlots) (a_easy := a_easy) (a_wants := a_wants) (a_wantedBy := a_wantedBy) (a_ring := a_ring) (a_carried := a_carried) (a_latest := a_latest) (v_taped := v_taped) (v_faultKind := v_faultKind) (v_faultPlace := v_faultPlace) (v_x := v_x) (v_ordered := v_ordered) (v_sought := v_sought) (v_lastSought := v_lastSought) (v_hMoved := v_hMoved) (v_hWithout := v_hWithout) (v_tMoved := v_tMoved) (v_tWithout := v_tWithout) (v_places := v_places) (v_elsewhere := v_elsewhere) (v_sMany := v_sMany) (v_bMany := v_bMany) (v_year := v_year) (y_lies := y_lies) (a_rsort := a_rsort) (a_rmany := a_rmany) (a_nums := a_nums) hm
  have hNW := hE.2.1 _ _ _ hE0
  delta FX14_isKept at hF
  refine lv_iload_n hx hb dX14_isKept_0 rfl (lv_at hl 1 rfl) ?_
  refine lv_aload_n hx hb dX14_isKept_1 rfl (lv_at hl 0 rfl) ?_
  refine va_get (C := RX14) (T := TX14) (N := 2) hX.1 hX.2.1 hX.2.2.2.2 in_X14 hX.2.2.2.1 hK hH.1 q0 hq rfl 1 (by decide) (hts _ q852) (fun x9 h9 => u_same (hts _ q853) x9 h9) rfl dX14_isKept_2 ?_
  refine lv_icmp_gt (tgt := 12) hx hb dX14_isKept_5 rfl (fun c_57 => ?_) (fun c_57 => ?_)
  · have hF := itp c_57 hF
    refine lv_iconst (v := 0) hx hb dX14_isKept_12 kyi_0 ?_
    obtain rfl := Option.some.inj hF
    exact hret _ _ _ _ _ rfl hH dX14_isKept_13
  · have hF := itn c_57 hF
    refine lv_iconst (v := 1) hx hb dX14_isKept_8 kyi_1 ?_
    refine lv_goto (tgt := 13) hx hb dX14_isKept_9 rfl ?_
    obtain rfl := Option.some.inj hF
    exact hret _ _ _ _ _ rfl hH dX14_isKept_13
set_option maxHeartbeats 4000000 in
theorem met_X17_is {l : Launch} {D : va_G} {ad : Nat → Nat} {cA : Nat → ClassId} {sA ta ba na : Nat → Nat} {gi : Nat → Option Nat} {rh : Option Nat} {rt : Option Nat} {g_sort : Int32} {g_size : Int32} {g_from : Int32} {g_to : Int32} {g_level : Int32} {g_full : Int32} {a_tape : Nat → Int32} {a_hAt : Nat → Int32} {a_hMany : Nat → Int32} {a_tAt : Nat → Int32} {a_tMany : Nat → Int32} {a_least : Nat → Int32} {a_place : Nat → Int32} {a_to : Nat → Int32} {a_order : Nat → Int32} {a_fails : Nat → Int32} {a_sKeys : Nat → Int64} {a_sRow : Nat → Int64} {a_sSlots : Nat → Int32} {a_bKeys : Nat → Int64} {a_bRow : Nat → Int64} {a_bSlots : Nat → Int32} {a_easy : Nat → Int32} {a_wants : Nat → Int32} {a_wantedBy : Nat → Int32} {a_ring : Nat → Int32} {a_carried : Nat → Int32} {a_latest : Nat → Int32} {v_taped : Int32} {v_faultKind : Int32} {v_faultPlace : Int32} {v_x : Int32} {v_ordered : Int32} {v_sought : Int32} {v_lastSought : Int32} {v_hMoved : Int32} {v_hWithout : Int32} {v_tMoved : Int32} {v_tWithout : Int32} {v_places : Int32} {v_elsewhere : Int32} {v_sMany : Int32} {v_bMany : Int32} {v_year : Int32} {y_lies : Int64} {a_rsort : Nat → Int32} {a_rmany : Nat → Int32} {a_nums : Nat → Nat → Int64} {pl : va_W} {a0 : Nat} {w0 : Int32} {n0 : Int32}   {res : Bool} {E : EvT} (hE : EvN E) (hm : ((a0, .inr (15, [.int w0, .int n0])) : Nat × va_E) ∈ pl) (d : Nat) (hF : FX17_is g_sort g_size g_from g_to g_level g_full w0 n0 = some res) : MX l yX17_is (ws_ yX17_is cX17_is 2 (Option.some Jvm.ClassFile.FieldType.boolean)) (rm_fact d) D vwA (cT cA) E [.ref a0, .ref (ad 3)] (cW ad cA sA ta ba na gi rh rt g_sort g_size g_from g_to g_level g_full a_tape a_hAt a_hMany a_tAt a_tMany a_least a_place a_to a_order a_fails a_sKeys a_sRow a_sSlots a_bKeys a_bRow a_bSlots a_easy a_wants a_wantedBy a_ring a_carried a_latest v_taped v_faultKind v_faultPlace v_x v_ordered v_sought v_lastSought v_hMoved v_hWithout v_tMoved v_tWithout v_places v_elsewhere v_sMany v_bMany v_year y_lies a_rsort a_rmany a_nums pl) (fun z => z = (cW ad cA sA ta ba na gi rh rt g_sort g_size g_from g_to g_level g_full a_tape a_hAt a_hMany a_tAt a_tMany a_least a_place a_to a_order a_fails a_sKeys a_sRow a_sSlots a_bKeys a_bRow a_bSlots a_easy a_wants a_wantedBy a_ring a_carried a_latest v_taped v_faultKind v_faultPlace v_x v_ordered v_sought v_lastSought v_hMoved v_hWithout v_tMoved v_tWithout v_places v_elsewhere v_sMany v_bMany v_year y_lies a_rsort a_rmany a_nums pl)) (some (.int (b2i res))) := by
  refine MX.ofZ (by decide) (Nat.le_of_ble_eq_true rfl) ?_
  intro p e s m args below meth c Q A hX hK hE0 hname hret H locs ls hH hl
  have hX : CallFix p m c cX17_is 2 s args lw_all RX17 := hX
  have hx := hX.1
  have hb := hX.2.1
  have hown := hX.2.2.2.1
  have hts := hX.2.2.2.2
  have hl : lv_has ls 2 [(0, .ref a0), (1, .ref (ad 3))] := hl
  have hEv := hE.1
  obtain ⟨q0, hq⟩ := cW_pl (ad := ad) (cA := cA) (sA := sA) (ta := ta) (ba := ba) (na := na) (gi := gi) (rh := rh) (rt := rt) (g_sort := g_sort) (g_size := g_size) (g_from := g_from) (g_to := g_to) (g_level := g_level) (g_full := g_full) (a_tape := a_tape) (a_hAt := a_hAt) (a_hMany := a_hMany) (a_tAt := a_tAt) (a_tMany := a_tMany) (a_least := a_least) (a_place := a_place) (a_to := a_to) (a_order := a_order) (a_fails := a_fails) (a_sKeys := a_sKeys) (a_sRow := a_sRow) (a_sSlots := a_sSlots) (a_bKeys := a_bKeys) (a_bRow := a_bRow) (a_bSlots := a_bSlots) (a_easy := a_easy) (a_wants := a_wants) (a_wantedBy := a_wantedBy) (a_ring := a_ring) (a_carried := a_carried) (a_latest := a_latest) (v_taped := v_taped) (v_faultKind := v_faultKind) (v_faultPlace := v_faultPlace) (v_x := v_x) (v_ordered := v_ordered) (v_sought := v_sought) (v_lastSought := v_lastSought) (v_hMoved := v_hMoved) (v_hWithout := v_hWithout) (v_tMoved := v_tMoved) (v_tWithout := v_tWithout) (v_places := v_places) (v_elsewhere := v_elsewhere) (v_sMany := v_sMany) (v_bMany := v_bMany) (v_year := v_year) (y_lies := y_lies) (a_rsort := a_rsort) (a_rmany := a_rmany) (a_nums := a_nums) hm
  have hNW := hE.2.1 _ _ _ hE0
  delta FX17_is at hF
  refine lv_aload_n hx hb dX17_is_0 rfl (lv_at hl 0 rfl) ?_
  refine va_get (C := RX17) (T := TX17) (N := 2) hX.1 hX.2.1 hX.2.2.2.2 in_X17 hX.2.2.2.1 hK hH.1 q0 hq rfl 0 (by decide) (hts _ q929) (fun _ h9 => h9) rfl dX17_is_1 ?_
  by_cases c_56_0 : w0 = 0
  · have hF := itp c_56_0 hF
    refine lv_tableIn (tgt := 40) hx hb dX17_is_4 (by rw [c_56_0]; decide) (by rw [c_56_0]; decide) (by rw [c_56_0]; rfl) rfl ?_
    refine lv_aload_n hx hb dX17_is_40 rfl (lv_at hl 1 rfl) ?_
    refine cg_Y_Asked_going_sort hX hK hNW hH dX17_is_41 ?_
    refine lv_aload_n hx hb dX17_is_44 rfl (lv_at hl 0 rfl) ?_
    refine va_get (C := RX17) (T := TX17) (N := 2) hX.1 hX.2.1 hX.2.2.2.2 in_X17 hX.2.2.2.1 hK hH.1 q0 hq rfl 1 (by decide) (hts _ q930) (fun _ h9 => h9) rfl dX17_is_45 ?_
    refine lv_icmp_ne (tgt := 55) hx hb dX17_is_48 rfl (fun c_62 => ?_) (fun c_62 => ?_)
    · have hF := itn c_62 hF
      refine lv_iconst (v := 0) hx hb dX17_is_55 kyi_0 ?_
      obtain rfl := Option.some.inj hF
      exact hret _ _ _ _ _ rfl hH dX17_is_56
    · have hF := itp c_62 hF
      refine lv_iconst (v := 1) hx hb dX17_is_51 kyi_1 ?_
      refine lv_goto (tgt := 56) hx hb dX17_is_52 rfl ?_
      obtain rfl := Option.some.inj hF
      exact hret _ _ _ _ _ rfl hH dX17_is_56
  · have hF := itn c_56_0 hF
    by_cases c_56_1 : w0 = 1
    · have hF := itp c_56_1 hF
      refine lv_tableIn (tgt := 57) hx hb dX17_is_4 (by rw [c_56_1]; decide) (by rw [c_56_1]; decide) (by rw [c_56_1]; rfl) rfl ?_
      refine lv_aload_n hx hb dX17_is_57 rfl (lv_at hl 1 rfl) ?_
      refine cg_Y_Asked_going_size hX hK hNW hH dX17_is_58 ?_
      refine lv_aload_n hx hb dX17_is_61 rfl (lv_at hl 0 rfl) ?_
      refine va_get (C := RX17) (T := TX17) (N := 2) hX.1 hX.2.1 hX.2.2.2.2 in_X17 hX.2.2.2.1 hK hH.1 q0 hq rfl 1 (by decide) (hts _ q930) (fun _ h9 => h9) rfl dX17_is_62 ?_
      refine lv_icmp_lt (tgt := 72) hx hb dX17_is_65 rfl (fun c_61 => ?_) (fun c_61 => ?_)
      · have hF := itp c_61 hF
        refine lv_iconst (v := 0) hx hb dX17_is_72 kyi_0 ?_
        obtain rfl := Option.some.inj hF
        exact hret _ _ _ _ _ rfl hH dX17_is_73
      · have hF := itn c_61 hF
        refine lv_iconst (v := 1) hx hb dX17_is_68 kyi_1 ?_
        refine lv_goto (tgt := 73) hx hb dX17_is_69 rfl ?_
        obtain rfl := Option.some.inj hF
        exact hret _ _ _ _ _ rfl hH dX17_is_73
    · have hF := itn c_56_1 hF
      by_cases c_56_2 : w0 = 2
      · have hF := itp c_56_2 hF
        refine lv_tableIn (tgt := 74) hx hb dX17_is_4 (by rw [c_56_2]; decide) (by rw [c_56_2]; decide) (by rw [c_56_2]; rfl) rfl ?_
        refine lv_aload_n hx hb dX17_is_74 rfl (lv_at hl 1 rfl) ?_
        refine cg_Y_Asked_going_from hX hK hNW hH dX17_is_75 ?_
        refine lv_aload_n hx hb dX17_is_78 rfl (lv_at hl 0 rfl) ?_
        refine va_get (C := RX17) (T := TX17) (N := 2) hX.1 hX.2.1 hX.2.2.2.2 in_X17 hX.2.2.2.1 hK hH.1 q0 hq rfl 1 (by decide) (hts _ q930) (fun _ h9 => h9) rfl dX17_is_79 ?_
        refine lv_icmp_ne (tgt := 89) hx hb dX17_is_82 rfl (fun c_60 => ?_) (fun c_60 => ?_)
        · have hF := itn c_60 hF
          refine lv_iconst (v := 0) hx hb dX17_is_89 kyi_0 ?_
          obtain rfl := Option.some.inj hF
          exact hret _ _ _ _ _ rfl hH dX17_is_90
        · have hF := itp c_60 hF
          refine lv_iconst (v := 1) hx hb dX17_is_85 kyi_1 ?_
          refine lv_goto (tgt := 90) hx hb dX17_is_86 rfl ?_
          obtain rfl := Option.some.inj hF
          exact hret _ _ _ _ _ rfl hH dX17_is_90
      · have hF := itn c_56_2 hF
        by_cases c_56_3 : w0 = 3
        · have hF := itp c_56_3 hF
          refine lv_tableIn (tgt := 91) hx hb dX17_is_4 (by rw [c_56_3]; decide) (by rw [c_56_3]; decide) (by rw [c_56_3]; rfl) rfl ?_
          refine lv_aload_n hx hb dX17_is_91 rfl (lv_at hl 1 rfl) ?_
          refine cg_Y_Asked_going_to hX hK hNW hH dX17_is_92 ?_
          refine lv_aload_n hx hb dX17_is_95 rfl (lv_at hl 0 rfl) ?_
          refine va_get (C := RX17) (T := TX17) (N := 2) hX.1 hX.2.1 hX.2.2.2.2 in_X17 hX.2.2.2.1 hK hH.1 q0 hq rfl 1 (by decide) (hts _ q930) (fun _ h9 => h9) rfl dX17_is_96 ?_
          refine lv_icmp_ne (tgt := 106) hx hb dX17_is_99 rfl (fun c_59 => ?_) (fun c_59 => ?_)
          · have hF := itn c_59 hF
            refine lv_iconst (v := 0) hx hb dX17_is_106 kyi_0 ?_
            obtain rfl := Option.some.inj hF
            exact hret _ _ _ _ _ rfl hH dX17_is_107
          · have hF := itp c_59 hF
            refine lv_iconst (v := 1) hx hb dX17_is_102 kyi_1 ?_
            refine lv_goto (tgt := 107) hx hb dX17_is_103 rfl ?_
            obtain rfl := Option.some.inj hF
            exact hret _ _ _ _ _ rfl hH dX17_is_107
        · have hF := itn c_56_3 hF
          by_cases c_56_4 : w0 = 4
          · have hF := itp c_56_4 hF
            refine lv_tableIn (tgt := 108) hx hb dX17_is_4 (by rw [c_56_4]; decide) (by rw [c_56_4]; decide) (by rw [c_56_4]; rfl) rfl ?_
            refine lv_aload_n hx hb dX17_is_108 rfl (lv_at hl 1 rfl) ?_
            refine cg_Y_Asked_going_level hX hK hNW hH dX17_is_109 ?_
            refine lv_aload_n hx hb dX17_is_112 rfl (lv_at hl 0 rfl) ?_
            refine va_get (C := RX17) (T := TX17) (N := 2) hX.1 hX.2.1 hX.2.2.2.2 in_X17 hX.2.2.2.1 hK hH.1 q0 hq rfl 1 (by decide) (hts _ q930) (fun _ h9 => h9) rfl dX17_is_113 ?_
            refine lv_icmp_lt (tgt := 123) hx hb dX17_is_116 rfl (fun c_58 => ?_) (fun c_58 => ?_)
            · have hF := itp c_58 hF
              refine lv_iconst (v := 0) hx hb dX17_is_123 kyi_0 ?_
              obtain rfl := Option.some.inj hF
              exact hret _ _ _ _ _ rfl hH dX17_is_124
            · have hF := itn c_58 hF
              refine lv_iconst (v := 1) hx hb dX17_is_119 kyi_1 ?_
              refine lv_goto (tgt := 124) hx hb dX17_is_120 rfl ?_
              obtain rfl := Option.some.inj hF
              exact hret _ _ _ _ _ rfl hH dX17_is_124
          · have hF := itn c_56_4 hF
            have tc_56_0 := lv_neT (a := 0) c_56_0 (by decide)
            have tc_56_1 := lv_neT (a := 1) c_56_1 (by decide)
            have tc_56_2 := lv_neT (a := 2) c_56_2 (by decide)
            have tc_56_3 := lv_neT (a := 3) c_56_3 (by decide)
            have tc_56_4 := lv_neT (a := 4) c_56_4 (by decide)
            refine lv_tableOut (tgt := 125) hx hb dX17_is_4 (by omega) rfl ?_
            refine lv_aload_n hx hb dX17_is_125 rfl (lv_at hl 1 rfl) ?_
            refine cg_Y_Asked_going_full hX hK hNW hH dX17_is_126 ?_
            refine lv_aload_n hx hb dX17_is_129 rfl (lv_at hl 0 rfl) ?_
            refine va_get (C := RX17) (T := TX17) (N := 2) hX.1 hX.2.1 hX.2.2.2.2 in_X17 hX.2.2.2.1 hK hH.1 q0 hq rfl 1 (by decide) (hts _ q930) (fun _ h9 => h9) rfl dX17_is_130 ?_
            refine lv_icmp_lt (tgt := 140) hx hb dX17_is_133 rfl (fun c_57 => ?_) (fun c_57 => ?_)
            · have hF := itp c_57 hF
              refine lv_iconst (v := 0) hx hb dX17_is_140 kyi_0 ?_
              obtain rfl := Option.some.inj hF
              exact hret _ _ _ _ _ rfl hH dX17_is_141
            · have hF := itn c_57 hF
              refine lv_iconst (v := 1) hx hb dX17_is_136 kyi_1 ?_
              refine lv_goto (tgt := 141) hx hb dX17_is_137 rfl ?_
              obtain rfl := Option.some.inj hF
              exact hret _ _ _ _ _ rfl hH dX17_is_141
set_option maxHeartbeats 4000000 in
theorem met_X16_is {l : Launch} {D : va_G} {ad : Nat → Nat} {cA : Nat → ClassId} {sA ta ba na : Nat → Nat} {gi : Nat → Option Nat} {rh : Option Nat} {rt : Option Nat} {g_sort : Int32} {g_size : Int32} {g_from : Int32} {g_to : Int32} {g_level : Int32} {g_full : Int32} {a_tape : Nat → Int32} {a_hAt : Nat → Int32} {a_hMany : Nat → Int32} {a_tAt : Nat → Int32} {a_tMany : Nat → Int32} {a_least : Nat → Int32} {a_place : Nat → Int32} {a_to : Nat → Int32} {a_order : Nat → Int32} {a_fails : Nat → Int32} {a_sKeys : Nat → Int64} {a_sRow : Nat → Int64} {a_sSlots : Nat → Int32} {a_bKeys : Nat → Int64} {a_bRow : Nat → Int64} {a_bSlots : Nat → Int32} {a_easy : Nat → Int32} {a_wants : Nat → Int32} {a_wantedBy : Nat → Int32} {a_ring : Nat → Int32} {a_carried : Nat → Int32} {a_latest : Nat → Int32} {v_taped : Int32} {v_faultKind : Int32} {v_faultPlace : Int32} {v_x : Int32} {v_ordered : Int32} {v_sought : Int32} {v_lastSought : Int32} {v_hMoved : Int32} {v_hWithout : Int32} {v_tMoved : Int32} {v_tWithout : Int32} {v_places : Int32} {v_elsewhere : Int32} {v_sMany : Int32} {v_bMany : Int32} {v_year : Int32} {y_lies : Int64} {a_rsort : Nat → Int32} {a_rmany : Nat → Int32} {a_nums : Nat → Nat → Int64} {pl : va_W} {a0 : Nat} {b0 : Nat} {f0 : BvT}   {res : Bool} {E : EvT} (hE : EvN E) (hm : ((a0, .inr (14, [.ref b0])) : Nat × va_E) ∈ pl) {d : Nat} (ih : FCall d) (hf0 : FactAt pl d b0 f0) (hF : FX16_is g_sort g_size g_from g_to g_level g_full f0 = some res) : MX l yX16_is (ws_ yX16_is cX16_is 2 (Option.some Jvm.ClassFile.FieldType.boolean)) (rm_fact (d + 1)) D vwA (cT cA) E [.ref a0, .ref (ad 3)] (cW ad cA sA ta ba na gi rh rt g_sort g_size g_from g_to g_level g_full a_tape a_hAt a_hMany a_tAt a_tMany a_least a_place a_to a_order a_fails a_sKeys a_sRow a_sSlots a_bKeys a_bRow a_bSlots a_easy a_wants a_wantedBy a_ring a_carried a_latest v_taped v_faultKind v_faultPlace v_x v_ordered v_sought v_lastSought v_hMoved v_hWithout v_tMoved v_tWithout v_places v_elsewhere v_sMany v_bMany v_year y_lies a_rsort a_rmany a_nums pl) (fun z => z = (cW ad cA sA ta ba na gi rh rt g_sort g_size g_from g_to g_level g_full a_tape a_hAt a_hMany a_tAt a_tMany a_least a_place a_to a_order a_fails a_sKeys a_sRow a_sSlots a_bKeys a_bRow a_bSlots a_easy a_wants a_wantedBy a_ring a_carried a_latest v_taped v_faultKind v_faultPlace v_x v_ordered v_sought v_lastSought v_hMoved v_hWithout v_tMoved v_tWithout v_places v_elsewhere v_sMany v_bMany v_year y_lies a_rsort a_rmany a_nums pl)) (some (.int (b2i res))) := by
  refine MX.ofZ (by decide) (Nat.le_of_ble_eq_true rfl) ?_
  intro p e s m args below meth c Q A hX hK hE0 hname hret H locs ls hH hl
  have hX : CallFix p m c cX16_is 2 s args lw_all RX16 := hX
  have hx := hX.1
  have hb := hX.2.1
  have hown := hX.2.2.2.1
  have hts := hX.2.2.2.2
  have hl : lv_has ls 2 [(0, .ref a0), (1, .ref (ad 3))] := hl
  have hEv := hE.1
  obtain ⟨q0, hq⟩ := cW_pl (ad := ad) (cA := cA) (sA := sA) (ta := ta) (ba := ba) (na := na) (gi := gi) (rh := rh) (rt := rt) (g_sort := g_sort) (g_size := g_size) (g_from := g_from) (g_to := g_to) (g_level := g_level) (g_full := g_full) (a_tape := a_tape) (a_hAt := a_hAt) (a_hMany := a_hMany) (a_tAt := a_tAt) (a_tMany := a_tMany) (a_least := a_least) (a_place := a_place) (a_to := a_to) (a_order := a_order) (a_fails := a_fails) (a_sKeys := a_sKeys) (a_sRow := a_sRow) (a_sSlots := a_sSlots) (a_bKeys := a_bKeys) (a_bRow := a_bRow) (a_bSlots := a_bSlots) (a_easy := a_easy) (a_wants := a_wants) (a_wantedBy := a_wantedBy) (a_ring := a_ring) (a_carried := a_carried) (a_latest := a_latest) (v_taped := v_taped) (v_faultKind := v_faultKind) (v_faultPlace := v_faultPlace) (v_x := v_x) (v_ordered := v_ordered) (v_sought := v_sought) (v_lastSought := v_lastSought) (v_hMoved := v_hMoved) (v_hWithout := v_hWithout) (v_tMoved := v_tMoved) (v_tWithout := v_tWithout) (v_places := v_places) (v_elsewhere := v_elsewhere) (v_sMany := v_sMany) (v_bMany := v_bMany) (v_year := v_year) (y_lies := y_lies) (a_rsort := a_rsort) (a_rmany := a_rmany) (a_nums := a_nums) hm
  have hNW := hE.2.1 _ _ _ hE0
  delta FX16_is at hF
  refine lv_aload_n hx hb dX16_is_0 rfl (lv_at hl 0 rfl) ?_
  refine va_get (C := RX16) (T := TX16) (N := 1) hX.1 hX.2.1 hX.2.2.2.2 in_X16 hX.2.2.2.1 hK hH.1 q0 hq rfl 0 (by decide) (hts _ q914) (fun _ h9 => h9) rfl dX16_is_1 ?_
  refine lv_aload_n hx hb dX16_is_4 rfl (lv_at hl 1 rfl) ?_
  refine ih hf0 hX hK hE hE0 hH q1079 hl ⟨Nat.le_refl _, Nat.le_refl _⟩ ⟨Nat.le_of_ble_eq_true rfl, Nat.le_of_ble_eq_true rfl⟩ (Nat.le_of_ble_eq_true rfl) dX16_is_5 (fun H locs hH => ?_)
  refine lv_if_ne (tgt := 15) hx hb dX16_is_8 rfl (fun c_55 => ?_) (fun c_55 => ?_)
  · have hF := itn c_55 hF
    refine lv_iconst (v := 0) hx hb dX16_is_15 kyi_0 ?_
    obtain rfl := Option.some.inj hF
    exact hret _ _ _ _ _ rfl hH dX16_is_16
  · have hF := itp c_55 hF
    refine lv_iconst (v := 1) hx hb dX16_is_11 kyi_1 ?_
    refine lv_goto (tgt := 16) hx hb dX16_is_12 rfl ?_
    obtain rfl := Option.some.inj hF
    exact hret _ _ _ _ _ rfl hH dX16_is_16
set_option maxHeartbeats 4000000 in
theorem met_X18_is {l : Launch} {D : va_G} {ad : Nat → Nat} {cA : Nat → ClassId} {sA ta ba na : Nat → Nat} {gi : Nat → Option Nat} {rh : Option Nat} {rt : Option Nat} {g_sort : Int32} {g_size : Int32} {g_from : Int32} {g_to : Int32} {g_level : Int32} {g_full : Int32} {a_tape : Nat → Int32} {a_hAt : Nat → Int32} {a_hMany : Nat → Int32} {a_tAt : Nat → Int32} {a_tMany : Nat → Int32} {a_least : Nat → Int32} {a_place : Nat → Int32} {a_to : Nat → Int32} {a_order : Nat → Int32} {a_fails : Nat → Int32} {a_sKeys : Nat → Int64} {a_sRow : Nat → Int64} {a_sSlots : Nat → Int32} {a_bKeys : Nat → Int64} {a_bRow : Nat → Int64} {a_bSlots : Nat → Int32} {a_easy : Nat → Int32} {a_wants : Nat → Int32} {a_wantedBy : Nat → Int32} {a_ring : Nat → Int32} {a_carried : Nat → Int32} {a_latest : Nat → Int32} {v_taped : Int32} {v_faultKind : Int32} {v_faultPlace : Int32} {v_x : Int32} {v_ordered : Int32} {v_sought : Int32} {v_lastSought : Int32} {v_hMoved : Int32} {v_hWithout : Int32} {v_tMoved : Int32} {v_tWithout : Int32} {v_places : Int32} {v_elsewhere : Int32} {v_sMany : Int32} {v_bMany : Int32} {v_year : Int32} {y_lies : Int64} {a_rsort : Nat → Int32} {a_rmany : Nat → Int32} {a_nums : Nat → Nat → Int64} {pl : va_W} {a0 : Nat} {i0 : Int32} {b0 : Nat} {b1 : Nat} {f0 : BvT} {f1 : BvT}   {res : Bool} {E : EvT} (hE : EvN E) (hm : ((a0, .inr (16, [.int i0, .ref b0, .ref b1])) : Nat × va_E) ∈ pl) {d : Nat} (ih : FCall d) (hf0 : FactAt pl d b0 f0) (hf1 : FactAt pl d b1 f1) (hF : FX18_is g_sort g_size g_from g_to g_level g_full i0 f0 f1 = some res) : MX l yX18_is (ws_ yX18_is cX18_is 2 (Option.some Jvm.ClassFile.FieldType.boolean)) (rm_fact (d + 1)) D vwA (cT cA) E [.ref a0, .ref (ad 3)] (cW ad cA sA ta ba na gi rh rt g_sort g_size g_from g_to g_level g_full a_tape a_hAt a_hMany a_tAt a_tMany a_least a_place a_to a_order a_fails a_sKeys a_sRow a_sSlots a_bKeys a_bRow a_bSlots a_easy a_wants a_wantedBy a_ring a_carried a_latest v_taped v_faultKind v_faultPlace v_x v_ordered v_sought v_lastSought v_hMoved v_hWithout v_tMoved v_tWithout v_places v_elsewhere v_sMany v_bMany v_year y_lies a_rsort a_rmany a_nums pl) (fun z => z = (cW ad cA sA ta ba na gi rh rt g_sort g_size g_from g_to g_level g_full a_tape a_hAt a_hMany a_tAt a_tMany a_least a_place a_to a_order a_fails a_sKeys a_sRow a_sSlots a_bKeys a_bRow a_bSlots a_easy a_wants a_wantedBy a_ring a_carried a_latest v_taped v_faultKind v_faultPlace v_x v_ordered v_sought v_lastSought v_hMoved v_hWithout v_tMoved v_tWithout v_places v_elsewhere v_sMany v_bMany v_year y_lies a_rsort a_rmany a_nums pl)) (some (.int (b2i res))) := by
  refine MX.ofZ (by decide) (Nat.le_of_ble_eq_true rfl) ?_
  intro p e s m args below meth c Q A hX hK hE0 hname hret H locs ls hH hl
  have hX : CallFix p m c cX18_is 2 s args lw_all RX18 := hX
  have hx := hX.1
  have hb := hX.2.1
  have hown := hX.2.2.2.1
  have hts := hX.2.2.2.2
  have hl : lv_has ls 2 [(0, .ref a0), (1, .ref (ad 3))] := hl
  have hEv := hE.1
  obtain ⟨q0, hq⟩ := cW_pl (ad := ad) (cA := cA) (sA := sA) (ta := ta) (ba := ba) (na := na) (gi := gi) (rh := rh) (rt := rt) (g_sort := g_sort) (g_size := g_size) (g_from := g_from) (g_to := g_to) (g_level := g_level) (g_full := g_full) (a_tape := a_tape) (a_hAt := a_hAt) (a_hMany := a_hMany) (a_tAt := a_tAt) (a_tMany := a_tMany) (a_least := a_least) (a_place := a_place) (a_to := a_to) (a_order := a_order) (a_fails := a_fails) (a_sKeys := a_sKeys) (a_sRow := a_sRow) (a_sSlots := a_sSlots) (a_bKeys := a_bKeys) (a_bRow := a_bRow) (a_bSlots := a_bSlots) (a_easy := a_easy) (a_wants := a_wants) (a_wantedBy := a_wantedBy) (a_ring := a_ring) (a_carried := a_carried) (a_latest := a_latest) (v_taped := v_taped) (v_faultKind := v_faultKind) (v_faultPlace := v_faultPlace) (v_x := v_x) (v_ordered := v_ordered) (v_sought := v_sought) (v_lastSought := v_lastSought) (v_hMoved := v_hMoved) (v_hWithout := v_hWithout) (v_tMoved := v_tMoved) (v_tWithout := v_tWithout) (v_places := v_places) (v_elsewhere := v_elsewhere) (v_sMany := v_sMany) (v_bMany := v_bMany) (v_year := v_year) (y_lies := y_lies) (a_rsort := a_rsort) (a_rmany := a_rmany) (a_nums := a_nums) hm
  have hNW := hE.2.1 _ _ _ hE0
  delta FX18_is at hF
  refine lv_aload_n hx hb dX18_is_0 rfl (lv_at hl 0 rfl) ?_
  refine va_get (C := RX18) (T := TX18) (N := 3) hX.1 hX.2.1 hX.2.2.2.2 in_X18 hX.2.2.2.1 hK hH.1 q0 hq rfl 0 (by decide) (hts _ q943) (fun _ h9 => h9) rfl dX18_is_1 ?_
  refine lv_if_eq (tgt := 37) hx hb dX18_is_4 rfl (fun c_57 => ?_) (fun c_57 => ?_)
  · have hF := itp c_57 hF
    refine lv_aload_n hx hb dX18_is_37 rfl (lv_at hl 0 rfl) ?_
    refine va_get (C := RX18) (T := TX18) (N := 3) hX.1 hX.2.1 hX.2.2.2.2 in_X18 hX.2.2.2.1 hK hH.1 q0 hq rfl 1 (by decide) (hts _ q944) (fun _ h9 => h9) rfl dX18_is_38 ?_
    refine lv_aload_n hx hb dX18_is_41 rfl (lv_at hl 1 rfl) ?_
    refine ih hf0 hX hK hE hE0 hH q1076 hl ⟨Nat.le_refl _, Nat.le_refl _⟩ ⟨Nat.le_of_ble_eq_true rfl, Nat.le_of_ble_eq_true rfl⟩ (Nat.le_of_ble_eq_true rfl) dX18_is_42 (fun H locs hH => ?_)
    have j59 : FX18_is_j59 = some res → ∀ (H : Heap) (locs : List Loc) (ls : Array Slot), MH D vwA A s.heap (cW ad cA sA ta ba na gi rh rt g_sort g_size g_from g_to g_level g_full a_tape a_hAt a_hMany a_tAt a_tMany a_least a_place a_to a_order a_fails a_sKeys a_sRow a_sSlots a_bKeys a_bRow a_bSlots a_easy a_wants a_wantedBy a_ring a_carried a_latest v_taped v_faultKind v_faultPlace v_x v_ordered v_sought v_lastSought v_hMoved v_hWithout v_tMoved v_tWithout v_places v_elsewhere v_sMany v_bMany v_year y_lies a_rsort a_rmany a_nums pl) H locs → lv_has ls 2 [] → W p l e (rm_fact (d + 1)) s m args below meth c H locs 0 0 Q (F0 m 59 ls []) := by
      intro hF H locs ls hH hl
      delta FX18_is_j59 at hF
      refine lv_iconst (v := 1) hx hb dX18_is_59 kyi_1 ?_
      refine lv_goto (tgt := 64) hx hb dX18_is_60 rfl ?_
      obtain rfl := Option.some.inj hF
      exact hret _ _ _ _ _ rfl hH dX18_is_64
    refine lv_if_ne (tgt := 59) hx hb dX18_is_45 rfl (fun c_60 => ?_) (fun c_60 => ?_)
    · have hF := itn c_60 hF
      exact j59 hF _ _ _ hH (lv_sub hl [] rfl)
    · have hF := itp c_60 hF
      refine lv_aload_n hx hb dX18_is_48 rfl (lv_at hl 0 rfl) ?_
      refine va_get (C := RX18) (T := TX18) (N := 3) hX.1 hX.2.1 hX.2.2.2.2 in_X18 hX.2.2.2.1 hK hH.1 q0 hq rfl 2 (by decide) (hts _ q945) (fun _ h9 => h9) rfl dX18_is_49 ?_
      refine lv_aload_n hx hb dX18_is_52 rfl (lv_at hl 1 rfl) ?_
      refine ih hf1 hX hK hE hE0 hH q1076 hl ⟨Nat.le_refl _, Nat.le_refl _⟩ ⟨Nat.le_of_ble_eq_true rfl, Nat.le_of_ble_eq_true rfl⟩ (Nat.le_of_ble_eq_true rfl) dX18_is_53 (fun H locs hH => ?_)
      refine lv_if_eq (tgt := 63) hx hb dX18_is_56 rfl (fun c_61 => ?_) (fun c_61 => ?_)
      · have hF := itp c_61 hF
        refine lv_iconst (v := 0) hx hb dX18_is_63 kyi_0 ?_
        obtain rfl := Option.some.inj hF
        exact hret _ _ _ _ _ rfl hH dX18_is_64
      · have hF := itn c_61 hF
        exact j59 hF _ _ _ hH (lv_sub hl [] rfl)
  · have hF := itn c_57 hF
    refine lv_aload_n hx hb dX18_is_7 rfl (lv_at hl 0 rfl) ?_
    refine va_get (C := RX18) (T := TX18) (N := 3) hX.1 hX.2.1 hX.2.2.2.2 in_X18 hX.2.2.2.1 hK hH.1 q0 hq rfl 1 (by decide) (hts _ q944) (fun _ h9 => h9) rfl dX18_is_8 ?_
    refine lv_aload_n hx hb dX18_is_11 rfl (lv_at hl 1 rfl) ?_
    refine ih hf0 hX hK hE hE0 hH q1076 hl ⟨Nat.le_refl _, Nat.le_refl _⟩ ⟨Nat.le_of_ble_eq_true rfl, Nat.le_of_ble_eq_true rfl⟩ (Nat.le_of_ble_eq_true rfl) dX18_is_12 (fun H locs hH => ?_)
    have j33 : FX18_is_j33 = some res → ∀ (H : Heap) (locs : List Loc) (ls : Array Slot), MH D vwA A s.heap (cW ad cA sA ta ba na gi rh rt g_sort g_size g_from g_to g_level g_full a_tape a_hAt a_hMany a_tAt a_tMany a_least a_place a_to a_order a_fails a_sKeys a_sRow a_sSlots a_bKeys a_bRow a_bSlots a_easy a_wants a_wantedBy a_ring a_carried a_latest v_taped v_faultKind v_faultPlace v_x v_ordered v_sought v_lastSought v_hMoved v_hWithout v_tMoved v_tWithout v_places v_elsewhere v_sMany v_bMany v_year y_lies a_rsort a_rmany a_nums pl) H locs → lv_has ls 2 [] → W p l e (rm_fact (d + 1)) s m args below meth c H locs 0 0 Q (F0 m 33 ls []) := by
      intro hF H locs ls hH hl
      delta FX18_is_j33 at hF
      refine lv_iconst (v := 0) hx hb dX18_is_33 kyi_0 ?_
      refine lv_goto (tgt := 64) hx hb dX18_is_34 rfl ?_
      obtain rfl := Option.some.inj hF
      exact hret _ _ _ _ _ rfl hH dX18_is_64
    refine lv_if_eq (tgt := 33) hx hb dX18_is_15 rfl (fun c_58 => ?_) (fun c_58 => ?_)
    · have hF := itp c_58 hF
      exact j33 hF _ _ _ hH (lv_sub hl [] rfl)
    · have hF := itn c_58 hF
      refine lv_aload_n hx hb dX18_is_18 rfl (lv_at hl 0 rfl) ?_
      refine va_get (C := RX18) (T := TX18) (N := 3) hX.1 hX.2.1 hX.2.2.2.2 in_X18 hX.2.2.2.1 hK hH.1 q0 hq rfl 2 (by decide) (hts _ q945) (fun _ h9 => h9) rfl dX18_is_19 ?_
      refine lv_aload_n hx hb dX18_is_22 rfl (lv_at hl 1 rfl) ?_
      refine ih hf1 hX hK hE hE0 hH q1076 hl ⟨Nat.le_refl _, Nat.le_refl _⟩ ⟨Nat.le_of_ble_eq_true rfl, Nat.le_of_ble_eq_true rfl⟩ (Nat.le_of_ble_eq_true rfl) dX18_is_23 (fun H locs hH => ?_)
      refine lv_if_eq (tgt := 33) hx hb dX18_is_26 rfl (fun c_59 => ?_) (fun c_59 => ?_)
      · have hF := itp c_59 hF
        exact j33 hF _ _ _ hH (lv_sub hl [] rfl)
      · have hF := itn c_59 hF
        refine lv_iconst (v := 1) hx hb dX18_is_29 kyi_1 ?_
        refine lv_goto (tgt := 64) hx hb dX18_is_30 rfl ?_
        obtain rfl := Option.some.inj hF
        exact hret _ _ _ _ _ rfl hH dX18_is_64
set_option maxHeartbeats 4000000 in
theorem met_X7_many_0 {l : Launch} {D : va_G} {ad : Nat → Nat} {cA : Nat → ClassId} {sA ta ba na : Nat → Nat} {gi : Nat → Option Nat} {rh : Option Nat} {rt : Option Nat} {g_sort : Int32} {g_size : Int32} {g_from : Int32} {g_to : Int32} {g_level : Int32} {g_full : Int32} {a_tape : Nat → Int32} {a_hAt : Nat → Int32} {a_hMany : Nat → Int32} {a_tAt : Nat → Int32} {a_tMany : Nat → Int32} {a_least : Nat → Int32} {a_place : Nat → Int32} {a_to : Nat → Int32} {a_order : Nat → Int32} {a_fails : Nat → Int32} {a_sKeys : Nat → Int64} {a_sRow : Nat → Int64} {a_sSlots : Nat → Int32} {a_bKeys : Nat → Int64} {a_bRow : Nat → Int64} {a_bSlots : Nat → Int32} {a_easy : Nat → Int32} {a_wants : Nat → Int32} {a_wantedBy : Nat → Int32} {a_ring : Nat → Int32} {a_carried : Nat → Int32} {a_latest : Nat → Int32} {v_taped : Int32} {v_faultKind : Int32} {v_faultPlace : Int32} {v_x : Int32} {v_ordered : Int32} {v_sought : Int32} {v_lastSought : Int32} {v_hMoved : Int32} {v_hWithout : Int32} {v_tMoved : Int32} {v_tWithout : Int32} {v_places : Int32} {v_elsewhere : Int32} {v_sMany : Int32} {v_bMany : Int32} {v_year : Int32} {y_lies : Int64} {a_rsort : Nat → Int32} {a_rmany : Nat → Int32} {a_nums : Nat → Nat → Int64} {pl : va_W} {k : Nat}   {res : Int32} {E : EvT} (hE : EvN E) (hk : k < (4 : Int32).toNatClampNeg) (hs0 : a_rsort k = 0) (hF : FX7_many_0 k a_rmany = some res) : MX l yX7_many (ws_ yX7_many cX7_many 1 (Option.some Jvm.ClassFile.FieldType.int)) rm_J2_size D vwA (cT cA) E [.ref (ad (29 + k))] (cW ad cA sA ta ba na gi rh rt g_sort g_size g_from g_to g_level g_full a_tape a_hAt a_hMany a_tAt a_tMany a_least a_place a_to a_order a_fails a_sKeys a_sRow a_sSlots a_bKeys a_bRow a_bSlots a_easy a_wants a_wantedBy a_ring a_carried a_latest v_taped v_faultKind v_faultPlace v_x v_ordered v_sought v_lastSought v_hMoved v_hWithout v_tMoved v_tWithout v_places v_elsewhere v_sMany v_bMany v_year y_lies a_rsort a_rmany a_nums pl) (fun z => z = (cW ad cA sA ta ba na gi rh rt g_sort g_size g_from g_to g_level g_full a_tape a_hAt a_hMany a_tAt a_tMany a_least a_place a_to a_order a_fails a_sKeys a_sRow a_sSlots a_bKeys a_bRow a_bSlots a_easy a_wants a_wantedBy a_ring a_carried a_latest v_taped v_faultKind v_faultPlace v_x v_ordered v_sought v_lastSought v_hMoved v_hWithout v_tMoved v_tWithout v_places v_elsewhere v_sMany v_bMany v_year y_lies a_rsort a_rmany a_nums pl)) (some (.int res)) := by
  refine MX.ofI (by decide) (Nat.le_of_ble_eq_true rfl) ?_
  intro p e s m args below meth c Q A hX hK hE0 hname hret H locs ls hH hl
  have hX : CallFix p m c cX7_many 1 s args lw_all RX7 := hX
  have hx := hX.1
  have hb := hX.2.1
  have hown := hX.2.2.2.1
  have hts := hX.2.2.2.2
  have hl : lv_has ls 1 [(0, .ref (ad (29 + k)))] := hl
  have hEv := hE.1
  have hNC := hE.2.2.1 _ _ _ hE0
  have hNW := hE.2.1 _ _ _ hE0
  delta FX7_many_0 at hF
  refine lv_aload_n hx hb dX7_many_0 rfl (lv_at hl 0 rfl) ?_
  refine cgn_held hX hK hH hk (by rw [hs0]; decide) dX7_many_1 ?_
  refine va_instE hx hb hown (hts _ q1196) (cn_at0 hK hH hk hs0) dX7_many_4 ?_
  refine lv_if_eq (tgt := 19) hx hb dX7_many_7 rfl (fun c9 => absurd c9 (by decide)) (fun _ => ?_)
  refine lv_aload_n hx hb dX7_many_10 rfl (lv_at hl 0 rfl) ?_
  refine cgn_held hX hK hH hk (by rw [hs0]; decide) dX7_many_11 ?_
  refine va_castE hx hb hown (hts _ q1196) (cn_at0 hK hH hk hs0) dX7_many_14 ?_
  refine cn_len0 hX hK hH hk hs0 dX7_many_17 ?_
  obtain rfl := Option.some.inj hF
  exact hret _ _ _ _ _ rfl hH dX7_many_18
set_option maxHeartbeats 4000000 in
theorem met_X7_number_0 {l : Launch} {D : va_G} {ad : Nat → Nat} {cA : Nat → ClassId} {sA ta ba na : Nat → Nat} {gi : Nat → Option Nat} {rh : Option Nat} {rt : Option Nat} {g_sort : Int32} {g_size : Int32} {g_from : Int32} {g_to : Int32} {g_level : Int32} {g_full : Int32} {a_tape : Nat → Int32} {a_hAt : Nat → Int32} {a_hMany : Nat → Int32} {a_tAt : Nat → Int32} {a_tMany : Nat → Int32} {a_least : Nat → Int32} {a_place : Nat → Int32} {a_to : Nat → Int32} {a_order : Nat → Int32} {a_fails : Nat → Int32} {a_sKeys : Nat → Int64} {a_sRow : Nat → Int64} {a_sSlots : Nat → Int32} {a_bKeys : Nat → Int64} {a_bRow : Nat → Int64} {a_bSlots : Nat → Int32} {a_easy : Nat → Int32} {a_wants : Nat → Int32} {a_wantedBy : Nat → Int32} {a_ring : Nat → Int32} {a_carried : Nat → Int32} {a_latest : Nat → Int32} {v_taped : Int32} {v_faultKind : Int32} {v_faultPlace : Int32} {v_x : Int32} {v_ordered : Int32} {v_sought : Int32} {v_lastSought : Int32} {v_hMoved : Int32} {v_hWithout : Int32} {v_tMoved : Int32} {v_tWithout : Int32} {v_places : Int32} {v_elsewhere : Int32} {v_sMany : Int32} {v_bMany : Int32} {v_year : Int32} {y_lies : Int64} {a_rsort : Nat → Int32} {a_rmany : Nat → Int32} {a_nums : Nat → Nat → Int64} {pl : va_W} {k : Nat}  {p1 : Int32} {res : Int64} {E : EvT} (hE : EvN E) (hk : k < (4 : Int32).toNatClampNeg) (hs0 : a_rsort k = 0) (hF : FX7_number_0 k a_rmany a_nums p1 = some res) : MX l yX7_number (ws_ yX7_number cX7_number 2 (Option.some Jvm.ClassFile.FieldType.long)) rm_J2_size D vwA (cT cA) E [.ref (ad (29 + k)), .int p1] (cW ad cA sA ta ba na gi rh rt g_sort g_size g_from g_to g_level g_full a_tape a_hAt a_hMany a_tAt a_tMany a_least a_place a_to a_order a_fails a_sKeys a_sRow a_sSlots a_bKeys a_bRow a_bSlots a_easy a_wants a_wantedBy a_ring a_carried a_latest v_taped v_faultKind v_faultPlace v_x v_ordered v_sought v_lastSought v_hMoved v_hWithout v_tMoved v_tWithout v_places v_elsewhere v_sMany v_bMany v_year y_lies a_rsort a_rmany a_nums pl) (fun z => z = (cW ad cA sA ta ba na gi rh rt g_sort g_size g_from g_to g_level g_full a_tape a_hAt a_hMany a_tAt a_tMany a_least a_place a_to a_order a_fails a_sKeys a_sRow a_sSlots a_bKeys a_bRow a_bSlots a_easy a_wants a_wantedBy a_ring a_carried a_latest v_taped v_faultKind v_faultPlace v_x v_ordered v_sought v_lastSought v_hMoved v_hWithout v_tMoved v_tWithout v_places v_elsewhere v_sMany v_bMany v_year y_lies a_rsort a_rmany a_nums pl)) (some (.long res)) := by
  refine MX.ofL (by decide) (Nat.le_of_ble_eq_true rfl) ?_
  intro p e s m args below meth c Q A hX hK hE0 hname hret H locs ls hH hl
  have hX : CallFix p m c cX7_number 2 s args lw_all RX7 := hX
  have hx := hX.1
  have hb := hX.2.1
  have hown := hX.2.2.2.1
  have hts := hX.2.2.2.2
  have hl : lv_has ls 2 [(0, .ref (ad (29 + k))), (1, .int p1)] := hl
  have hEv := hE.1
  have hNC := hE.2.2.1 _ _ _ hE0
  have hNW := hE.2.1 _ _ _ hE0
  delta FX7_number_0 at hF
  refine lv_aload_n hx hb dX7_number_0 rfl (lv_at hl 0 rfl) ?_
  refine cgn_held hX hK hH hk (by rw [hs0]; decide) dX7_number_1 ?_
  refine va_instE hx hb hown (hts _ q1196) (cn_at0 hK hH hk hs0) dX7_number_4 ?_
  refine lv_if_eq (tgt := 21) hx hb dX7_number_7 rfl (fun c9 => absurd c9 (by decide)) (fun _ => ?_)
  refine lv_aload_n hx hb dX7_number_10 rfl (lv_at hl 0 rfl) ?_
  refine cgn_held hX hK hH hk (by rw [hs0]; decide) dX7_number_11 ?_
  refine va_castE hx hb hown (hts _ q1196) (cn_at0 hK hH hk hs0) dX7_number_14 ?_
  refine lv_iload_n hx hb dX7_number_17 rfl (lv_at hl 1 rfl) ?_
  obtain ⟨x_56, he, hF⟩ := bd1e hF
  refine cn_ld0 hX hK hH hk hs0 he dX7_number_18 ?_
  refine lv_i2l (v := (Int32.toInt64 x_56)) hx hb dX7_number_19 rfl ?_
  obtain rfl := Option.some.inj hF
  exact hret _ _ _ _ _ rfl hH dX7_number_20
set_option maxHeartbeats 4000000 in
theorem met_X7_many_1 {l : Launch} {D : va_G} {ad : Nat → Nat} {cA : Nat → ClassId} {sA ta ba na : Nat → Nat} {gi : Nat → Option Nat} {rh : Option Nat} {rt : Option Nat} {g_sort : Int32} {g_size : Int32} {g_from : Int32} {g_to : Int32} {g_level : Int32} {g_full : Int32} {a_tape : Nat → Int32} {a_hAt : Nat → Int32} {a_hMany : Nat → Int32} {a_tAt : Nat → Int32} {a_tMany : Nat → Int32} {a_least : Nat → Int32} {a_place : Nat → Int32} {a_to : Nat → Int32} {a_order : Nat → Int32} {a_fails : Nat → Int32} {a_sKeys : Nat → Int64} {a_sRow : Nat → Int64} {a_sSlots : Nat → Int32} {a_bKeys : Nat → Int64} {a_bRow : Nat → Int64} {a_bSlots : Nat → Int32} {a_easy : Nat → Int32} {a_wants : Nat → Int32} {a_wantedBy : Nat → Int32} {a_ring : Nat → Int32} {a_carried : Nat → Int32} {a_latest : Nat → Int32} {v_taped : Int32} {v_faultKind : Int32} {v_faultPlace : Int32} {v_x : Int32} {v_ordered : Int32} {v_sought : Int32} {v_lastSought : Int32} {v_hMoved : Int32} {v_hWithout : Int32} {v_tMoved : Int32} {v_tWithout : Int32} {v_places : Int32} {v_elsewhere : Int32} {v_sMany : Int32} {v_bMany : Int32} {v_year : Int32} {y_lies : Int64} {a_rsort : Nat → Int32} {a_rmany : Nat → Int32} {a_nums : Nat → Nat → Int64} {pl : va_W} {k : Nat}   {res : Int32} {E : EvT} (hE : EvN E) (hk : k < (4 : Int32).toNatClampNeg) (hs1 : a_rsort k = 1) (hF : FX7_many_1 k a_rmany = some res) : MX l yX7_many (ws_ yX7_many cX7_many 1 (Option.some Jvm.ClassFile.FieldType.int)) rm_J2_size D vwA (cT cA) E [.ref (ad (29 + k))] (cW ad cA sA ta ba na gi rh rt g_sort g_size g_from g_to g_level g_full a_tape a_hAt a_hMany a_tAt a_tMany a_least a_place a_to a_order a_fails a_sKeys a_sRow a_sSlots a_bKeys a_bRow a_bSlots a_easy a_wants a_wantedBy a_ring a_carried a_latest v_taped v_faultKind v_faultPlace v_x v_ordered v_sought v_lastSought v_hMoved v_hWithout v_tMoved v_tWithout v_places v_elsewhere v_sMany v_bMany v_year y_lies a_rsort a_rmany a_nums pl) (fun z => z = (cW ad cA sA ta ba na gi rh rt g_sort g_size g_from g_to g_level g_full a_tape a_hAt a_hMany a_tAt a_tMany a_least a_place a_to a_order a_fails a_sKeys a_sRow a_sSlots a_bKeys a_bRow a_bSlots a_easy a_wants a_wantedBy a_ring a_carried a_latest v_taped v_faultKind v_faultPlace v_x v_ordered v_sought v_lastSought v_hMoved v_hWithout v_tMoved v_tWithout v_places v_elsewhere v_sMany v_bMany v_year y_lies a_rsort a_rmany a_nums pl)) (some (.int res)) := by
  refine MX.ofI (by decide) (Nat.le_of_ble_eq_true rfl) ?_
  intro p e s m args below meth c Q A hX hK hE0 hname hret H locs ls hH hl
  have hX : CallFix p m c cX7_many 1 s args lw_all RX7 := hX
  have hx := hX.1
  have hb := hX.2.1
  have hown := hX.2.2.2.1
  have hts := hX.2.2.2.2
  have hl : lv_has ls 1 [(0, .ref (ad (29 + k)))] := hl
  have hEv := hE.1
  have hNC := hE.2.2.1 _ _ _ hE0
  have hNW := hE.2.1 _ _ _ hE0
  delta FX7_many_1 at hF
  refine lv_aload_n hx hb dX7_many_0 rfl (lv_at hl 0 rfl) ?_
  refine cgn_held hX hK hH hk (by rw [hs1]; decide) dX7_many_1 ?_
  refine va_instNo hx hb hown (hts _ q1196) (hNC _ (List.mem_of_getElem? (i := 5) rfl)) (cn_at1 hK hH hk hs1) dX7_many_4 ?_
  refine lv_if_eq (tgt := 19) hx hb dX7_many_7 rfl (fun _ => ?_) (fun c9 => absurd c9 (by decide))
  refine lv_aload_n hx hb dX7_many_19 rfl (lv_at hl 0 rfl) ?_
  refine cgn_held hX hK hH hk (by rw [hs1]; decide) dX7_many_20 ?_
  refine va_instE hx hb hown (hts _ q1197) (cn_at1 hK hH hk hs1) dX7_many_23 ?_
  refine lv_if_eq (tgt := 38) hx hb dX7_many_26 rfl (fun c9 => absurd c9 (by decide)) (fun _ => ?_)
  refine lv_aload_n hx hb dX7_many_29 rfl (lv_at hl 0 rfl) ?_
  refine cgn_held hX hK hH hk (by rw [hs1]; decide) dX7_many_30 ?_
  refine va_castE hx hb hown (hts _ q1197) (cn_at1 hK hH hk hs1) dX7_many_33 ?_
  refine cn_len1 hX hK hH hk hs1 dX7_many_36 ?_
  obtain rfl := Option.some.inj hF
  exact hret _ _ _ _ _ rfl hH dX7_many_37
set_option maxHeartbeats 4000000 in
theorem met_X7_number_1 {l : Launch} {D : va_G} {ad : Nat → Nat} {cA : Nat → ClassId} {sA ta ba na : Nat → Nat} {gi : Nat → Option Nat} {rh : Option Nat} {rt : Option Nat} {g_sort : Int32} {g_size : Int32} {g_from : Int32} {g_to : Int32} {g_level : Int32} {g_full : Int32} {a_tape : Nat → Int32} {a_hAt : Nat → Int32} {a_hMany : Nat → Int32} {a_tAt : Nat → Int32} {a_tMany : Nat → Int32} {a_least : Nat → Int32} {a_place : Nat → Int32} {a_to : Nat → Int32} {a_order : Nat → Int32} {a_fails : Nat → Int32} {a_sKeys : Nat → Int64} {a_sRow : Nat → Int64} {a_sSlots : Nat → Int32} {a_bKeys : Nat → Int64} {a_bRow : Nat → Int64} {a_bSlots : Nat → Int32} {a_easy : Nat → Int32} {a_wants : Nat → Int32} {a_wantedBy : Nat → Int32} {a_ring : Nat → Int32} {a_carried : Nat → Int32} {a_latest : Nat → Int32} {v_taped : Int32} {v_faultKind : Int32} {v_faultPlace : Int32} {v_x : Int32} {v_ordered : Int32} {v_sought : Int32} {v_lastSought : Int32} {v_hMoved : Int32} {v_hWithout : Int32} {v_tMoved : Int32} {v_tWithout : Int32} {v_places : Int32} {v_elsewhere : Int32} {v_sMany : Int32} {v_bMany : Int32} {v_year : Int32} {y_lies : Int64} {a_rsort : Nat → Int32} {a_rmany : Nat → Int32} {a_nums : Nat → Nat → Int64} {pl : va_W} {k : Nat}  {p1 : Int32} {res : Int64} {E : EvT} (hE : EvN E) (hk : k < (4 : Int32).toNatClampNeg) (hs1 : a_rsort k = 1) (hF : FX7_number_1 k a_rmany a_nums p1 = some res) : MX l yX7_number (ws_ yX7_number cX7_number 2 (Option.some Jvm.ClassFile.FieldType.long)) rm_J2_size D vwA (cT cA) E [.ref (ad (29 + k)), .int p1] (cW ad cA sA ta ba na gi rh rt g_sort g_size g_from g_to g_level g_full a_tape a_hAt a_hMany a_tAt a_tMany a_least a_place a_to a_order a_fails a_sKeys a_sRow a_sSlots a_bKeys a_bRow a_bSlots a_easy a_wants a_wantedBy a_ring a_carried a_latest v_taped v_faultKind v_faultPlace v_x v_ordered v_sought v_lastSought v_hMoved v_hWithout v_tMoved v_tWithout v_places v_elsewhere v_sMany v_bMany v_year y_lies a_rsort a_rmany a_nums pl) (fun z => z = (cW ad cA sA ta ba na gi rh rt g_sort g_size g_from g_to g_level g_full a_tape a_hAt a_hMany a_tAt a_tMany a_least a_place a_to a_order a_fails a_sKeys a_sRow a_sSlots a_bKeys a_bRow a_bSlots a_easy a_wants a_wantedBy a_ring a_carried a_latest v_taped v_faultKind v_faultPlace v_x v_ordered v_sought v_lastSought v_hMoved v_hWithout v_tMoved v_tWithout v_places v_elsewhere v_sMany v_bMany v_year y_lies a_rsort a_rmany a_nums pl)) (some (.long res)) := by
  refine MX.ofL (by decide) (Nat.le_of_ble_eq_true rfl) ?_
  intro p e s m args below meth c Q A hX hK hE0 hname hret H locs ls hH hl
  have hX : CallFix p m c cX7_number 2 s args lw_all RX7 := hX
  have hx := hX.1
  have hb := hX.2.1
  have hown := hX.2.2.2.1
  have hts := hX.2.2.2.2
  have hl : lv_has ls 2 [(0, .ref (ad (29 + k))), (1, .int p1)] := hl
  have hEv := hE.1
  have hNC := hE.2.2.1 _ _ _ hE0
  have hNW := hE.2.1 _ _ _ hE0
  delta FX7_number_1 at hF
  refine lv_aload_n hx hb dX7_number_0 rfl (lv_at hl 0 rfl) ?_
  refine cgn_held hX hK hH hk (by rw [hs1]; decide) dX7_number_1 ?_
  refine va_instNo hx hb hown (hts _ q1196) (hNC _ (List.mem_of_getElem? (i := 5) rfl)) (cn_at1 hK hH hk hs1) dX7_number_4 ?_
  refine lv_if_eq (tgt := 21) hx hb dX7_number_7 rfl (fun _ => ?_) (fun c9 => absurd c9 (by decide))
  refine lv_aload_n hx hb dX7_number_21 rfl (lv_at hl 0 rfl) ?_
  refine cgn_held hX hK hH hk (by rw [hs1]; decide) dX7_number_22 ?_
  refine va_instE hx hb hown (hts _ q1197) (cn_at1 hK hH hk hs1) dX7_number_25 ?_
  refine lv_if_eq (tgt := 42) hx hb dX7_number_28 rfl (fun c9 => absurd c9 (by decide)) (fun _ => ?_)
  refine lv_aload_n hx hb dX7_number_31 rfl (lv_at hl 0 rfl) ?_
  refine cgn_held hX hK hH hk (by rw [hs1]; decide) dX7_number_32 ?_
  refine va_castE hx hb hown (hts _ q1197) (cn_at1 hK hH hk hs1) dX7_number_35 ?_
  refine lv_iload_n hx hb dX7_number_38 rfl (lv_at hl 1 rfl) ?_
  obtain ⟨x_56, he, hF⟩ := bd1e hF
  refine cn_ld1 hX hK hH hk hs1 he dX7_number_39 ?_
  refine lv_i2l (v := (Int32.toInt64 x_56)) hx hb dX7_number_40 rfl ?_
  obtain rfl := Option.some.inj hF
  exact hret _ _ _ _ _ rfl hH dX7_number_41
set_option maxHeartbeats 4000000 in
theorem met_X7_many_2 {l : Launch} {D : va_G} {ad : Nat → Nat} {cA : Nat → ClassId} {sA ta ba na : Nat → Nat} {gi : Nat → Option Nat} {rh : Option Nat} {rt : Option Nat} {g_sort : Int32} {g_size : Int32} {g_from : Int32} {g_to : Int32} {g_level : Int32} {g_full : Int32} {a_tape : Nat → Int32} {a_hAt : Nat → Int32} {a_hMany : Nat → Int32} {a_tAt : Nat → Int32} {a_tMany : Nat → Int32} {a_least : Nat → Int32} {a_place : Nat → Int32} {a_to : Nat → Int32} {a_order : Nat → Int32} {a_fails : Nat → Int32} {a_sKeys : Nat → Int64} {a_sRow : Nat → Int64} {a_sSlots : Nat → Int32} {a_bKeys : Nat → Int64} {a_bRow : Nat → Int64} {a_bSlots : Nat → Int32} {a_easy : Nat → Int32} {a_wants : Nat → Int32} {a_wantedBy : Nat → Int32} {a_ring : Nat → Int32} {a_carried : Nat → Int32} {a_latest : Nat → Int32} {v_taped : Int32} {v_faultKind : Int32} {v_faultPlace : Int32} {v_x : Int32} {v_ordered : Int32} {v_sought : Int32} {v_lastSought : Int32} {v_hMoved : Int32} {v_hWithout : Int32} {v_tMoved : Int32} {v_tWithout : Int32} {v_places : Int32} {v_elsewhere : Int32} {v_sMany : Int32} {v_bMany : Int32} {v_year : Int32} {y_lies : Int64} {a_rsort : Nat → Int32} {a_rmany : Nat → Int32} {a_nums : Nat → Nat → Int64} {pl : va_W} {k : Nat}   {res : Int32} {E : EvT} (hE : EvN E) (hk : k < (4 : Int32).toNatClampNeg) (hs2 : a_rsort k = 2) (hF : FX7_many_2 k a_rmany = some res) : MX l yX7_many (ws_ yX7_many cX7_many 1 (Option.some Jvm.ClassFile.FieldType.int)) rm_J2_size D vwA (cT cA) E [.ref (ad (29 + k))] (cW ad cA sA ta ba na gi rh rt g_sort g_size g_from g_to g_level g_full a_tape a_hAt a_hMany a_tAt a_tMany a_least a_place a_to a_order a_fails a_sKeys a_sRow a_sSlots a_bKeys a_bRow a_bSlots a_easy a_wants a_wantedBy a_ring a_carried a_latest v_taped v_faultKind v_faultPlace v_x v_ordered v_sought v_lastSought v_hMoved v_hWithout v_tMoved v_tWithout v_places v_elsewhere v_sMany v_bMany v_year y_lies a_rsort a_rmany a_nums pl) (fun z => z = (cW ad cA sA ta ba na gi rh rt g_sort g_size g_from g_to g_level g_full a_tape a_hAt a_hMany a_tAt a_tMany a_least a_place a_to a_order a_fails a_sKeys a_sRow a_sSlots a_bKeys a_bRow a_bSlots a_easy a_wants a_wantedBy a_ring a_carried a_latest v_taped v_faultKind v_faultPlace v_x v_ordered v_sought v_lastSought v_hMoved v_hWithout v_tMoved v_tWithout v_places v_elsewhere v_sMany v_bMany v_year y_lies a_rsort a_rmany a_nums pl)) (some (.int res)) := by
  refine MX.ofI (by decide) (Nat.le_of_ble_eq_true rfl) ?_
  intro p e s m args below meth c Q A hX hK hE0 hname hret H locs ls hH hl
  have hX : CallFix p m c cX7_many 1 s args lw_all RX7 := hX
  have hx := hX.1
  have hb := hX.2.1
  have hown := hX.2.2.2.1
  have hts := hX.2.2.2.2
  have hl : lv_has ls 1 [(0, .ref (ad (29 + k)))] := hl
  have hEv := hE.1
  have hNC := hE.2.2.1 _ _ _ hE0
  have hNW := hE.2.1 _ _ _ hE0
  delta FX7_many_2 at hF
  refine lv_aload_n hx hb dX7_many_0 rfl (lv_at hl 0 rfl) ?_
  refine cgn_held hX hK hH hk (by rw [hs2]; decide) dX7_many_1 ?_
  refine va_instNo hx hb hown (hts _ q1196) (hNC _ (List.mem_of_getElem? (i := 0) rfl)) (cn_at2 hK hH hk hs2) dX7_many_4 ?_
  refine lv_if_eq (tgt := 19) hx hb dX7_many_7 rfl (fun _ => ?_) (fun c9 => absurd c9 (by decide))
  refine lv_aload_n hx hb dX7_many_19 rfl (lv_at hl 0 rfl) ?_
  refine cgn_held hX hK hH hk (by rw [hs2]; decide) dX7_many_20 ?_
  refine va_instNo hx hb hown (hts _ q1197) (hNC _ (List.mem_of_getElem? (i := 1) rfl)) (cn_at2 hK hH hk hs2) dX7_many_23 ?_
  refine lv_if_eq (tgt := 38) hx hb dX7_many_26 rfl (fun _ => ?_) (fun c9 => absurd c9 (by decide))
  refine lv_aload_n hx hb dX7_many_38 rfl (lv_at hl 0 rfl) ?_
  refine cgn_held hX hK hH hk (by rw [hs2]; decide) dX7_many_39 ?_
  refine va_instE hx hb hown (hts _ q1198) (cn_at2 hK hH hk hs2) dX7_many_42 ?_
  refine lv_if_eq (tgt := 59) hx hb dX7_many_45 rfl (fun c9 => absurd c9 (by decide)) (fun _ => ?_)
  refine lv_aload_n hx hb dX7_many_48 rfl (lv_at hl 0 rfl) ?_
  refine cgn_held hX hK hH hk (by rw [hs2]; decide) dX7_many_49 ?_
  refine va_castE hx hb hown (hts _ q1198) (cn_at2 hK hH hk hs2) dX7_many_52 ?_
  refine cn_len2 hX hK hH hk hs2 dX7_many_55 ?_
  refine lv_goto (tgt := 67) hx hb dX7_many_56 rfl ?_
  obtain rfl := Option.some.inj hF
  exact hret _ _ _ _ _ rfl hH dX7_many_67
set_option maxHeartbeats 4000000 in
theorem met_X7_number_2 {l : Launch} {D : va_G} {ad : Nat → Nat} {cA : Nat → ClassId} {sA ta ba na : Nat → Nat} {gi : Nat → Option Nat} {rh : Option Nat} {rt : Option Nat} {g_sort : Int32} {g_size : Int32} {g_from : Int32} {g_to : Int32} {g_level : Int32} {g_full : Int32} {a_tape : Nat → Int32} {a_hAt : Nat → Int32} {a_hMany : Nat → Int32} {a_tAt : Nat → Int32} {a_tMany : Nat → Int32} {a_least : Nat → Int32} {a_place : Nat → Int32} {a_to : Nat → Int32} {a_order : Nat → Int32} {a_fails : Nat → Int32} {a_sKeys : Nat → Int64} {a_sRow : Nat → Int64} {a_sSlots : Nat → Int32} {a_bKeys : Nat → Int64} {a_bRow : Nat → Int64} {a_bSlots : Nat → Int32} {a_easy : Nat → Int32} {a_wants : Nat → Int32} {a_wantedBy : Nat → Int32} {a_ring : Nat → Int32} {a_carried : Nat → Int32} {a_latest : Nat → Int32} {v_taped : Int32} {v_faultKind : Int32} {v_faultPlace : Int32} {v_x : Int32} {v_ordered : Int32} {v_sought : Int32} {v_lastSought : Int32} {v_hMoved : Int32} {v_hWithout : Int32} {v_tMoved : Int32} {v_tWithout : Int32} {v_places : Int32} {v_elsewhere : Int32} {v_sMany : Int32} {v_bMany : Int32} {v_year : Int32} {y_lies : Int64} {a_rsort : Nat → Int32} {a_rmany : Nat → Int32} {a_nums : Nat → Nat → Int64} {pl : va_W} {k : Nat}  {p1 : Int32} {res : Int64} {E : EvT} (hE : EvN E) (hk : k < (4 : Int32).toNatClampNeg) (hs2 : a_rsort k = 2) (hF : FX7_number_2 k a_rmany a_nums p1 = some res) : MX l yX7_number (ws_ yX7_number cX7_number 2 (Option.some Jvm.ClassFile.FieldType.long)) rm_J2_size D vwA (cT cA) E [.ref (ad (29 + k)), .int p1] (cW ad cA sA ta ba na gi rh rt g_sort g_size g_from g_to g_level g_full a_tape a_hAt a_hMany a_tAt a_tMany a_least a_place a_to a_order a_fails a_sKeys a_sRow a_sSlots a_bKeys a_bRow a_bSlots a_easy a_wants a_wantedBy a_ring a_carried a_latest v_taped v_faultKind v_faultPlace v_x v_ordered v_sought v_lastSought v_hMoved v_hWithout v_tMoved v_tWithout v_places v_elsewhere v_sMany v_bMany v_year y_lies a_rsort a_rmany a_nums pl) (fun z => z = (cW ad cA sA ta ba na gi rh rt g_sort g_size g_from g_to g_level g_full a_tape a_hAt a_hMany a_tAt a_tMany a_least a_place a_to a_order a_fails a_sKeys a_sRow a_sSlots a_bKeys a_bRow a_bSlots a_easy a_wants a_wantedBy a_ring a_carried a_latest v_taped v_faultKind v_faultPlace v_x v_ordered v_sought v_lastSought v_hMoved v_hWithout v_tMoved v_tWithout v_places v_elsewhere v_sMany v_bMany v_year y_lies a_rsort a_rmany a_nums pl)) (some (.long res)) := by
  refine MX.ofL (by decide) (Nat.le_of_ble_eq_true rfl) ?_
  intro p e s m args below meth c Q A hX hK hE0 hname hret H locs ls hH hl
  have hX : CallFix p m c cX7_number 2 s args lw_all RX7 := hX
  have hx := hX.1
  have hb := hX.2.1
  have hown := hX.2.2.2.1
  have hts := hX.2.2.2.2
  have hl : lv_has ls 2 [(0, .ref (ad (29 + k))), (1, .int p1)] := hl
  have hEv := hE.1
  have hNC := hE.2.2.1 _ _ _ hE0
  have hNW := hE.2.1 _ _ _ hE0
  delta FX7_number_2 at hF
  refine lv_aload_n hx hb dX7_number_0 rfl (lv_at hl 0 rfl) ?_
  refine cgn_held hX hK hH hk (by rw [hs2]; decide) dX7_number_1 ?_
  refine va_instNo hx hb hown (hts _ q1196) (hNC _ (List.mem_of_getElem? (i := 0) rfl)) (cn_at2 hK hH hk hs2) dX7_number_4 ?_
  refine lv_if_eq (tgt := 21) hx hb dX7_number_7 rfl (fun _ => ?_) (fun c9 => absurd c9 (by decide))
  refine lv_aload_n hx hb dX7_number_21 rfl (lv_at hl 0 rfl) ?_
  refine cgn_held hX hK hH hk (by rw [hs2]; decide) dX7_number_22 ?_
  refine va_instNo hx hb hown (hts _ q1197) (hNC _ (List.mem_of_getElem? (i := 1) rfl)) (cn_at2 hK hH hk hs2) dX7_number_25 ?_
  refine lv_if_eq (tgt := 42) hx hb dX7_number_28 rfl (fun _ => ?_) (fun c9 => absurd c9 (by decide))
  refine lv_aload_n hx hb dX7_number_42 rfl (lv_at hl 0 rfl) ?_
  refine cgn_held hX hK hH hk (by rw [hs2]; decide) dX7_number_43 ?_
  refine va_instE hx hb hown (hts _ q1198) (cn_at2 hK hH hk hs2) dX7_number_46 ?_
  refine lv_if_eq (tgt := 65) hx hb dX7_number_49 rfl (fun c9 => absurd c9 (by decide)) (fun _ => ?_)
  refine lv_aload_n hx hb dX7_number_52 rfl (lv_at hl 0 rfl) ?_
  refine cgn_held hX hK hH hk (by rw [hs2]; decide) dX7_number_53 ?_
  refine va_castE hx hb hown (hts _ q1198) (cn_at2 hK hH hk hs2) dX7_number_56 ?_
  refine lv_iload_n hx hb dX7_number_59 rfl (lv_at hl 1 rfl) ?_
  obtain ⟨x_56, he, hF⟩ := bd1e hF
  refine cn_ld2 hX hK hH hk hs2 he dX7_number_60 ?_
  refine lv_i2l (v := (Int32.toInt64 x_56)) hx hb dX7_number_61 rfl ?_
  refine lv_goto (tgt := 74) hx hb dX7_number_62 rfl ?_
  obtain rfl := Option.some.inj hF
  exact hret _ _ _ _ _ rfl hH dX7_number_74
set_option maxHeartbeats 4000000 in
theorem met_X7_many_3 {l : Launch} {D : va_G} {ad : Nat → Nat} {cA : Nat → ClassId} {sA ta ba na : Nat → Nat} {gi : Nat → Option Nat} {rh : Option Nat} {rt : Option Nat} {g_sort : Int32} {g_size : Int32} {g_from : Int32} {g_to : Int32} {g_level : Int32} {g_full : Int32} {a_tape : Nat → Int32} {a_hAt : Nat → Int32} {a_hMany : Nat → Int32} {a_tAt : Nat → Int32} {a_tMany : Nat → Int32} {a_least : Nat → Int32} {a_place : Nat → Int32} {a_to : Nat → Int32} {a_order : Nat → Int32} {a_fails : Nat → Int32} {a_sKeys : Nat → Int64} {a_sRow : Nat → Int64} {a_sSlots : Nat → Int32} {a_bKeys : Nat → Int64} {a_bRow : Nat → Int64} {a_bSlots : Nat → Int32} {a_easy : Nat → Int32} {a_wants : Nat → Int32} {a_wantedBy : Nat → Int32} {a_ring : Nat → Int32} {a_carried : Nat → Int32} {a_latest : Nat → Int32} {v_taped : Int32} {v_faultKind : Int32} {v_faultPlace : Int32} {v_x : Int32} {v_ordered : Int32} {v_sought : Int32} {v_lastSought : Int32} {v_hMoved : Int32} {v_hWithout : Int32} {v_tMoved : Int32} {v_tWithout : Int32} {v_places : Int32} {v_elsewhere : Int32} {v_sMany : Int32} {v_bMany : Int32} {v_year : Int32} {y_lies : Int64} {a_rsort : Nat → Int32} {a_rmany : Nat → Int32} {a_nums : Nat → Nat → Int64} {pl : va_W} {k : Nat}   {res : Int32} {E : EvT} (hE : EvN E) (hk : k < (4 : Int32).toNatClampNeg) (hs3 : a_rsort k = 3) (hF : FX7_many_3 k a_rmany = some res) : MX l yX7_many (ws_ yX7_many cX7_many 1 (Option.some Jvm.ClassFile.FieldType.int)) rm_J2_size D vwA (cT cA) E [.ref (ad (29 + k))] (cW ad cA sA ta ba na gi rh rt g_sort g_size g_from g_to g_level g_full a_tape a_hAt a_hMany a_tAt a_tMany a_least a_place a_to a_order a_fails a_sKeys a_sRow a_sSlots a_bKeys a_bRow a_bSlots a_easy a_wants a_wantedBy a_ring a_carried a_latest v_taped v_faultKind v_faultPlace v_x v_ordered v_sought v_lastSought v_hMoved v_hWithout v_tMoved v_tWithout v_places v_elsewhere v_sMany v_bMany v_year y_lies a_rsort a_rmany a_nums pl) (fun z => z = (cW ad cA sA ta ba na gi rh rt g_sort g_size g_from g_to g_level g_full a_tape a_hAt a_hMany a_tAt a_tMany a_least a_place a_to a_order a_fails a_sKeys a_sRow a_sSlots a_bKeys a_bRow a_bSlots a_easy a_wants a_wantedBy a_ring a_carried a_latest v_taped v_faultKind v_faultPlace v_x v_ordered v_sought v_lastSought v_hMoved v_hWithout v_tMoved v_tWithout v_places v_elsewhere v_sMany v_bMany v_year y_lies a_rsort a_rmany a_nums pl)) (some (.int res)) := by
  refine MX.ofI (by decide) (Nat.le_of_ble_eq_true rfl) ?_
  intro p e s m args below meth c Q A hX hK hE0 hname hret H locs ls hH hl
  have hX : CallFix p m c cX7_many 1 s args lw_all RX7 := hX
  have hx := hX.1
  have hb := hX.2.1
  have hown := hX.2.2.2.1
  have hts := hX.2.2.2.2
  have hl : lv_has ls 1 [(0, .ref (ad (29 + k)))] := hl
  have hEv := hE.1
  have hNC := hE.2.2.1 _ _ _ hE0
  have hNW := hE.2.1 _ _ _ hE0
  delta FX7_many_3 at hF
  refine lv_aload_n hx hb dX7_many_0 rfl (lv_at hl 0 rfl) ?_
  refine cgn_held hX hK hH hk (by rw [hs3]; decide) dX7_many_1 ?_
  refine va_instNo hx hb hown (hts _ q1196) (hNC _ (List.mem_of_getElem? (i := 2) rfl)) (cn_at3 hK hH hk hs3) dX7_many_4 ?_
  refine lv_if_eq (tgt := 19) hx hb dX7_many_7 rfl (fun _ => ?_) (fun c9 => absurd c9 (by decide))
  refine lv_aload_n hx hb dX7_many_19 rfl (lv_at hl 0 rfl) ?_
  refine cgn_held hX hK hH hk (by rw [hs3]; decide) dX7_many_20 ?_
  refine va_instNo hx hb hown (hts _ q1197) (hNC _ (List.mem_of_getElem? (i := 4) rfl)) (cn_at3 hK hH hk hs3) dX7_many_23 ?_
  refine lv_if_eq (tgt := 38) hx hb dX7_many_26 rfl (fun _ => ?_) (fun c9 => absurd c9 (by decide))
  refine lv_aload_n hx hb dX7_many_38 rfl (lv_at hl 0 rfl) ?_
  refine cgn_held hX hK hH hk (by rw [hs3]; decide) dX7_many_39 ?_
  refine va_instNo hx hb hown (hts _ q1198) (hNC _ (List.mem_of_getElem? (i := 3) rfl)) (cn_at3 hK hH hk hs3) dX7_many_42 ?_
  refine lv_if_eq (tgt := 59) hx hb dX7_many_45 rfl (fun _ => ?_) (fun c9 => absurd c9 (by decide))
  refine lv_aload_n hx hb dX7_many_59 rfl (lv_at hl 0 rfl) ?_
  refine cgn_held hX hK hH hk (by rw [hs3]; decide) dX7_many_60 ?_
  refine va_castE hx hb hown (hts _ q1199) (cn_at3 hK hH hk hs3) dX7_many_63 ?_
  refine cn_len3 hX hK hH hk hs3 dX7_many_66 ?_
  obtain rfl := Option.some.inj hF
  exact hret _ _ _ _ _ rfl hH dX7_many_67
set_option maxHeartbeats 4000000 in
theorem met_X7_number_3 {l : Launch} {D : va_G} {ad : Nat → Nat} {cA : Nat → ClassId} {sA ta ba na : Nat → Nat} {gi : Nat → Option Nat} {rh : Option Nat} {rt : Option Nat} {g_sort : Int32} {g_size : Int32} {g_from : Int32} {g_to : Int32} {g_level : Int32} {g_full : Int32} {a_tape : Nat → Int32} {a_hAt : Nat → Int32} {a_hMany : Nat → Int32} {a_tAt : Nat → Int32} {a_tMany : Nat → Int32} {a_least : Nat → Int32} {a_place : Nat → Int32} {a_to : Nat → Int32} {a_order : Nat → Int32} {a_fails : Nat → Int32} {a_sKeys : Nat → Int64} {a_sRow : Nat → Int64} {a_sSlots : Nat → Int32} {a_bKeys : Nat → Int64} {a_bRow : Nat → Int64} {a_bSlots : Nat → Int32} {a_easy : Nat → Int32} {a_wants : Nat → Int32} {a_wantedBy : Nat → Int32} {a_ring : Nat → Int32} {a_carried : Nat → Int32} {a_latest : Nat → Int32} {v_taped : Int32} {v_faultKind : Int32} {v_faultPlace : Int32} {v_x : Int32} {v_ordered : Int32} {v_sought : Int32} {v_lastSought : Int32} {v_hMoved : Int32} {v_hWithout : Int32} {v_tMoved : Int32} {v_tWithout : Int32} {v_places : Int32} {v_elsewhere : Int32} {v_sMany : Int32} {v_bMany : Int32} {v_year : Int32} {y_lies : Int64} {a_rsort : Nat → Int32} {a_rmany : Nat → Int32} {a_nums : Nat → Nat → Int64} {pl : va_W} {k : Nat}  {p1 : Int32} {res : Int64} {E : EvT} (hE : EvN E) (hk : k < (4 : Int32).toNatClampNeg) (hs3 : a_rsort k = 3) (hF : FX7_number_3 k a_rmany a_nums p1 = some res) : MX l yX7_number (ws_ yX7_number cX7_number 2 (Option.some Jvm.ClassFile.FieldType.long)) rm_J2_size D vwA (cT cA) E [.ref (ad (29 + k)), .int p1] (cW ad cA sA ta ba na gi rh rt g_sort g_size g_from g_to g_level g_full a_tape a_hAt a_hMany a_tAt a_tMany a_least a_place a_to a_order a_fails a_sKeys a_sRow a_sSlots a_bKeys a_bRow a_bSlots a_easy a_wants a_wantedBy a_ring a_carried a_latest v_taped v_faultKind v_faultPlace v_x v_ordered v_sought v_lastSought v_hMoved v_hWithout v_tMoved v_tWithout v_places v_elsewhere v_sMany v_bMany v_year y_lies a_rsort a_rmany a_nums pl) (fun z => z = (cW ad cA sA ta ba na gi rh rt g_sort g_size g_from g_to g_level g_full a_tape a_hAt a_hMany a_tAt a_tMany a_least a_place a_to a_order a_fails a_sKeys a_sRow a_sSlots a_bKeys a_bRow a_bSlots a_easy a_wants a_wantedBy a_ring a_carried a_latest v_taped v_faultKind v_faultPlace v_x v_ordered v_sought v_lastSought v_hMoved v_hWithout v_tMoved v_tWithout v_places v_elsewhere v_sMany v_bMany v_year y_lies a_rsort a_rmany a_nums pl)) (some (.long res)) := by
  refine MX.ofL (by decide) (Nat.le_of_ble_eq_true rfl) ?_
  intro p e s m args below meth c Q A hX hK hE0 hname hret H locs ls hH hl
  have hX : CallFix p m c cX7_number 2 s args lw_all RX7 := hX
  have hx := hX.1
  have hb := hX.2.1
  have hown := hX.2.2.2.1
  have hts := hX.2.2.2.2
  have hl : lv_has ls 2 [(0, .ref (ad (29 + k))), (1, .int p1)] := hl
  have hEv := hE.1
  have hNC := hE.2.2.1 _ _ _ hE0
  have hNW := hE.2.1 _ _ _ hE0
  delta FX7_number_3 at hF
  refine lv_aload_n hx hb dX7_number_0 rfl (lv_at hl 0 rfl) ?_
  refine cgn_held hX hK hH hk (by rw [hs3]; decide) dX7_number_1 ?_
  refine va_instNo hx hb hown (hts _ q1196) (hNC _ (List.mem_of_getElem? (i := 2) rfl)) (cn_at3 hK hH hk hs3) dX7_number_4 ?_
  refine lv_if_eq (tgt := 21) hx hb dX7_number_7 rfl (fun _ => ?_) (fun c9 => absurd c9 (by decide))
  refine lv_aload_n hx hb dX7_number_21 rfl (lv_at hl 0 rfl) ?_
  refine cgn_held hX hK hH hk (by rw [hs3]; decide) dX7_number_22 ?_
  refine va_instNo hx hb hown (hts _ q1197) (hNC _ (List.mem_of_getElem? (i := 4) rfl)) (cn_at3 hK hH hk hs3) dX7_number_25 ?_
  refine lv_if_eq (tgt := 42) hx hb dX7_number_28 rfl (fun _ => ?_) (fun c9 => absurd c9 (by decide))
  refine lv_aload_n hx hb dX7_number_42 rfl (lv_at hl 0 rfl) ?_
  refine cgn_held hX hK hH hk (by rw [hs3]; decide) dX7_number_43 ?_
  refine va_instNo hx hb hown (hts _ q1198) (hNC _ (List.mem_of_getElem? (i := 3) rfl)) (cn_at3 hK hH hk hs3) dX7_number_46 ?_
  refine lv_if_eq (tgt := 65) hx hb dX7_number_49 rfl (fun _ => ?_) (fun c9 => absurd c9 (by decide))
  refine lv_aload_n hx hb dX7_number_65 rfl (lv_at hl 0 rfl) ?_
  refine cgn_held hX hK hH hk (by rw [hs3]; decide) dX7_number_66 ?_
  refine va_castE hx hb hown (hts _ q1199) (cn_at3 hK hH hk hs3) dX7_number_69 ?_
  refine lv_iload_n hx hb dX7_number_72 rfl (lv_at hl 1 rfl) ?_
  obtain ⟨y_56, he, hF⟩ := bd1e hF
  refine cn_ld3 hX hK hH hk hs3 he dX7_number_73 ?_
  obtain rfl := Option.some.inj hF
  exact hret _ _ _ _ _ rfl hH dX7_number_74
section CK
variable {p : Program} {l : Launch} {e : Env} {R : Room} {s : State} {m : MethodId} {args : Array Value} {below : List Frame} {meth : Method} {c : Code} {H : Heap} {locs : List Loc} {cells slots : Nat} {Q : State → Prop}
variable {D : va_G} {A : Nat → Prop} {H0 : Heap} {pc : Nat} {ls : Array Slot} {rest : List Value} {cc : ByteArray} {nL : Nat} {own : String} {lv : List (Nat × Value)} {index : Nat}
variable {ad : Nat → Nat} {cA : Nat → ClassId} {sA ta ba na : Nat → Nat} {gi : Nat → Option Nat} {rh : Option Nat} {rt : Option Nat} {g_sort : Int32} {g_size : Int32} {g_from : Int32} {g_to : Int32} {g_level : Int32} {g_full : Int32} {a_tape : Nat → Int32} {a_hAt : Nat → Int32} {a_hMany : Nat → Int32} {a_tAt : Nat → Int32} {a_tMany : Nat → Int32} {a_least : Nat → Int32} {a_place : Nat → Int32} {a_to : Nat → Int32} {a_order : Nat → Int32} {a_fails : Nat → Int32} {a_sKeys : Nat → Int64} {a_sRow : Nat → Int64} {a_sSlots : Nat → Int32} {a_bKeys : Nat → Int64} {a_bRow : Nat → Int64} {a_bSlots : Nat → Int32} {a_easy : Nat → Int32} {a_wants : Nat → Int32} {a_wantedBy : Nat → Int32} {a_ring : Nat → Int32} {a_carried : Nat → Int32} {a_latest : Nat → Int32} {v_taped : Int32} {v_faultKind : Int32} {v_faultPlace : Int32} {v_x : Int32} {v_ordered : Int32} {v_sought : Int32} {v_lastSought : Int32} {v_hMoved : Int32} {v_hWithout : Int32} {v_tMoved : Int32} {v_tWithout : Int32} {v_places : Int32} {v_elsewhere : Int32} {v_sMany : Int32} {v_bMany : Int32} {v_year : Int32} {y_lies : Int64} {a_rsort : Nat → Int32} {a_rmany : Nat → Int32} {a_nums : Nat → Nat → Int64} {pl : va_W}
theorem hd_isKept : ("StoneYear$Must" : String) ≠ "java/lang/invoke/MethodHandle" ∧ ("StoneYear$Must" : String) ≠ "java/lang/invoke/VarHandle" ∧ (parseMethodDescriptor "(I)Z").map (fun d => d.parameters.length) = some 1 := by decide +kernel
theorem hd_factis : ("StoneYear$Fact" : String) ≠ "java/lang/invoke/MethodHandle" ∧ ("StoneYear$Fact" : String) ≠ "java/lang/invoke/VarHandle" ∧ (parseMethodDescriptor "(LStoneYear$Going;)Z").map (fun d => d.parameters.length) = some 1 := by decide +kernel
theorem FX13_ok {n0 x : Int32} : FX13_isKept n0 x = some (decide (n0 ≤ x)) := by
  unfold FX13_isKept
  split
  · rename_i h; rw [decide_eq_false (Int32.not_le.mpr h)]
  · rename_i h; rw [decide_eq_true (Int32.not_lt.mp h)]
theorem FX14_ok {n0 x : Int32} : FX14_isKept n0 x = some (decide (x ≤ n0)) := by
  unfold FX14_isKept
  split
  · rename_i h; rw [decide_eq_false (Int32.not_le.mpr h)]
  · rename_i h; rw [decide_eq_true (Int32.not_lt.mp h)]
theorem ck_kept {tb : Nat → Nat} {u : Nat → Int32} {t : Nat → Int32} {nb : Int32} {bv : Nat → BvT} (hPO : PO cA pl ta ba t nb bv) (hU : TownAt cA pl tb u) {k : Nat} (hk : k < (u 56).toNatClampNeg) (hX : CallFix p m c cc nL s args lw_all own) (hK : va_K D vwA (cT cA) s) {E : EvT} (hE : EvN E) (hE0 : E A s H0) (hNW : NW s) (hH : MH D vwA A H0 (cW ad cA sA ta ba na gi rh rt g_sort g_size g_from g_to g_level g_full a_tape a_hAt a_hMany a_tAt a_tMany a_least a_place a_to a_order a_fails a_sKeys a_sRow a_sSlots a_bKeys a_bRow a_bSlots a_easy a_wants a_wantedBy a_ring a_carried a_latest v_taped v_faultKind v_faultPlace v_x v_ordered v_sought v_lastSought v_hMoved v_hWithout v_tMoved v_tWithout v_places v_elsewhere v_sMany v_bMany v_year y_lies a_rsort a_rmany a_nums pl) H locs) (hlk : Cond.methodLink own index ⟨"StoneYear$Must", "isKept", "(I)Z"⟩ ∈ lw_all) (hl : lv_has ls nL lv) (hR : 1 ≤ R.frames ∧ 60 ≤ R.locals) (hf : cells ≤ R.cells ∧ slots ≤ R.slots) {x : Int32} (hW : (rest.map fun v => v.category).sum ≤ 8) (hdg : decode cc pc = .ok (.invokevirtual index, 3)) (kk : ∀ (H : Heap) (locs : List Loc), MH D vwA A H0 (cW ad cA sA ta ba na gi rh rt g_sort g_size g_from g_to g_level g_full a_tape a_hAt a_hMany a_tAt a_tMany a_least a_place a_to a_order a_fails a_sKeys a_sRow a_sSlots a_bKeys a_bRow a_bSlots a_easy a_wants a_wantedBy a_ring a_carried a_latest v_taped v_faultKind v_faultPlace v_x v_ordered v_sought v_lastSought v_hMoved v_hWithout v_tMoved v_tWithout v_places v_elsewhere v_sMany v_bMany v_year y_lies a_rsort a_rmany a_nums pl) H locs → W p l e R s m args below meth c H locs cells slots Q (F0 m (pc + 3) ls (.int (b2i (kpI u k x)) :: rest))) : W p l e R s m args below meth c H locs cells slots Q (F0 m pc ls (.int x :: .ref (tb (40 + k)) :: rest)) := by
  have hm := hU.must hk
  by_cases h0 : u (57 + k) = 0
  · rw [if_pos h0] at hm
    rw [show kpI u k x = decide (u (69 + k) ≤ x) from if_pos h0] at kk
    refine mxU (C := RX13) (y := yX13_isKept) (owner := "StoneYear$Must") (x := ⟨"StoneYear$Must", "isKept", "(I)Z"⟩) hX hK hE.1 hE0 hH (met_X13_isKept hE hm FX13_ok) (precv (fun _ h => cW_pl h) hK hH 12 rfl ⟨_, hm⟩) (lw_U hlk q1014 q1018 q1019 q154 q1020) (hNW _ nw_q1013) hd_isKept ⟨hR.1, Nat.le_trans (Nat.le_of_ble_eq_true rfl) hR.2⟩ rfl rfl hl hW hdg hf (fun w' H1 l1 hw hH1 => ?_)
    subst hw
    exact kk H1 l1 hH1
  · rw [if_neg h0] at hm
    rw [show kpI u k x = decide (x ≤ u (69 + k)) from if_neg h0] at kk
    refine mxU (C := RX14) (y := yX14_isKept) (owner := "StoneYear$Must") (x := ⟨"StoneYear$Must", "isKept", "(I)Z"⟩) hX hK hE.1 hE0 hH (met_X14_isKept hE hm FX14_ok) (precv (fun _ h => cW_pl h) hK hH 13 rfl ⟨_, hm⟩) (lw_U hlk q1014 q1015 q1016 q155 q1017) (hNW _ nw_q1013) hd_isKept ⟨hR.1, Nat.le_trans (Nat.le_of_ble_eq_true rfl) hR.2⟩ rfl rfl hl hW hdg hf (fun w' H1 l1 hw hH1 => ?_)
    subst hw
    exact kk H1 l1 hH1
theorem FX17_ok {w n s z f t l u : Int32} : FX17_is s z f t l u w n = some (askB w n s z f t l u) := by
  unfold FX17_is askB
  repeat' split
  all_goals simp_all
theorem FX16_ok {g : BvT} {s z f t l u : Int32} : FX16_is s z f t l u g = some (notB g s z f t l u) := by
  unfold FX16_is notB
  cases g s z f t l u <;> simp [b2i]
theorem FX18_ok {i : Int32} {g h : BvT} {s z f t l u : Int32} : FX18_is s z f t l u i g h = some (bothB i g h s z f t l u) := by
  unfold FX18_is bothB FX18_is_j33 FX18_is_j59
  cases g s z f t l u <;> cases h s z f t l u <;> by_cases hi : i = 0 <;> simp [b2i, hi]
theorem number_F {rs rm : Nat → Int32} {nu : Nat → Nat → Int64} {k : Nat} {i sg : Int32} {r : Int64} (he : rd (rm k).toNatClampNeg (fun j => numWid (rs k) (nu k j)) i = some r) (hs : rs k = sg) (h3 : ¬ sg = 3) : bd1 (rd (rm k).toNatClampNeg (fun j => (nu k j).toInt32) i) (fun x => some (Int32.toInt64 x)) = some r := by
  unfold rd at he ⊢
  split at he
  · cases he
  · rename_i h
    rw [if_neg h]
    have he : some (numWid (rs k) (nu k i.toNatClampNeg)) = some r := he
    rw [show numWid (rs k) (nu k i.toNatClampNeg) = (nu k i.toNatClampNeg).toInt32.toInt64 from by rw [hs]; exact if_neg h3] at he
    exact he
theorem number_F3 {rs rm : Nat → Int32} {nu : Nat → Nat → Int64} {k : Nat} {i : Int32} {r : Int64} (he : rd (rm k).toNatClampNeg (fun j => numWid (rs k) (nu k j)) i = some r) (hs : rs k = 3) : bd1 (rd (rm k).toNatClampNeg (nu k) i) (fun x => some x) = some r := by
  unfold rd at he ⊢
  split at he
  · cases he
  · rename_i h
    rw [if_neg h]
    have he : some (numWid (rs k) (nu k i.toNatClampNeg)) = some r := he
    rw [show numWid (rs k) (nu k i.toNatClampNeg) = nu k i.toNatClampNeg from by rw [hs]; exact if_pos rfl] at he
    exact he
theorem fcall_step {d : Nat} (ih : FCall d) : FCall (d + 1) := by
  intro p l e R s m args below meth c H locs cells slots Q D A H0 pc ls rest cc nL own lv index E ad cA sA ta ba na gi rh rt g_sort g_size g_from g_to g_level g_full a_tape a_hAt a_hMany a_tAt a_tMany a_least a_place a_to a_order a_fails a_sKeys a_sRow a_sSlots a_bKeys a_bRow a_bSlots a_easy a_wants a_wantedBy a_ring a_carried a_latest v_taped v_faultKind v_faultPlace v_x v_ordered v_sought v_lastSought v_hMoved v_hWithout v_tMoved v_tWithout v_places v_elsewhere v_sMany v_bMany v_year y_lies a_rsort a_rmany a_nums pl a f hf0 hX hK hE hE0 hH hlk hl hR hf hW hdg kk
  have hNW := hE.2.1 _ _ _ (hE.1.1 hE0 (fun _ _ _ => rfl) (fun _ h => h))
  rcases hf0 with ⟨w0, n0, hm, rfl⟩ | ⟨b, g, hm, hg, rfl⟩ | ⟨i, b, c2, g, h, hm, hg, hh, rfl⟩
  · refine mxU (C := RX17) (y := yX17_is) (owner := "StoneYear$Fact") (x := ⟨"StoneYear$Fact", "is", "(LStoneYear$Going;)Z"⟩) hX hK hE.1 hE0 hH (met_X17_is hE hm (d + 1) FX17_ok) (precv (fun _ h => cW_pl h) hK hH 15 rfl ⟨_, hm⟩) (lw_U hlk q1069 q1070 q1071 q158 q1072) (hNW _ nw_q1068) hd_factis ⟨by dsimp only [rm_fact]; omega, by dsimp only [rm_fact]; omega⟩ rfl rfl hl hW hdg hf (fun w' H1 l1 hw hH1 => ?_)
    subst hw
    exact kk H1 l1 hH1
  · refine mxU (C := RX16) (y := yX16_is) (owner := "StoneYear$Fact") (x := ⟨"StoneYear$Fact", "is", "(LStoneYear$Going;)Z"⟩) hX hK hE.1 hE0 hH (met_X16_is hE hm ih hg FX16_ok) (precv (fun _ h => cW_pl h) hK hH 14 rfl ⟨_, hm⟩) (lw_U hlk q1069 q1080 q1077 q157 q1078) (hNW _ nw_q1068) hd_factis ⟨by dsimp only [rm_fact]; omega, by dsimp only [rm_fact]; omega⟩ rfl rfl hl hW hdg hf (fun w' H1 l1 hw hH1 => ?_)
    subst hw
    exact kk H1 l1 hH1
  · refine mxU (C := RX18) (y := yX18_is) (owner := "StoneYear$Fact") (x := ⟨"StoneYear$Fact", "is", "(LStoneYear$Going;)Z"⟩) hX hK hE.1 hE0 hH (met_X18_is hE hm ih hg hh FX18_ok) (precv (fun _ h => cW_pl h) hK hH 16 rfl ⟨_, hm⟩) (lw_U hlk q1069 q1073 q1074 q159 q1075) (hNW _ nw_q1068) hd_factis ⟨by dsimp only [rm_fact]; omega, by dsimp only [rm_fact]; omega⟩ rfl rfl hl hW hdg hf (fun w' H1 l1 hw hH1 => ?_)
    subst hw
    exact kk H1 l1 hH1
/-- every fact may be asked -/
theorem fcall : ∀ d : Nat, FCall d := by
  intro d
  induction d with
  | zero =>
    intro p l e R s m args below meth c H locs cells slots Q D A H0 pc ls rest cc nL own lv index E ad cA sA ta ba na gi
    intros
    rename_i h _ _ _ _ _ _ _ _ _ _ _ _
    exact h.elim
  | succ d ih => exact fcall_step ih
theorem ck_fact {t : Nat → Int32} {nb : Int32} {bv : Nat → BvT} (hPO : PO cA pl ta ba t nb bv) (hB : BarsAt cA pl ba nb bv) {k : Nat} (hk : k < nb.toNatClampNeg) (hX : CallFix p m c cc nL s args lw_all own) (hK : va_K D vwA (cT cA) s) {E : EvT} (hE : EvN E) (hE0 : E A s H0) (hNW : NW s) (hH : MH D vwA A H0 (cW ad cA sA ta ba na gi rh rt g_sort g_size g_from g_to g_level g_full a_tape a_hAt a_hMany a_tAt a_tMany a_least a_place a_to a_order a_fails a_sKeys a_sRow a_sSlots a_bKeys a_bRow a_bSlots a_easy a_wants a_wantedBy a_ring a_carried a_latest v_taped v_faultKind v_faultPlace v_x v_ordered v_sought v_lastSought v_hMoved v_hWithout v_tMoved v_tWithout v_places v_elsewhere v_sMany v_bMany v_year y_lies a_rsort a_rmany a_nums pl) H locs) (hlk : Cond.methodLink own index ⟨"StoneYear$Fact", "is", "(LStoneYear$Going;)Z"⟩ ∈ lw_all) (hl : lv_has ls nL lv) (hR : 260 ≤ R.frames ∧ 6000 ≤ R.locals) (hf : cells ≤ R.cells ∧ slots ≤ R.slots) (hW : (rest.map fun v => v.category).sum ≤ 8) (hdg : decode cc pc = .ok (.invokevirtual index, 3)) (kk : ∀ (H : Heap) (locs : List Loc), MH D vwA A H0 (cW ad cA sA ta ba na gi rh rt g_sort g_size g_from g_to g_level g_full a_tape a_hAt a_hMany a_tAt a_tMany a_least a_place a_to a_order a_fails a_sKeys a_sRow a_sSlots a_bKeys a_bRow a_bSlots a_easy a_wants a_wantedBy a_ring a_carried a_latest v_taped v_faultKind v_faultPlace v_x v_ordered v_sought v_lastSought v_hMoved v_hWithout v_tMoved v_tWithout v_places v_elsewhere v_sMany v_bMany v_year y_lies a_rsort a_rmany a_nums pl) H locs → W p l e R s m args below meth c H locs cells slots Q (F0 m (pc + 3) ls (.int (b2i (bv k g_sort g_size g_from g_to g_level g_full)) :: rest))) : W p l e R s m args below meth c H locs cells slots Q (F0 m pc ls (.ref (ad 3) :: .ref (ba (2 + k)) :: rest)) :=
  fcall 250 (hB.2 k hk) hX hK hE hE0 hH hlk hl ⟨Nat.le_trans (Nat.le_of_ble_eq_true rfl) hR.1, Nat.le_trans (Nat.le_of_ble_eq_true rfl) hR.2⟩ hf hW hdg kk
theorem hd_many : yX7_many.cls = RX7 ∧ yX7_many.cls ≠ "java/lang/invoke/MethodHandle" ∧ yX7_many.cls ≠ "java/lang/invoke/VarHandle" ∧ (parseMethodDescriptor yX7_many.desc).map (fun d => d.parameters.length) = some 0 := by decide +kernel
theorem hd_number : yX7_number.cls = RX7 ∧ yX7_number.cls ≠ "java/lang/invoke/MethodHandle" ∧ yX7_number.cls ≠ "java/lang/invoke/VarHandle" ∧ (parseMethodDescriptor yX7_number.desc).map (fun d => d.parameters.length) = some 1 := by decide +kernel
theorem nrecv (hK : va_K D vwA (cT cA) s) (hH : MH D vwA A H0 (cW ad cA sA ta ba na gi rh rt g_sort g_size g_from g_to g_level g_full a_tape a_hAt a_hMany a_tAt a_tMany a_least a_place a_to a_order a_fails a_sKeys a_sRow a_sSlots a_bKeys a_bRow a_bSlots a_easy a_wants a_wantedBy a_ring a_carried a_latest v_taped v_faultKind v_faultPlace v_x v_ordered v_sought v_lastSought v_hMoved v_hWithout v_tMoved v_tWithout v_places v_elsewhere v_sMany v_bMany v_year y_lies a_rsort a_rmany a_nums pl) H locs) {k : Nat} (hk : k < (4 : Int32).toNatClampNeg) : ∃ cell : Cell, H[ad (29 + k)]? = some cell ∧ cell.vm.isStatics = false ∧ s.vm.findClass RX7 = some cell.cls := by
  have hk : k < 4 := hk
  rcases (show k = 0 ∨ k = 1 ∨ k = 2 ∨ k = 3 by omega) with rfl | rfl | rfl | rfl
  · exact crecv hK hH 29 7 rfl rfl
  · exact crecv hK hH 30 7 rfl rfl
  · exact crecv hK hH 31 7 rfl rfl
  · exact crecv hK hH 32 7 rfl rfl
theorem i32_03 {x : Int32} (h : 0 ≤ x ∧ x ≤ 3) : x = 0 ∨ x = 1 ∨ x = 2 ∨ x = 3 := by
  have h1 := Int32.le_iff_toInt_le.mp h.1
  have h2 := Int32.le_iff_toInt_le.mp h.2
  have e0 : (0 : Int32).toInt = 0 := rfl
  have e3 : (3 : Int32).toInt = 3 := rfl
  rw [e0] at h1
  rw [e3] at h2
  have h3 : x.toInt = 0 ∨ x.toInt = 1 ∨ x.toInt = 2 ∨ x.toInt = 3 := by omega
  rcases h3 with h | h | h | h
  · exact Or.inl (Int32.toInt_inj.mp h)
  · exact Or.inr (Or.inl (Int32.toInt_inj.mp h))
  · exact Or.inr (Or.inr (Or.inl (Int32.toInt_inj.mp h)))
  · exact Or.inr (Or.inr (Or.inr (Int32.toInt_inj.mp h)))
theorem ck_many {t : Nat → Int32} {nb : Int32} {bv : Nat → BvT} (hPO : PO cA pl ta ba t nb bv) (hX : CallFix p m c cc nL s args lw_all own) (hK : va_K D vwA (cT cA) s) {E : EvT} (hE : EvN E) (hE0 : E A s H0) (hNW : NW s) (hH : MH D vwA A H0 (cW ad cA sA ta ba na gi rh rt g_sort g_size g_from g_to g_level g_full a_tape a_hAt a_hMany a_tAt a_tMany a_least a_place a_to a_order a_fails a_sKeys a_sRow a_sSlots a_bKeys a_bRow a_bSlots a_easy a_wants a_wantedBy a_ring a_carried a_latest v_taped v_faultKind v_faultPlace v_x v_ordered v_sought v_lastSought v_hMoved v_hWithout v_tMoved v_tWithout v_places v_elsewhere v_sMany v_bMany v_year y_lies a_rsort a_rmany a_nums pl) H locs) {k : Nat} {r : Int32} (hk : k < (4 : Int32).toNatClampNeg) (he : numMany a_rsort a_rmany k = some r) (hlk : Cond.methodLink own index yX7_many ∈ lw_all) (hl : lv_has ls nL lv) (hR : 1 ≤ R.frames ∧ 60 ≤ R.locals) (hf : cells ≤ R.cells ∧ slots ≤ R.slots) (hW : (rest.map fun v => v.category).sum ≤ 8) (hdg : decode cc pc = .ok (.invokevirtual index, 3)) (kk : ∀ (H : Heap) (locs : List Loc), MH D vwA A H0 (cW ad cA sA ta ba na gi rh rt g_sort g_size g_from g_to g_level g_full a_tape a_hAt a_hMany a_tAt a_tMany a_least a_place a_to a_order a_fails a_sKeys a_sRow a_sSlots a_bKeys a_bRow a_bSlots a_easy a_wants a_wantedBy a_ring a_carried a_latest v_taped v_faultKind v_faultPlace v_x v_ordered v_sought v_lastSought v_hMoved v_hWithout v_tMoved v_tWithout v_places v_elsewhere v_sMany v_bMany v_year y_lies a_rsort a_rmany a_nums pl) H locs → W p l e R s m args below meth c H locs cells slots Q (F0 m (pc + 3) ls (.int r :: rest))) : W p l e R s m args below meth c H locs cells slots Q (F0 m pc ls (.ref (ad (29 + k)) :: rest)) := by
  unfold numMany at he
  split at he
  · rename_i h
    cases he
    rcases i32_03 h with hs | hs | hs | hs
    · refine mxV hX hK hE.1 hE0 hH (met_X7_many_0 hE hk hs rfl) (nrecv hK hH hk) (lw_V hlk q1193 q1194 q139 q1195) hd_many ⟨hR.1, Nat.le_trans (Nat.le_of_ble_eq_true rfl) hR.2⟩ rfl rfl hl hW hdg hf (fun w' H1 l1 hw hH1 => ?_)
      subst hw
      exact kk H1 l1 hH1
    · refine mxV hX hK hE.1 hE0 hH (met_X7_many_1 hE hk hs rfl) (nrecv hK hH hk) (lw_V hlk q1193 q1194 q139 q1195) hd_many ⟨hR.1, Nat.le_trans (Nat.le_of_ble_eq_true rfl) hR.2⟩ rfl rfl hl hW hdg hf (fun w' H1 l1 hw hH1 => ?_)
      subst hw
      exact kk H1 l1 hH1
    · refine mxV hX hK hE.1 hE0 hH (met_X7_many_2 hE hk hs rfl) (nrecv hK hH hk) (lw_V hlk q1193 q1194 q139 q1195) hd_many ⟨hR.1, Nat.le_trans (Nat.le_of_ble_eq_true rfl) hR.2⟩ rfl rfl hl hW hdg hf (fun w' H1 l1 hw hH1 => ?_)
      subst hw
      exact kk H1 l1 hH1
    · refine mxV hX hK hE.1 hE0 hH (met_X7_many_3 hE hk hs rfl) (nrecv hK hH hk) (lw_V hlk q1193 q1194 q139 q1195) hd_many ⟨hR.1, Nat.le_trans (Nat.le_of_ble_eq_true rfl) hR.2⟩ rfl rfl hl hW hdg hf (fun w' H1 l1 hw hH1 => ?_)
      subst hw
      exact kk H1 l1 hH1
  · cases he
theorem ck_number {t : Nat → Int32} {nb : Int32} {bv : Nat → BvT} (hPO : PO cA pl ta ba t nb bv) (hX : CallFix p m c cc nL s args lw_all own) (hK : va_K D vwA (cT cA) s) {E : EvT} (hE : EvN E) (hE0 : E A s H0) (hNW : NW s) (hH : MH D vwA A H0 (cW ad cA sA ta ba na gi rh rt g_sort g_size g_from g_to g_level g_full a_tape a_hAt a_hMany a_tAt a_tMany a_least a_place a_to a_order a_fails a_sKeys a_sRow a_sSlots a_bKeys a_bRow a_bSlots a_easy a_wants a_wantedBy a_ring a_carried a_latest v_taped v_faultKind v_faultPlace v_x v_ordered v_sought v_lastSought v_hMoved v_hWithout v_tMoved v_tWithout v_places v_elsewhere v_sMany v_bMany v_year y_lies a_rsort a_rmany a_nums pl) H locs) {k : Nat} {i : Int32} {r : Int64} (hk : k < (4 : Int32).toNatClampNeg) (he : numAt a_rsort a_rmany a_nums k i = some r) (hlk : Cond.methodLink own index yX7_number ∈ lw_all) (hl : lv_has ls nL lv) (hR : 1 ≤ R.frames ∧ 60 ≤ R.locals) (hf : cells ≤ R.cells ∧ slots ≤ R.slots) (hW : (rest.map fun v => v.category).sum ≤ 8) (hdg : decode cc pc = .ok (.invokevirtual index, 3)) (kk : ∀ (H : Heap) (locs : List Loc), MH D vwA A H0 (cW ad cA sA ta ba na gi rh rt g_sort g_size g_from g_to g_level g_full a_tape a_hAt a_hMany a_tAt a_tMany a_least a_place a_to a_order a_fails a_sKeys a_sRow a_sSlots a_bKeys a_bRow a_bSlots a_easy a_wants a_wantedBy a_ring a_carried a_latest v_taped v_faultKind v_faultPlace v_x v_ordered v_sought v_lastSought v_hMoved v_hWithout v_tMoved v_tWithout v_places v_elsewhere v_sMany v_bMany v_year y_lies a_rsort a_rmany a_nums pl) H locs → W p l e R s m args below meth c H locs cells slots Q (F0 m (pc + 3) ls (.long r :: rest))) : W p l e R s m args below meth c H locs cells slots Q (F0 m pc ls (.int i :: .ref (ad (29 + k)) :: rest)) := by
  unfold numAt at he
  split at he
  · rename_i h
    rcases i32_03 h with hs | hs | hs | hs
    · refine mxV hX hK hE.1 hE0 hH (met_X7_number_0 hE hk hs (number_F he hs (by decide))) (nrecv hK hH hk) (lw_V hlk q1201 q1202 q139 q1203) hd_number ⟨hR.1, Nat.le_trans (Nat.le_of_ble_eq_true rfl) hR.2⟩ rfl rfl hl hW hdg hf (fun w' H1 l1 hw hH1 => ?_)
      subst hw
      exact kk H1 l1 hH1
    · refine mxV hX hK hE.1 hE0 hH (met_X7_number_1 hE hk hs (number_F he hs (by decide))) (nrecv hK hH hk) (lw_V hlk q1201 q1202 q139 q1203) hd_number ⟨hR.1, Nat.le_trans (Nat.le_of_ble_eq_true rfl) hR.2⟩ rfl rfl hl hW hdg hf (fun w' H1 l1 hw hH1 => ?_)
      subst hw
      exact kk H1 l1 hH1
    · refine mxV hX hK hE.1 hE0 hH (met_X7_number_2 hE hk hs (number_F he hs (by decide))) (nrecv hK hH hk) (lw_V hlk q1201 q1202 q139 q1203) hd_number ⟨hR.1, Nat.le_trans (Nat.le_of_ble_eq_true rfl) hR.2⟩ rfl rfl hl hW hdg hf (fun w' H1 l1 hw hH1 => ?_)
      subst hw
      exact kk H1 l1 hH1
    · refine mxV hX hK hE.1 hE0 hH (met_X7_number_3 hE hk hs (number_F3 he hs)) (nrecv hK hH hk) (lw_V hlk q1201 q1202 q139 q1203) hd_number ⟨hR.1, Nat.le_trans (Nat.le_of_ble_eq_true rfl) hR.2⟩ rfl rfl hl hW hdg hf (fun w' H1 l1 hw hH1 => ?_)
      subst hw
      exact kk H1 l1 hH1
  · cases he
theorem FJ9_floorMod_ok {x y : Int32} (hy : ¬ y = 0) : FJ9_floorMod x y = some (fmI x y) := by
  unfold FJ9_floorMod fmI
  rw [show nzI y = some () from if_neg hy]
  show (if _ then _ else _) = _
  split
  · rfl
  · split <;> rfl
theorem cm_floorMod {w : va_W} (hX : CallFix p m c cc nL s args lw_all own) (hK : va_K D vwA (cT cA) s) {E : EvT} (hE : EvN E) (hE0 : E A s H0) (hH : MH D vwA A H0 w H locs) (hl : lv_has ls nL lv) (hlk : Cond.methodLink own index yJ9_floorMod ∈ lw_all) {x y : Int32} (hy : ¬ y = 0) (hdg : decode cc pc = .ok (.invokestatic index, 3)) (h1 : 1 ≤ R.frames) (h2 : (rest.map fun v => v.category).sum + 60 ≤ R.locals) (hW : (rest.map fun v => v.category).sum ≤ 8) (hf : cells ≤ R.cells ∧ slots ≤ R.slots) (kk : ∀ (H : Heap) (locs : List Loc), MH D vwA A H0 w H locs → W p l e R s m args below meth c H locs cells slots Q (F0 m (pc + 3) ls (.int (fmI x y) :: rest))) : W p l e R s m args below meth c H locs cells slots Q (F0 m pc ls (.int y :: .int x :: rest)) := by
  refine mxS hX hK hE.1 hE0 hH (met_J9_floorMod (EvG_of hE.1) (FJ9_floorMod_ok hy)).toX (lw_S hlk q1441 q149 q1442) hd_J9_floorMod ⟨h1, Nat.le_trans (Nat.le_of_ble_eq_true rfl) (Nat.le_trans (Nat.le_add_left _ _) h2)⟩ rfl rfl hl hW hdg hf (fun w' H1 l1 hw hH1 => ?_)
  subst hw
  exact kk H1 l1 hH1

end CK