set_option maxRecDepth 100000
abbrev ImT : Type := (Nat → Int32) × Int32 × (Nat → BvT) × Int64 × Int32 × (Nat → Int32) × (Nat → Int32)
noncomputable def FX0_image (im : Nat → Option ImT) (t : Nat → Int32) (nb : Int32) (bv : Nat → BvT) (y_lies : Int64) (v_year : Int32) (a_carried a_latest : Nat → Int32) (p1 : Int32) : Option (Int32 × (Nat → Option ImT)) :=
  bd1 (FX0_in (Int32.toInt64 p1) 0 1) fun b1 =>
  if b2i b1 = 0 then some (-2, im)
  else bd1 (rd 2 (fun _ => (0 : Int32)) p1) fun _ => bd2 (FX1_copy a_carried a_latest) fun c1 l1 =>
    some (0, fun j => if j = p1.toNatClampNeg then some (t, nb, bv, y_lies, v_year, c1, l1) else im j)
noncomputable def FX0_restore_c (x : ImT) : Option (Int32 × ImT) := bd2 (FX1_copy x.2.2.2.2.2.1 x.2.2.2.2.2.2) fun c1 l1 => some (0, x.1, x.2.1, x.2.2.1, x.2.2.2.1, x.2.2.2.2.1, c1, l1)
noncomputable def FX0_restore (im : Nat → Option ImT) (t : Nat → Int32) (nb : Int32) (bv : Nat → BvT) (y_lies : Int64) (v_year : Int32) (a_carried a_latest : Nat → Int32) (p1 : Int32) : Option (Int32 × ImT) :=
  bd1 (FX0_in (Int32.toInt64 p1) 0 1) fun b1 =>
  if b2i b1 = 0 then some (-2, t, nb, bv, y_lies, v_year, a_carried, a_latest)
  else bd1 (rd 2 (fun _ => (0 : Int32)) p1) fun _ => match im p1.toNatClampNeg with
    | none => some (-5, t, nb, bv, y_lies, v_year, a_carried, a_latest)
    | some x => FX0_restore_c x
/-- an image in the pool -/
def ImOk (cA : Nat → ClassId) (pl : va_W) (g : Option Nat) (o : Option ImT) : Prop := match o with
  | none => g = none
  | some x => ∃ (q qa qb : Nat) (tb bb : Nat → Nat), g = some q ∧ ((q, .inr (1, [.ref (tb 0), .ref (bb 0), .long x.2.2.2.1, .int x.2.2.2.2.1, .ref qa, .ref qb])) : Nat × va_E) ∈ pl ∧ ((qa, .inl (cA 34, 8, .inl x.2.2.2.2.2.1)) : Nat × va_E) ∈ pl ∧ ((qb, .inl (cA 35, 8, .inl x.2.2.2.2.2.2)) : Nat × va_E) ∈ pl ∧ PO cA pl tb bb x.1 x.2.1 x.2.2.1
theorem ImOk.mono {cA : Nat → ClassId} {p1 p2 : va_W} (h : ∀ q ∈ p1, q ∈ p2) {g : Option Nat} {o : Option ImT} (k : ImOk cA p1 g o) : ImOk cA p2 g o := by
  cases o with
  | none => exact k
  | some x =>
    obtain ⟨q, qa, qb, tb, bb, h1, h2, h3, h4, h5⟩ := k
    exact ⟨q, qa, qb, tb, bb, h1, h _ h2, h _ h3, h _ h4, h5.mono h⟩
def ImsOk (cA : Nat → ClassId) (pl : va_W) (gi : Nat → Option Nat) (im : Nat → Option ImT) : Prop := ∀ i, i < 2 → ImOk cA pl (gi i) (im i)
theorem ImsOk.mono {cA : Nat → ClassId} {p1 p2 : va_W} (h : ∀ q ∈ p1, q ∈ p2) {gi : Nat → Option Nat} {im : Nat → Option ImT} (k : ImsOk cA p1 gi im) : ImsOk cA p2 gi im := fun i hi => (k i hi).mono h
theorem perm_rs0 {α : Type} (s n t c : List α) : ((s ++ n) ++ (t ++ c)).Perm (t ++ (n ++ (c ++ s))) := by
  rw [List.append_assoc]
  refine List.perm_append_comm.trans ?_
  rw [List.append_assoc, List.append_assoc]
  exact List.perm_append_comm_assoc n t (c ++ s)
theorem re2i {a b : Int32} {c d : Nat → Option ImT} (h : some (a, c) = some (b, d)) : a = b ∧ c = d := by cases h; exact ⟨rfl, rfl⟩
theorem re2r {a b : Int32} {c d : ImT} (h : some (a, c) = some (b, d)) : a = b ∧ c = d := by cases h; exact ⟨rfl, rfl⟩

section IMR
variable {p : Program} {l : Launch} {e : Env} {R : Room} {s : State} {m : MethodId} {args : Array Value} {below : List Frame} {meth : Method} {c : Code} {H : Heap} {locs : List Loc} {cells slots : Nat} {Q : State → Prop}
variable {D : va_G} {A : Nat → Prop} {H0 : Heap} {pc : Nat} {ls : Array Slot} {rest : List Value} {cc : ByteArray} {nL : Nat} {own : String} {lv : List (Nat × Value)}
variable {ad : Nat → Nat} {cA : Nat → ClassId} {sA ta ba na : Nat → Nat} {gi : Nat → Option Nat} {rh : Option Nat} {rt : Option Nat} {g_sort : Int32} {g_size : Int32} {g_from : Int32} {g_to : Int32} {g_level : Int32} {g_full : Int32} {a_tape : Nat → Int32} {a_hAt : Nat → Int32} {a_hMany : Nat → Int32} {a_tAt : Nat → Int32} {a_tMany : Nat → Int32} {a_least : Nat → Int32} {a_place : Nat → Int32} {a_to : Nat → Int32} {a_order : Nat → Int32} {a_fails : Nat → Int32} {a_sKeys : Nat → Int64} {a_sRow : Nat → Int64} {a_sSlots : Nat → Int32} {a_bKeys : Nat → Int64} {a_bRow : Nat → Int64} {a_bSlots : Nat → Int32} {a_easy : Nat → Int32} {a_wants : Nat → Int32} {a_wantedBy : Nat → Int32} {a_ring : Nat → Int32} {a_carried : Nat → Int32} {a_latest : Nat → Int32} {v_taped : Int32} {v_faultKind : Int32} {v_faultPlace : Int32} {v_x : Int32} {v_ordered : Int32} {v_sought : Int32} {v_lastSought : Int32} {v_hMoved : Int32} {v_hWithout : Int32} {v_tMoved : Int32} {v_tWithout : Int32} {v_places : Int32} {v_elsewhere : Int32} {v_sMany : Int32} {v_bMany : Int32} {v_year : Int32} {y_lies : Int64} {a_rsort : Nat → Int32} {a_rmany : Nat → Int32} {a_nums : Nat → Nat → Int64} {pl : va_W}
theorem cg_Y_this_images (hX : CallFix p m c cc nL s args lw_all RX0) (hK : va_K D vwA (cT cA) s) (hNW : NW s) (hH : MH D vwA A H0 (cW ad cA sA ta ba na gi rh rt g_sort g_size g_from g_to g_level g_full a_tape a_hAt a_hMany a_tAt a_tMany a_least a_place a_to a_order a_fails a_sKeys a_sRow a_sSlots a_bKeys a_bRow a_bSlots a_easy a_wants a_wantedBy a_ring a_carried a_latest v_taped v_faultKind v_faultPlace v_x v_ordered v_sought v_lastSought v_hMoved v_hWithout v_tMoved v_tWithout v_places v_elsewhere v_sMany v_bMany v_year y_lies a_rsort a_rmany a_nums pl) H locs) (hdg : decode cc pc = .ok (.getfield 16, 3)) (kk : W p l e R s m args below meth c H locs cells slots Q (F0 m (pc + 3) ls (.ref (ad 1) :: rest))) : W p l e R s m args below meth c H locs cells slots Q (F0 m pc ls (.ref (ad 0) :: rest)) := va_get (C := RX0) (T := TX0) (N := 23) hX.1 hX.2.1 hX.2.2.2.2 in_X0 hX.2.2.2.1 hK hH.1 0 rfl rfl 1 (by decide) (hX.2.2.2.2 _ q444) (fun _ h9 => h9) rfl hdg kk
end IMR
def cA33 (ad : Nat → Nat) (cA : Nat → ClassId) (na : Nat → Nat) (gi : Nat → Option Nat) (rh : Option Nat) (rt : Option Nat) (g_sort : Int32) (g_size : Int32) (g_from : Int32) (g_to : Int32) (g_level : Int32) (g_full : Int32) (a_tape : Nat → Int32) (a_hAt : Nat → Int32) (a_hMany : Nat → Int32) (a_tAt : Nat → Int32) (a_tMany : Nat → Int32) (a_least : Nat → Int32) (a_place : Nat → Int32) (a_to : Nat → Int32) (a_order : Nat → Int32) (a_fails : Nat → Int32) (a_sKeys : Nat → Int64) (a_sRow : Nat → Int64) (a_sSlots : Nat → Int32) (a_bKeys : Nat → Int64) (a_bRow : Nat → Int64) (a_bSlots : Nat → Int32) (a_easy : Nat → Int32) (a_wants : Nat → Int32) (a_wantedBy : Nat → Int32) (a_ring : Nat → Int32) (v_taped : Int32) (v_faultKind : Int32) (v_faultPlace : Int32) (v_x : Int32) (v_ordered : Int32) (v_sought : Int32) (v_lastSought : Int32) (v_hMoved : Int32) (v_hWithout : Int32) (v_tMoved : Int32) (v_tWithout : Int32) (v_places : Int32) (v_elsewhere : Int32) (v_sMany : Int32) (v_bMany : Int32) (a_rsort : Nat → Int32) (z : Nat) : va_W := [(ad 0, .inr (0, [.ref z, .ref (ad 1), .ref (ad 2), .int v_taped, .int v_faultKind, .int v_faultPlace, .ref (ad 3), .ref (ad 4), .ref (ad 7), .int v_x, .ref (ad 10), .ref (ad 14), .ref (ad 15), .int v_ordered, .ref (ad 16), .ref (ad 20), .int v_sought, .int v_lastSought, .ref (ad 24), .ref (ad 25), .ref (ad 26), .ref (ad 27), .ref (ad 28)])), (ad 1, .inl (cA 1, 2, .inr (.inr (.inr (.inr gi))))), (ad 2, .inl (cA 2, 400, .inl a_tape)), (ad 3, .inr (3, [.int g_sort, .int g_size, .int g_from, .int g_to, .int g_level, .int g_full])), (ad 4, .inr (4, [.ref (ad 5), .ref (ad 6), .int v_hMoved, .int v_hWithout, va_rf rh, .ref (ad 0)])), (ad 5, .inl (cA 5, 15, .inl a_hAt)), (ad 6, .inl (cA 6, 5, .inl a_hMany)), (ad 7, .inr (4, [.ref (ad 8), .ref (ad 9), .int v_tMoved, .int v_tWithout, va_rf rt, .ref (ad 0)])), (ad 8, .inl (cA 8, 15, .inl a_tAt)), (ad 9, .inl (cA 9, 5, .inl a_tMany)), (ad 10, .inr (5, [.ref (ad 11), .ref (ad 12), .ref (ad 13), .int v_places, .int v_elsewhere, .ref (ad 0)])), (ad 11, .inl (cA 11, 294912, .inl a_least)), (ad 12, .inl (cA 12, 15, .inl a_place)), (ad 13, .inl (cA 13, 8, .inl a_to)), (ad 14, .inl (cA 14, 8, .inl a_order)), (ad 15, .inl (cA 15, 256, .inl a_fails)), (ad 16, .inr (6, [.ref (ad 17), .ref (ad 18), .ref (ad 19), .int v_sMany])), (ad 17, .inl (cA 17, 16384, .inr (.inl a_sKeys))), (ad 18, .inl (cA 18, 6002, .inr (.inl a_sRow))), (ad 19, .inl (cA 19, 6002, .inl a_sSlots)), (ad 20, .inr (6, [.ref (ad 21), .ref (ad 22), .ref (ad 23), .int v_bMany])), (ad 21, .inl (cA 21, 16384, .inr (.inl a_bKeys))), (ad 22, .inl (cA 22, 6002, .inr (.inl a_bRow))), (ad 23, .inl (cA 23, 6002, .inl a_bSlots)), (ad 24, .inl (cA 24, 3, .inl a_easy)), (ad 25, .inl (cA 25, 40, .inl a_wants)), (ad 26, .inl (cA 26, 40, .inl a_wantedBy)), (ad 27, .inl (cA 27, 40, .inl a_ring)), (ad 28, .inl (cA 28, 4, .inr (.inr (.inr (.inr fun j => some (ad (29 + j))))))), (ad 29, .inr (7, [va_rf (nheld a_rsort na 0)])), (ad 30, .inr (7, [va_rf (nheld a_rsort na 1)])), (ad 31, .inr (7, [va_rf (nheld a_rsort na 2)])), (ad 32, .inr (7, [va_rf (nheld a_rsort na 3)]))]
def cS3 (cA : Nat → ClassId) (sA ta ba : Nat → Nat) (y_lies : Int64) (v_year : Int32) (a_carried a_latest : Nat → Int32) : va_W := [(sA 0, .inr (1, [.ref (ta 0), .ref (ba 0), .long y_lies, .int v_year, .ref (sA 1), .ref (sA 2)])), (sA 1, .inl (cA 34, 8, .inl a_carried)), (sA 2, .inl (cA 35, 8, .inl a_latest))]
def cNN (cA : Nat → ClassId) (na : Nat → Nat) (a_rsort a_rmany : Nat → Int32) (a_nums : Nat → Nat → Int64) (pl : va_W) : va_W := (nC cA na a_rsort a_rmany a_nums 0 ++ (nC cA na a_rsort a_rmany a_nums 1 ++ (nC cA na a_rsort a_rmany a_nums 2 ++ (nC cA na a_rsort a_rmany a_nums 3 ++ pl))))
section IMS
variable {p : Program} {l : Launch} {e : Env} {R : Room} {s : State} {m : MethodId} {args : Array Value} {below : List Frame} {meth : Method} {c : Code} {H : Heap} {locs : List Loc} {cells slots : Nat} {Q : State → Prop}
variable {D : va_G} {A : Nat → Prop} {H0 : Heap} {pc : Nat} {ls : Array Slot} {rest : List Value} {cc : ByteArray} {nL : Nat} {own : String} {lv : List (Nat × Value)}
variable {ad : Nat → Nat} {cA : Nat → ClassId} {sA ta ba na : Nat → Nat} {gi : Nat → Option Nat} {rh : Option Nat} {rt : Option Nat} {g_sort : Int32} {g_size : Int32} {g_from : Int32} {g_to : Int32} {g_level : Int32} {g_full : Int32} {a_tape : Nat → Int32} {a_hAt : Nat → Int32} {a_hMany : Nat → Int32} {a_tAt : Nat → Int32} {a_tMany : Nat → Int32} {a_least : Nat → Int32} {a_place : Nat → Int32} {a_to : Nat → Int32} {a_order : Nat → Int32} {a_fails : Nat → Int32} {a_sKeys : Nat → Int64} {a_sRow : Nat → Int64} {a_sSlots : Nat → Int32} {a_bKeys : Nat → Int64} {a_bRow : Nat → Int64} {a_bSlots : Nat → Int32} {a_easy : Nat → Int32} {a_wants : Nat → Int32} {a_wantedBy : Nat → Int32} {a_ring : Nat → Int32} {a_carried : Nat → Int32} {a_latest : Nat → Int32} {v_taped : Int32} {v_faultKind : Int32} {v_faultPlace : Int32} {v_x : Int32} {v_ordered : Int32} {v_sought : Int32} {v_lastSought : Int32} {v_hMoved : Int32} {v_hWithout : Int32} {v_tMoved : Int32} {v_tWithout : Int32} {v_places : Int32} {v_elsewhere : Int32} {v_sMany : Int32} {v_bMany : Int32} {v_year : Int32} {y_lies : Int64} {a_rsort : Nat → Int32} {a_rmany : Nat → Int32} {a_nums : Nat → Nat → Int64} {pl : va_W} {T3 C9 : va_W} {z : Nat} {sA2 ta2 ba2 : Nat → Nat} {y2 : Int64} {v2 : Int32} {c2 l2 : Nat → Int32}
theorem cW_split : (cW ad cA sA ta ba na gi rh rt g_sort g_size g_from g_to g_level g_full a_tape a_hAt a_hMany a_tAt a_tMany a_least a_place a_to a_order a_fails a_sKeys a_sRow a_sSlots a_bKeys a_bRow a_bSlots a_easy a_wants a_wantedBy a_ring a_carried a_latest v_taped v_faultKind v_faultPlace v_x v_ordered v_sought v_lastSought v_hMoved v_hWithout v_tMoved v_tWithout v_places v_elsewhere v_sMany v_bMany v_year y_lies a_rsort a_rmany a_nums pl) = (cA33 ad cA na gi rh rt g_sort g_size g_from g_to g_level g_full a_tape a_hAt a_hMany a_tAt a_tMany a_least a_place a_to a_order a_fails a_sKeys a_sRow a_sSlots a_bKeys a_bRow a_bSlots a_easy a_wants a_wantedBy a_ring v_taped v_faultKind v_faultPlace v_x v_ordered v_sought v_lastSought v_hMoved v_hWithout v_tMoved v_tWithout v_places v_elsewhere v_sMany v_bMany a_rsort (sA 0)) ++ ((cS3 cA sA ta ba y_lies v_year a_carried a_latest) ++ (cNN cA na a_rsort a_rmany a_nums pl)) := by
  unfold cW cA33 cS3 cNN
  rfl
theorem cNN_app {X : va_W} : (cNN cA na a_rsort a_rmany a_nums pl) ++ X = (cNN cA na a_rsort a_rmany a_nums (pl ++ X)) := by
  unfold cNN
  simp only [List.append_assoc]
theorem cW_split2 {X : va_W} : (cW ad cA sA2 ta2 ba2 na gi rh rt g_sort g_size g_from g_to g_level g_full a_tape a_hAt a_hMany a_tAt a_tMany a_least a_place a_to a_order a_fails a_sKeys a_sRow a_sSlots a_bKeys a_bRow a_bSlots a_easy a_wants a_wantedBy a_ring c2 l2 v_taped v_faultKind v_faultPlace v_x v_ordered v_sought v_lastSought v_hMoved v_hWithout v_tMoved v_tWithout v_places v_elsewhere v_sMany v_bMany v2 y2 a_rsort a_rmany a_nums (pl ++ X)) = (cA33 ad cA na gi rh rt g_sort g_size g_from g_to g_level g_full a_tape a_hAt a_hMany a_tAt a_tMany a_least a_place a_to a_order a_fails a_sKeys a_sRow a_sSlots a_bKeys a_bRow a_bSlots a_easy a_wants a_wantedBy a_ring v_taped v_faultKind v_faultPlace v_x v_ordered v_sought v_lastSought v_hMoved v_hWithout v_tMoved v_tWithout v_places v_elsewhere v_sMany v_bMany a_rsort (sA2 0)) ++ ((cS3 cA sA2 ta2 ba2 y2 v2 c2 l2) ++ ((cNN cA na a_rsort a_rmany a_nums pl) ++ X)) := by
  rw [cNN_app]
  unfold cW cA33 cS3 cNN
  rfl
theorem rs_put_s (hz : sA2 0 = z) (hT : T3 = (cS3 cA sA2 ta2 ba2 y2 v2 c2 l2)) (hX : CallFix p m c cc nL s args lw_all RX0) (hK : va_K D vwA (cT cA) s) (hH : MH D vwA A H0 ((T3 ++ C9) ++ (cW ad cA sA ta ba na gi rh rt g_sort g_size g_from g_to g_level g_full a_tape a_hAt a_hMany a_tAt a_tMany a_least a_place a_to a_order a_fails a_sKeys a_sRow a_sSlots a_bKeys a_bRow a_bSlots a_easy a_wants a_wantedBy a_ring a_carried a_latest v_taped v_faultKind v_faultPlace v_x v_ordered v_sought v_lastSought v_hMoved v_hWithout v_tMoved v_tWithout v_places v_elsewhere v_sMany v_bMany v_year y_lies a_rsort a_rmany a_nums pl)) H locs) (hdg : decode cc pc = .ok (.putfield 10, 3)) (kk : ∀ (H1 : Heap) (locs1 : List Loc), MH D vwA A H0 (cW ad cA sA2 ta2 ba2 na gi rh rt g_sort g_size g_from g_to g_level g_full a_tape a_hAt a_hMany a_tAt a_tMany a_least a_place a_to a_order a_fails a_sKeys a_sRow a_sSlots a_bKeys a_bRow a_bSlots a_easy a_wants a_wantedBy a_ring c2 l2 v_taped v_faultKind v_faultPlace v_x v_ordered v_sought v_lastSought v_hMoved v_hWithout v_tMoved v_tWithout v_places v_elsewhere v_sMany v_bMany v2 y2 a_rsort a_rmany a_nums (pl ++ (C9 ++ (cS3 cA sA ta ba y_lies v_year a_carried a_latest)))) H1 locs1 → W p l e R s m args below meth c H1 locs1 cells slots Q (F0 m (pc + 3) ls rest)) : W p l e R s m args below meth c H locs cells slots Q (F0 m pc ls (.ref z :: .ref (ad 0) :: rest)) := by
  subst hz
  rw [cW_split] at hH
  have h1 := hH.perm (List.perm_append_comm (l₁ := T3 ++ C9) (l₂ := (cA33 ad cA na gi rh rt g_sort g_size g_from g_to g_level g_full a_tape a_hAt a_hMany a_tAt a_tMany a_least a_place a_to a_order a_fails a_sKeys a_sRow a_sSlots a_bKeys a_bRow a_bSlots a_easy a_wants a_wantedBy a_ring v_taped v_faultKind v_faultPlace v_x v_ordered v_sought v_lastSought v_hMoved v_hWithout v_tMoved v_tWithout v_places v_elsewhere v_sMany v_bMany a_rsort (sA 0)) ++ ((cS3 cA sA ta ba y_lies v_year a_carried a_latest) ++ (cNN cA na a_rsort a_rmany a_nums pl))))
  rw [List.append_assoc] at h1
  have h2 : MH D vwA A H0 ((cA33 ad cA na gi rh rt g_sort g_size g_from g_to g_level g_full a_tape a_hAt a_hMany a_tAt a_tMany a_least a_place a_to a_order a_fails a_sKeys a_sRow a_sSlots a_bKeys a_bRow a_bSlots a_easy a_wants a_wantedBy a_ring v_taped v_faultKind v_faultPlace v_x v_ordered v_sought v_lastSought v_hMoved v_hWithout v_tMoved v_tWithout v_places v_elsewhere v_sMany v_bMany a_rsort (sA 0)) ++ (((cS3 cA sA ta ba y_lies v_year a_carried a_latest) ++ (cNN cA na a_rsort a_rmany a_nums pl)) ++ (T3 ++ C9))) H locs := h1
  generalize hR : ((cS3 cA sA ta ba y_lies v_year a_carried a_latest) ++ (cNN cA na a_rsort a_rmany a_nums pl)) ++ (T3 ++ C9) = R9 at h2
  refine va_put (C := RX0) (T := TX0) (N := 23) (ty := (.object "StoneYear$State")) hX.1 hX.2.1 hX.2.2.2.2 in_X0 tyX0 tyX0_ok nmX0 hX.2.2.2.1 hK h2.1 h2.2.1 h2.2.2.1 0 rfl rfl 0 (by decide) (hX.2.2.2.2 _ q441) (fun _ h9 => h9) rfl (by decide +kernel) rfl rfl (Nat.le_of_ble_eq_true rfl) hdg (fun H1 locs1 hP hD hS => ?_)
  have h3 : MH D vwA A H0 ((cA33 ad cA na gi rh rt g_sort g_size g_from g_to g_level g_full a_tape a_hAt a_hMany a_tAt a_tMany a_least a_place a_to a_order a_fails a_sKeys a_sRow a_sSlots a_bKeys a_bRow a_bSlots a_easy a_wants a_wantedBy a_ring v_taped v_faultKind v_faultPlace v_x v_ordered v_sought v_lastSought v_hMoved v_hWithout v_tMoved v_tWithout v_places v_elsewhere v_sMany v_bMany a_rsort (sA2 0)) ++ R9) H1 locs1 := ⟨hP, hD, hS, hH.2.2.2⟩
  rw [← hR, hT] at h3
  refine kk H1 locs1 ?_
  rw [cW_split2]
  refine h3.perm (List.Perm.append_left _ ?_)
  exact perm_rs0 (cS3 cA sA ta ba y_lies v_year a_carried a_latest) (cNN cA na a_rsort a_rmany a_nums pl) (cS3 cA sA2 ta2 ba2 y2 v2 c2 l2) C9
end IMS
abbrev rm_X0_image : Room := { frames := 12, cells := 12, slots := 50, locals := 400 }
set_option maxHeartbeats 8000000 in
theorem met_X0_image {l : Launch} {D : va_G} {ad : Nat → Nat} {cA : Nat → ClassId} {sA ta ba na : Nat → Nat} {gi : Nat → Option Nat} {rh : Option Nat} {rt : Option Nat} {g_sort : Int32} {g_size : Int32} {g_from : Int32} {g_to : Int32} {g_level : Int32} {g_full : Int32} {a_tape : Nat → Int32} {a_hAt : Nat → Int32} {a_hMany : Nat → Int32} {a_tAt : Nat → Int32} {a_tMany : Nat → Int32} {a_least : Nat → Int32} {a_place : Nat → Int32} {a_to : Nat → Int32} {a_order : Nat → Int32} {a_fails : Nat → Int32} {a_sKeys : Nat → Int64} {a_sRow : Nat → Int64} {a_sSlots : Nat → Int32} {a_bKeys : Nat → Int64} {a_bRow : Nat → Int64} {a_bSlots : Nat → Int32} {a_easy : Nat → Int32} {a_wants : Nat → Int32} {a_wantedBy : Nat → Int32} {a_ring : Nat → Int32} {a_carried : Nat → Int32} {a_latest : Nat → Int32} {v_taped : Int32} {v_faultKind : Int32} {v_faultPlace : Int32} {v_x : Int32} {v_ordered : Int32} {v_sought : Int32} {v_lastSought : Int32} {v_hMoved : Int32} {v_hWithout : Int32} {v_tMoved : Int32} {v_tWithout : Int32} {v_places : Int32} {v_elsewhere : Int32} {v_sMany : Int32} {v_bMany : Int32} {v_year : Int32} {y_lies : Int64} {a_rsort : Nat → Int32} {a_rmany : Nat → Int32} {a_nums : Nat → Nat → Int64} {t : Nat → Int32} {nb : Int32} {bv : Nat → Int32 → Int32 → Int32 → Int32 → Int32 → Int32 → Bool} {pl : va_W} {p1 q_ans : Int32} {q_im : Nat → Option ImT} {im : Nat → Option ImT} {E : EvT} (hE : EvN E) (hPO : PO cA pl ta ba t nb bv) (hIm : ImsOk cA pl gi im) (hF : FX0_image im t nb bv y_lies v_year a_carried a_latest p1 = some (q_ans, q_im)) : MX l yX0_image (ws_ yX0_image cX0_image 2 (some .int)) rm_X0_image D vwA (cT cA) E [.ref (ad 0), .int p1] (cW ad cA sA ta ba na gi rh rt g_sort g_size g_from g_to g_level g_full a_tape a_hAt a_hMany a_tAt a_tMany a_least a_place a_to a_order a_fails a_sKeys a_sRow a_sSlots a_bKeys a_bRow a_bSlots a_easy a_wants a_wantedBy a_ring a_carried a_latest v_taped v_faultKind v_faultPlace v_x v_ordered v_sought v_lastSought v_hMoved v_hWithout v_tMoved v_tWithout v_places v_elsewhere v_sMany v_bMany v_year y_lies a_rsort a_rmany a_nums pl) (fun z => ∃ (X : va_W) (gi' : Nat → Option Nat), ImsOk cA (pl ++ X) gi' q_im ∧ z = (cW ad cA sA ta ba na gi' rh rt g_sort g_size g_from g_to g_level g_full a_tape a_hAt a_hMany a_tAt a_tMany a_least a_place a_to a_order a_fails a_sKeys a_sRow a_sSlots a_bKeys a_bRow a_bSlots a_easy a_wants a_wantedBy a_ring a_carried a_latest v_taped v_faultKind v_faultPlace v_x v_ordered v_sought v_lastSought v_hMoved v_hWithout v_tMoved v_tWithout v_places v_elsewhere v_sMany v_bMany v_year y_lies a_rsort a_rmany a_nums (pl ++ X))) (some (.int q_ans)) := by
  refine MX.ofI (by decide) (Nat.le_of_ble_eq_true rfl) ?_
  intro p e s m args below meth c Q A hX hK hE0 hname hret H locs ls hH hl
  have hX : CallFix p m c cX0_image 2 s args lw_all RX0 := hX
  have hx := hX.1
  have hb := hX.2.1
  have hown := hX.2.2.2.1
  have hts := hX.2.2.2.2
  have hl : lv_has ls 2 [(0, .ref (ad 0)), (1, .int p1)] := hl
  have hEv := hE.1
  have hNW := hE.2.1 _ _ _ hE0
  delta FX0_image at hF
  refine lv_iload_n hx hb dX0_image_0 rfl (lv_at hl 1 rfl) ?_
  refine lv_i2l (v := (Int32.toInt64 p1)) hx hb dX0_image_1 rfl ?_
  refine lv_lconst (v := 0) hx hb dX0_image_2 rfl ?_
  refine lv_lconst (v := 1) hx hb dX0_image_3 rfl ?_
  obtain ⟨b1, he, hF⟩ := bd1e hF
  refine mxS hX hK hEv hE0 hH (MM.toX (met_X0_in_g (EvG_of hEv) he)) gw_StoneYear_106 hd_yX0_in ⟨(Nat.le_of_ble_eq_true rfl), (Nat.le_of_ble_eq_true rfl)⟩ rfl rfl hl (Nat.le_of_ble_eq_true rfl) dX0_image_4 ⟨(Nat.le_of_ble_eq_true rfl), (Nat.le_of_ble_eq_true rfl)⟩ (fun w2 H locs hw hH => ?_)
  subst hw
  refine lv_if_ne (tgt := 13) hx hb dX0_image_7 rfl (fun c1 => ?_) (fun c1 => ?_)
  rotate_left
  · have hF := itp c1 hF
    refine lv_bipush (v := (-2)) hx hb dX0_image_10 kyb_m2 ?_
    obtain ⟨h0, h1⟩ := re2i hF
    subst h0 h1
    refine W.widen (k := 12) (n := 50) (Nat.le_of_ble_eq_true rfl) (Nat.le_of_ble_eq_true rfl) ?_
    exact hret _ _ _ _ _ ⟨[], gi, by rw [List.append_nil]; exact hIm, by rw [List.append_nil]⟩ hH dX0_image_12
  have hF := itn c1 hF
  obtain ⟨x0, he0, hF⟩ := bd1e hF
  have hin := rd_in he0
  have hlt : p1.toNatClampNeg < 2 := Nat.not_le.mp fun q => hin (Or.inr q)
  refine lv_aload_n hx hb dX0_image_13 rfl (lv_at hl 0 rfl) ?_
  refine cg_Y_this_images hX hK hNW hH dX0_image_14 ?_
  refine lv_iload_n hx hb dX0_image_17 rfl (lv_at hl 1 rfl) ?_
  obtain ⟨c9, l9, he, hF⟩ := bd2e hF
  refine lv_aload_n hx hb dX0_image_18 rfl (lv_at hl 0 rfl) ?_
  refine cg_Y_this_s hX hK hNW hH dX0_image_19 ?_
  have hH : MH D vwA A s.heap ([] ++ (cW ad cA sA ta ba na gi rh rt g_sort g_size g_from g_to g_level g_full a_tape a_hAt a_hMany a_tAt a_tMany a_least a_place a_to a_order a_fails a_sKeys a_sRow a_sSlots a_bKeys a_bRow a_bSlots a_easy a_wants a_wantedBy a_ring a_carried a_latest v_taped v_faultKind v_faultPlace v_x v_ordered v_sought v_lastSought v_hMoved v_hWithout v_tMoved v_tWithout v_places v_elsewhere v_sMany v_bMany v_year y_lies a_rsort a_rmany a_nums pl)) H locs := hH
  refine mrV hX hK hEv hE0 hH (met_X1_copy hE (List.mem_of_getElem? (i := 33) rfl) (List.mem_of_getElem? (i := 34) rfl) (List.mem_of_getElem? (i := 35) rfl) he) (crecv hK hH 33 1 rfl rfl) (lw_V q1602 q1603 q1604 q130 q1605) (n := 0) ⟨rfl, by decide, by decide, by decide +kernel⟩ ⟨(Nat.le_of_ble_eq_true rfl), (Nat.le_of_ble_eq_true rfl)⟩ rfl rfl hl (Nat.le_of_ble_eq_true rfl) dX0_image_22 ⟨(Nat.le_of_ble_eq_true rfl), (Nat.le_of_ble_eq_true rfl)⟩ (fun vo w2 H locs hw hH => ?_)
  obtain ⟨q0, q1, q2, q3, q4, q5, q6, q7, q8, q9, q10, q11, rfl, rfl⟩ := hw
  have hH := hH.perm (List.perm_append_comm (l₁ := [(q0, .inr (1, [.ref (ta 0), .ref (ba 0), .long y_lies, .int v_year, .ref q10, .ref q11])), (q1, .inr (2, [.ref q2, .ref q4, .ref q6, .int 4, .int 8, .int 0, .int 0, .int 0])), (q2, .inr (17, [.int 0, .ref q3, .int 0])), (q3, .inl (cA 44, 2, .inr (.inr (.inr (.inr (fun _ => none)))))), (q4, .inr (17, [.int 0, .ref q5, .int 0])), (q5, .inl (cA 44, 2, .inr (.inr (.inr (.inr (fun _ => none)))))), (q6, .inr (17, [.int 0, .ref q7, .int 0])), (q7, .inl (cA 44, 2, .inr (.inr (.inr (.inr (fun _ => none)))))), (q8, .inr (17, [.int 0, .ref q9, .int 0])), (q9, .inl (cA 44, 2, .inr (.inr (.inr (.inr (fun _ => none)))))), (q10, .inl (cA 34, 8, .inl c9)), (q11, .inl (cA 35, 8, .inl l9))]) (l₂ := (cW ad cA sA ta ba na gi rh rt g_sort g_size g_from g_to g_level g_full a_tape a_hAt a_hMany a_tAt a_tMany a_least a_place a_to a_order a_fails a_sKeys a_sRow a_sSlots a_bKeys a_bRow a_bSlots a_easy a_wants a_wantedBy a_ring a_carried a_latest v_taped v_faultKind v_faultPlace v_x v_ordered v_sought v_lastSought v_hMoved v_hWithout v_tMoved v_tWithout v_places v_elsewhere v_sMany v_bMany v_year y_lies a_rsort a_rmany a_nums pl)))
  rw [cW_app] at hH
  obtain ⟨k9, hk9⟩ := cW_pl (ad := ad) (cA := cA) (sA := sA) (ta := ta) (ba := ba) (na := na) (gi := gi) (rh := rh) (rt := rt) (g_sort := g_sort) (g_size := g_size) (g_from := g_from) (g_to := g_to) (g_level := g_level) (g_full := g_full) (a_tape := a_tape) (a_hAt := a_hAt) (a_hMany := a_hMany) (a_tAt := a_tAt) (a_tMany := a_tMany) (a_least := a_least) (a_place := a_place) (a_to := a_to) (a_order := a_order) (a_fails := a_fails) (a_sKeys := a_sKeys) (a_sRow := a_sRow) (a_sSlots := a_sSlots) (a_bKeys := a_bKeys) (a_bRow := a_bRow) (a_bSlots := a_bSlots) (a_easy := a_easy) (a_wants := a_wants) (a_wantedBy := a_wantedBy) (a_ring := a_ring) (a_carried := a_carried) (a_latest := a_latest) (v_taped := v_taped) (v_faultKind := v_faultKind) (v_faultPlace := v_faultPlace) (v_x := v_x) (v_ordered := v_ordered) (v_sought := v_sought) (v_lastSought := v_lastSought) (v_hMoved := v_hMoved) (v_hWithout := v_hWithout) (v_tMoved := v_tMoved) (v_tWithout := v_tWithout) (v_places := v_places) (v_elsewhere := v_elsewhere) (v_sMany := v_sMany) (v_bMany := v_bMany) (v_year := v_year) (y_lies := y_lies) (a_rsort := a_rsort) (a_rmany := a_rmany) (a_nums := a_nums) (List.mem_append_right pl (List.mem_of_getElem? (i := 0) (l := [(q0, .inr (1, [.ref (ta 0), .ref (ba 0), .long y_lies, .int v_year, .ref q10, .ref q11])), (q1, .inr (2, [.ref q2, .ref q4, .ref q6, .int 4, .int 8, .int 0, .int 0, .int 0])), (q2, .inr (17, [.int 0, .ref q3, .int 0])), (q3, .inl (cA 44, 2, .inr (.inr (.inr (.inr (fun _ => none)))))), (q4, .inr (17, [.int 0, .ref q5, .int 0])), (q5, .inl (cA 44, 2, .inr (.inr (.inr (.inr (fun _ => none)))))), (q6, .inr (17, [.int 0, .ref q7, .int 0])), (q7, .inl (cA 44, 2, .inr (.inr (.inr (.inr (fun _ => none)))))), (q8, .inr (17, [.int 0, .ref q9, .int 0])), (q9, .inl (cA 44, 2, .inr (.inr (.inr (.inr (fun _ => none)))))), (q10, .inl (cA 34, 8, .inl c9)), (q11, .inl (cA 35, 8, .inl l9))]) rfl))
  refine va_astq hX.1 hX.2.1 hK hH.1 hH.2.1 hH.2.2.1 1 0 k9 1 rfl rfl hk9 rfl hin dX0_image_25 (fun H locs hP hD hS => ?_)
  have hH : MH D vwA A s.heap (cW ad cA sA ta ba na (va_up gi p1.toNatClampNeg (some q0)) rh rt g_sort g_size g_from g_to g_level g_full a_tape a_hAt a_hMany a_tAt a_tMany a_least a_place a_to a_order a_fails a_sKeys a_sRow a_sSlots a_bKeys a_bRow a_bSlots a_easy a_wants a_wantedBy a_ring a_carried a_latest v_taped v_faultKind v_faultPlace v_x v_ordered v_sought v_lastSought v_hMoved v_hWithout v_tMoved v_tWithout v_places v_elsewhere v_sMany v_bMany v_year y_lies a_rsort a_rmany a_nums (pl ++ [(q0, .inr (1, [.ref (ta 0), .ref (ba 0), .long y_lies, .int v_year, .ref q10, .ref q11])), (q1, .inr (2, [.ref q2, .ref q4, .ref q6, .int 4, .int 8, .int 0, .int 0, .int 0])), (q2, .inr (17, [.int 0, .ref q3, .int 0])), (q3, .inl (cA 44, 2, .inr (.inr (.inr (.inr (fun _ => none)))))), (q4, .inr (17, [.int 0, .ref q5, .int 0])), (q5, .inl (cA 44, 2, .inr (.inr (.inr (.inr (fun _ => none)))))), (q6, .inr (17, [.int 0, .ref q7, .int 0])), (q7, .inl (cA 44, 2, .inr (.inr (.inr (.inr (fun _ => none)))))), (q8, .inr (17, [.int 0, .ref q9, .int 0])), (q9, .inl (cA 44, 2, .inr (.inr (.inr (.inr (fun _ => none)))))), (q10, .inl (cA 34, 8, .inl c9)), (q11, .inl (cA 35, 8, .inl l9))])) H locs := ⟨hP, hD, hS, hH.2.2.2⟩
  refine lv_iconst (v := 0) hx hb dX0_image_26 kyi_0 ?_
  obtain ⟨h0, h1⟩ := re2i hF
  subst h0 h1
  refine W.widen (k := 12) (n := 50) (Nat.le_of_ble_eq_true rfl) (Nat.le_of_ble_eq_true rfl) ?_
  refine hret _ _ _ _ _ ⟨_, _, fun i hi => ?_, rfl⟩ hH dX0_image_27
  have hm := (hIm.mono (fun q hq => List.mem_append_left [(q0, .inr (1, [.ref (ta 0), .ref (ba 0), .long y_lies, .int v_year, .ref q10, .ref q11])), (q1, .inr (2, [.ref q2, .ref q4, .ref q6, .int 4, .int 8, .int 0, .int 0, .int 0])), (q2, .inr (17, [.int 0, .ref q3, .int 0])), (q3, .inl (cA 44, 2, .inr (.inr (.inr (.inr (fun _ => none)))))), (q4, .inr (17, [.int 0, .ref q5, .int 0])), (q5, .inl (cA 44, 2, .inr (.inr (.inr (.inr (fun _ => none)))))), (q6, .inr (17, [.int 0, .ref q7, .int 0])), (q7, .inl (cA 44, 2, .inr (.inr (.inr (.inr (fun _ => none)))))), (q8, .inr (17, [.int 0, .ref q9, .int 0])), (q9, .inl (cA 44, 2, .inr (.inr (.inr (.inr (fun _ => none)))))), (q10, .inl (cA 34, 8, .inl c9)), (q11, .inl (cA 35, 8, .inl l9))] hq)) i hi
  show ImOk cA _ (if i = p1.toNatClampNeg then some q0 else gi i) (if i = p1.toNatClampNeg then _ else im i)
  by_cases c : i = p1.toNatClampNeg
  · rw [if_pos c, if_pos c]
    exact ⟨q0, q10, q11, ta, ba, rfl, List.mem_append_right _ (List.mem_of_getElem? (i := 0) rfl), List.mem_append_right _ (List.mem_of_getElem? (i := 10) rfl), List.mem_append_right _ (List.mem_of_getElem? (i := 11) rfl), hPO.app _⟩
  · rw [if_neg c, if_neg c]
    exact hm
abbrev rm_X0_restore : Room := { frames := 12, cells := 12, slots := 50, locals := 400 }
set_option maxHeartbeats 8000000 in
theorem met_X0_restore {l : Launch} {D : va_G} {ad : Nat → Nat} {cA : Nat → ClassId} {sA ta ba na : Nat → Nat} {gi : Nat → Option Nat} {rh : Option Nat} {rt : Option Nat} {g_sort : Int32} {g_size : Int32} {g_from : Int32} {g_to : Int32} {g_level : Int32} {g_full : Int32} {a_tape : Nat → Int32} {a_hAt : Nat → Int32} {a_hMany : Nat → Int32} {a_tAt : Nat → Int32} {a_tMany : Nat → Int32} {a_least : Nat → Int32} {a_place : Nat → Int32} {a_to : Nat → Int32} {a_order : Nat → Int32} {a_fails : Nat → Int32} {a_sKeys : Nat → Int64} {a_sRow : Nat → Int64} {a_sSlots : Nat → Int32} {a_bKeys : Nat → Int64} {a_bRow : Nat → Int64} {a_bSlots : Nat → Int32} {a_easy : Nat → Int32} {a_wants : Nat → Int32} {a_wantedBy : Nat → Int32} {a_ring : Nat → Int32} {a_carried : Nat → Int32} {a_latest : Nat → Int32} {v_taped : Int32} {v_faultKind : Int32} {v_faultPlace : Int32} {v_x : Int32} {v_ordered : Int32} {v_sought : Int32} {v_lastSought : Int32} {v_hMoved : Int32} {v_hWithout : Int32} {v_tMoved : Int32} {v_tWithout : Int32} {v_places : Int32} {v_elsewhere : Int32} {v_sMany : Int32} {v_bMany : Int32} {v_year : Int32} {y_lies : Int64} {a_rsort : Nat → Int32} {a_rmany : Nat → Int32} {a_nums : Nat → Nat → Int64} {t : Nat → Int32} {nb : Int32} {bv : Nat → Int32 → Int32 → Int32 → Int32 → Int32 → Int32 → Bool} {pl : va_W} {p1 q_ans : Int32} {q_nb q_y : Int32} {q_t q_c q_la : Nat → Int32} {q_bv : Nat → BvT} {q_l : Int64} {im : Nat → Option ImT} {E : EvT} (hE : EvN E) (hPO : PO cA pl ta ba t nb bv) (hIm : ImsOk cA pl gi im) (hF : FX0_restore im t nb bv y_lies v_year a_carried a_latest p1 = some (q_ans, q_t, q_nb, q_bv, q_l, q_y, q_c, q_la)) : MX l yX0_restore (ws_ yX0_restore cX0_restore 2 (some .int)) rm_X0_restore D vwA (cT cA) E [.ref (ad 0), .int p1] (cW ad cA sA ta ba na gi rh rt g_sort g_size g_from g_to g_level g_full a_tape a_hAt a_hMany a_tAt a_tMany a_least a_place a_to a_order a_fails a_sKeys a_sRow a_sSlots a_bKeys a_bRow a_bSlots a_easy a_wants a_wantedBy a_ring a_carried a_latest v_taped v_faultKind v_faultPlace v_x v_ordered v_sought v_lastSought v_hMoved v_hWithout v_tMoved v_tWithout v_places v_elsewhere v_sMany v_bMany v_year y_lies a_rsort a_rmany a_nums pl) (fun z => ∃ (X : va_W) (sA' ta' ba' : Nat → Nat), PO cA (pl ++ X) ta' ba' q_t q_nb q_bv ∧ z = (cW ad cA sA' ta' ba' na gi rh rt g_sort g_size g_from g_to g_level g_full a_tape a_hAt a_hMany a_tAt a_tMany a_least a_place a_to a_order a_fails a_sKeys a_sRow a_sSlots a_bKeys a_bRow a_bSlots a_easy a_wants a_wantedBy a_ring q_c q_la v_taped v_faultKind v_faultPlace v_x v_ordered v_sought v_lastSought v_hMoved v_hWithout v_tMoved v_tWithout v_places v_elsewhere v_sMany v_bMany q_y q_l a_rsort a_rmany a_nums (pl ++ X))) (some (.int q_ans)) := by
  refine MX.ofI (by decide) (Nat.le_of_ble_eq_true rfl) ?_
  intro p e s m args below meth c Q A hX hK hE0 hname hret H locs ls hH hl
  have hX : CallFix p m c cX0_restore 2 s args lw_all RX0 := hX
  have hx := hX.1
  have hb := hX.2.1
  have hown := hX.2.2.2.1
  have hts := hX.2.2.2.2
  have hl : lv_has ls 2 [(0, .ref (ad 0)), (1, .int p1)] := hl
  have hEv := hE.1
  have hNW := hE.2.1 _ _ _ hE0
  delta FX0_restore at hF
  refine lv_iload_n hx hb dX0_restore_0 rfl (lv_at hl 1 rfl) ?_
  refine lv_i2l (v := (Int32.toInt64 p1)) hx hb dX0_restore_1 rfl ?_
  refine lv_lconst (v := 0) hx hb dX0_restore_2 rfl ?_
  refine lv_lconst (v := 1) hx hb dX0_restore_3 rfl ?_
  obtain ⟨b1, he, hF⟩ := bd1e hF
  refine mxS hX hK hEv hE0 hH (MM.toX (met_X0_in_g (EvG_of hEv) he)) gw_StoneYear_106 hd_yX0_in ⟨(Nat.le_of_ble_eq_true rfl), (Nat.le_of_ble_eq_true rfl)⟩ rfl rfl hl (Nat.le_of_ble_eq_true rfl) dX0_restore_4 ⟨(Nat.le_of_ble_eq_true rfl), (Nat.le_of_ble_eq_true rfl)⟩ (fun w2 H locs hw hH => ?_)
  subst hw
  refine lv_if_ne (tgt := 13) hx hb dX0_restore_7 rfl (fun c1 => ?_) (fun c1 => ?_)
  rotate_left
  · have hF := itp c1 hF
    refine lv_bipush (v := (-2)) hx hb dX0_restore_10 kyb_m2 ?_
    obtain ⟨h0, h1⟩ := re2r hF
    cases h1
    subst h0
    refine W.widen (k := 12) (n := 50) (Nat.le_of_ble_eq_true rfl) (Nat.le_of_ble_eq_true rfl) ?_
    exact hret _ _ _ _ _ ⟨[], sA, ta, ba, by rw [List.append_nil]; exact hPO, by rw [List.append_nil]⟩ hH dX0_restore_12
  have hF := itn c1 hF
  obtain ⟨x0, he0, hF⟩ := bd1e hF
  have hin := rd_in he0
  have hlt : p1.toNatClampNeg < 2 := Nat.not_le.mp fun q => hin (Or.inr q)
  refine lv_aload_n hx hb dX0_restore_13 rfl (lv_at hl 0 rfl) ?_
  refine cg_Y_this_images hX hK hNW hH dX0_restore_14 ?_
  refine lv_iload_n hx hb dX0_restore_17 rfl (lv_at hl 1 rfl) ?_
  have hI := hIm _ hlt
  refine va_aldq hX.1 hX.2.1 hK hH.1 1 0 rfl rfl hin dX0_restore_18 ?_
  generalize hg : gi p1.toNatClampNeg = g at *
  generalize im p1.toNatClampNeg = ix at *
  cases ix with
  | none =>
    obtain rfl : g = none := hI
    refine lv_ifnonnullN hx hb dX0_restore_19 ?_
    refine lv_bipush (v := (-5)) hx hb dX0_restore_22 kyb_m5 ?_
    obtain ⟨h0, h1⟩ := re2r hF
    cases h1
    subst h0
    refine W.widen (k := 12) (n := 50) (Nat.le_of_ble_eq_true rfl) (Nat.le_of_ble_eq_true rfl) ?_
    exact hret _ _ _ _ _ ⟨[], sA, ta, ba, by rw [List.append_nil]; exact hPO, by rw [List.append_nil]⟩ hH dX0_restore_24
  | some x =>
    obtain ⟨q9, qa, qb, tb, bb, rfl, h1, h2, h3, h4⟩ := hI
    have hF : FX0_restore_c x = _ := hF
    unfold FX0_restore_c at hF
    obtain ⟨c9, l9, he, hF⟩ := bd2e hF
    refine lv_ifnonnull (tgt := 25) hx hb dX0_restore_19 rfl ?_
    refine lv_aload_n hx hb dX0_restore_25 rfl (lv_at hl 0 rfl) ?_
    refine lv_aload_n hx hb dX0_restore_26 rfl (lv_at hl 0 rfl) ?_
    refine cg_Y_this_images hX hK hNW hH dX0_restore_27 ?_
    refine lv_iload_n hx hb dX0_restore_30 rfl (lv_at hl 1 rfl) ?_
    refine va_aldq hX.1 hX.2.1 hK hH.1 1 0 rfl rfl hin dX0_restore_31 ?_
    rw [hg]
    have hH : MH D vwA A s.heap ([] ++ (cW ad cA sA ta ba na gi rh rt g_sort g_size g_from g_to g_level g_full a_tape a_hAt a_hMany a_tAt a_tMany a_least a_place a_to a_order a_fails a_sKeys a_sRow a_sSlots a_bKeys a_bRow a_bSlots a_easy a_wants a_wantedBy a_ring a_carried a_latest v_taped v_faultKind v_faultPlace v_x v_ordered v_sought v_lastSought v_hMoved v_hWithout v_tMoved v_tWithout v_places v_elsewhere v_sMany v_bMany v_year y_lies a_rsort a_rmany a_nums pl)) H locs := hH
    refine mrV hX hK hEv hE0 hH (met_X1_copy hE (cW_in h1) (cW_in h2) (cW_in h3) he) (precv (fun _ h => cW_pl h) hK hH 1 rfl ⟨_, h1⟩) (lw_V q1602 q1603 q1604 q130 q1605) (n := 0) ⟨rfl, by decide, by decide, by decide +kernel⟩ ⟨(Nat.le_of_ble_eq_true rfl), (Nat.le_of_ble_eq_true rfl)⟩ rfl rfl hl (Nat.le_of_ble_eq_true rfl) dX0_restore_32 ⟨(Nat.le_of_ble_eq_true rfl), (Nat.le_of_ble_eq_true rfl)⟩ (fun vo w2 H locs hw hH => ?_)
    obtain ⟨q0, q1, q2, q3, q4, q5, q6, q7, q8, q9, q10, q11, rfl, rfl⟩ := hw
    have hH : MH D vwA A s.heap (([(q0, .inr (1, [.ref (tb 0), .ref (bb 0), .long x.2.2.2.1, .int x.2.2.2.2.1, .ref q10, .ref q11])), (q10, .inl (cA 34, 8, .inl c9)), (q11, .inl (cA 35, 8, .inl l9))] ++ [(q1, .inr (2, [.ref q2, .ref q4, .ref q6, .int 4, .int 8, .int 0, .int 0, .int 0])), (q2, .inr (17, [.int 0, .ref q3, .int 0])), (q3, .inl (cA 44, 2, .inr (.inr (.inr (.inr (fun _ => none)))))), (q4, .inr (17, [.int 0, .ref q5, .int 0])), (q5, .inl (cA 44, 2, .inr (.inr (.inr (.inr (fun _ => none)))))), (q6, .inr (17, [.int 0, .ref q7, .int 0])), (q7, .inl (cA 44, 2, .inr (.inr (.inr (.inr (fun _ => none)))))), (q8, .inr (17, [.int 0, .ref q9, .int 0])), (q9, .inl (cA 44, 2, .inr (.inr (.inr (.inr (fun _ => none))))))]) ++ (cW ad cA sA ta ba na gi rh rt g_sort g_size g_from g_to g_level g_full a_tape a_hAt a_hMany a_tAt a_tMany a_least a_place a_to a_order a_fails a_sKeys a_sRow a_sSlots a_bKeys a_bRow a_bSlots a_easy a_wants a_wantedBy a_ring a_carried a_latest v_taped v_faultKind v_faultPlace v_x v_ordered v_sought v_lastSought v_hMoved v_hWithout v_tMoved v_tWithout v_places v_elsewhere v_sMany v_bMany v_year y_lies a_rsort a_rmany a_nums pl)) H locs := MH.reorder [(q0, .inr (1, [.ref (tb 0), .ref (bb 0), .long x.2.2.2.1, .int x.2.2.2.2.1, .ref q10, .ref q11])), (q1, .inr (2, [.ref q2, .ref q4, .ref q6, .int 4, .int 8, .int 0, .int 0, .int 0])), (q2, .inr (17, [.int 0, .ref q3, .int 0])), (q3, .inl (cA 44, 2, .inr (.inr (.inr (.inr (fun _ => none)))))), (q4, .inr (17, [.int 0, .ref q5, .int 0])), (q5, .inl (cA 44, 2, .inr (.inr (.inr (.inr (fun _ => none)))))), (q6, .inr (17, [.int 0, .ref q7, .int 0])), (q7, .inl (cA 44, 2, .inr (.inr (.inr (.inr (fun _ => none)))))), (q8, .inr (17, [.int 0, .ref q9, .int 0])), (q9, .inl (cA 44, 2, .inr (.inr (.inr (.inr (fun _ => none)))))), (q10, .inl (cA 34, 8, .inl c9)), (q11, .inl (cA 35, 8, .inl l9))] [(q0, .inr (1, [.ref (tb 0), .ref (bb 0), .long x.2.2.2.1, .int x.2.2.2.2.1, .ref q10, .ref q11])), (q10, .inl (cA 34, 8, .inl c9)), (q11, .inl (cA 35, 8, .inl l9)), (q1, .inr (2, [.ref q2, .ref q4, .ref q6, .int 4, .int 8, .int 0, .int 0, .int 0])), (q2, .inr (17, [.int 0, .ref q3, .int 0])), (q3, .inl (cA 44, 2, .inr (.inr (.inr (.inr (fun _ => none)))))), (q4, .inr (17, [.int 0, .ref q5, .int 0])), (q5, .inl (cA 44, 2, .inr (.inr (.inr (.inr (fun _ => none)))))), (q6, .inr (17, [.int 0, .ref q7, .int 0])), (q7, .inl (cA 44, 2, .inr (.inr (.inr (.inr (fun _ => none)))))), (q8, .inr (17, [.int 0, .ref q9, .int 0])), (q9, .inl (cA 44, 2, .inr (.inr (.inr (.inr (fun _ => none))))))] [0, 10, 11, 1, 2, 3, 4, 5, 6, 7, 8, 9] (n := 12) (by decide) rfl rfl hH
    refine rs_put_s (sA2 := fun k => if k = 0 then q0 else if k = 1 then q10 else q11) (ta2 := tb) (ba2 := bb) (y2 := x.2.2.2.1) (v2 := x.2.2.2.2.1) (c2 := c9) (l2 := l9) rfl rfl hX hK hH dX0_restore_35 (fun H locs hH => ?_)
    refine lv_iconst (v := 0) hx hb dX0_restore_38 kyi_0 ?_
    obtain ⟨h0, h1⟩ := re2r hF
    cases h1
    subst h0
    refine W.widen (k := 12) (n := 50) (Nat.le_of_ble_eq_true rfl) (Nat.le_of_ble_eq_true rfl) ?_
    exact hret _ _ _ _ _ ⟨_, _, _, _, h4.app _, rfl⟩ hH dX0_restore_39