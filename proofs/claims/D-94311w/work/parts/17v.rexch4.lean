set_option maxRecDepth 100000
theorem XT.up {cA : Nat → ClassId} {pl : va_W} {u : Nat → Int32} {a b : Nat} {rr wb : Nat → Nat} {Y Y' : va_W} {n : Nat} (h : XT cA pl u a b rr wb Y n) (hY : ∀ q ∈ Y, q ∈ Y') : XT cA pl u a b rr wb Y' n := by
  refine ⟨fun j hj => ?_, h.2⟩
  obtain ⟨h1, g, h2, h3⟩ := h.1 j hj
  refine ⟨(List.mem_append.mp h1).elim (fun h => List.mem_append_left _ (hY _ h)) (fun h => List.mem_append_right _ h), g, ?_, h3⟩
  by_cases c : j = a ∨ j = b
  · rw [if_pos c] at h2 ⊢
    exact hY _ h2
  · rw [if_neg c] at h2 ⊢
    exact h2
section XWC
variable {p : Program} {l : Launch} {e : Env} {R : Room} {s : State} {m : MethodId} {args : Array Value} {below : List Frame} {meth : Method} {c : Code} {H : Heap} {locs : List Loc} {cells slots : Nat} {Q : State → Prop}
variable {D : va_G} {A : Nat → Prop} {H0 : Heap} {pc : Nat} {ls : Array Slot} {rest : List Value} {cc : ByteArray} {nL : Nat} {own : String} {lv : List (Nat × Value)}
variable {ad : Nat → Nat} {cA : Nat → ClassId} {sA ta ba na : Nat → Nat} {gi : Nat → Option Nat} {rh : Option Nat} {rt : Option Nat} {g_sort : Int32} {g_size : Int32} {g_from : Int32} {g_to : Int32} {g_level : Int32} {g_full : Int32} {a_tape : Nat → Int32} {a_hAt : Nat → Int32} {a_hMany : Nat → Int32} {a_tAt : Nat → Int32} {a_tMany : Nat → Int32} {a_least : Nat → Int32} {a_place : Nat → Int32} {a_to : Nat → Int32} {a_order : Nat → Int32} {a_fails : Nat → Int32} {a_sKeys : Nat → Int64} {a_sRow : Nat → Int64} {a_sSlots : Nat → Int32} {a_bKeys : Nat → Int64} {a_bRow : Nat → Int64} {a_bSlots : Nat → Int32} {a_easy : Nat → Int32} {a_wants : Nat → Int32} {a_wantedBy : Nat → Int32} {a_ring : Nat → Int32} {a_carried : Nat → Int32} {a_latest : Nat → Int32} {v_taped : Int32} {v_faultKind : Int32} {v_faultPlace : Int32} {v_x : Int32} {v_ordered : Int32} {v_sought : Int32} {v_lastSought : Int32} {v_hMoved : Int32} {v_hWithout : Int32} {v_tMoved : Int32} {v_tWithout : Int32} {v_places : Int32} {v_elsewhere : Int32} {v_sMany : Int32} {v_bMany : Int32} {v_year : Int32} {y_lies : Int64} {a_rsort : Nat → Int32} {a_rmany : Nat → Int32} {a_nums : Nat → Nat → Int64} {t : Nat → Int32} {nb : Int32} {bv : Nat → Int32 → Int32 → Int32 → Int32 → Int32 → Int32 → Bool} {pl : va_W} {fw : va_W} {qt q1 q3 q5 : Nat} {e1 e3 e5 n1 n3 n5 : Nat} {r1 r3 r5 : Nat → Nat} {X : va_W} {ov mo ri : Int32} {E : EvT}
theorem xw_wish_call {p1 res : Int32} (hfw : (cW ad cA sA ta ba na gi rh rt g_sort g_size g_from g_to g_level g_full a_tape a_hAt a_hMany a_tAt a_tMany a_least a_place a_to a_order a_fails a_sKeys a_sRow a_sSlots a_bKeys a_bRow a_bSlots a_easy a_wants a_wantedBy a_ring a_carried a_latest v_taped v_faultKind v_faultPlace v_x v_ordered v_sought v_lastSought v_hMoved v_hWithout v_tMoved v_tWithout v_places v_elsewhere v_sMany v_bMany v_year y_lies a_rsort a_rmany a_nums pl) = fw) (hN : EvN E) (hPO : PO cA pl ta ba t nb bv) (he : FX2_wished t p1 (-1) = some res) (hX : CallFix p m c cc nL s args lw_all RX0) (hK : va_K D vwA (cT cA) s) (hE0 : E A s H0) (hH : RHG (XW cA fw qt q1 q3 q5 e1 e3 e5 n1 n3 n5 r1 r3 r5 X ov mo ri) D A H0 H locs) (hl : lv_has ls nL lv) (hW : (rest.map fun v => v.category).sum ≤ 8) (hdg : decode cc pc = .ok (.invokevirtual 436, 3)) (hR : 5 ≤ R.frames ∧ 200 ≤ R.locals) (hf : cells ≤ R.cells ∧ slots ≤ R.slots) (kk : ∀ (H1 : Heap) (locs1 : List Loc), RHG (XW cA fw qt q1 q3 q5 e1 e3 e5 n1 n3 n5 r1 r3 r5 X ov mo ri) D A H0 H1 locs1 → W p l e R s m args below meth c H1 locs1 cells slots Q (F0 m (pc + 3) ls (.int res :: rest))) : W p l e R s m args below meth c H locs cells slots Q (F0 m pc ls (.int (-1) :: .int p1 :: .ref (ta 0) :: rest)) := by
  obtain ⟨w, ⟨m1, m3, m5, c1, c3, c5, f1, f3, f5, rfl, hL1, hL3, hL5⟩, hm⟩ := hH
  have h2 : MH D vwA A H0 (fw ++ ([(qt, .inr (2, [.ref q1, .ref q3, .ref q5, .int ov, .int mo, .int 0, .int ri, .int 0])), LC q1 m1 e1 (nI n1), QA cA e1 c1 f1, LC q3 m3 e3 (nI n3), QA cA e3 c3 f3, LC q5 m5 e5 (nI n5), QA cA e5 c5 f5] ++ X)) H locs := hm.perm (by rw [← List.append_assoc]; exact List.perm_append_comm)
  rw [← hfw] at h2
  refine mxVF hX hK hN.1 hE0 h2 (met_X2_wished hN hPO hPO.1 he) (precv (fun q hq => List.getElem?_of_mem (List.mem_append_left _ (cW_in hq))) hK h2 2 rfl ⟨_, hPO.1.obj⟩) (lw_V q1384 q1179 q1180 q131 q1181) (n := 2) ⟨rfl, by decide, by decide, by decide +kernel⟩ ⟨Nat.le_trans (m := 5) (Nat.le_of_ble_eq_true rfl) hR.1, Nat.le_trans (m := 200) (Nat.le_of_ble_eq_true rfl) hR.2⟩ rfl rfl hl hW hdg ⟨by have := hf.1; show cells + 0 ≤ _; omega, by have := hf.2; show slots + 0 ≤ _; omega⟩ (fun w2 H1 locs1 hw2 h3 => ?_)
  subst hw2
  rw [hfw] at h3
  have h4 : MH D vwA A H0 ([(qt, .inr (2, [.ref q1, .ref q3, .ref q5, .int ov, .int mo, .int 0, .int ri, .int 0])), LC q1 m1 e1 (nI n1), QA cA e1 c1 f1, LC q3 m3 e3 (nI n3), QA cA e3 c3 f3, LC q5 m5 e5 (nI n5), QA cA e5 c5 f5] ++ (X ++ fw)) H1 locs1 := h3.perm (by
    refine List.perm_append_comm.trans ?_
    rw [List.append_assoc])
  exact kk H1 locs1 ⟨_, ⟨m1, m3, m5, c1, c3, c5, f1, f3, f5, rfl, hL1, hL3, hL5⟩, h4⟩
end XWC
def boG (x : Int32) : Option Unit := if x = 0 ∨ x = 1 then some () else none
theorem boG_nar {x : Int32} (h : boG x = some ()) : narrow .boolean (.int x) = .int x ∧ fits .boolean (.int x) = true := by
  unfold boG at h
  by_cases c : x = 0 ∨ x = 1
  · rcases c with rfl | rfl
    · exact ⟨rfl, rfl⟩
    · exact ⟨rfl, rfl⟩
  · rw [if_neg c] at h; cases h
noncomputable def FX0_exchanged (t : Nat → Int32) (p1 p2 : Int32) : Option (Nat → Int32) :=
  bd0 (upto 5 (t 0)) <| bd0 (upto 8 (t 6)) <| bd0 (upto 6 (t 56)) <| bd0 (boG (t 77)) <| bd0 (alg (t 0) (p1 / 3)) <| bd0 (alg (t 0) (p2 / 3)) <|
  bd1 (FX2_wished t p1 (-1)) fun x => bd1 (FX2_wished t p2 (-1)) fun y =>
  bd1 (wrW (exT t (p1 / 3).toNatClampNeg (p2 / 3).toNatClampNeg) (p1 / 3) (p1 - p1 / 3 * 3) y) fun u1 => wrW u1 (p2 / 3) (p2 - p2 / 3 * 3) x
theorem alg_nI {n : Nat} {x : Int32} (h : alg (nI n) x = some ()) (hn : n < 2147483648) : x = nI x.toNatClampNeg ∧ x.toNatClampNeg < n := by
  have h1 := alg_lt h
  rw [nI_clamp (by omega)] at h1
  refine ⟨?_, h1⟩
  have h2 := Int32.not_lt.mp (alg_0 h).1
  have h3 : (0 : Int) ≤ x.toInt := by simpa using Int32.le_iff_toInt_le.mp h2
  refine e_i ?_
  rw [toN (by omega)]
  show x.toInt = ((x.toInt.toNat : Nat) : Int)
  omega
abbrev rm_X0_exchanged : Room := { frames := 20, cells := 36, slots := 443, locals := 900 }
set_option maxHeartbeats 8000000 in
theorem met_X0_exchanged {l : Launch} {D : va_G} {ad : Nat → Nat} {cA : Nat → ClassId} {sA ta ba na : Nat → Nat} {gi : Nat → Option Nat} {rh : Option Nat} {rt : Option Nat} {g_sort : Int32} {g_size : Int32} {g_from : Int32} {g_to : Int32} {g_level : Int32} {g_full : Int32} {a_tape : Nat → Int32} {a_hAt : Nat → Int32} {a_hMany : Nat → Int32} {a_tAt : Nat → Int32} {a_tMany : Nat → Int32} {a_least : Nat → Int32} {a_place : Nat → Int32} {a_to : Nat → Int32} {a_order : Nat → Int32} {a_fails : Nat → Int32} {a_sKeys : Nat → Int64} {a_sRow : Nat → Int64} {a_sSlots : Nat → Int32} {a_bKeys : Nat → Int64} {a_bRow : Nat → Int64} {a_bSlots : Nat → Int32} {a_easy : Nat → Int32} {a_wants : Nat → Int32} {a_wantedBy : Nat → Int32} {a_ring : Nat → Int32} {a_carried : Nat → Int32} {a_latest : Nat → Int32} {v_taped : Int32} {v_faultKind : Int32} {v_faultPlace : Int32} {v_x : Int32} {v_ordered : Int32} {v_sought : Int32} {v_lastSought : Int32} {v_hMoved : Int32} {v_hWithout : Int32} {v_tMoved : Int32} {v_tWithout : Int32} {v_places : Int32} {v_elsewhere : Int32} {v_sMany : Int32} {v_bMany : Int32} {v_year : Int32} {y_lies : Int64} {a_rsort : Nat → Int32} {a_rmany : Nat → Int32} {a_nums : Nat → Nat → Int64} {t : Nat → Int32} {nb : Int32} {bv : Nat → Int32 → Int32 → Int32 → Int32 → Int32 → Int32 → Bool} {pl : va_W} {p1 p2 : Int32} {u2 : Nat → Int32} {E : EvT} {mi : Nat} (hE : EvL E mi) (hPO : PO cA pl ta ba t nb bv) (hF : FX0_exchanged t p1 p2 = some u2) : MR l yX0_exchanged (ws_ yX0_exchanged cX0_exchanged 5 (some (.object "StoneYear$Town"))) rm_X0_exchanged D vwA (cT cA) E [.ref (ad 0), .int p1, .int p2] (cW ad cA sA ta ba na gi rh rt g_sort g_size g_from g_to g_level g_full a_tape a_hAt a_hMany a_tAt a_tMany a_least a_place a_to a_order a_fails a_sKeys a_sRow a_sSlots a_bKeys a_bRow a_bSlots a_easy a_wants a_wantedBy a_ring a_carried a_latest v_taped v_faultKind v_faultPlace v_x v_ordered v_sought v_lastSought v_hMoved v_hWithout v_tMoved v_tWithout v_places v_elsewhere v_sMany v_bMany v_year y_lies a_rsort a_rmany a_nums pl) (fun v z => ∃ (X : va_W) (tb : Nat → Nat), v = some (.ref (tb 0)) ∧ TownAt cA (pl ++ X) tb u2 ∧ z = (cW ad cA sA ta ba na gi rh rt g_sort g_size g_from g_to g_level g_full a_tape a_hAt a_hMany a_tAt a_tMany a_least a_place a_to a_order a_fails a_sKeys a_sRow a_sSlots a_bKeys a_bRow a_bSlots a_easy a_wants a_wantedBy a_ring a_carried a_latest v_taped v_faultKind v_faultPlace v_x v_ordered v_sought v_lastSought v_hMoved v_hWithout v_tMoved v_tWithout v_places v_elsewhere v_sMany v_bMany v_year y_lies a_rsort a_rmany a_nums (pl ++ X))) := by
  refine MR.of (Or.inl ⟨_, rfl⟩) (by decide) (Nat.le_of_ble_eq_true rfl) ?_
  intro p e s m args below meth c Q A hX hK hE0 hname hret H locs ls hH hl
  have hX : CallFix p m c cX0_exchanged 5 s args lw_all RX0 := hX
  have hx := hX.1
  have hb := hX.2.1
  have hown := hX.2.2.2.1
  have hts := hX.2.2.2.2
  have hl : lv_has ls 5 [(0, .ref (ad 0)), (1, .int p1), (2, .int p2)] := hl
  have hN := hE.1
  have hEv := hE.1.1
  have hNW := hE.1.2.1 _ _ _ hE0
  have hT := hPO.1
  delta FX0_exchanged at hF
  obtain ⟨g1, hF⟩ := bd0e hF
  obtain ⟨g2, hF⟩ := bd0e hF
  obtain ⟨g3, hF⟩ := bd0e hF
  obtain ⟨g4, hF⟩ := bd0e hF
  obtain ⟨g5, hF⟩ := bd0e hF
  obtain ⟨g6, hF⟩ := bd0e hF
  obtain ⟨xa, hxa, hF⟩ := bd1e hF
  obtain ⟨xb, hxb, hF⟩ := bd1e hF
  obtain ⟨u1, hw1, hw2⟩ := bd1e hF
  obtain ⟨nr, lr, er⟩ := upto_nI g1 (by decide)
  obtain ⟨ns, ln, en⟩ := upto_nI g2 (by decide)
  obtain ⟨nm, lm, em⟩ := upto_nI g3 (by decide)
  rw [er] at g5 g6
  obtain ⟨ha, han⟩ := alg_nI g5 (by omega)
  obtain ⟨hb2, hbn⟩ := alg_nI g6 (by omega)
  have hin1 := wrW_in hw1
  have hin2 := wrW_in hw2
  have hu1 := (wrW_eq hw1).symm
  have hu2 := (wrW_eq hw2).symm
  generalize hga : (p1 / 3).toNatClampNeg = a at *
  generalize hgb : (p2 / 3).toNatClampNeg = b at *
  generalize hfw : (cW ad cA sA ta ba na gi rh rt g_sort g_size g_from g_to g_level g_full a_tape a_hAt a_hMany a_tAt a_tMany a_least a_place a_to a_order a_fails a_sKeys a_sRow a_sSlots a_bKeys a_bRow a_bSlots a_easy a_wants a_wantedBy a_ring a_carried a_latest v_taped v_faultKind v_faultPlace v_x v_ordered v_sought v_lastSought v_hMoved v_hWithout v_tMoved v_tWithout v_places v_elsewhere v_sMany v_bMany v_year y_lies a_rsort a_rmany a_nums pl) = fw at hH
  have hpf : ∀ q ∈ pl, q ∈ fw := fun q hq => by rw [← hfw]; exact cW_in hq
  have h0 : ∃ fs : List Value, ((ad 0, .inr (0, .ref (sA 0) :: fs)) : Nat × va_E) ∈ fw := by rw [← hfw]; exact ⟨_, List.mem_of_getElem? (i := 0) rfl⟩
  have h1 : ∃ fs : List Value, ((sA 0, .inr (1, .ref (ta 0) :: fs)) : Nat × va_E) ∈ fw := by rw [← hfw]; exact ⟨_, List.mem_of_getElem? (i := 33) rfl⟩
  refine va_new (ci := 2) (fs := [.null, .null, .null, .int 0, .int 0, .int 0, .int 0, .int 0]) (C := RX2) (T := TX2) (N := 8) hX.1 hX.2.1 hX.2.2.2.2 in_X2 tyX2 tyX2_ok hX.2.2.2.1 (hts _ q1409) (hts _ q183) (hts _ q131) hK hH.1 hH.2.1 hH.2.2.1 hH.2.2.2 rfl df_X2 (Nat.le_of_ble_eq_true rfl) (Nat.le_of_ble_eq_true rfl) dX0_exchanged_0 (fun qt H hP hD hS => ?_)
  have hH : MH D vwA A s.heap (fw ++ [(qt, .inr (2, [.null, .null, .null, .int 0, .int 0, .int 0, .int 0, .int 0]))]) H locs := ⟨hP, hD, hS, hH.2.2.2⟩
  have hH : MH D vwA A s.heap ([(qt, .inr (2, [.null, .null, .null, .int 0, .int 0, .int 0, .int 0, .int 0]))] ++ fw) H locs := hH.perm List.perm_append_comm
  refine lv_dup hx hb dX0_exchanged_3 rfl ?_
  refine mxCN hX hK hEv hE0 hH (met_X2_init hN) q186 q131 (hNW _ nw_q1410) q185 rfl hdi_yX2_init ⟨(Nat.le_of_ble_eq_true rfl), (Nat.le_of_ble_eq_true rfl)⟩ rfl rfl hl (Nat.le_of_ble_eq_true rfl) dX0_exchanged_4 ⟨(Nat.le_of_ble_eq_true rfl), (Nat.le_of_ble_eq_true rfl)⟩ (fun w2 H locs hw hH => ?_)
  obtain ⟨q1, e1, q3, e3, q5, e5, rfl⟩ := hw
  refine lv_astore_n (lv' := [(3, .ref qt), (0, .ref (ad 0)), (1, .int p1), (2, .int p2)]) hx hb dX0_exchanged_7 rfl hl (by decide) rfl (fun ls hl => ?_)
  refine lv_iconst (v := 0) hx hb dX0_exchanged_8 kyi_0 ?_
  refine lv_istore (lv' := [(4, .int 0), (3, .ref qt), (0, .ref (ad 0)), (1, .int p1), (2, .int p2)]) hx hb dX0_exchanged_9 hl (by decide) rfl (fun ls hl => ?_)
  have hH : RHG (XW cA fw qt q1 q3 q5 e1 e3 e5 0 0 0 (fun _ => 0) (fun _ => 0) (fun _ => 0) [] 4 8 0) D A s.heap H locs := ⟨_, ⟨0, 0, 0, 2, 2, 2, fun _ => none, fun _ => none, fun _ => none, rfl, ⟨Nat.le_refl _, by omega, Nat.zero_le _, fun i h => absurd h (Nat.not_lt_zero i)⟩, ⟨Nat.le_refl _, by omega, Nat.zero_le _, fun i h => absurd h (Nat.not_lt_zero i)⟩, ⟨Nat.le_refl _, by omega, Nat.zero_le _, fun i h => absurd h (Nat.not_lt_zero i)⟩⟩, hH⟩
  refine W.widen (k := 7) (n := 23) (Nat.le_of_ble_eq_true rfl) (Nat.le_of_ble_eq_true rfl) ?_
  refine xl_rows hE hX hK hNW hE0 hT hpf h0 h1 ⟨(Nat.le_of_ble_eq_true rfl), (Nat.le_of_ble_eq_true rfl)⟩ (n := nr) (a := a) (b := b) (by omega) er ha hb2 han hbn nr 0 [] (fun _ => 0) (fun _ => 0) e1 H locs ls 7 23 (by omega) hH ⟨fun j h => absurd h (Nat.not_lt_zero j), fun j h => absurd h (Nat.not_lt_zero j)⟩ hl (by show 7 + 3 * nr ≤ 36; omega) (by show 23 + 28 * nr ≤ 443; omega) (fun X r1 wb e1 H locs ls hH hxr hl => ?_)
  have hxt := hxr.toT (by omega)
  refine W.widen (k := 22) (n := 163) (by show 7 + 3 * nr ≤ 22; omega) (by show 23 + 28 * nr ≤ 163; omega) ?_
  refine lv_iconst (v := 0) hx hb dX0_exchanged_101 kyi_0 ?_
  refine lv_istore (lv' := [(4, .int 0), (3, .ref qt), (0, .ref (ad 0)), (1, .int p1), (2, .int p2)]) hx hb dX0_exchanged_102 hl (by decide) rfl (fun ls hl => ?_)
  refine xl_stones hE hX hK hNW hE0 hT hpf h0 h1 ⟨(Nat.le_of_ble_eq_true rfl), (Nat.le_of_ble_eq_true rfl)⟩ (n := ns) (by omega) en ns 0 X (fun _ => 0) e3 H locs ls 22 163 (by omega) hH (fun i h => absurd h (Nat.not_lt_zero i)) hl (by show 22 + ns ≤ 36; omega) (by show 163 + 20 * ns ≤ 443; omega) (fun X2 r3 e3 H locs ls hX2 hH h3 hl => ?_)
  have hxt := hxt.up hX2
  refine W.widen (k := 30) (n := 323) (by show 22 + ns ≤ 30; omega) (by show 163 + 20 * ns ≤ 323; omega) ?_
  refine lv_iconst (v := 0) hx hb dX0_exchanged_154 kyi_0 ?_
  refine lv_istore (lv' := [(4, .int 0), (3, .ref qt), (0, .ref (ad 0)), (1, .int p1), (2, .int p2)]) hx hb dX0_exchanged_155 hl (by decide) rfl (fun ls hl => ?_)
  refine xl_musts hE hX hK hNW hE0 hT hpf h0 h1 ⟨(Nat.le_of_ble_eq_true rfl), (Nat.le_of_ble_eq_true rfl)⟩ (n := nm) (by omega) em nm 0 X2 (fun _ => 0) e5 H locs ls 30 323 (by omega) hH (fun i h => absurd h (Nat.not_lt_zero i)) hl (by show 30 + nm ≤ 36; omega) (by show 323 + 20 * nm ≤ 443; omega) (fun X3 r5 e5 H locs ls hX3 hH h5 hl => ?_)
  have hxt := hxt.up hX3
  refine W.widen (k := 36) (n := 443) (by show 30 + nm ≤ 36; omega) (by show 323 + 20 * nm ≤ 443; omega) ?_
  refine lv_aload_n hx hb dX0_exchanged_207 rfl (lv_at hl 1 rfl) ?_
  obtain ⟨w, hw, hm⟩ := hH
  refine lv_aload_n hx hb dX0_exchanged_208 rfl (lv_at hl 2 rfl) ?_
  refine xg_st h0 h1 hw.fw hX hK hNW hm dX0_exchanged_209 dX0_exchanged_212 ?_
  refine cg_Y_town_over hT (hw.pl hpf) hX hK hNW hm dX0_exchanged_215 ?_
  refine xw_put_over hX hK hNW ⟨w, hw, hm⟩ dX0_exchanged_218 (fun H locs hH => ?_)
  refine lv_aload_n hx hb dX0_exchanged_221 rfl (lv_at hl 1 rfl) ?_
  obtain ⟨w, hw, hm⟩ := hH
  refine lv_aload_n hx hb dX0_exchanged_222 rfl (lv_at hl 2 rfl) ?_
  refine xg_st h0 h1 hw.fw hX hK hNW hm dX0_exchanged_223 dX0_exchanged_226 ?_
  refine cg_Y_town_most hT (hw.pl hpf) hX hK hNW hm dX0_exchanged_229 ?_
  refine xw_put_most hX hK hNW ⟨w, hw, hm⟩ dX0_exchanged_232 (fun H locs hH => ?_)
  refine lv_aload_n hx hb dX0_exchanged_235 rfl (lv_at hl 1 rfl) ?_
  obtain ⟨w, hw, hm⟩ := hH
  refine lv_aload_n hx hb dX0_exchanged_236 rfl (lv_at hl 2 rfl) ?_
  refine xg_st h0 h1 hw.fw hX hK hNW hm dX0_exchanged_237 dX0_exchanged_240 ?_
  refine cg_Y_town_rings hT (hw.pl hpf) hX hK hNW hm dX0_exchanged_243 ?_
  refine xw_put_rings (boG_nar g4) hX hK hNW ⟨w, hw, hm⟩ dX0_exchanged_246 (fun H locs hH => ?_)
  obtain ⟨w, hw, hm⟩ := hH
  refine lv_aload_n hx hb dX0_exchanged_249 rfl (lv_at hl 2 rfl) ?_
  refine xg_st h0 h1 hw.fw hX hK hNW hm dX0_exchanged_250 dX0_exchanged_253 ?_
  refine lv_iload_n hx hb dX0_exchanged_256 rfl (lv_at hl 3 rfl) ?_
  refine lv_iconst (v := (-1)) hx hb dX0_exchanged_257 kyi_m1 ?_
  refine xw_wish_call hfw hN hPO hxa hX hK hE0 ⟨w, hw, hm⟩ hl (Nat.le_of_ble_eq_true rfl) dX0_exchanged_258 ⟨(Nat.le_of_ble_eq_true rfl), (Nat.le_of_ble_eq_true rfl)⟩ ⟨(Nat.le_of_ble_eq_true rfl), (Nat.le_of_ble_eq_true rfl)⟩ (fun H locs hH => ?_)
  refine lv_istore (lv' := [(4, .int xa), (3, .ref qt), (0, .ref (ad 0)), (1, .int p1), (2, .int p2)]) hx hb dX0_exchanged_261 hl (by decide) rfl (fun ls hl => ?_)
  refine lv_aload_n hx hb dX0_exchanged_263 rfl (lv_at hl 1 rfl) ?_
  refine xw_get_rows hX hK hNW hH dX0_exchanged_264 ?_
  refine lv_iload_n hx hb dX0_exchanged_267 rfl (lv_at hl 3 rfl) ?_
  refine lv_iconst (v := 3) hx hb dX0_exchanged_268 kyi_3 ?_
  refine lv_idiv hx hb dX0_exchanged_269 (by decide) ?_
  rw [ha]
  refine xw_row hE hX hK hNW hE0 hpf hH hxt (k := a) (by omega) (by omega) hl ⟨(Nat.le_of_ble_eq_true rfl), (Nat.le_of_ble_eq_true rfl)⟩ ⟨(Nat.le_of_ble_eq_true rfl), (Nat.le_of_ble_eq_true rfl)⟩ dX0_exchanged_270 dX0_exchanged_273 dX0_exchanged_276 (fun H locs hH => ?_)
  refine lv_iload_n hx hb dX0_exchanged_279 rfl (lv_at hl 3 rfl) ?_
  refine lv_iconst (v := 3) hx hb dX0_exchanged_280 kyi_3 ?_
  refine lv_irem hx hb dX0_exchanged_281 (by decide) ?_
  obtain ⟨w, hw, hm⟩ := hH
  refine lv_aload_n hx hb dX0_exchanged_282 rfl (lv_at hl 2 rfl) ?_
  refine xg_st h0 h1 hw.fw hX hK hNW hm dX0_exchanged_283 dX0_exchanged_286 ?_
  refine lv_iload_n hx hb dX0_exchanged_289 rfl (lv_at hl 4 rfl) ?_
  refine lv_iconst (v := (-1)) hx hb dX0_exchanged_290 kyi_m1 ?_
  refine xw_wish_call hfw hN hPO hxb hX hK hE0 ⟨w, hw, hm⟩ hl (Nat.le_of_ble_eq_true rfl) dX0_exchanged_291 ⟨(Nat.le_of_ble_eq_true rfl), (Nat.le_of_ble_eq_true rfl)⟩ ⟨(Nat.le_of_ble_eq_true rfl), (Nat.le_of_ble_eq_true rfl)⟩ (fun H locs hH => ?_)
  refine xw_store (by omega) (Or.inl rfl) han hxt hX hK hH hin1 hu1 dX0_exchanged_294 (fun X4 H locs hH hxt => ?_)
  refine lv_aload_n hx hb dX0_exchanged_295 rfl (lv_at hl 1 rfl) ?_
  refine xw_get_rows hX hK hNW hH dX0_exchanged_296 ?_
  refine lv_iload_n hx hb dX0_exchanged_299 rfl (lv_at hl 4 rfl) ?_
  refine lv_iconst (v := 3) hx hb dX0_exchanged_300 kyi_3 ?_
  refine lv_idiv hx hb dX0_exchanged_301 (by decide) ?_
  rw [hb2]
  refine xw_row hE hX hK hNW hE0 hpf hH hxt (k := b) (by omega) (by omega) hl ⟨(Nat.le_of_ble_eq_true rfl), (Nat.le_of_ble_eq_true rfl)⟩ ⟨(Nat.le_of_ble_eq_true rfl), (Nat.le_of_ble_eq_true rfl)⟩ dX0_exchanged_302 dX0_exchanged_305 dX0_exchanged_308 (fun H locs hH => ?_)
  refine lv_iload_n hx hb dX0_exchanged_311 rfl (lv_at hl 4 rfl) ?_
  refine lv_iconst (v := 3) hx hb dX0_exchanged_312 kyi_3 ?_
  refine lv_irem hx hb dX0_exchanged_313 (by decide) ?_
  refine lv_iload hx hb dX0_exchanged_314 (lv_at hl 0 rfl) ?_
  refine xw_store (by omega) (Or.inr rfl) hbn hxt hX hK hH hin2 hu2 dX0_exchanged_316 (fun X5 H locs hH hxt => ?_)
  refine lv_aload_n hx hb dX0_exchanged_317 rfl (lv_at hl 1 rfl) ?_
  have hue : ∀ k, k < 41 ∨ 56 ≤ k → u2 k = exT t a b k := fun k hk => by
    have hj1 : (p1 - p1 / 3 * 3).toNatClampNeg < 3 := Nat.not_le.mp fun q => hin1 (Or.inr q)
    have hj2 : (p2 - p2 / 3 * 3).toNatClampNeg < 3 := Nat.not_le.mp fun q => hin2 (Or.inr q)
    rw [hu2, hu1]
    show (if k = _ then _ else if k = _ then _ else _) = _
    rw [if_neg (by omega), if_neg (by omega)]
  obtain ⟨w, hw, hm⟩ := hH
  have hw9 : XW cA fw qt q1 q3 q5 e1 e3 e5 nr ns nm r1 r3 r5 X5 (u2 75) (u2 76) (u2 77) w := by
    rw [hue 75 (by omega), hue 76 (by omega), hue 77 (by omega), exT_o (by omega), exT_o (by omega), exT_o (by omega)]
    exact hw
  obtain ⟨Z, tb, htb, hp, hTn⟩ := hw9.town hxt hT h3 h5 (by omega) (by omega) (by omega) er en em (fun k hk => by
    by_cases c9 : k < 200
    · rw [hue k (by omega), exT_o c9]
    · rw [hue k (by omega)]
      unfold exT
      rw [if_neg (by omega), if_neg (by omega)]) (by rw [hue 378 (by omega)]; rfl) (by rw [hue 379 (by omega)]; rfl)
  have hm := hm.perm hp
  rw [← hfw, cW_app] at hm
  exact hret _ (Or.inr ⟨_, rfl⟩) _ _ _ _ _ ⟨Z, tb, by rw [htb], hTn, rfl⟩ hm dX0_exchanged_318