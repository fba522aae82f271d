set_option maxRecDepth 100000
abbrev rm_X0_text : Room := { frames := 120, cells := 3000, slots := 24000, locals := 4000 }
theorem re11x {a1 a2 a3 a4 b1 b2 b3 b4 a6 b6 a9 b9 : Int32} {a5 b5 a10 b10 a11 b11 : Nat → Int32} {a7 b7 : Nat → BvT} {a8 b8 : Int64} (h : some (a1, a2, a3, a4, a5, a6, a7, a8, a9, a10, a11) = some (b1, b2, b3, b4, b5, b6, b7, b8, b9, b10, b11)) : a1 = b1 ∧ a2 = b2 ∧ a3 = b3 ∧ a4 = b4 ∧ a5 = b5 ∧ a6 = b6 ∧ a7 = b7 ∧ a8 = b8 ∧ a9 = b9 ∧ a10 = b10 ∧ a11 = b11 := by
  cases h
  exact ⟨rfl, rfl, rfl, rfl, rfl, rfl, rfl, rfl, rfl, rfl, rfl⟩
set_option maxHeartbeats 8000000 in
theorem met_X0_text {l : Launch} {D : va_G} {ad : Nat → Nat} {cA : Nat → ClassId} {sA ta ba na : Nat → Nat} {gi : Nat → Option Nat} {rh : Option Nat} {rt : Option Nat} {g_sort : Int32} {g_size : Int32} {g_from : Int32} {g_to : Int32} {g_level : Int32} {g_full : Int32} {a_tape : Nat → Int32} {a_hAt : Nat → Int32} {a_hMany : Nat → Int32} {a_tAt : Nat → Int32} {a_tMany : Nat → Int32} {a_least : Nat → Int32} {a_place : Nat → Int32} {a_to : Nat → Int32} {a_order : Nat → Int32} {a_fails : Nat → Int32} {a_sKeys : Nat → Int64} {a_sRow : Nat → Int64} {a_sSlots : Nat → Int32} {a_bKeys : Nat → Int64} {a_bRow : Nat → Int64} {a_bSlots : Nat → Int32} {a_easy : Nat → Int32} {a_wants : Nat → Int32} {a_wantedBy : Nat → Int32} {a_ring : Nat → Int32} {a_carried : Nat → Int32} {a_latest : Nat → Int32} {v_taped : Int32} {v_faultKind : Int32} {v_faultPlace : Int32} {v_x : Int32} {v_ordered : Int32} {v_sought : Int32} {v_lastSought : Int32} {v_hMoved : Int32} {v_hWithout : Int32} {v_tMoved : Int32} {v_tWithout : Int32} {v_places : Int32} {v_elsewhere : Int32} {v_sMany : Int32} {v_bMany : Int32} {v_year : Int32} {y_lies : Int64} {a_rsort : Nat → Int32} {a_rmany : Nat → Int32} {a_nums : Nat → Nat → Int64} {t : Nat → Int32} {nb : Int32} {bv : Nat → Int32 → Int32 → Int32 → Int32 → Int32 → Int32 → Bool} {pl : va_W} {p1 p2 q_ans q_tp q_fk q_fp q_nb q_y : Int32} {q_t q_c q_la : Nat → Int32} {q_bv : Nat → BvT} {q_l : Int64} {E : EvT} {ks vs : Nat → Nat} {fo mi : Nat} (hE : EvR E ks vs fo mi) (hPO : PO cA pl ta ba t nb bv) (hF : FX0_text a_tape a_carried a_latest v_taped v_faultKind v_faultPlace v_year y_lies t nb bv p1 p2 = some (q_ans, q_tp, q_fk, q_fp, q_t, q_nb, q_bv, q_l, q_y, q_c, q_la)) : MX l yX0_text (ws_ yX0_text cX0_text 4 (some .int)) rm_X0_text D vwA (cT cA) E [.ref (ad 0), .int p1, .int p2] (cW ad cA sA ta ba na gi rh rt g_sort g_size g_from g_to g_level g_full a_tape a_hAt a_hMany a_tAt a_tMany a_least a_place a_to a_order a_fails a_sKeys a_sRow a_sSlots a_bKeys a_bRow a_bSlots a_easy a_wants a_wantedBy a_ring a_carried a_latest v_taped v_faultKind v_faultPlace v_x v_ordered v_sought v_lastSought v_hMoved v_hWithout v_tMoved v_tWithout v_places v_elsewhere v_sMany v_bMany v_year y_lies a_rsort a_rmany a_nums pl) (fun z => ∃ (X : va_W) (ta' ba' : Nat → Nat), PO cA (pl ++ X) ta' ba' q_t q_nb q_bv ∧ z = (cW ad cA sA ta' ba' na gi rh rt g_sort g_size g_from g_to g_level g_full a_tape a_hAt a_hMany a_tAt a_tMany a_least a_place a_to a_order a_fails a_sKeys a_sRow a_sSlots a_bKeys a_bRow a_bSlots a_easy a_wants a_wantedBy a_ring q_c q_la q_tp q_fk q_fp v_x v_ordered v_sought v_lastSought v_hMoved v_hWithout v_tMoved v_tWithout v_places v_elsewhere v_sMany v_bMany q_y q_l a_rsort a_rmany a_nums (pl ++ X))) (some (.int q_ans)) := by
  refine MX.ofI (by decide) (Nat.le_of_ble_eq_true rfl) ?_
  intro p e s m args below meth c Q A hX hK hE0 hname hret H locs ls hH hl
  have hX : CallFix p m c cX0_text 4 s args lw_all RX0 := hX
  have hx := hX.1
  have hb := hX.2.1
  have hown := hX.2.2.2.1
  have hts := hX.2.2.2.2
  have hl : lv_has ls 4 [(0, .ref (ad 0)), (1, .int p1), (2, .int p2)] := hl
  have hN := hE.1.1
  have hEv := hE.1.1.1
  have hNW := hE.1.1.2.1 _ _ _ hE0
  delta FX0_text at hF
  refine lv_iload_n hx hb dX0_text_0 rfl (lv_at hl 1 rfl) ?_
  refine lv_i2l (v := (Int32.toInt64 p1)) hx hb dX0_text_1 rfl ?_
  refine lv_lconst (v := 0) hx hb dX0_text_2 rfl ?_
  refine lv_lconst (v := 1) hx hb dX0_text_3 rfl ?_
  obtain ⟨b1, he, hF⟩ := bd1e hF
  refine mxS hX hK hEv hE0 hH (MM.toX (met_X0_in_g (EvG_of hEv) he)) gw_StoneYear_106 hd_yX0_in ⟨(Nat.le_of_ble_eq_true rfl), (Nat.le_of_ble_eq_true rfl)⟩ rfl rfl hl (Nat.le_of_ble_eq_true rfl) dX0_text_4 ⟨(Nat.le_of_ble_eq_true rfl), (Nat.le_of_ble_eq_true rfl)⟩ (fun w2 H locs hw hH => ?_)
  subst hw
  refine lv_if_ne (tgt := 13) hx hb dX0_text_7 rfl (fun c1 => ?_) (fun c1 => ?_)
  rotate_left
  · have hF := itp c1 hF
    refine lv_bipush (v := (-2)) hx hb dX0_text_10 kyb_m2 ?_
    obtain ⟨h0, h1, h2, h3, h4, h5, h6, h7, h8, h9, h10⟩ := re11x hF
    subst h0 h1 h2 h3 h4 h5 h6 h7 h8 h9 h10
    refine W.widen (k := 3000) (n := 24000) (Nat.le_of_ble_eq_true rfl) (Nat.le_of_ble_eq_true rfl) ?_
    exact hret _ _ _ _ _ ⟨[], ta, ba, by rw [List.append_nil]; exact hPO, by rw [List.append_nil]⟩ hH dX0_text_12
  have hF := itn c1 hF
  refine lv_iload_n hx hb dX0_text_13 rfl (lv_at hl 2 rfl) ?_
  refine lv_i2l (v := (Int32.toInt64 p2)) hx hb dX0_text_14 rfl ?_
  refine lv_lconst (v := 0) hx hb dX0_text_15 rfl ?_
  refine lv_aload_n hx hb dX0_text_16 rfl (lv_at hl 0 rfl) ?_
  refine cg_Y_this_taped hX hK hNW hH dX0_text_17 ?_
  refine lv_i2l (v := (Int32.toInt64 v_taped)) hx hb dX0_text_20 rfl ?_
  obtain ⟨b2, he, hF⟩ := bd1e hF
  refine mxS hX hK hEv hE0 hH (MM.toX (met_X0_in_g (EvG_of hEv) he)) gw_StoneYear_106 hd_yX0_in ⟨(Nat.le_of_ble_eq_true rfl), (Nat.le_of_ble_eq_true rfl)⟩ rfl rfl hl (Nat.le_of_ble_eq_true rfl) dX0_text_21 ⟨(Nat.le_of_ble_eq_true rfl), (Nat.le_of_ble_eq_true rfl)⟩ (fun w2 H locs hw hH => ?_)
  subst hw
  refine lv_if_ne (tgt := 30) hx hb dX0_text_24 rfl (fun c2 => ?_) (fun c2 => ?_)
  rotate_left
  · have hF := itp c2 hF
    refine lv_bipush (v := (-3)) hx hb dX0_text_27 kyb_m3 ?_
    obtain ⟨h0, h1, h2, h3, h4, h5, h6, h7, h8, h9, h10⟩ := re11x hF
    subst h0 h1 h2 h3 h4 h5 h6 h7 h8 h9 h10
    refine W.widen (k := 3000) (n := 24000) (Nat.le_of_ble_eq_true rfl) (Nat.le_of_ble_eq_true rfl) ?_
    exact hret _ _ _ _ _ ⟨[], ta, ba, by rw [List.append_nil]; exact hPO, by rw [List.append_nil]⟩ hH dX0_text_29
  have hF := itn c2 hF
  refine va_new (ci := 9) (fs := [.int 0, .null, .null, .int 0, .int 0, .int 0, .int 0, .int 0, .int 0, .int 0, .null]) (C := RX9) (T := TX9) (N := 11) hX.1 hX.2.1 hX.2.2.2.2 in_X9 tyX9 tyX9_ok hX.2.2.2.1 (hts _ q530) (hts _ q531) (hts _ q143) hK hH.1 hH.2.1 hH.2.2.1 hH.2.2.2 rfl df_X9 (Nat.le_of_ble_eq_true rfl) (Nat.le_of_ble_eq_true rfl) dX0_text_30 (fun q0 H hP hD hS => ?_)
  have hH : MH D vwA A s.heap ((cW ad cA sA ta ba na gi rh rt g_sort g_size g_from g_to g_level g_full a_tape a_hAt a_hMany a_tAt a_tMany a_least a_place a_to a_order a_fails a_sKeys a_sRow a_sSlots a_bKeys a_bRow a_bSlots a_easy a_wants a_wantedBy a_ring a_carried a_latest v_taped v_faultKind v_faultPlace v_x v_ordered v_sought v_lastSought v_hMoved v_hWithout v_tMoved v_tWithout v_places v_elsewhere v_sMany v_bMany v_year y_lies a_rsort a_rmany a_nums pl) ++ [(q0, .inr (9, [.int 0, .null, .null, .int 0, .int 0, .int 0, .int 0, .int 0, .int 0, .int 0, .null]))]) H locs := ⟨hP, hD, hS, hH.2.2.2⟩
  have hH : MH D vwA A s.heap ([(q0, .inr (9, [.int 0, .null, .null, .int 0, .int 0, .int 0, .int 0, .int 0, .int 0, .int 0, .null]))] ++ (cW ad cA sA ta ba na gi rh rt g_sort g_size g_from g_to g_level g_full a_tape a_hAt a_hMany a_tAt a_tMany a_least a_place a_to a_order a_fails a_sKeys a_sRow a_sSlots a_bKeys a_bRow a_bSlots a_easy a_wants a_wantedBy a_ring a_carried a_latest v_taped v_faultKind v_faultPlace v_x v_ordered v_sought v_lastSought v_hMoved v_hWithout v_tMoved v_tWithout v_places v_elsewhere v_sMany v_bMany v_year y_lies a_rsort a_rmany a_nums pl)) H locs := hH.perm List.perm_append_comm
  refine lv_dup hx hb dX0_text_33 rfl ?_
  refine lv_aload_n hx hb dX0_text_34 rfl (lv_at hl 0 rfl) ?_
  refine lv_iload_n hx hb dX0_text_35 rfl (lv_at hl 2 rfl) ?_
  refine mxCI hX hK hEv hE0 hH (met_X9_init hN) q534 q143 q532 q533 rfl hdi_yX9_init ⟨(Nat.le_of_ble_eq_true rfl), (Nat.le_of_ble_eq_true rfl)⟩ rfl rfl hl (Nat.le_of_ble_eq_true rfl) dX0_text_36 ⟨(Nat.le_of_ble_eq_true rfl), (Nat.le_of_ble_eq_true rfl)⟩ (fun w2 H locs hw hH => ?_)
  obtain ⟨q1, q2, q3, q4, q5, q6, q7, q8, q9, rfl⟩ := hw
  refine lv_astore_n (lv' := [(3, .ref q0), (0, .ref (ad 0)), (1, .int p1), (2, .int p2)]) hx hb dX0_text_39 rfl hl (by decide) rfl (fun ls hl => ?_)
  have hR : RHG (RWP cA q0 (ad 0) (ad 2) p2 a_tape (cW ad cA sA ta ba na gi rh rt g_sort g_size g_from g_to g_level g_full a_tape a_hAt a_hMany a_tAt a_tMany a_least a_place a_to a_order a_fails a_sKeys a_sRow a_sSlots a_bKeys a_bRow a_bSlots a_easy a_wants a_wantedBy a_ring a_carried a_latest v_taped v_faultKind v_faultPlace v_x v_ordered v_sought v_lastSought v_hMoved v_hWithout v_tMoved v_tWithout v_places v_elsewhere v_sMany v_bMany v_year y_lies a_rsort a_rmany a_nums pl) [] (tb0 q1 q2 q3 q4 q5 q6 q7) (fun k => if k = 0 then q8 else q9) 0 0 0 0 0 0 (-1) u0F 0 (fun _ => none)) D A s.heap H locs := ⟨_, ⟨0, 0, 0, 0, 0, 0, 0, 0, 2, 2, 2, 2, fun _ => none, fun _ => none, fun _ => none, fun _ => none, fun _ _ => 0, rfl, ⟨by decide, by decide, by decide, by decide, by omega, by omega, by omega, by omega⟩, ⟨⟨Nat.le_refl _, by omega, Nat.zero_le _, fun i h => absurd h (Nat.not_lt_zero i)⟩, ⟨Nat.le_refl _, by omega, Nat.zero_le _, fun i h => absurd h (Nat.not_lt_zero i)⟩, ⟨Nat.le_refl _, by omega, Nat.zero_le _, fun i h => absurd h (Nat.not_lt_zero i)⟩, Nat.le_refl _, by omega, by omega, fun i h => absurd h (Nat.not_lt_zero i)⟩, fun i h => absurd h (Nat.not_lt_zero i), fun i h => absurd h (Nat.not_lt_zero i), fun i h => absurd h (Nat.not_lt_zero i), ⟨_, List.mem_of_getElem? (i := 0) rfl, rfl⟩, List.mem_of_getElem? (i := 2) rfl⟩, hH⟩
  refine W.widen (k := 10) (n := 39) (Nat.le_of_ble_eq_true rfl) (Nat.le_of_ble_eq_true rfl) ?_
  refine lv_iload_n hx hb dX0_text_40 rfl (lv_at hl 2 rfl) ?_
  refine lv_if_ne (tgt := 51) hx hb dX0_text_41 rfl (fun c3 => ?_) (fun c3 => ?_)
  · have hF := itn c3 hF
    have c4 : p1 = 1 := by
      by_cases c : p1 = 1
      · exact c
      · have h9 := itn c hF
        cases h9
    have hF := itp c4 hF
    obtain ⟨x1, x2, x3, x4, x5, x_fault, x_place, rnb, rbo, k, he, hF⟩ := bd10e hF
    obtain ⟨hg, hF⟩ := bd0e hF
    have hk := uptoN_le hg
    refine lv_aload_n hx hb dX0_text_51 rfl (lv_at hl 0 rfl) ?_
    refine rxV hX hK hEv hE0 hR (met_X9_bars hE he) (lw_V q882 q883 q884 q143 q885) (n := 0) ⟨rfl, by decide, by decide, by decide +kernel⟩ ⟨(Nat.le_of_ble_eq_true rfl), (Nat.le_of_ble_eq_true rfl)⟩ rfl rfl hl (Nat.le_of_ble_eq_true rfl) dX0_text_52 ⟨by show 10 + k ≤ 3000; omega, by show 39 + 20 * k ≤ 24000; omega⟩ (fun H locs hR => ?_)
    obtain ⟨w, ⟨lo2, xa, hlo, hw⟩, hm⟩ := hR
    obtain ⟨X, hp, hTn, hcell, hLs, hBn⟩ := hw.fin
    have hH := hm.perm hp
    rw [cW_app] at hH
    have hc := List.mem_append_right pl hcell
    refine W.widen (k := 2900) (n := 23900) (by show 10 + k ≤ 2900; omega) (by show 39 + 20 * k ≤ 23900; omega) ?_
    refine lv_aload_n hx hb dX0_text_55 rfl (lv_at hl 1 rfl) ?_
    refine lv_iconst (v := 0) hx hb dX0_text_56 kyi_0 ?_
    refine cp_Y_this_taped hX hK hNW hH dX0_text_57 (fun H locs hH => ?_)
    refine lv_aload_n hx hb dX0_text_60 rfl (lv_at hl 1 rfl) ?_
    refine lv_aload_n hx hb dX0_text_61 rfl (lv_at hl 0 rfl) ?_
    refine cg_rd_fault hc hX hK hNW hH dX0_text_62 ?_
    refine cp_Y_this_faultKind hX hK hNW hH dX0_text_65 (fun H locs hH => ?_)
    refine lv_aload_n hx hb dX0_text_68 rfl (lv_at hl 1 rfl) ?_
    refine lv_aload_n hx hb dX0_text_69 rfl (lv_at hl 0 rfl) ?_
    refine cg_rd_place hc hX hK hNW hH dX0_text_70 ?_
    refine cp_Y_this_faultPlace hX hK hNW hH dX0_text_73 (fun H locs hH => ?_)
    refine lv_aload_n hx hb dX0_text_76 rfl (lv_at hl 1 rfl) ?_
    refine cg_Y_this_faultKind hX hK hNW hH dX0_text_77 ?_
    delta FX0_text_b at hF
    refine lv_if_eq (tgt := 91) hx hb dX0_text_80 rfl (fun c5 => ?_) (fun c5 => ?_)
    rotate_left
    · have hF := itn c5 hF
      refine lv_bipush (v := (-10)) hx hb dX0_text_83 kyb_m10 ?_
      refine lv_aload_n hx hb dX0_text_85 rfl (lv_at hl 1 rfl) ?_
      refine cg_Y_this_faultKind hX hK hNW hH dX0_text_86 ?_
      refine lv_isub hx hb dX0_text_89 ?_
      obtain ⟨h0, h1, h2, h3, h4, h5, h6, h7, h8, h9, h10⟩ := re11x hF
      subst h0 h1 h2 h3 h4 h5 h6 h7 h8 h9 h10
      refine W.widen (k := 3000) (n := 24000) (Nat.le_of_ble_eq_true rfl) (Nat.le_of_ble_eq_true rfl) ?_
      exact hret _ _ _ _ _ ⟨X, ta, ba, hPO.app X, rfl⟩ hH dX0_text_90
    have hF := itp c5 hF
    refine lv_iload_n hx hb dX0_text_91 rfl (lv_at hl 2 rfl) ?_
    refine lv_iconst (v := 1) hx hb dX0_text_92 kyi_1 ?_
    refine lv_icmp_ne (tgt := 115) hx hb dX0_text_93 rfl (fun c6 => ?_) (fun c6 => ?_)
    · exact absurd c4 c6
    obtain ⟨hg2, hF⟩ := bd0e hF
    obtain ⟨ba', hb0, hBA⟩ := hBn (okG_at hg2)
    refine lv_aload_n hx hb dX0_text_96 rfl (lv_at hl 1 rfl) ?_
    refine cg_Y_this_s hX hK hNW hH dX0_text_97 ?_
    refine lv_aload_n hx hb dX0_text_100 rfl (lv_at hl 0 rfl) ?_
    refine cg_rd_bars hc hX hK hNW hH dX0_text_101 ?_
    refine cp_state_bars hb0 hX hK hNW hH dX0_text_104 (fun H locs hH => ?_)
    refine lv_aload_n hx hb dX0_text_107 rfl (lv_at hl 0 rfl) ?_
    refine cg_rd_bars hc hX hK hNW hH dX0_text_108 ?_
    obtain ⟨mc9, e9, hL9⟩ := hLs
    refine mxV hX hK hEv hE0 hH (met_J2_sizeN hEv ⟨mc9, e9, cW_in (List.mem_append_right pl hL9)⟩) (precv (fun _ h => cW_pl h) hK hH 17 rfl ⟨_, List.mem_append_right pl hL9⟩) (lw_V q954 q423 q424 q134 q425) (n := 0) ⟨rfl, by decide, by decide, by decide +kernel⟩ ⟨(Nat.le_of_ble_eq_true rfl), (Nat.le_of_ble_eq_true rfl)⟩ rfl rfl hl (Nat.le_of_ble_eq_true rfl) dX0_text_111 ⟨(Nat.le_of_ble_eq_true rfl), (Nat.le_of_ble_eq_true rfl)⟩ (fun w2 H locs hw2 hH => ?_)
    rw [hw2] at hH
    obtain ⟨h0, h1, h2, h3, h4, h5, h6, h7, h8, h9, h10⟩ := re11x hF
    subst h0 h1 h2 h3 h4 h5 h6 h7 h8 h9 h10
    refine W.widen (k := 3000) (n := 24000) (Nat.le_of_ble_eq_true rfl) (Nat.le_of_ble_eq_true rfl) ?_
    exact hret _ _ _ _ _ ⟨X, ta, ba', ⟨hPO.1.app X, hBA.mono (fun q hq => List.mem_append_right _ hq)⟩, rfl⟩ hH dX0_text_114
  · have hF := itp c3 hF
    obtain ⟨x1, x2, x3, x4, x_fault, x_place, u, k, he, hF⟩ := bd8e hF
    obtain ⟨hg, hF⟩ := bd0e hF
    have hk := uptoN_le hg
    refine lv_aload_n hx hb dX0_text_44 rfl (lv_at hl 0 rfl) ?_
    refine rxV hX hK hEv hE0 hR (met_X9_town hE he) (lw_V q578 q579 q580 q143 q581) (n := 0) ⟨rfl, by decide, by decide, by decide +kernel⟩ ⟨(Nat.le_of_ble_eq_true rfl), (Nat.le_of_ble_eq_true rfl)⟩ rfl rfl hl (Nat.le_of_ble_eq_true rfl) dX0_text_45 ⟨by show 10 + 3 * k ≤ 3000; omega, by show 39 + 28 * k ≤ 24000; omega⟩ (fun H locs hR => ?_)
    obtain ⟨w, ⟨lo2, xa, hlo, hw⟩, hm⟩ := hR
    obtain ⟨X, hp, hTn, hcell, hLs, hBn⟩ := hw.fin
    have hH := hm.perm hp
    rw [cW_app] at hH
    have hc := List.mem_append_right pl hcell
    refine W.widen (k := 2900) (n := 23900) (by show 10 + 3 * k ≤ 2900; omega) (by show 39 + 28 * k ≤ 23900; omega) ?_
    refine lv_goto (tgt := 55) hx hb dX0_text_48 rfl ?_
    refine lv_aload_n hx hb dX0_text_55 rfl (lv_at hl 1 rfl) ?_
    refine lv_iconst (v := 0) hx hb dX0_text_56 kyi_0 ?_
    refine cp_Y_this_taped hX hK hNW hH dX0_text_57 (fun H locs hH => ?_)
    refine lv_aload_n hx hb dX0_text_60 rfl (lv_at hl 1 rfl) ?_
    refine lv_aload_n hx hb dX0_text_61 rfl (lv_at hl 0 rfl) ?_
    refine cg_rd_fault hc hX hK hNW hH dX0_text_62 ?_
    refine cp_Y_this_faultKind hX hK hNW hH dX0_text_65 (fun H locs hH => ?_)
    refine lv_aload_n hx hb dX0_text_68 rfl (lv_at hl 1 rfl) ?_
    refine lv_aload_n hx hb dX0_text_69 rfl (lv_at hl 0 rfl) ?_
    refine cg_rd_place hc hX hK hNW hH dX0_text_70 ?_
    refine cp_Y_this_faultPlace hX hK hNW hH dX0_text_73 (fun H locs hH => ?_)
    refine lv_aload_n hx hb dX0_text_76 rfl (lv_at hl 1 rfl) ?_
    refine cg_Y_this_faultKind hX hK hNW hH dX0_text_77 ?_
    delta FX0_text_t at hF
    refine lv_if_eq (tgt := 91) hx hb dX0_text_80 rfl (fun c5 => ?_) (fun c5 => ?_)
    rotate_left
    · have hF := itn c5 hF
      refine lv_bipush (v := (-10)) hx hb dX0_text_83 kyb_m10 ?_
      refine lv_aload_n hx hb dX0_text_85 rfl (lv_at hl 1 rfl) ?_
      refine cg_Y_this_faultKind hX hK hNW hH dX0_text_86 ?_
      refine lv_isub hx hb dX0_text_89 ?_
      obtain ⟨h0, h1, h2, h3, h4, h5, h6, h7, h8, h9, h10⟩ := re11x hF
      subst h0 h1 h2 h3 h4 h5 h6 h7 h8 h9 h10
      refine W.widen (k := 3000) (n := 24000) (Nat.le_of_ble_eq_true rfl) (Nat.le_of_ble_eq_true rfl) ?_
      exact hret _ _ _ _ _ ⟨X, ta, ba, hPO.app X, rfl⟩ hH dX0_text_90
    have hF := itp c5 hF
    refine lv_iload_n hx hb dX0_text_91 rfl (lv_at hl 2 rfl) ?_
    refine lv_iconst (v := 1) hx hb dX0_text_92 kyi_1 ?_
    refine lv_icmp_ne (tgt := 115) hx hb dX0_text_93 rfl (fun c6 => ?_) (fun c6 => ?_)
    rotate_left
    · exact absurd (c6.symm.trans c3) (by decide)
    obtain ⟨l1, c9, la9, m9, he, hF⟩ := bd4e hF
    have hTn2 := hTn.mono (fun q hq => List.mem_append_right pl hq)
    refine lv_aload_n hx hb dX0_text_115 rfl (lv_at hl 1 rfl) ?_
    refine cg_Y_this_s hX hK hNW hH dX0_text_116 ?_
    refine lv_aload_n hx hb dX0_text_119 rfl (lv_at hl 0 rfl) ?_
    refine cg_rd_town hc hX hK hNW hH dX0_text_120 ?_
    refine rs_begins hN hTn2 he hE0 hX hK hNW hH hl ⟨(Nat.le_of_ble_eq_true rfl), (Nat.le_of_ble_eq_true rfl)⟩ dX0_text_123 ⟨(Nat.le_of_ble_eq_true rfl), (Nat.le_of_ble_eq_true rfl)⟩ (fun q H locs hH => ?_)
    have hc3 := List.mem_append_left [((q, .inl (cA 45, 5, .inl m9)) : Nat × va_E)] hc
    have hTn3 := hTn2.app [((q, .inl (cA 45, 5, .inl m9)) : Nat × va_E)]
    refine lv_aload_n hx hb dX0_text_126 rfl (lv_at hl 0 rfl) ?_
    refine cg_rd_town hc3 hX hK hNW hH dX0_text_127 ?_
    refine cg_Y_town_lines hTn3 (fun _ h => cW_pl h) hX hK hNW hH dX0_text_130 ?_
    obtain ⟨h0, h1, h2, h3, h4, h5, h6, h7, h8, h9, h10⟩ := re11x hF
    subst h0 h1 h2 h3 h4 h5 h6 h7 h8 h9 h10
    refine W.widen (k := 3000) (n := 24000) (Nat.le_of_ble_eq_true rfl) (Nat.le_of_ble_eq_true rfl) ?_
    rw [List.append_assoc] at hH hTn3
    exact hret _ _ _ _ _ ⟨_, xa, ba, ⟨hTn3, hPO.2.app _⟩, rfl⟩ hH dX0_text_133