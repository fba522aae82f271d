set_option maxRecDepth 100000
theorem InvW.up {ad ad8 : Nat → Nat} {cA cA8 : Nat → ClassId} {j : Nat} {w0 w8 : va_W} (hI : InvW ad cA ad8 cA8 j w0 w8) : InvW ad cA ad8 cA8 (j + 1) w0 w8 := by
  obtain ⟨sA, ta, ba, na, gi, rh, rt, y_lies, a_nums, pl, F1, F2, F3, G1, G2, G3, T, M, V, t, im, tp, mk, bk, rfl, rfl, hcur, htf, hpo, hims, himc, hnum, htape, htpl, htabc, htabm, hmkb, hbkb⟩ := hI
  exact ⟨sA, ta, ba, na, gi, rh, rt, y_lies, a_nums, pl, F1, F2, F3, G1, G2, G3, T, M, V, t, im, tp, mk, bk, rfl, rfl, hcur, htf, hpo, hims, himc, hnum, htape, htpl, htabc, htabm, by omega, by omega⟩
theorem sub6 {L : Nat} (h : L ≤ 384) : (nI L - 6).toInt = (L : Int) - 6 := by
  rw [Int32.toInt_sub, toN (by omega), show (6 : Int32).toInt = 6 from rfl]
  exact Int.bmod_eq_of_le (by omega) (by omega)
set_option maxHeartbeats 8000000 in
/-- the law's loop, after j rounds -/
theorem law_loop {p : Program} {l : Launch} {e : Env} {s : State} {m : MethodId} {below : List Frame} {meth : Method} {c : Code} {b L : Nat} {xs : Nat → Int32} {D : va_G} {E : EvT} {ks vs : Nat → Nat} {fo mi ak av fo8 : Nat} {ad ad8 : Nat → Nat} {cA cA8 : Nat → ClassId} (hL : L ≤ 384) (C0 : lw_At p s m meth c b L xs) (hV : EvAll l E ks vs fo mi ak av fo8) (hK0 : va_K D vwA (cT cA) s) (hK8 : va_K D vwA (mT cA8) s) (hE : E (fun q => s.heap.size ≤ q) s s.heap) :
    ∀ (n j : Nat), j + n = 65 → j ≤ 64 → ∀ (w0 w8 : va_W) (H : Heap) (locs : List Loc) (ls : Array Slot), InvW ad cA ad8 cA8 j w0 w8 → MH D vwA (fun q => s.heap.size ≤ q) s.heap (w0 ++ w8) H locs → lv_has ls 4 [(0, .ref b), (1, .ref (ad 0)), (2, .ref (ad8 0)), (3, .int (nI (6 * j)))] → W p l e room_1 s m #[.ref b] below meth c H locs (400000 + 12000 * j) (2000000 + 48000 * j) (lw_Z below #[Value.ref b] s) (F0 m 18 ls []) := by
  obtain ⟨hx, hb, hr, hml, hown, hts, hXX, hbl, hlocks, hgv⟩ := C0
  have hX : CallFix p m c cL_law 4 s #[.ref b] lw_all R_law := ⟨hx, hb, hml, hown, fun w h => hts w (lw_all_tbl h)⟩
  have hbA : ¬ (fun q : Nat => s.heap.size ≤ q) b := Nat.not_le.mpr hbl
  intro n
  induction n with
  | zero =>
    intro j h1 h2
    exact absurd h1 (by omega)
  | succ n ih =>
    intro j hjn hj64 w0 w8 H locs ls hI hH hl
    have hc1 : 400000 + 12000 * j ≤ 1200384 := by omega
    have hs1 : 2000000 + 48000 * j ≤ 5489322 := by omega
    refine lv_iload_n hx hb dL_law_18 rfl (lv_at hl 3 rfl) ?_
    refine lv_aload_n hx hb dL_law_19 rfl (lv_at hl 0 rfl) ?_
    refine va_slen hx hb hXX hbl hbA hH.2.2.1 dL_law_20 ?_
    refine lv_bipush (v := 6) hx hb dL_law_21 (by decide) ?_
    refine lv_isub hx hb dL_law_23 ?_
    refine lv_icmp_gt (tgt := 1348) hx hb dL_law_24 rfl (fun c1 => ?_) (fun c1 => ?_)
    · refine lv_iconst (v := 1) hx hb dL_law_1348 (by decide) ?_
      refine va_forget (fun q hq => hH.2.2.1.2.2 q hq) ?_
      refine W.widen (k := 1200384) (n := 5489322) hc1 hs1 ?_
      exact lw_ret hx hb hr hlocks dL_law_1349
    · have hi : 6 * j + 6 ≤ L := by
        rw [lt_iff, show Int32.ofNat L - 6 = nI L - 6 from rfl, sub6 hL, toN (by omega)] at c1
        omega
      have hj : j < 64 := by omega
      have tail : ∀ (w0' w8' : va_W) (H1 : Heap) (locs1 : List Loc), InvW ad cA ad8 cA8 (j + 1) w0' w8' → MH D vwA (fun q => s.heap.size ≤ q) s.heap (w0' ++ w8') H1 locs1 → W p l e room_1 s m #[.ref b] below meth c H1 locs1 (400000 + 12000 * j + 12000) (2000000 + 48000 * j + 48000) (lw_Z below #[Value.ref b] s) (F0 m 1342 ls []) := by
        intro w0' w8' H1 locs1 hI1 hH1
        refine lv_iinc (v := nI (6 * (j + 1))) (lv' := [(3, .int (nI (6 * (j + 1)))), (0, .ref b), (1, .ref (ad 0)), (2, .ref (ad8 0))]) hx hb dL_law_1342 hl (k := 3) rfl (by rw [show Int32.ofInt 6 = nI 6 from rfl, n_add]; rfl) (by decide) rfl (fun ls hl => ?_)
        refine lv_goto (tgt := 18) hx hb dL_law_1345 rfl ?_
        refine W.widen (k := 400000 + 12000 * (j + 1)) (n := 2000000 + 48000 * (j + 1)) (by omega) (by omega) ?_
        exact ih (j + 1) (by omega) (by omega) w0' w8' H1 locs1 ls hI1 hH1 (lv_sub hl [1, 2, 3, 0] rfl)
      refine lv_aload_n hx hb dL_law_27 rfl (lv_at hl 0 rfl) ?_
      refine lv_iload_n hx hb dL_law_28 rfl (lv_at hl 3 rfl) ?_
      refine va_sld hx hb hXX hbl hbA hH.2.2.1 (vp_in_nI (by omega) (by omega)) dL_law_29 ?_
      refine lv_bipush (v := 63) hx hb dL_law_30 (by decide) ?_
      refine lv_iand hx hb dL_law_32 ?_
      refine lv_topi (fun x ex => ?_)
      clear ex
      rcases rng x (n := 39) (by omega) with ⟨k, hk, rfl⟩ | hout
      · have ht : (nI k).toInt = (k : Int) := toN (by omega)
        rcases (show k = 0 ∨ k = 1 ∨ k = 2 ∨ k = 3 ∨ k = 4 ∨ k = 5 ∨ k = 6 ∨ k = 7 ∨ k = 8 ∨ k = 9 ∨ k = 10 ∨ k = 11 ∨ k = 12 ∨ k = 13 ∨ k = 14 ∨ k = 15 ∨ k = 16 ∨ k = 17 ∨ k = 18 ∨ k = 19 ∨ k = 20 ∨ k = 21 ∨ k = 22 ∨ k = 23 ∨ k = 24 ∨ k = 25 ∨ k = 26 ∨ k = 27 ∨ k = 28 ∨ k = 29 ∨ k = 30 ∨ k = 31 ∨ k = 32 ∨ k = 33 ∨ k = 34 ∨ k = 35 ∨ k = 36 ∨ k = 37 ∨ k = 38 by omega) with rfl | rfl | rfl | rfl | rfl | rfl | rfl | rfl | rfl | rfl | rfl | rfl | rfl | rfl | rfl | rfl | rfl | rfl | rfl | rfl | rfl | rfl | rfl | rfl | rfl | rfl | rfl | rfl | rfl | rfl | rfl | rfl | rfl | rfl | rfl | rfl | rfl | rfl | rfl
        · exact lv_tableIn (tgt := 204) hx hb dL_law_33 (by rw [ht]; omega) (by rw [ht]; omega) rfl rfl (lawc_feed hX hXX hbl hV hK0 hK8 hE hI hj hH hl hi hL (by omega) (by omega) tail)
        · exact lv_tableIn (tgt := 267) hx hb dL_law_33 (by rw [ht]; omega) (by rw [ht]; omega) rfl rfl (lawc_text hX hXX hbl hV hK0 hK8 hE hI hj hH hl hi hL (by omega) (by omega) tail)
        · exact lv_tableIn (tgt := 300) hx hb dL_law_33 (by rw [ht]; omega) (by rw [ht]; omega) rfl rfl (lawc_fault hX hXX hbl hV hK0 hK8 hE hI hj hH hl hi hL (by omega) (by omega) tail)
        · exact lv_tableIn (tgt := 323) hx hb dL_law_33 (by rw [ht]; omega) (by rw [ht]; omega) rfl rfl (lawc_stone hX hXX hbl hV hK0 hK8 hE hI hj hH hl hi hL (by omega) (by omega) tail)
        · exact lv_tableIn (tgt := 356) hx hb dL_law_33 (by rw [ht]; omega) (by rw [ht]; omega) rfl rfl (lawc_lies hX hXX hbl hV hK0 hK8 hE hI hj hH hl hi hL (by omega) (by omega) tail)
        · exact lv_tableIn (tgt := 379) hx hb dL_law_33 (by rw [ht]; omega) (by rw [ht]; omega) rfl rfl (lawc_row hX hXX hbl hV hK0 hK8 hE hI hj hH hl hi hL (by omega) (by omega) tail)
        · exact lv_tableIn (tgt := 412) hx hb dL_law_33 (by rw [ht]; omega) (by rw [ht]; omega) rfl rfl (lawc_rests hX hXX hbl hV hK0 hK8 hE hI hj hH hl hi hL (by omega) (by omega) tail)
        · exact lv_tableIn (tgt := 435) hx hb dL_law_33 (by rw [ht]; omega) (by rw [ht]; omega) rfl rfl (lawc_may hX hXX hbl hV hK0 hK8 hE hI hj hH hl hi hL (by omega) (by omega) tail)
        · exact lv_tableIn (tgt := 468) hx hb dL_law_33 (by rw [ht]; omega) (by rw [ht]; omega) rfl rfl (lawc_mayExchange hX hXX hbl hV hK0 hK8 hE hI hj hH hl hi hL (by omega) (by omega) tail)
        · exact lv_tableIn (tgt := 501) hx hb dL_law_33 (by rw [ht]; omega) (by rw [ht]; omega) rfl rfl (lawc_carry hX hXX hbl hV hK0 hK8 hE hI hj hH hl hi hL (by omega) (by omega) tail)
        · exact lv_tableIn (tgt := 534) hx hb dL_law_33 (by rw [ht]; omega) (by rw [ht]; omega) rfl rfl (lawc_exchange hX hXX hbl hV hK0 hK8 hE hI hj hH hl hi hL (by omega) (by omega) tail)
        · exact lv_tableIn (tgt := 567) hx hb dL_law_33 (by rw [ht]; omega) (by rw [ht]; omega) rfl rfl (lawc_year hX hXX hbl hV hK0 hK8 hE hI hj hH hl hi hL (by omega) (by omega) tail)
        · exact lv_tableIn (tgt := 580) hx hb dL_law_33 (by rw [ht]; omega) (by rw [ht]; omega) rfl rfl (lawc_flood hX hXX hbl hV hK0 hK8 hE hI hj hH hl hi hL (by omega) (by omega) tail)
        · exact lv_tableIn (tgt := 603) hx hb dL_law_33 (by rw [ht]; omega) (by rw [ht]; omega) rfl rfl (lawc_steal hX hXX hbl hV hK0 hK8 hE hI hj hH hl hi hL (by omega) (by omega) tail)
        · exact lv_tableIn (tgt := 626) hx hb dL_law_33 (by rw [ht]; omega) (by rw [ht]; omega) rfl rfl (lawc_done hX hXX hbl hV hK0 hK8 hE hI hj hH hl hi hL (by omega) (by omega) tail)
        · exact lv_tableIn (tgt := 649) hx hb dL_law_33 (by rw [ht]; omega) (by rw [ht]; omega) rfl rfl (lawc_right hX hXX hbl hV hK0 hK8 hE hI hj hH hl hi hL (by omega) (by omega) tail)
        · exact lv_tableIn (tgt := 672) hx hb dL_law_33 (by rw [ht]; omega) (by rw [ht]; omega) rfl rfl (lawc_judge hX hXX hbl hV hK0 hK8 hE hI hj hH hl hi hL (by omega) (by omega) tail)
        · exact lv_tableIn (tgt := 705) hx hb dL_law_33 (by rw [ht]; omega) (by rw [ht]; omega) rfl rfl (lawc_perform hX hXX hbl hV hK0 hK8 hE hI hj hH hl hi hL (by omega) (by omega) tail)
        · exact lv_tableIn (tgt := 728) hx hb dL_law_33 (by rw [ht]; omega) (by rw [ht]; omega) rfl rfl (lawc_match hX hXX hbl hV hK0 hK8 hE hI hj hH hl hi hL (by omega) (by omega) tail)
        · exact lv_tableIn (tgt := 751) hx hb dL_law_33 (by rw [ht]; omega) (by rw [ht]; omega) rfl rfl (lawc_once hX hXX hbl hV hK0 hK8 hE hI hj hH hl hi hL (by omega) (by omega) tail)
        · exact lv_tableIn (tgt := 774) hx hb dL_law_33 (by rw [ht]; omega) (by rw [ht]; omega) rfl rfl (lawc_ahead hX hXX hbl hV hK0 hK8 hE hI hj hH hl hi hL (by omega) (by omega) tail)
        · exact lv_tableIn (tgt := 807) hx hb dL_law_33 (by rw [ht]; omega) (by rw [ht]; omega) rfl rfl (lawc_aside hX hXX hbl hV hK0 hK8 hE hI hj hH hl hi hL (by omega) (by omega) tail)
        · exact lv_tableIn (tgt := 830) hx hb dL_law_33 (by rw [ht]; omega) (by rw [ht]; omega) rfl rfl (lawc_years hX hXX hbl hV hK0 hK8 hE hI hj hH hl hi hL (by omega) (by omega) tail)
        · exact lv_tableIn (tgt := 853) hx hb dL_law_33 (by rw [ht]; omega) (by rw [ht]; omega) rfl rfl (lawc_states hX hXX hbl hV hK0 hK8 hE hI hj hH hl hi hL (by omega) (by omega) tail)
        · exact lv_tableIn (tgt := 866) hx hb dL_law_33 (by rw [ht]; omega) (by rw [ht]; omega) rfl rfl (lawc_after hX hXX hbl hV hK0 hK8 hE hI hj hH hl hi hL (by omega) (by omega) tail)
        · exact lv_tableIn (tgt := 899) hx hb dL_law_33 (by rw [ht]; omega) (by rw [ht]; omega) rfl rfl (lawc_without hX hXX hbl hV hK0 hK8 hE hI hj hH hl hi hL (by omega) (by omega) tail)
        · exact lv_tableIn (tgt := 922) hx hb dL_law_33 (by rw [ht]; omega) (by rw [ht]; omega) rfl rfl (lawc_missing hX hXX hbl hV hK0 hK8 hE hI hj hH hl hi hL (by omega) (by omega) tail)
        · exact lv_tableIn (tgt := 945) hx hb dL_law_33 (by rw [ht]; omega) (by rw [ht]; omega) rfl rfl (lawc_winters hX hXX hbl hV hK0 hK8 hE hI hj hH hl hi hL (by omega) (by omega) tail)
        · exact lv_tableIn (tgt := 968) hx hb dL_law_33 (by rw [ht]; omega) (by rw [ht]; omega) rfl rfl (lawc_can hX hXX hbl hV hK0 hK8 hE hI hj hH hl hi hL (by omega) (by omega) tail)
        · exact lv_tableIn (tgt := 991) hx hb dL_law_33 (by rw [ht]; omega) (by rw [ht]; omega) rfl rfl (lawc_why hX hXX hbl hV hK0 hK8 hE hI hj hH hl hi hL (by omega) (by omega) tail)
        · exact lv_tableIn (tgt := 1014) hx hb dL_law_33 (by rw [ht]; omega) (by rw [ht]; omega) rfl rfl (lawc_easier hX hXX hbl hV hK0 hK8 hE hI hj hH hl hi hL (by omega) (by omega) tail)
        · exact lv_tableIn (tgt := 1037) hx hb dL_law_33 (by rw [ht]; omega) (by rw [ht]; omega) rfl rfl (lawc_wall hX hXX hbl hV hK0 hK8 hE hI hj hH hl hi hL (by omega) (by omega) tail)
        · exact lv_tableIn (tgt := 1070) hx hb dL_law_33 (by rw [ht]; omega) (by rw [ht]; omega) rfl rfl (lawc_partner hX hXX hbl hV hK0 hK8 hE hI hj hH hl hi hL (by omega) (by omega) tail)
        · exact lv_tableIn (tgt := 1123) hx hb dL_law_33 (by rw [ht]; omega) (by rw [ht]; omega) rfl rfl (lawc_threshold hX hXX hbl hV hK0 hK8 hE hI hj hH hl hi hL (by omega) (by omega) tail)
        · exact lv_tableIn (tgt := 1156) hx hb dL_law_33 (by rw [ht]; omega) (by rw [ht]; omega) rfl rfl (lawc_numbers hX hXX hbl hV hK0 hK8 hE hI hj hH hl hi hL (by omega) (by omega) tail)
        · exact lv_tableIn (tgt := 1199) hx hb dL_law_33 (by rw [ht]; omega) (by rw [ht]; omega) rfl rfl (lawc_write hX hXX hbl hV hK0 hK8 hE hI hj hH hl hi hL (by omega) (by omega) tail)
        · exact lv_tableIn (tgt := 1273) hx hb dL_law_33 (by rw [ht]; omega) (by rw [ht]; omega) rfl rfl (lawc_image hX hXX hbl hV hK0 hK8 hE hI hj hH hl hi hL (by omega) (by omega) tail)
        · exact lv_tableIn (tgt := 1296) hx hb dL_law_33 (by rw [ht]; omega) (by rw [ht]; omega) rfl rfl (lawc_restore hX hXX hbl hV hK0 hK8 hE hI hj hH hl hi hL (by omega) (by omega) tail)
        · exact lv_tableIn (tgt := 1319) hx hb dL_law_33 (by rw [ht]; omega) (by rw [ht]; omega) rfl rfl (lawc_count hX hXX hbl hV hK0 hK8 hE hI hj hH hl hi hL (by omega) (by omega) tail)
      · refine lv_tableOut (tgt := 1342) hx hb dL_law_33 (by omega) rfl ?_
        exact W.widen (Nat.le_add_right _ _) (Nat.le_add_right _ _) (tail _ _ _ _ hI.up hH)
