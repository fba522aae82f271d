set_option maxRecDepth 100000
theorem met_J2_sizeN {l : Launch} {D : va_G} {w : va_W} {tys : List (ClassId × FieldType)} {E : EvT} (hEv : EvOK E) {a0 : Nat} {n0 : Int32} (hL : LsN w a0 n0) : MX l yJ2_size (ws_ yJ2_size cJ2_size 1 (some .int)) rm_J2_size D vwA tys E [.ref a0] w (fun z => z = w) (some (.int n0)) := by
  obtain ⟨mc, e0, h1⟩ := hL
  refine MX.ofI (by decide) (Nat.le_of_ble_eq_true rfl) ?_
  intro p e s m args below meth c Q A hX hK hE0 hname hret H locs ls hH hl
  have hX : CallFix p m c cJ2_size 1 s args lw_all RJ2 := hX
  have hx := hX.1
  have hb := hX.2.1
  have hl : lv_has ls 1 [(0, .ref a0)] := hl
  obtain ⟨q0, hq⟩ := List.getElem?_of_mem h1
  refine lv_aload_n hx hb dJ2_size_0 rfl (lv_at hl 0 rfl) ?_
  refine va_get (C := RJ2) (T := TJ2) (N := 3) hX.1 hX.2.1 hX.2.2.2.2 in_J2 hX.2.2.2.1 hK hH.1 q0 hq rfl 2 (by decide) (hX.2.2.2.2 _ q205) (fun _ h9 => h9) rfl dJ2_size_1 ?_
  exact hret _ _ _ _ _ rfl hH dJ2_size_4
theorem LsN.obj {pl : va_W} {a : Nat} {n : Int32} (h : LsN pl a n) : ∃ fs : List Value, ((a, .inr (17, fs)) : Nat × va_E) ∈ pl := by
  obtain ⟨mc, e0, h1⟩ := h
  exact ⟨_, h1⟩
section BBA
variable {p : Program} {l : Launch} {e : Env} {R : Room} {s : State} {m : MethodId} {args : Array Value} {below : List Frame} {meth : Method} {c : Code} {H : Heap} {locs : List Loc} {cells slots : Nat} {Q : State → Prop}
variable {D : va_G} {A : Nat → Prop} {H0 : Heap} {ls : Array Slot} {lv : List (Nat × Value)}
variable {cA : Nat → ClassId} {ra x0 tp : Nat} {size : Int32} {tape : Nat → Int32} {fw : va_W} {lo : va_W} {ta ba : Nat → Nat} {v_at v_begin v_token v_value v_open v_fault v_place : Int32} {u : Nat → Int32} {nb : Int32} {bo : Nat → FcT}
theorem RWP.lsn {w : va_W} (h : (RWP cA ra x0 tp size tape fw lo ta ba v_at v_begin v_token v_value v_open v_fault v_place u nb bo) w) : LsN w (ba 0) nb := by
  obtain ⟨nr, ns, nm, nn, mr, ms, mm, mb, cr, cs, cm, cb, fr, fs, fm, fb, g, rfl, -⟩ := h
  exact ⟨mb, ba 1, List.mem_append_left _ (List.mem_of_getElem? (i := 8) rfl)⟩
theorem rs_addBar {E : EvT} {ks vs : Nat → Nat} {fo mi : Nat} {r : Option Nat} {o : FcT} (hX : CallFix p m c cX9_bars 2 s args lw_all RX9) (hK : va_K D vwA (cT cA) s) (hE : EvR E ks vs fo mi) (hE0 : E A s H0) (hH : RHG (RWP cA ra x0 tp size tape fw lo ta ba v_at v_begin v_token v_value v_open v_fault v_place u nb bo) D A H0 H locs) (hfv : FactV lo r o) (hg : upto 8 nb = some ()) (hl : lv_has ls 2 lv) (hR : 14 ≤ R.frames ∧ 520 ≤ R.locals) (hf : cells + 1 ≤ R.cells ∧ slots + 20 ≤ R.slots)
    (kk : ∀ (lo' : va_W) (ba' : Nat → Nat) (H1 : Heap) (locs1 : List Loc), (∀ q ∈ lo, q ∈ lo') → RHG (RWP cA ra x0 tp size tape fw lo' ta ba' v_at v_begin v_token v_value v_open v_fault v_place u (nb + 1) (addBar bo nb o)) D A H0 H1 locs1 → W p l e R s m args below meth c H1 locs1 (cells + 1) (slots + 20) Q (F0 m 84 ls [])) : W p l e R s m args below meth c H locs cells slots Q (F0 m 80 ls [va_rf r, .ref (ba 0)]) := by
  have hx := hX.1
  have hb := hX.2.1
  have hEv := hE.1.1.1
  obtain ⟨w, ⟨nr, ns, nm, nn, mr, ms, mm, mb, cr, cs, cm, cb, fr, fs, fm, fb, g, rfl, ⟨er, es, em, en, l1, l2, l3, l4⟩, ⟨hLr, hLs, hLm, c2, c12, cn, hB⟩, hg3, hst, hmu, hO⟩, hm⟩ := hH
  obtain ⟨n9, hn4, e9⟩ := upto_nI hg (by decide)
  obtain rfl : n9 = nn := (nI_eq (by omega) (by omega)).mp (e9.symm.trans en)
  have ec : nb.toNatClampNeg = n9 := rr_clamp en hn4 (by decide)
  have hm : MH D vwA A H0 ([rdC ra x0 size ta ba v_at v_begin v_token v_value v_open v_fault v_place, tnC ta u, LC (ta 1) mr (ta 2) (u 0), QA cA (ta 2) cr fr, LC (ta 3) ms (ta 4) (u 6), QA cA (ta 4) cs fs, LC (ta 5) mm (ta 6) (u 56), QA cA (ta 6) cm fm, LC (ba 0) mb (ba 1) nb, QA cA (ba 1) cb fb] ++ (RCs cA ta u g nr ++ (lo ++ fw))) H locs := hm
  have hm : MH D vwA A H0 ([LC (ba 0) mb (ba 1) nb, QA cA (ba 1) cb fb] ++ ([rdC ra x0 size ta ba v_at v_begin v_token v_value v_open v_fault v_place, tnC ta u, LC (ta 1) mr (ta 2) (u 0), QA cA (ta 2) cr fr, LC (ta 3) ms (ta 4) (u 6), QA cA (ta 4) cs fs, LC (ta 5) mm (ta 6) (u 56), QA cA (ta 6) cm fm] ++ (RCs cA ta u g nr ++ (lo ++ fw)))) H locs := MH.reorder [rdC ra x0 size ta ba v_at v_begin v_token v_value v_open v_fault v_place, tnC ta u, LC (ta 1) mr (ta 2) (u 0), QA cA (ta 2) cr fr, LC (ta 3) ms (ta 4) (u 6), QA cA (ta 4) cs fs, LC (ta 5) mm (ta 6) (u 56), QA cA (ta 6) cm fm, LC (ba 0) mb (ba 1) nb, QA cA (ba 1) cb fb] [LC (ba 0) mb (ba 1) nb, QA cA (ba 1) cb fb, rdC ra x0 size ta ba v_at v_begin v_token v_value v_open v_fault v_place, tnC ta u, LC (ta 1) mr (ta 2) (u 0), QA cA (ta 2) cr fr, LC (ta 3) ms (ta 4) (u 6), QA cA (ta 4) cs fs, LC (ta 5) mm (ta 6) (u 56), QA cA (ta 6) cm fm] [8, 9, 0, 1, 2, 3, 4, 5, 6, 7] (n := 10) (by decide) rfl rfl hm
  have hm : MH D vwA A H0 ([LC (ba 0) mb (ba 1) (nI n9), QA cA (ba 1) cb fb] ++ ([rdC ra x0 size ta ba v_at v_begin v_token v_value v_open v_fault v_place, tnC ta u, LC (ta 1) mr (ta 2) (u 0), QA cA (ta 2) cr fr, LC (ta 3) ms (ta 4) (u 6), QA cA (ta 4) cs fs, LC (ta 5) mm (ta 6) (u 56), QA cA (ta 6) cm fm] ++ (RCs cA ta u g nr ++ (lo ++ fw)))) H locs := by rw [← en]; exact hm
  refine mxV hX hK hEv hE0 hm (met_J2_add (o := r) (n := n9) (cap := cb) hE.1 c2 c12 (by omega) cn (fun i hi y hy => by
    obtain ⟨ci, xs, k1, k2, k3⟩ := (hB i hi).1 y hy
    exact ⟨ci, xs, k1, k2, List.mem_append_right _ (List.mem_append_right _ (List.mem_append_left _ k3))⟩) (hfv.1.mono (fun q hq => List.mem_append_right _ (List.mem_append_right _ (List.mem_append_left _ hq))))) (crecv hK hm 0 17 rfl rfl) (lw_V q714 q715 q716 q134 q717) (n := 1) ⟨rfl, by decide, by decide, by decide +kernel⟩ ⟨Nat.le_trans (m := 14) (Nat.le_of_ble_eq_true rfl) hR.1, Nat.le_trans (m := 520) (Nat.le_of_ble_eq_true rfl) hR.2⟩ rfl rfl hl (Nat.le_of_ble_eq_true rfl) dX9_bars_80 ⟨by have := hf.1; show cells + 1 ≤ R.cells; omega, by have := hf.2; show slots + 20 ≤ R.slots; omega⟩ (fun w3 H locs hw hm => ?_)
  obtain ⟨e1, cap1, f1, xs, k1, k2, k3, k4, k5, rfl⟩ := hw
  refine lv_pop hx hb dX9_bars_83 rfl ?_
  have hm := MH.perm (List.Perm.append_left [LC (ba 0) (mb + 1) e1 (nI (n9 + 1)), QA cA e1 cap1 f1] (rr_p1 xs [rdC ra x0 size ta ba v_at v_begin v_token v_value v_open v_fault v_place, tnC ta u, LC (ta 1) mr (ta 2) (u 0), QA cA (ta 2) cr fr, LC (ta 3) ms (ta 4) (u 6), QA cA (ta 4) cs fs, LC (ta 5) mm (ta 6) (u 56), QA cA (ta 6) cm fm] (RCs cA ta u g nr) (lo ++ fw))) hm
  have hm : MH D vwA A H0 ([LC (ba 0) (mb + 1) e1 (nI (n9 + 1)), QA cA e1 cap1 f1, rdC ra x0 size ta ba v_at v_begin v_token v_value v_open v_fault v_place, tnC ta u, LC (ta 1) mr (ta 2) (u 0), QA cA (ta 2) cr fr, LC (ta 3) ms (ta 4) (u 6), QA cA (ta 4) cs fs, LC (ta 5) mm (ta 6) (u 56), QA cA (ta 6) cm fm] ++ (RCs cA ta u g nr ++ (xs ++ (lo ++ fw)))) H locs := hm
  have hm := MH.reorder [LC (ba 0) (mb + 1) e1 (nI (n9 + 1)), QA cA e1 cap1 f1, rdC ra x0 size ta ba v_at v_begin v_token v_value v_open v_fault v_place, tnC ta u, LC (ta 1) mr (ta 2) (u 0), QA cA (ta 2) cr fr, LC (ta 3) ms (ta 4) (u 6), QA cA (ta 4) cs fs, LC (ta 5) mm (ta 6) (u 56), QA cA (ta 6) cm fm] [rdC ra x0 size ta ba v_at v_begin v_token v_value v_open v_fault v_place, tnC ta u, LC (ta 1) mr (ta 2) (u 0), QA cA (ta 2) cr fr, LC (ta 3) ms (ta 4) (u 6), QA cA (ta 4) cs fs, LC (ta 5) mm (ta 6) (u 56), QA cA (ta 6) cm fm, LC (ba 0) (mb + 1) e1 (nI (n9 + 1)), QA cA e1 cap1 f1] [2, 3, 4, 5, 6, 7, 8, 9, 0, 1] (n := 10) (by decide) rfl rfl hm
  have hb1 : nb + 1 = nI (n9 + 1) := nI_s en
  refine kk (xs ++ lo) (fun k => if k = 1 then e1 else ba k) H locs (fun q hq => List.mem_append_right _ hq) ⟨_, ⟨nr, ns, nm, n9 + 1, mr, ms, mm, mb + 1, cr, cs, cm, cap1, fr, fs, fm, f1, g, ?_, ⟨er, es, em, hb1, l1, l2, l3, by omega⟩, ⟨hLr, hLs, hLm, k3, k1, k2, fun i hi => ?_⟩, hg3, fun i hi => List.mem_append_right _ (hst i hi), fun i hi => List.mem_append_right _ (hmu i hi), hO⟩, hm⟩
  · rw [List.append_assoc xs]
    unfold rHD
    rw [hb1]
    rfl
  · show FactV (xs ++ lo) (f1 i) (if i = nb.toNatClampNeg then o else bo i)
    rw [ec]
    by_cases c : i = n9
    · rw [if_pos c, c, k5]
      exact hfv.mono (fun q hq => List.mem_append_right _ hq)
    · rw [if_neg c, k4 i (by omega)]
      exact (hB i (by omega)).mono (fun q hq => List.mem_append_right _ hq)
end BBA
abbrev rm_X9_bars (k : Nat) : Room := { frames := 80, cells := k, slots := 20 * k, locals := 2400 }
abbrev rm_X9_town (k : Nat) : Room := { frames := 40, cells := 3 * k, slots := 28 * k, locals := 2400 }
theorem re10b {a1 a2 a3 a4 a5 a6 a7 a8 b1 b2 b3 b4 b5 b6 b7 b8 : Int32} {f g : Nat → FcT} {k j : Nat} (h : some (a1, a2, a3, a4, a5, a6, a7, a8, f, k) = some (b1, b2, b3, b4, b5, b6, b7, b8, g, j)) : a1 = b1 ∧ a2 = b2 ∧ a3 = b3 ∧ a4 = b4 ∧ a5 = b5 ∧ a6 = b6 ∧ a7 = b7 ∧ a8 = b8 ∧ f = g ∧ k = j := re10 h
theorem bars_c_k {size : Int32} {tape : Nat → Int32} {d : Nat} {v_at v_begin v_token v_value v_open v_fault v_place nb : Int32} {bo : Nat → FcT} {k : Nat} {y : (Int32 × Int32 × Int32 × Int32 × Int32 × Int32 × Int32 × Int32 × (Nat → FcT) × Nat) ⊕ (Int32 × Int32 × Int32 × Int32 × Int32 × Int32 × Int32 × Int32 × (Nat → FcT) × Nat)} (h : FX9_bars_c size tape d v_at v_begin v_token v_value v_open v_fault v_place nb bo k = some y) : ∃ (y_at y_begin y_token y_value y_open y_fault y_place ynb : Int32) (ybo : Nat → FcT) (k2 : Nat), y = .inl (y_at, y_begin, y_token, y_value, y_open, y_fault, y_place, ynb, ybo, k + 1 + k2) := by
  unfold FX9_bars_c at h
  obtain ⟨a1, a2, a3, a4, a5, a6, -, h⟩ := bd6e h
  obtain ⟨o, b1, b2, b3, b4, b5, b6, b7, k2, -, h⟩ := bd9e h
  obtain ⟨c1, c2, c3, c4, c5, c6, -, h⟩ := bd6e h
  obtain ⟨-, h⟩ := bd0e h
  exact ⟨_, _, _, _, _, _, _, _, _, k2, (Option.some.inj h).symm⟩
theorem bars_s_k {size : Int32} {tape : Nat → Int32} {d : Nat} {v_at v_begin v_token v_value v_open v_fault v_place nb : Int32} {bo : Nat → FcT} {k : Nat} {y : (Int32 × Int32 × Int32 × Int32 × Int32 × Int32 × Int32 × Int32 × (Nat → FcT) × Nat) ⊕ (Int32 × Int32 × Int32 × Int32 × Int32 × Int32 × Int32 × Int32 × (Nat → FcT) × Nat)} (h : FX9_bars_s size tape d v_at v_begin v_token v_value v_open v_fault v_place nb bo k = some y) : ∃ (y_at y_begin y_token y_value y_open y_fault y_place ynb : Int32) (ybo : Nat → FcT) (k2 : Nat), y = .inl (y_at, y_begin, y_token, y_value, y_open, y_fault, y_place, ynb, ybo, k + 1 + k2) := by
  unfold FX9_bars_s at h
  split at h
  · split at h
    · obtain ⟨a1, a2, a3, a4, a5, a6, -, h⟩ := bd6e h
      exact bars_c_k h
    · obtain ⟨a1, a2, a3, a4, a5, a6, -, h⟩ := bd6e h
      exact bars_c_k h
  · exact bars_c_k h
theorem bars_mono {size : Int32} {tape : Nat → Int32} {r_at r_begin r_token r_value r_open r_fault r_place rnb : Int32} {rbo : Nat → FcT} {k : Nat} : ∀ (n : Nat) (v_at v_begin v_token v_value v_open v_fault v_place nb : Int32) (bo : Nat → FcT) (k2 : Nat), loopN (fun (s : Int32 × Int32 × Int32 × Int32 × Int32 × Int32 × Int32 × Int32 × (Nat → FcT) × Nat) => FX9_bars_b size tape 12 s.1 s.2.1 s.2.2.1 s.2.2.2.1 s.2.2.2.2.1 s.2.2.2.2.2.1 s.2.2.2.2.2.2.1 s.2.2.2.2.2.2.2.1 s.2.2.2.2.2.2.2.2.1 s.2.2.2.2.2.2.2.2.2) n (v_at, v_begin, v_token, v_value, v_open, v_fault, v_place, nb, bo, k2) = some (r_at, r_begin, r_token, r_value, r_open, r_fault, r_place, rnb, rbo, k) → k2 ≤ k := by
  intro n
  induction n with
  | zero => intro v_at v_begin v_token v_value v_open v_fault v_place nb bo k2 h; exact absurd h loopN_zero
  | succ n ih =>
    intro v_at v_begin v_token v_value v_open v_fault v_place nb bo k2 h
    obtain ⟨yy, hB, hY⟩ := loopN_succ h
    have hF : FX9_bars_b size tape 12 v_at v_begin v_token v_value v_open v_fault v_place nb bo k2 = some yy := hB
    have inl : ∀ {y : (Int32 × Int32 × Int32 × Int32 × Int32 × Int32 × Int32 × Int32 × (Nat → FcT) × Nat) ⊕ (Int32 × Int32 × Int32 × Int32 × Int32 × Int32 × Int32 × Int32 × (Nat → FcT) × Nat)}, (∃ (y_at y_begin y_token y_value y_open y_fault y_place ynb : Int32) (ybo : Nat → FcT) (k3 : Nat), y = .inl (y_at, y_begin, y_token, y_value, y_open, y_fault, y_place, ynb, ybo, k2 + 1 + k3)) → stepN (fun (s : Int32 × Int32 × Int32 × Int32 × Int32 × Int32 × Int32 × Int32 × (Nat → FcT) × Nat) => FX9_bars_b size tape 12 s.1 s.2.1 s.2.2.1 s.2.2.2.1 s.2.2.2.2.1 s.2.2.2.2.2.1 s.2.2.2.2.2.2.1 s.2.2.2.2.2.2.2.1 s.2.2.2.2.2.2.2.2.1 s.2.2.2.2.2.2.2.2.2) n y (r_at, r_begin, r_token, r_value, r_open, r_fault, r_place, rnb, rbo, k) → k2 ≤ k := by
      rintro y ⟨y1, y2, y3, y4, y5, y6, y7, y8, y9, k3, rfl⟩ hy
      have := ih _ _ _ _ _ _ _ _ _ _ hy
      omega
    unfold FX9_bars_b at hF
    split at hF
    · split at hF
      · obtain rfl := Option.some.inj hF
        have := (re10b (congrArg some (show _ = _ from hY))).2.2.2.2.2.2.2.2.2
        omega
      · obtain ⟨b, -, hF⟩ := bd1e hF
        split at hF
        · obtain ⟨a1, a2, -, hF⟩ := bd2e hF
          exact inl (bars_s_k hF) hY
        · exact inl (bars_s_k hF) hY
    · obtain rfl := Option.some.inj hF
      have := (re10b (congrArg some (show _ = _ from hY))).2.2.2.2.2.2.2.2.2
      omega
set_option maxHeartbeats 4000000 in
theorem met_X9_bars {l : Launch} {D : va_G} {cA : Nat → ClassId} {ra x0 tp : Nat} {size : Int32} {tape : Nat → Int32} {fw : va_W} {lo : va_W} {ta ba : Nat → Nat} {v_at v_begin v_token v_value v_open v_fault v_place : Int32} {u : Nat → Int32} {nb : Int32} {bo : Nat → FcT} {r_at r_begin r_token r_value r_open r_fault r_place rnb : Int32} {rbo : Nat → FcT} {k : Nat} {E : EvT} {ks vs : Nat → Nat} {fo mi : Nat} (hE : EvR E ks vs fo mi) (hF : FX9_bars size tape 12 v_at v_begin v_token v_value v_open v_fault v_place nb bo = some (r_at, r_begin, r_token, r_value, r_open, r_fault, r_place, rnb, rbo, k)) : RX l yX9_bars (ws_ yX9_bars cX9_bars 2 (Option.none : Option Jvm.ClassFile.FieldType)) (rm_X9_bars k) D cA E [.ref ra] (RWP cA ra x0 tp size tape fw lo ta ba v_at v_begin v_token v_value v_open v_fault v_place u nb bo) (fun z => ∃ (lo' : va_W) (ba' : Nat → Nat), (∀ q ∈ lo, q ∈ lo') ∧ (RWP cA ra x0 tp size tape fw lo' ta ba' r_at r_begin r_token r_value r_open r_fault r_place u rnb rbo) z) none := by
  have hsome : FactC l D cA E yX9_some (ws_ yX9_some cX9_some 2 (Option.some (Jvm.ClassFile.FieldType.object "StoneYear$Fact"))) (rm_X9_some 12) size tape (FX9_some size tape (FX9_fact size tape 12)) := met_X9_some hE 12 (rf := FX9_all size tape (FX9_fact size tape 12)) (met_X9_all hE 12 (met_X9_fact hE 12))
  refine RX.ofV (by decide) (Nat.le_of_ble_eq_true rfl) ?_
  intro p e s m args below meth c Q A hX hK hE0 hname hret H locs ls hH hl
  have hX : CallFix p m c cX9_bars 2 s args lw_all RX9 := hX
  have hx := hX.1
  have hb := hX.2.1
  have hown := hX.2.2.2.1
  have hts := hX.2.2.2.2
  have hEv := hE.1.1.1
  have hNW := hE.1.1.2.1 _ _ _ hE0
  have hl : lv_has ls 2 [(0, .ref ra)] := hl
  delta FX9_bars at hF
  obtain ⟨x_at, x_begin, x_token, x_value, he, hF⟩ := bd4e hF
  obtain ⟨nn, en⟩ := loopC_some hF
  have loop : ∀ (n : Nat) (z_at z_begin z_token z_value z_open z_fault z_place znb : Int32) (zbo : Nat → FcT) (k2 : Nat) (lo2 : va_W) (ba2 : Nat → Nat), loopN (fun (s : Int32 × Int32 × Int32 × Int32 × Int32 × Int32 × Int32 × Int32 × (Nat → FcT) × Nat) => FX9_bars_b size tape 12 s.1 s.2.1 s.2.2.1 s.2.2.2.1 s.2.2.2.2.1 s.2.2.2.2.2.1 s.2.2.2.2.2.2.1 s.2.2.2.2.2.2.2.1 s.2.2.2.2.2.2.2.2.1 s.2.2.2.2.2.2.2.2.2) n (z_at, z_begin, z_token, z_value, z_open, z_fault, z_place, znb, zbo, k2) = some (r_at, r_begin, r_token, r_value, r_open, r_fault, r_place, rnb, rbo, k) → ∀ (H : Heap) (locs : List Loc) (ls : Array Slot), (∀ q ∈ lo, q ∈ lo2) → RHG (RWP cA ra x0 tp size tape fw lo2 ta ba2 z_at z_begin z_token z_value z_open z_fault z_place u znb zbo) D A s.heap H locs → lv_has ls 2 [(0, .ref ra)] → W p l e (rm_X9_bars k) s m args below meth c H locs k2 (20 * k2) Q (F0 m 4 ls []) := by
    intro n
    induction n with
    | zero => intro z_at z_begin z_token z_value z_open z_fault z_place znb zbo k2 lo2 ba2 hN; exact absurd hN loopN_zero
    | succ n ih =>
      intro z_at z_begin z_token z_value z_open z_fault z_place znb zbo k2 lo2 ba2 hN H locs ls hlo hH hl
      have hk2 := bars_mono (n + 1) _ _ _ _ _ _ _ _ _ _ hN
      obtain ⟨yy, hB, hY⟩ := loopN_succ hN
      have hF : FX9_bars_b size tape 12 z_at z_begin z_token z_value z_open z_fault z_place znb zbo k2 = some yy := hB
      have fin : ∀ (H : Heap) (locs : List Loc) (ls : Array Slot), some (z_at, z_begin, z_token, z_value, z_open, z_fault, z_place, znb, zbo, k2) = some (r_at, r_begin, r_token, r_value, r_open, r_fault, r_place, rnb, rbo, k) → RHG (RWP cA ra x0 tp size tape fw lo2 ta ba2 z_at z_begin z_token z_value z_open z_fault z_place u znb zbo) D A s.heap H locs → W p l e (rm_X9_bars k) s m args below meth c H locs k2 (20 * k2) Q (F0 m 87 ls []) := by
        intro H locs ls h hH
        obtain ⟨h1, h2, h3, h4, h5, h6, h7, h8, h9, h10⟩ := re10b h
        subst h1 h2 h3 h4 h5 h6 h7 h8 h9 h10
        obtain ⟨w, hw, hm⟩ := hH
        exact hret _ _ _ _ ⟨w, ⟨lo2, ba2, hlo, hw⟩, hm⟩ dX9_bars_87
      have c60 : ∀ (v2_at v2_begin v2_token v2_value v2_open v2_fault v2_place : Int32) (H : Heap) (locs : List Loc) (ls : Array Slot), FX9_bars_c size tape 12 v2_at v2_begin v2_token v2_value v2_open v2_fault v2_place znb zbo k2 = some yy → RHG (RWP cA ra x0 tp size tape fw lo2 ta ba2 v2_at v2_begin v2_token v2_value v2_open v2_fault v2_place u znb zbo) D A s.heap H locs → lv_has ls 2 [(0, .ref ra)] → W p l e (rm_X9_bars k) s m args below meth c H locs k2 (20 * k2) Q (F0 m 60 ls []) := by
        intro v2_at v2_begin v2_token v2_value v2_open v2_fault v2_place H locs ls hF hH hl
        delta FX9_bars_c at hF
        obtain ⟨a_at, a_begin, a_token, a_value, a_fault, a_place, he, hF⟩ := bd6e hF
        refine lv_aload_n hx hb dX9_bars_60 rfl (lv_at hl 0 rfl) ?_
        refine va_ldcS (tx := "if") hx hb hown (hE.r228 _ _ _ hE0) dX9_bars_61 ?_
        refine rxV hX hK hEv hE0 hH (met_X9_need hE hE.s228 he) (lw_V q788 q790 qs16 q143 q791) (n := 1) ⟨rfl, by decide, by decide, by decide +kernel⟩ ⟨Nat.le_of_ble_eq_true rfl, Nat.le_of_ble_eq_true rfl⟩ rfl rfl hl (Nat.le_of_ble_eq_true rfl) dX9_bars_63 ⟨by dsimp only; omega, by dsimp only; omega⟩ (fun H locs hH => ?_)
        obtain ⟨o2, b_at, b_begin, b_token, b_value, b_open, b_fault, b_place, k3, he, hF⟩ := bd9e hF
        obtain ⟨d_at, d_begin, d_token, d_value, d_fault, d_place, he2, hF⟩ := bd6e hF
        obtain ⟨hg, hF⟩ := bd0e hF
        obtain rfl := Option.some.inj hF
        have hN2 : loopN (fun (s : Int32 × Int32 × Int32 × Int32 × Int32 × Int32 × Int32 × Int32 × (Nat → FcT) × Nat) => FX9_bars_b size tape 12 s.1 s.2.1 s.2.2.1 s.2.2.2.1 s.2.2.2.2.1 s.2.2.2.2.2.1 s.2.2.2.2.2.2.1 s.2.2.2.2.2.2.2.1 s.2.2.2.2.2.2.2.2.1 s.2.2.2.2.2.2.2.2.2) n (d_at, d_begin, d_token, d_value, b_open, d_fault, d_place, znb + 1, addBar zbo znb o2, k2 + 1 + k3) = some (r_at, r_begin, r_token, r_value, r_open, r_fault, r_place, rnb, rbo, k) := hY
        have hk3 := bars_mono n _ _ _ _ _ _ _ _ _ _ hN2
        refine lv_aload_n hx hb dX9_bars_66 rfl (lv_at hl 0 rfl) ?_
        refine rxF hX hK hEv hE0 hH hsome he (lw_V q888 q890 qs22 q143 q891) ⟨rfl, by decide, by decide, by decide +kernel⟩ ⟨Nat.le_of_ble_eq_true rfl, Nat.le_of_ble_eq_true rfl⟩ rfl hl (Nat.le_of_ble_eq_true rfl) dX9_bars_67 ⟨by dsimp only; omega, by dsimp only; omega⟩ (fun r lo3 H locs hlo3 hfv hH => ?_)
        refine lv_astore_nq (r := r) (lv' := [(1, va_rf r), (0, .ref ra)]) hx hb dX9_bars_70 rfl hl (by decide) rfl (fun ls hl => ?_)
        refine lv_aload_n hx hb dX9_bars_71 rfl (lv_at hl 1 rfl) ?_
        have he := he2
        refine rxV hX hK hEv hE0 hH (met_X9_over hE he) (lw_V q878 q880 qs21 q143 q881) (n := 0) ⟨rfl, by decide, by decide, by decide +kernel⟩ ⟨Nat.le_of_ble_eq_true rfl, Nat.le_of_ble_eq_true rfl⟩ rfl rfl hl (Nat.le_of_ble_eq_true rfl) dX9_bars_72 ⟨by dsimp only; omega, by dsimp only; omega⟩ (fun H locs hH => ?_)
        refine lv_aload_n hx hb dX9_bars_75 rfl (lv_at hl 1 rfl) ?_
        refine rg_bars hX hK hH dX9_bars_76 ?_
        refine lv_aload_nq hx hb dX9_bars_79 rfl (lv_at hl 0 rfl) ?_
        refine rs_addBar hX hK hE hE0 hH hfv hg hl ⟨Nat.le_of_ble_eq_true rfl, Nat.le_of_ble_eq_true rfl⟩ ⟨by dsimp only; omega, by dsimp only; omega⟩ (fun lo4 ba4 H locs hlo4 hH => ?_)
        refine lv_goto (tgt := 4) hx hb dX9_bars_84 rfl ?_
        refine W.widen (k := k2 + 1 + k3) (n := 20 * (k2 + 1 + k3)) (by dsimp only; omega) (by dsimp only; omega) ?_
        exact ih _ _ _ _ _ _ _ _ _ _ lo4 ba4 hN2 _ _ _ (fun q hq => hlo4 q (hlo3 q (hlo q hq))) hH (lv_sub hl [1] rfl)
      have s32 : ∀ (v2_at v2_begin v2_token v2_value v2_open v2_fault v2_place : Int32) (H : Heap) (locs : List Loc) (ls : Array Slot), FX9_bars_s size tape 12 v2_at v2_begin v2_token v2_value v2_open v2_fault v2_place znb zbo k2 = some yy → RHG (RWP cA ra x0 tp size tape fw lo2 ta ba2 v2_at v2_begin v2_token v2_value v2_open v2_fault v2_place u znb zbo) D A s.heap H locs → lv_has ls 2 [(0, .ref ra)] → W p l e (rm_X9_bars k) s m args below meth c H locs k2 (20 * k2) Q (F0 m 32 ls []) := by
        intro v2_at v2_begin v2_token v2_value v2_open v2_fault v2_place H locs ls hF hH hl
        delta FX9_bars_s at hF
        refine lv_aload_n hx hb dX9_bars_32 rfl (lv_at hl 0 rfl) ?_
        refine rg_fault hX hK hH dX9_bars_33 ?_
        refine lv_if_ne (tgt := 60) hx hb dX9_bars_36 rfl (fun c9 => ?_) (fun c9 => ?_)
        · have hF := itn c9 hF
          exact c60 _ _ _ _ _ _ _ H locs ls hF hH hl
        · have hF := itp c9 hF
          refine lv_aload_n hx hb dX9_bars_39 rfl (lv_at hl 0 rfl) ?_
          refine lv_aload_n hx hb dX9_bars_40 rfl (lv_at hl 0 rfl) ?_
          refine rg_bars hX hK hH dX9_bars_41 ?_
          obtain ⟨w, hw, hm⟩ := hH
          refine mxV hX hK hEv hE0 hm (met_J2_sizeN hEv hw.lsn) (precv (plin w) hK hm 17 rfl hw.lsn.obj) (lw_V q662 q423 q424 q134 q425) (n := 0) ⟨rfl, by decide, by decide, by decide +kernel⟩ ⟨Nat.le_of_ble_eq_true rfl, Nat.le_of_ble_eq_true rfl⟩ rfl rfl hl (Nat.le_of_ble_eq_true rfl) dX9_bars_44 ⟨by dsimp only; omega, by dsimp only; omega⟩ (fun w2 H locs hw2 hm => ?_)
          rw [hw2] at hm
          have hH : RHG (RWP cA ra x0 tp size tape fw lo2 ta ba2 v2_at v2_begin v2_token v2_value v2_open v2_fault v2_place u znb zbo) D A s.heap H locs := ⟨_, hw, hm⟩
          refine lv_bipush (v := 8) hx hb dX9_bars_47 kyb_8 ?_
          refine lv_icmp_ne (tgt := 56) hx hb dX9_bars_49 rfl (fun c8 => ?_) (fun c8 => ?_)
          · have hF := itn c8 hF
            obtain ⟨a_at, a_begin, a_token, a_value, a_fault, a_place, he, hF⟩ := bd6e hF
            refine lv_iconst (v := 0) hx hb dX9_bars_56 kyi_0 ?_
            refine rxV hX hK hEv hE0 hH (met_X9_space hE he) (lw_V q663 q665 qs8 q143 q666) (n := 1) ⟨rfl, by decide, by decide, by decide +kernel⟩ ⟨Nat.le_of_ble_eq_true rfl, Nat.le_of_ble_eq_true rfl⟩ rfl rfl hl (Nat.le_of_ble_eq_true rfl) dX9_bars_57 ⟨by dsimp only; omega, by dsimp only; omega⟩ (fun H locs hH => ?_)
            exact c60 _ _ _ _ _ _ _ H locs ls hF hH hl
          · have hF := itp c8 hF
            obtain ⟨a_at, a_begin, a_token, a_value, a_fault, a_place, he, hF⟩ := bd6e hF
            refine lv_iconst (v := 1) hx hb dX9_bars_52 kyi_1 ?_
            refine lv_goto (tgt := 57) hx hb dX9_bars_53 rfl ?_
            refine rxV hX hK hEv hE0 hH (met_X9_space hE he) (lw_V q663 q665 qs8 q143 q666) (n := 1) ⟨rfl, by decide, by decide, by decide +kernel⟩ ⟨Nat.le_of_ble_eq_true rfl, Nat.le_of_ble_eq_true rfl⟩ rfl rfl hl (Nat.le_of_ble_eq_true rfl) dX9_bars_57 ⟨by dsimp only; omega, by dsimp only; omega⟩ (fun H locs hH => ?_)
            exact c60 _ _ _ _ _ _ _ H locs ls hF hH hl
      delta FX9_bars_b at hF
      refine lv_aload_n hx hb dX9_bars_4 rfl (lv_at hl 0 rfl) ?_
      refine rg_fault hX hK hH dX9_bars_5 ?_
      refine lv_if_ne (tgt := 87) hx hb dX9_bars_8 rfl (fun c9 => ?_) (fun c9 => ?_)
      · have hF := itn c9 hF
        obtain rfl := Option.some.inj hF
        exact fin _ _ _ (congrArg some (Eq.symm hY)) hH
      · have hF := itp c9 hF
        refine lv_aload_n hx hb dX9_bars_11 rfl (lv_at hl 0 rfl) ?_
        refine rg_token hX hK hH dX9_bars_12 ?_
        refine lv_if_eq (tgt := 87) hx hb dX9_bars_15 rfl (fun c8 => ?_) (fun c8 => ?_)
        · have hF := itp c8 hF
          obtain rfl := Option.some.inj hF
          exact fin _ _ _ (congrArg some (Eq.symm hY)) hH
        · have hF := itn c8 hF
          obtain ⟨b, he, hF⟩ := bd1e hF
          refine lv_aload_n hx hb dX9_bars_18 rfl (lv_at hl 0 rfl) ?_
          refine va_ldcS (tx := "bar") hx hb hown (hE.r226 _ _ _ hE0) dX9_bars_19 ?_
          refine rxV hX hK hEv hE0 hH (met_X9_is hE hE.s226 he) (lw_V q608 q610 qs6 q143 q611) (n := 1) ⟨rfl, by decide, by decide, by decide +kernel⟩ ⟨Nat.le_of_ble_eq_true rfl, Nat.le_of_ble_eq_true rfl⟩ rfl rfl hl (Nat.le_of_ble_eq_true rfl) dX9_bars_21 ⟨by dsimp only; omega, by dsimp only; omega⟩ (fun H locs hH => ?_)
          refine lv_if_ne (tgt := 32) hx hb dX9_bars_24 rfl (fun c7 => ?_) (fun c7 => ?_)
          · have hF := itn c7 hF
            exact s32 _ _ _ _ _ _ _ _ _ _ hF hH hl
          · have hF := itp c7 hF
            obtain ⟨x_fault, x_place, he, hF⟩ := bd2e hF
            refine lv_aload_n hx hb dX9_bars_27 rfl (lv_at hl 0 rfl) ?_
            refine lv_iconst (v := 2) hx hb dX9_bars_28 kyi_2 ?_
            refine rxV hX hK hEv hE0 hH (met_X9_wrong hE he) (lw_V q667 q669 qs9 q143 q670) (n := 1) ⟨rfl, by decide, by decide, by decide +kernel⟩ ⟨Nat.le_of_ble_eq_true rfl, Nat.le_of_ble_eq_true rfl⟩ rfl rfl hl (Nat.le_of_ble_eq_true rfl) dX9_bars_29 ⟨by dsimp only; omega, by dsimp only; omega⟩ (fun H locs hH => ?_)
            exact s32 _ _ _ _ _ _ _ _ _ _ hF hH hl
  have hk1 := bars_mono nn _ _ _ _ _ _ _ _ _ _ en
  refine lv_aload_n hx hb dX9_bars_0 rfl (lv_at hl 0 rfl) ?_
  refine rxV hX hK hEv hE0 hH (met_X9_next hE he) (lw_V q582 q584 qs1 q143 q585) (n := 0) ⟨rfl, by decide, by decide, by decide +kernel⟩ ⟨Nat.le_of_ble_eq_true rfl, Nat.le_of_ble_eq_true rfl⟩ rfl rfl hl (Nat.le_of_ble_eq_true rfl) dX9_bars_1 ⟨by dsimp only; omega, by dsimp only; omega⟩ (fun H locs hH => ?_)
  exact loop nn _ _ _ _ _ _ _ _ _ 0 lo ba en _ _ _ (fun q hq => hq) hH hl
theorem re8t {a1 a2 a3 a4 a5 a6 b1 b2 b3 b4 b5 b6 : Int32} {f g : Nat → Int32} {k j : Nat} (h : some (a1, a2, a3, a4, a5, a6, f, k) = some (b1, b2, b3, b4, b5, b6, g, j)) : a1 = b1 ∧ a2 = b2 ∧ a3 = b3 ∧ a4 = b4 ∧ a5 = b5 ∧ a6 = b6 ∧ f = g ∧ k = j := re8 h
theorem town_mono {size : Int32} {tape : Nat → Int32} {r_at r_begin r_token r_value r_fault r_place : Int32} {ru : Nat → Int32} {k : Nat} : ∀ (n : Nat) (v_at v_begin v_token v_value v_fault v_place : Int32) (u : Nat → Int32) (k2 : Nat), loopN (fun (s : Int32 × Int32 × Int32 × Int32 × Int32 × Int32 × (Nat → Int32) × Nat) => FX9_town_b size tape s.1 s.2.1 s.2.2.1 s.2.2.2.1 s.2.2.2.2.1 s.2.2.2.2.2.1 s.2.2.2.2.2.2.1 s.2.2.2.2.2.2.2) n (v_at, v_begin, v_token, v_value, v_fault, v_place, u, k2) = some (r_at, r_begin, r_token, r_value, r_fault, r_place, ru, k) → k2 ≤ k := by
  intro n
  induction n with
  | zero => intro v_at v_begin v_token v_value v_fault v_place u k2 h; exact absurd h loopN_zero
  | succ n ih =>
    intro v_at v_begin v_token v_value v_fault v_place u k2 h
    obtain ⟨yy, hB, hY⟩ := loopN_succ h
    have hF : FX9_town_b size tape v_at v_begin v_token v_value v_fault v_place u k2 = some yy := hB
    unfold FX9_town_b at hF
    split at hF
    · split at hF
      · obtain rfl := Option.some.inj hF
        have := (re8t (congrArg some (show _ = _ from hY))).2.2.2.2.2.2.2
        omega
      · obtain ⟨a1, a2, a3, a4, a5, a6, a7, -, hF⟩ := bd7e hF
        obtain ⟨c1, c2, c3, c4, c5, c6, -, hF⟩ := bd6e hF
        obtain rfl := Option.some.inj hF
        have := ih _ _ _ _ _ _ _ _ hY
        omega
    · obtain rfl := Option.some.inj hF
      have := (re8t (congrArg some (show _ = _ from hY))).2.2.2.2.2.2.2
      omega
set_option maxHeartbeats 4000000 in
theorem met_X9_town {l : Launch} {D : va_G} {cA : Nat → ClassId} {ra x0 tp : Nat} {size : Int32} {tape : Nat → Int32} {fw : va_W} {lo : va_W} {ta ba : Nat → Nat} {v_at v_begin v_token v_value v_open v_fault v_place : Int32} {u : Nat → Int32} {nb : Int32} {bo : Nat → FcT} {r_at r_begin r_token r_value r_fault r_place : Int32} {ru : Nat → Int32} {k : Nat} {E : EvT} {ks vs : Nat → Nat} {fo mi : Nat} (hE : EvR E ks vs fo mi) (hF : FX9_town size tape v_at v_value v_fault v_place u = some (r_at, r_begin, r_token, r_value, r_fault, r_place, ru, k)) : RX l yX9_town (ws_ yX9_town cX9_town 1 (Option.none : Option Jvm.ClassFile.FieldType)) (rm_X9_town k) D cA E [.ref ra] (RWP cA ra x0 tp size tape fw lo ta ba v_at v_begin v_token v_value v_open v_fault v_place u nb bo) (fun z => ∃ (lo' : va_W) (ta' : Nat → Nat), (∀ q ∈ lo, q ∈ lo') ∧ (RWP cA ra x0 tp size tape fw lo' ta' ba r_at r_begin r_token r_value v_open r_fault r_place ru nb bo) z) none := by
  refine RX.ofV (by decide) (Nat.le_of_ble_eq_true rfl) ?_
  intro p e s m args below meth c Q A hX hK hE0 hname hret H locs ls hH hl
  have hX : CallFix p m c cX9_town 1 s args lw_all RX9 := hX
  have hx := hX.1
  have hb := hX.2.1
  have hown := hX.2.2.2.1
  have hts := hX.2.2.2.2
  have hEv := hE.1.1.1
  have hNW := hE.1.1.2.1 _ _ _ hE0
  have hl : lv_has ls 1 [(0, .ref ra)] := hl
  delta FX9_town at hF
  obtain ⟨x_at, x_begin, x_token, x_value, he, hF⟩ := bd4e hF
  obtain ⟨nn, en⟩ := loopC_some hF
  have loop : ∀ (n : Nat) (z_at z_begin z_token z_value z_fault z_place : Int32) (zu : Nat → Int32) (k2 : Nat) (lo2 : va_W) (ta2 : Nat → Nat), loopN (fun (s : Int32 × Int32 × Int32 × Int32 × Int32 × Int32 × (Nat → Int32) × Nat) => FX9_town_b size tape s.1 s.2.1 s.2.2.1 s.2.2.2.1 s.2.2.2.2.1 s.2.2.2.2.2.1 s.2.2.2.2.2.2.1 s.2.2.2.2.2.2.2) n (z_at, z_begin, z_token, z_value, z_fault, z_place, zu, k2) = some (r_at, r_begin, r_token, r_value, r_fault, r_place, ru, k) → ∀ (H : Heap) (locs : List Loc) (ls : Array Slot), (∀ q ∈ lo, q ∈ lo2) → RHG (RWP cA ra x0 tp size tape fw lo2 ta2 ba z_at z_begin z_token z_value v_open z_fault z_place zu nb bo) D A s.heap H locs → lv_has ls 1 [(0, .ref ra)] → W p l e (rm_X9_town k) s m args below meth c H locs (3 * k2) (28 * k2) Q (F0 m 4 ls []) := by
    intro n
    induction n with
    | zero => intro z_at z_begin z_token z_value z_fault z_place zu k2 lo2 ta2 hN; exact absurd hN loopN_zero
    | succ n ih =>
      intro z_at z_begin z_token z_value z_fault z_place zu k2 lo2 ta2 hN H locs ls hlo hH hl
      have hk2 := town_mono (n + 1) _ _ _ _ _ _ _ _ hN
      obtain ⟨yy, hB, hY⟩ := loopN_succ hN
      have hF : FX9_town_b size tape z_at z_begin z_token z_value z_fault z_place zu k2 = some yy := hB
      have fin : ∀ (H : Heap) (locs : List Loc) (ls : Array Slot), some (z_at, z_begin, z_token, z_value, z_fault, z_place, zu, k2) = some (r_at, r_begin, r_token, r_value, r_fault, r_place, ru, k) → RHG (RWP cA ra x0 tp size tape fw lo2 ta2 ba z_at z_begin z_token z_value v_open z_fault z_place zu nb bo) D A s.heap H locs → W p l e (rm_X9_town k) s m args below meth c H locs (3 * k2) (28 * k2) Q (F0 m 42 ls []) := by
        intro H locs ls h hH
        obtain ⟨h1, h2, h3, h4, h5, h6, h7, h8⟩ := re8t h
        subst h1 h2 h3 h4 h5 h6 h7 h8
        obtain ⟨w, hw, hm⟩ := hH
        exact hret _ _ _ _ ⟨w, ⟨lo2, ta2, hlo, hw⟩, hm⟩ dX9_town_42
      delta FX9_town_b at hF
      refine lv_aload_n hx hb dX9_town_4 rfl (lv_at hl 0 rfl) ?_
      refine rg_fault hX hK hH dX9_town_5 ?_
      refine lv_if_ne (tgt := 42) hx hb dX9_town_8 rfl (fun c9 => ?_) (fun c9 => ?_)
      · have hF := itn c9 hF
        obtain rfl := Option.some.inj hF
        exact fin _ _ _ (congrArg some (Eq.symm hY)) hH
      · have hF := itp c9 hF
        refine lv_aload_n hx hb dX9_town_11 rfl (lv_at hl 0 rfl) ?_
        refine rg_token hX hK hH dX9_town_12 ?_
        refine lv_if_eq (tgt := 42) hx hb dX9_town_15 rfl (fun c8 => ?_) (fun c8 => ?_)
        · have hF := itp c8 hF
          obtain rfl := Option.some.inj hF
          exact fin _ _ _ (congrArg some (Eq.symm hY)) hH
        · have hF := itn c8 hF
          obtain ⟨a_at, a_begin, a_token, a_value, a_fault, a_place, u1, he, hF⟩ := bd7e hF
          obtain ⟨b_at, b_begin, b_token, b_value, b_fault, b_place, he2, hF⟩ := bd6e hF
          obtain rfl := Option.some.inj hF
          have hN2 : loopN (fun (s : Int32 × Int32 × Int32 × Int32 × Int32 × Int32 × (Nat → Int32) × Nat) => FX9_town_b size tape s.1 s.2.1 s.2.2.1 s.2.2.2.1 s.2.2.2.2.1 s.2.2.2.2.2.1 s.2.2.2.2.2.2.1 s.2.2.2.2.2.2.2) n (b_at, b_begin, b_token, b_value, b_fault, b_place, upd u1 379 (u1 379 + 1), k2 + 1) = some (r_at, r_begin, r_token, r_value, r_fault, r_place, ru, k) := hY
          have hk3 := town_mono n _ _ _ _ _ _ _ _ hN2
          refine lv_aload_n hx hb dX9_town_18 rfl (lv_at hl 0 rfl) ?_
          refine rxV hX hK hEv hE0 hH (met_X9_line hE he) (lw_V q603 q605 qs5 q143 q606) (n := 0) ⟨rfl, by decide, by decide, by decide +kernel⟩ ⟨Nat.le_of_ble_eq_true rfl, Nat.le_of_ble_eq_true rfl⟩ rfl rfl hl (Nat.le_of_ble_eq_true rfl) dX9_town_19 ⟨by dsimp only; omega, by dsimp only; omega⟩ (fun H locs hH => ?_)
          obtain ⟨w, ⟨lo3, ta3, hlo3, hw⟩, hm⟩ := hH
          have hH : RHG (RWP cA ra x0 tp size tape fw lo3 ta3 ba a_at a_begin a_token a_value v_open a_fault a_place u1 nb bo) D A s.heap H locs := ⟨_, hw, hm⟩
          have he := he2
          refine lv_aload_n hx hb dX9_town_22 rfl (lv_at hl 0 rfl) ?_
          refine rxV hX hK hEv hE0 hH (met_X9_over hE he) (lw_V q878 q880 qs21 q143 q881) (n := 0) ⟨rfl, by decide, by decide, by decide +kernel⟩ ⟨Nat.le_of_ble_eq_true rfl, Nat.le_of_ble_eq_true rfl⟩ rfl rfl hl (Nat.le_of_ble_eq_true rfl) dX9_town_23 ⟨by dsimp only; omega, by dsimp only; omega⟩ (fun H locs hH => ?_)
          refine lv_aload_n hx hb dX9_town_26 rfl (lv_at hl 0 rfl) ?_
          refine rg_town hX hK hH dX9_town_27 ?_
          refine lv_dup hx hb dX9_town_30 rfl ?_
          obtain ⟨w, hw, hm⟩ := hH
          refine cg_Y_Reader_town_lines hw.town (plin w) hX hK hNW hm dX9_town_31 ?_
          have hH : RHG (RWP cA ra x0 tp size tape fw lo3 ta3 ba b_at b_begin b_token b_value v_open b_fault b_place u1 nb bo) D A s.heap H locs := ⟨_, hw, hm⟩
          refine lv_iconst (v := 1) hx hb dX9_town_34 kyi_1 ?_
          refine lv_iadd hx hb dX9_town_35 ?_
          refine rp_lines hX hK hH hNW dX9_town_36 (fun H locs hH => ?_)
          refine lv_goto (tgt := 4) hx hb dX9_town_39 rfl ?_
          refine W.widen (k := 3 * (k2 + 1)) (n := 28 * (k2 + 1)) (by dsimp only; omega) (by dsimp only; omega) ?_
          exact ih _ _ _ _ _ _ _ _ lo3 ta3 hN2 _ _ _ (fun q hq => hlo3 q (hlo q hq)) hH hl
  have hk1 := town_mono nn _ _ _ _ _ _ _ _ en
  refine lv_aload_n hx hb dX9_town_0 rfl (lv_at hl 0 rfl) ?_
  refine rxV hX hK hEv hE0 hH (met_X9_next hE he) (lw_V q582 q584 qs1 q143 q585) (n := 0) ⟨rfl, by decide, by decide, by decide +kernel⟩ ⟨Nat.le_of_ble_eq_true rfl, Nat.le_of_ble_eq_true rfl⟩ rfl rfl hl (Nat.le_of_ble_eq_true rfl) dX9_town_1 ⟨by dsimp only; omega, by dsimp only; omega⟩ (fun H locs hH => ?_)
  exact loop nn _ _ _ _ _ _ _ 0 lo ta en _ _ _ (fun q hq => hq) hH hl
