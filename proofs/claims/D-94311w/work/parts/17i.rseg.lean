
theorem rr_p1 {α : Type} (x E R L : List α) : (x ++ (E ++ (R ++ L))).Perm (E ++ (R ++ (x ++ L))) := by
  rw [← List.append_assoc E, ← List.append_assoc x, ← List.append_assoc E R (x ++ L), ← List.append_assoc (E ++ R)]
  exact List.Perm.append_right L List.perm_append_comm
theorem rr_p2 {α : Type} (h Z R M : List α) : ((h ++ Z) ++ (R ++ M)).Perm (h ++ ((R ++ Z) ++ M)) := by
  rw [List.append_assoc]
  refine List.Perm.append_left h ?_
  rw [← List.append_assoc]
  exact List.Perm.append_right M List.perm_append_comm
theorem rr_clamp {x : Int32} {n m : Nat} (h : x = nI n) (hn : n ≤ m) (hm : m < 2147483648) : x.toNatClampNeg = n := by rw [h]; exact nI_clamp (by omega)
theorem addRow_ne {u : Nat → Int32} {z : Int32} {n k : Nat} (h : (u 0).toNatClampNeg = n) (h1 : k ≠ 0 ∧ k ≠ 1 + n ∧ k ≠ 31 + n ∧ k ≠ 36 + n ∧ k ≠ 210 + n ∧ ¬ (41 + 3 * n ≤ k ∧ k < 44 + 3 * n)) : addRow u z k = u k := by
  unfold addRow
  rw [h, if_neg h1.1, if_neg h1.2.1, if_neg (by omega), if_neg h1.2.2.2.2.1, if_neg h1.2.2.2.2.2]
theorem addStone_ne {u : Nat → Int32} {a b c d : Int32} {n k : Nat} (h : (u 6).toNatClampNeg = n) (h1 : k ≠ 6 ∧ k ≠ 7 + n ∧ k ≠ 15 + n ∧ k ≠ 200 + n ∧ k ≠ 23 + n) : addStone u a b c d k = u k := by
  unfold addStone
  rw [h, if_neg h1.1, if_neg h1.2.1, if_neg h1.2.2.1, if_neg h1.2.2.2.1, if_neg h1.2.2.2.2]
theorem addMust_ne {u : Nat → Int32} {a b c : Int32} {n k : Nat} (h : (u 56).toNatClampNeg = n) (h1 : k ≠ 56 ∧ k ≠ 57 + n ∧ k ≠ 63 + n ∧ k ≠ 69 + n) : addMust u a b c k = u k := by
  unfold addMust
  rw [h, if_neg h1.1, if_neg h1.2.1, if_neg h1.2.2.1, if_neg h1.2.2.2]
/-- the number of a list and one -/
theorem nI_s {x : Int32} {n : Nat} (h : x = nI n) : x + 1 = nI (n + 1) := by rw [h, ← nI_1 n]

theorem muC_ci {ta : Nat → Nat} {u : Nat → Int32} {i : Nat} {lo : va_W} (h : muC ta u i ∈ lo) : ((ta (40 + i), .inr (if u (57 + i) = 0 then 12 else 13, [.int (u (63 + i)), .int (u (69 + i))])) : Nat × va_E) ∈ lo := by
  unfold muC at h
  by_cases c : u (57 + i) = 0
  · rw [if_pos c] at h ⊢; exact h
  · rw [if_neg c] at h ⊢; exact h
section RSG
variable {p : Program} {l : Launch} {e : Env} {R : Room} {s : State} {m : MethodId} {args : Array Value} {below : List Frame} {meth : Method} {c : Code} {H : Heap} {locs : List Loc} {cells slots : Nat} {Q : State → Prop}
variable {D : va_G} {A : Nat → Prop} {H0 : Heap} {pc : Nat} {ls : Array Slot} {rest st0 : List Value} {nL : Nat} {own : String} {lv : List (Nat × Value)} {index : Nat}
variable {cA : Nat → ClassId} {ra x0 tp : Nat} {size : Int32} {tape : Nat → Int32} {fw : va_W} {lo : va_W} {ta ba : Nat → Nat} {v_at v_begin v_token v_value v_open v_fault v_place : Int32} {u : Nat → Int32} {nb : Int32} {bo : Nat → FcT}
theorem rs_addRow {E : EvT} {ks vs : Nat → Nat} {fo mi : Nat} {z : Int32} (hX : CallFix p m c cX9_row 2 s args lw_all RX9) (hK : va_K D vwA (cT cA) s) (hE : EvR E ks vs fo mi) (hE0 : E A s H0) (hH : RHG (RWP cA ra x0 tp size tape fw lo ta ba v_at v_begin v_token v_value v_open v_fault v_place u nb bo) D A H0 H locs) (hg : upto 4 (u 0) = some ()) (hl : lv_has ls 2 lv) (h0 : ls[0]? = some (.val (.ref ra))) (h1 : ls[1]? = some (.val (.int z))) (hR : 14 ≤ R.frames ∧ 520 ≤ R.locals) (hf : cells + 3 ≤ R.cells ∧ slots + 28 ≤ R.slots)
    (kk : ∀ (lo' : va_W) (ta' : Nat → Nat) (H1 : Heap) (locs1 : List Loc), (∀ q ∈ lo, q ∈ lo') → RHG (RWP cA ra x0 tp size tape fw lo' ta' ba v_at v_begin v_token v_value v_open v_fault v_place (addRow u z) nb bo) D A H0 H1 locs1 → W p l e R s m args below meth c H1 locs1 (cells + 3) (slots + 28) Q (F0 m 56 ls [])) : W p l e R s m args below meth c H locs cells slots Q (F0 m 38 ls [.ref ra]) := by
  have hx := hX.1
  have hb := hX.2.1
  have hown := hX.2.2.2.1
  have hts := hX.2.2.2.2
  have hEv := hE.1.1.1
  have hNW := hE.1.1.2.1 _ _ _ hE0
  refine rg_town hX hK hH dX9_row_38 ?_
  obtain ⟨w, hw, hm⟩ := hH
  refine cg_Y_Reader_town_rows hw.town (plin w) hX hK hNW hm dX9_row_41 ?_
  obtain ⟨nr, ns, nm, nn, mr, ms, mm, mb, cr, cs, cm, cb, fr, fs, fm, fb, g, rfl, ⟨er, es, em, en, l1, l2, l3, l4⟩, ⟨hLr, hLs, hLm, c2, c12, cn, hB⟩, hg3, hst, hmu, hO⟩ := hw
  obtain ⟨n9, hn4, e9⟩ := upto_nI hg (by decide)
  obtain rfl : n9 = nr := (nI_eq (by omega) (by omega)).mp (e9.symm.trans er)
  have ec : (u 0).toNatClampNeg = n9 := rr_clamp er hn4 (by decide)
  refine va_new (ci := 10) (fs := [.int 0, .null, .int 0, .int 0, .int 0]) (C := RX10) (T := TX10) (N := 5) hX.1 hX.2.1 hX.2.2.2.2 in_X10 tyX10 tyX10_ok hX.2.2.2.1 (hts _ q679) (hts _ q680) (hts _ q147) hK hm.1 hm.2.1 hm.2.2.1 hm.2.2.2 rfl df_X10 (by have := hf.1; omega) (by have := hf.2; omega) dX9_row_44 (fun q0 H hP hD hS => ?_)
  have hm := MH.perm (List.perm_append_comm) (show MH D vwA A H0 _ H locs from ⟨hP, hD, hS, hm.2.2.2⟩)
  refine lv_dup hx hb dX9_row_47 rfl ?_
  refine lv_iload_n hx hb dX9_row_48 rfl h1 ?_
  refine mxCI hX hK hEv hE0 hm (met_X10_init hE.1.1) q683 q147 q681 q682 rfl hdi_yX10_init ⟨Nat.le_trans (m := 14) (Nat.le_of_ble_eq_true rfl) hR.1, Nat.le_trans (m := 520) (Nat.le_of_ble_eq_true rfl) hR.2⟩ rfl rfl hl (Nat.le_of_ble_eq_true rfl) dX9_row_49 ⟨by have := hf.1; show cells + 2 ≤ R.cells; omega, by have := hf.2; show slots + 8 ≤ R.slots; omega⟩ (fun w2 H locs hw hm => ?_)
  obtain ⟨q1, rfl⟩ := hw
  have hm : MH D vwA A H0 ([(q0, .inr (10, [.int z, .ref q1, .int (-1), .int (-1), .int 0])), (q1, .inl (cA 45, 3, .inl (upd (upd (upd (fun _ => 0) (0 : Int32).toNatClampNeg (-1)) (1 : Int32).toNatClampNeg (-1)) (2 : Int32).toNatClampNeg (-1)))), rdC ra x0 size ta ba v_at v_begin v_token v_value v_open v_fault v_place, tnC ta u, LC (ta 1) mr (ta 2) (u 0), QA cA (ta 2) cr fr, LC (ta 3) ms (ta 4) (u 6), QA cA (ta 4) cs fs, LC (ta 5) mm (ta 6) (u 56), QA cA (ta 6) cm fm, LC (ba 0) mb (ba 1) nb, QA cA (ba 1) cb fb] ++ (RCs cA ta u g n9 ++ (lo ++ fw))) H locs := hm
  have hm : MH D vwA A H0 ([LC (ta 1) mr (ta 2) (u 0), QA cA (ta 2) cr fr] ++ ([(q0, .inr (10, [.int z, .ref q1, .int (-1), .int (-1), .int 0])), (q1, .inl (cA 45, 3, .inl (upd (upd (upd (fun _ => 0) (0 : Int32).toNatClampNeg (-1)) (1 : Int32).toNatClampNeg (-1)) (2 : Int32).toNatClampNeg (-1)))), rdC ra x0 size ta ba v_at v_begin v_token v_value v_open v_fault v_place, tnC ta u, LC (ta 3) ms (ta 4) (u 6), QA cA (ta 4) cs fs, LC (ta 5) mm (ta 6) (u 56), QA cA (ta 6) cm fm, LC (ba 0) mb (ba 1) nb, QA cA (ba 1) cb fb] ++ (RCs cA ta u g n9 ++ (lo ++ fw)))) H locs := MH.reorder [(q0, .inr (10, [.int z, .ref q1, .int (-1), .int (-1), .int 0])), (q1, .inl (cA 45, 3, .inl (upd (upd (upd (fun _ => 0) (0 : Int32).toNatClampNeg (-1)) (1 : Int32).toNatClampNeg (-1)) (2 : Int32).toNatClampNeg (-1)))), rdC ra x0 size ta ba v_at v_begin v_token v_value v_open v_fault v_place, tnC ta u, LC (ta 1) mr (ta 2) (u 0), QA cA (ta 2) cr fr, LC (ta 3) ms (ta 4) (u 6), QA cA (ta 4) cs fs, LC (ta 5) mm (ta 6) (u 56), QA cA (ta 6) cm fm, LC (ba 0) mb (ba 1) nb, QA cA (ba 1) cb fb] [LC (ta 1) mr (ta 2) (u 0), QA cA (ta 2) cr fr, (q0, .inr (10, [.int z, .ref q1, .int (-1), .int (-1), .int 0])), (q1, .inl (cA 45, 3, .inl (upd (upd (upd (fun _ => 0) (0 : Int32).toNatClampNeg (-1)) (1 : Int32).toNatClampNeg (-1)) (2 : Int32).toNatClampNeg (-1)))), rdC ra x0 size ta ba v_at v_begin v_token v_value v_open v_fault v_place, tnC ta u, LC (ta 3) ms (ta 4) (u 6), QA cA (ta 4) cs fs, LC (ta 5) mm (ta 6) (u 56), QA cA (ta 6) cm fm, LC (ba 0) mb (ba 1) nb, QA cA (ba 1) cb fb] [4, 5, 0, 1, 2, 3, 6, 7, 8, 9, 10, 11] (n := 12) (by decide) rfl rfl hm
  have hm : MH D vwA A H0 ([LC (ta 1) mr (ta 2) (nI n9), QA cA (ta 2) cr fr] ++ ([(q0, .inr (10, [.int z, .ref q1, .int (-1), .int (-1), .int 0])), (q1, .inl (cA 45, 3, .inl (upd (upd (upd (fun _ => 0) (0 : Int32).toNatClampNeg (-1)) (1 : Int32).toNatClampNeg (-1)) (2 : Int32).toNatClampNeg (-1)))), rdC ra x0 size ta ba v_at v_begin v_token v_value v_open v_fault v_place, tnC ta u, LC (ta 3) ms (ta 4) (u 6), QA cA (ta 4) cs fs, LC (ta 5) mm (ta 6) (u 56), QA cA (ta 6) cm fm, LC (ba 0) mb (ba 1) nb, QA cA (ba 1) cb fb] ++ (RCs cA ta u g n9 ++ (lo ++ fw)))) H locs := by rw [← er]; exact hm
  refine mxV hX hK hEv hE0 hm (met_J2_add (o := some q0) (n := n9) (cap := cr) hE.1 hLr.1 hLr.2.1 (by omega) hLr.2.2.1 (fun i hi y hy => by
    rw [hLr.2.2.2 i hi] at hy
    cases hy
    exact ⟨10, _, by decide, by decide, List.mem_append_right _ (List.mem_append_left _ (RCs.mem hi (List.mem_of_getElem? (i := 0) rfl)))⟩) (fun y hy => by
    cases hy
    exact ⟨_, _, by decide, by decide, List.mem_append_left _ (List.mem_of_getElem? (i := 0) rfl)⟩)) (crecv hK hm 0 17 rfl rfl) (lw_V q714 q715 q716 q134 q717) (n := 1) ⟨rfl, by decide, by decide, by decide +kernel⟩ ⟨Nat.le_trans (m := 14) (Nat.le_of_ble_eq_true rfl) hR.1, Nat.le_trans (m := 520) (Nat.le_of_ble_eq_true rfl) hR.2⟩ rfl rfl hl (Nat.le_of_ble_eq_true rfl) dX9_row_52 ⟨by have := hf.1; show cells + 3 ≤ R.cells; omega, by have := hf.2; show slots + 28 ≤ R.slots; omega⟩ (fun w3 H locs hw hm => ?_)
  obtain ⟨e1, cap1, f1, xs, k1, k2, k3, k4, k5, rfl⟩ := hw
  refine lv_pop hx hb dX9_row_55 rfl ?_
  have hm := MH.perm (List.Perm.append_left [LC (ta 1) (mr + 1) e1 (nI (n9 + 1)), QA cA e1 cap1 f1] (rr_p1 xs [(q0, .inr (10, [.int z, .ref q1, .int (-1), .int (-1), .int 0])), (q1, .inl (cA 45, 3, .inl (upd (upd (upd (fun _ => 0) (0 : Int32).toNatClampNeg (-1)) (1 : Int32).toNatClampNeg (-1)) (2 : Int32).toNatClampNeg (-1)))), rdC ra x0 size ta ba v_at v_begin v_token v_value v_open v_fault v_place, tnC ta u, LC (ta 3) ms (ta 4) (u 6), QA cA (ta 4) cs fs, LC (ta 5) mm (ta 6) (u 56), QA cA (ta 6) cm fm, LC (ba 0) mb (ba 1) nb, QA cA (ba 1) cb fb] (RCs cA ta u g n9) (lo ++ fw))) hm
  have hm : MH D vwA A H0 ([LC (ta 1) (mr + 1) e1 (nI (n9 + 1)), QA cA e1 cap1 f1, (q0, .inr (10, [.int z, .ref q1, .int (-1), .int (-1), .int 0])), (q1, .inl (cA 45, 3, .inl (upd (upd (upd (fun _ => 0) (0 : Int32).toNatClampNeg (-1)) (1 : Int32).toNatClampNeg (-1)) (2 : Int32).toNatClampNeg (-1)))), rdC ra x0 size ta ba v_at v_begin v_token v_value v_open v_fault v_place, tnC ta u, LC (ta 3) ms (ta 4) (u 6), QA cA (ta 4) cs fs, LC (ta 5) mm (ta 6) (u 56), QA cA (ta 6) cm fm, LC (ba 0) mb (ba 1) nb, QA cA (ba 1) cb fb] ++ (RCs cA ta u g n9 ++ (xs ++ (lo ++ fw)))) H locs := hm
  have hm := MH.reorder [LC (ta 1) (mr + 1) e1 (nI (n9 + 1)), QA cA e1 cap1 f1, (q0, .inr (10, [.int z, .ref q1, .int (-1), .int (-1), .int 0])), (q1, .inl (cA 45, 3, .inl (upd (upd (upd (fun _ => 0) (0 : Int32).toNatClampNeg (-1)) (1 : Int32).toNatClampNeg (-1)) (2 : Int32).toNatClampNeg (-1)))), rdC ra x0 size ta ba v_at v_begin v_token v_value v_open v_fault v_place, tnC ta u, LC (ta 3) ms (ta 4) (u 6), QA cA (ta 4) cs fs, LC (ta 5) mm (ta 6) (u 56), QA cA (ta 6) cm fm, LC (ba 0) mb (ba 1) nb, QA cA (ba 1) cb fb] [rdC ra x0 size ta ba v_at v_begin v_token v_value v_open v_fault v_place, tnC ta u, LC (ta 1) (mr + 1) e1 (nI (n9 + 1)), QA cA e1 cap1 f1, LC (ta 3) ms (ta 4) (u 6), QA cA (ta 4) cs fs, LC (ta 5) mm (ta 6) (u 56), QA cA (ta 6) cm fm, LC (ba 0) mb (ba 1) nb, QA cA (ba 1) cb fb, (q0, .inr (10, [.int z, .ref q1, .int (-1), .int (-1), .int 0])), (q1, .inl (cA 45, 3, .inl (upd (upd (upd (fun _ => 0) (0 : Int32).toNatClampNeg (-1)) (1 : Int32).toNatClampNeg (-1)) (2 : Int32).toNatClampNeg (-1))))] [4, 5, 0, 1, 6, 7, 8, 9, 10, 11, 2, 3] (n := 12) (by decide) rfl rfl hm
  have hm : MH D vwA A H0 (([rdC ra x0 size ta ba v_at v_begin v_token v_value v_open v_fault v_place, tnC ta u, LC (ta 1) (mr + 1) e1 (nI (n9 + 1)), QA cA e1 cap1 f1, LC (ta 3) ms (ta 4) (u 6), QA cA (ta 4) cs fs, LC (ta 5) mm (ta 6) (u 56), QA cA (ta 6) cm fm, LC (ba 0) mb (ba 1) nb, QA cA (ba 1) cb fb] ++ [(q0, .inr (10, [.int z, .ref q1, .int (-1), .int (-1), .int 0])), (q1, .inl (cA 45, 3, .inl (upd (upd (upd (fun _ => 0) (0 : Int32).toNatClampNeg (-1)) (1 : Int32).toNatClampNeg (-1)) (2 : Int32).toNatClampNeg (-1))))]) ++ (RCs cA ta u g n9 ++ (xs ++ (lo ++ fw)))) H locs := hm
  have hm := MH.perm (rr_p2 [rdC ra x0 size ta ba v_at v_begin v_token v_value v_open v_fault v_place, tnC ta u, LC (ta 1) (mr + 1) e1 (nI (n9 + 1)), QA cA e1 cap1 f1, LC (ta 3) ms (ta 4) (u 6), QA cA (ta 4) cs fs, LC (ta 5) mm (ta 6) (u 56), QA cA (ta 6) cm fm, LC (ba 0) mb (ba 1) nb, QA cA (ba 1) cb fb] [(q0, .inr (10, [.int z, .ref q1, .int (-1), .int (-1), .int 0])), (q1, .inl (cA 45, 3, .inl (upd (upd (upd (fun _ => 0) (0 : Int32).toNatClampNeg (-1)) (1 : Int32).toNatClampNeg (-1)) (2 : Int32).toNatClampNeg (-1))))] (RCs cA ta u g n9) (xs ++ (lo ++ fw))) hm
  have hta : ∀ k, k ≠ 2 → k ≠ 10 + n9 → k ≠ 20 + n9 → (fun k => if k = 2 then e1 else if k = 10 + n9 then q0 else if k = 20 + n9 then q1 else ta k) k = ta k := fun k a b c => by
    show (if k = 2 then e1 else if k = 10 + n9 then q0 else if k = 20 + n9 then q1 else ta k) = ta k
    rw [if_neg a, if_neg b, if_neg c]
  have hta2 : (fun k => if k = 2 then e1 else if k = 10 + n9 then q0 else if k = 20 + n9 then q1 else ta k) 2 = e1 := rfl
  have hta10 : (fun k => if k = 2 then e1 else if k = 10 + n9 then q0 else if k = 20 + n9 then q1 else ta k) (10 + n9) = q0 := by
    show (if 10 + n9 = 2 then e1 else if 10 + n9 = 10 + n9 then q0 else if 10 + n9 = 20 + n9 then q1 else ta (10 + n9)) = q0
    rw [if_neg (by omega), if_pos rfl]
  have hta20 : (fun k => if k = 2 then e1 else if k = 10 + n9 then q0 else if k = 20 + n9 then q1 else ta k) (20 + n9) = q1 := by
    show (if 20 + n9 = 2 then e1 else if 20 + n9 = 10 + n9 then q0 else if 20 + n9 = 20 + n9 then q1 else ta (20 + n9)) = q1
    rw [if_neg (by omega), if_neg (by omega), if_pos rfl]
  generalize (fun k => if k = 2 then e1 else if k = 10 + n9 then q0 else if k = 20 + n9 then q1 else ta k) = tb at *
  have hu : ∀ k, k ≠ 0 ∧ k ≠ 1 + n9 ∧ k ≠ 31 + n9 ∧ k ≠ 36 + n9 ∧ k ≠ 210 + n9 ∧ ¬ (41 + 3 * n9 ≤ k ∧ k < 44 + 3 * n9) → addRow u z k = u k := fun k h => addRow_ne ec h
  have hu0 : addRow u z 0 = nI (n9 + 1) := (if_pos rfl : addRow u z 0 = u 0 + 1).trans (nI_s er)
  have hu1 : addRow u z (1 + n9) = z := by unfold addRow; rw [ec, if_neg (by omega), if_pos rfl]
  have hu31 : addRow u z (31 + n9) = -1 := by unfold addRow; rw [ec, if_neg (by omega), if_neg (by omega), if_pos (Or.inl rfl)]
  have hu36 : addRow u z (36 + n9) = -1 := by unfold addRow; rw [ec, if_neg (by omega), if_neg (by omega), if_pos (Or.inr rfl)]
  have hu210 : addRow u z (210 + n9) = 0 := by unfold addRow; rw [ec, if_neg (by omega), if_neg (by omega), if_neg (by omega), if_pos rfl]
  have hu41 : ∀ j, j < 3 → addRow u z (41 + 3 * n9 + j) = -1 := fun j hj => by unfold addRow; rw [ec, if_neg (by omega), if_neg (by omega), if_neg (by omega), if_neg (by omega), if_pos (by omega)]
  generalize addRow u z = v at *
  have eg : ∀ j, j < 3 → (upd (upd (upd (fun _ => 0) (0 : Int32).toNatClampNeg (-1)) (1 : Int32).toNatClampNeg (-1)) (2 : Int32).toNatClampNeg (-1)) j = -1 := fun j hj => by
    have : j = 0 ∨ j = 1 ∨ j = 2 := by omega
    rcases this with rfl | rfl | rfl <;> rfl
  generalize (upd (upd (upd (fun _ => 0) (0 : Int32).toNatClampNeg (-1)) (1 : Int32).toNatClampNeg (-1)) (2 : Int32).toNatClampNeg (-1)) = ar at *
  have eR : RCs cA tb v (fun i => if i = n9 then ar else g i) n9 = RCs cA ta u g n9 := RCs.cong (fun i hi => rwC_cong (hu _ (by omega)) (hu _ (by omega)) (hu _ (by omega)) (hu _ (by omega)) (if_neg (by omega)) (hta _ (by omega) (by omega) (by omega)) (hta _ (by omega) (by omega) (by omega)))
  have eZ : rwC cA tb v (fun i => if i = n9 then ar else g i) n9 = [(q0, .inr (10, [.int z, .ref q1, .int (-1), .int (-1), .int 0])), (q1, .inl (cA 45, 3, .inl ar))] := by
    show [rwX tb v n9, rwY cA tb (fun i => if i = n9 then ar else g i) n9] = _
    unfold rwX rwY
    rw [hta10, hta20, hu1, hu31, hu36, hu210, show (fun i => if i = n9 then ar else g i) n9 = ar from if_pos rfl]
  refine kk (xs ++ lo) tb H locs (fun q hq => List.mem_append_right _ hq) ⟨_, ⟨n9 + 1, ns, nm, nn, mr + 1, ms, mm, mb, cap1, cs, cm, cb, f1, fs, fm, fb, fun i => if i = n9 then ar else g i, ?_, ⟨hu0, by rw [hu 6 (by omega)]; exact es, by rw [hu 56 (by omega)]; exact em, en, by omega, l2, l3, l4⟩, ⟨⟨k3, k1, k2, fun i hi => ?_⟩, ⟨hLs.1, hLs.2.1, hLs.2.2.1, fun i hi => ?_⟩, ⟨hLm.1, hLm.2.1, hLm.2.2.1, fun i hi => ?_⟩, c2, c12, cn, fun i hi => (hB i hi).mono (fun q hq => List.mem_append_right _ hq)⟩, fun i hi j hj => ?_, fun i hi => ?_, fun i hi => ?_, hO⟩, hm⟩
  · show _ = rHD cA ra x0 size tb ba v_at v_begin v_token v_value v_open v_fault v_place v nb (mr + 1) ms mm mb cap1 cs cm cb f1 fs fm fb ++ ((RCs cA tb v (fun i => if i = n9 then ar else g i) n9 ++ rwC cA tb v (fun i => if i = n9 then ar else g i) n9) ++ ((xs ++ lo) ++ fw))
    rw [eR, eZ, List.append_assoc xs]
    unfold rHD tnC rdC
    (rw [hta 0 (by omega) (by omega) (by omega), hta 1 (by omega) (by omega) (by omega), hta 3 (by omega) (by omega) (by omega), hta 4 (by omega) (by omega) (by omega), hta 5 (by omega) (by omega) (by omega), hta 6 (by omega) (by omega) (by omega), hta2, hu0, hu 6 (by omega), hu 56 (by omega), hu 75 (by omega), hu 76 (by omega), hu 77 (by omega), hu 378 (by omega), hu 379 (by omega)]; try rfl)
  · show f1 i = some (tb (10 + i))
    by_cases c : i = n9
    · subst c; rw [k5, hta10]
    · rw [k4 i (by omega), hta _ (by omega) (by omega) (by omega)]; exact hLr.2.2.2 i (by omega)
  · show fs i = some (tb (30 + i))
    rw [hta _ (by omega) (by omega) (by omega)]; exact hLs.2.2.2 i hi
  · show fm i = some (tb (40 + i))
    rw [hta _ (by omega) (by omega) (by omega)]; exact hLm.2.2.2 i hi
  · show (if i = n9 then ar else g i) j = _
    by_cases c : i = n9
    · subst c; rw [if_pos rfl, eg j hj, hu41 j hj]
    · rw [if_neg c, hu _ (by omega)]; exact hg3 i (by omega) j hj
  · have := hst i hi
    unfold stC at this ⊢
    rw [hta _ (by omega) (by omega) (by omega), hu _ (by omega), hu _ (by omega), hu _ (by omega), hu _ (by omega)]
    exact List.mem_append_right _ this
  · have := hmu i hi
    unfold muC at this ⊢
    rw [hta _ (by omega) (by omega) (by omega), hu _ (by omega), hu _ (by omega), hu _ (by omega)]
    exact List.mem_append_right _ this
theorem rs_addStone {E : EvT} {ks vs : Nat → Nat} {fo mi : Nat} {z1 z2 z3 z4 : Int32} (hX : CallFix p m c cX9_stone 5 s args lw_all RX9) (hK : va_K D vwA (cT cA) s) (hE : EvR E ks vs fo mi) (hE0 : E A s H0) (hH : RHG (RWP cA ra x0 tp size tape fw lo ta ba v_at v_begin v_token v_value v_open v_fault v_place u nb bo) D A H0 H locs) (hg : upto 7 (u 6) = some ()) (hl : lv_has ls 5 lv) (h0 : ls[0]? = some (.val (.ref ra))) (h1 : ls[1]? = some (.val (.int z1))) (h2 : ls[2]? = some (.val (.int z2))) (h3 : ls[3]? = some (.val (.int z3))) (h4 : ls[4]? = some (.val (.int z4))) (hR : 14 ≤ R.frames ∧ 520 ≤ R.locals) (hf : cells + 2 ≤ R.cells ∧ slots + 24 ≤ R.slots)
    (kk : ∀ (lo' : va_W) (ta' : Nat → Nat) (H1 : Heap) (locs1 : List Loc), (∀ q ∈ lo, q ∈ lo') → RHG (RWP cA ra x0 tp size tape fw lo' ta' ba v_at v_begin v_token v_value v_open v_fault v_place (addStone u z1 z2 z3 z4) nb bo) D A H0 H1 locs1 → W p l e R s m args below meth c H1 locs1 (cells + 2) (slots + 24) Q (F0 m 215 ls [])) : W p l e R s m args below meth c H locs cells slots Q (F0 m 193 ls [.ref ra]) := by
  have hx := hX.1
  have hb := hX.2.1
  have hown := hX.2.2.2.1
  have hts := hX.2.2.2.2
  have hEv := hE.1.1.1
  have hNW := hE.1.1.2.1 _ _ _ hE0
  refine rg_town hX hK hH dX9_stone_193 ?_
  obtain ⟨w, hw, hm⟩ := hH
  refine cg_Y_Reader_town_stones hw.town (plin w) hX hK hNW hm dX9_stone_196 ?_
  obtain ⟨nr, ns, nm, nn, mr, ms, mm, mb, cr, cs, cm, cb, fr, fs, fm, fb, g, rfl, ⟨er, es, em, en, l1, l2, l3, l4⟩, ⟨hLr, hLs, hLm, c2, c12, cn, hB⟩, hg3, hst, hmu, hO⟩ := hw
  obtain ⟨n9, hn4, e9⟩ := upto_nI hg (by decide)
  obtain rfl : n9 = ns := (nI_eq (by omega) (by omega)).mp (e9.symm.trans es)
  have ec : (u 6).toNatClampNeg = n9 := rr_clamp es hn4 (by decide)
  refine va_new (ci := 11) (fs := [.int 0, .int 0, .int 0, .int 0]) (C := RX11) (T := TX11) (N := 4) hX.1 hX.2.1 hX.2.2.2.2 in_X11 tyX11 tyX11_ok hX.2.2.2.1 (hts _ q799) (hts _ q800) (hts _ q152) hK hm.1 hm.2.1 hm.2.2.1 hm.2.2.2 rfl df_X11 (by have := hf.1; omega) (by have := hf.2; omega) dX9_stone_199 (fun q0 H hP hD hS => ?_)
  have hm := MH.perm (List.perm_append_comm) (show MH D vwA A H0 _ H locs from ⟨hP, hD, hS, hm.2.2.2⟩)
  refine lv_dup hx hb dX9_stone_202 rfl ?_
  refine lv_iload_n hx hb dX9_stone_203 rfl h1 ?_
  refine lv_iload_n hx hb dX9_stone_204 rfl h2 ?_
  refine lv_iload_n hx hb dX9_stone_205 rfl h3 ?_
  refine lv_iload hx hb dX9_stone_206 h4 ?_
  refine mxCI hX hK hEv hE0 hm (met_X11_init hE.1.1) q803 q152 q801 q802 rfl hdi_yX11_init ⟨Nat.le_trans (m := 14) (Nat.le_of_ble_eq_true rfl) hR.1, Nat.le_trans (m := 520) (Nat.le_of_ble_eq_true rfl) hR.2⟩ rfl rfl hl (Nat.le_of_ble_eq_true rfl) dX9_stone_208 ⟨by have := hf.1; show cells + 1 ≤ R.cells; omega, by have := hf.2; show slots + 4 ≤ R.slots; omega⟩ (fun w2 H locs hw hm => ?_)
  subst hw
  have hm : MH D vwA A H0 ([(q0, .inr (11, [.int z1, .int z2, .int z3, .int z4])), rdC ra x0 size ta ba v_at v_begin v_token v_value v_open v_fault v_place, tnC ta u, LC (ta 1) mr (ta 2) (u 0), QA cA (ta 2) cr fr, LC (ta 3) ms (ta 4) (u 6), QA cA (ta 4) cs fs, LC (ta 5) mm (ta 6) (u 56), QA cA (ta 6) cm fm, LC (ba 0) mb (ba 1) nb, QA cA (ba 1) cb fb] ++ (RCs cA ta u g nr ++ (lo ++ fw))) H locs := hm
  have hm : MH D vwA A H0 ([LC (ta 3) ms (ta 4) (u 6), QA cA (ta 4) cs fs] ++ ([(q0, .inr (11, [.int z1, .int z2, .int z3, .int z4])), rdC ra x0 size ta ba v_at v_begin v_token v_value v_open v_fault v_place, tnC ta u, LC (ta 1) mr (ta 2) (u 0), QA cA (ta 2) cr fr, LC (ta 5) mm (ta 6) (u 56), QA cA (ta 6) cm fm, LC (ba 0) mb (ba 1) nb, QA cA (ba 1) cb fb] ++ (RCs cA ta u g nr ++ (lo ++ fw)))) H locs := MH.reorder [(q0, .inr (11, [.int z1, .int z2, .int z3, .int z4])), rdC ra x0 size ta ba v_at v_begin v_token v_value v_open v_fault v_place, tnC ta u, LC (ta 1) mr (ta 2) (u 0), QA cA (ta 2) cr fr, LC (ta 3) ms (ta 4) (u 6), QA cA (ta 4) cs fs, LC (ta 5) mm (ta 6) (u 56), QA cA (ta 6) cm fm, LC (ba 0) mb (ba 1) nb, QA cA (ba 1) cb fb] [LC (ta 3) ms (ta 4) (u 6), QA cA (ta 4) cs fs, (q0, .inr (11, [.int z1, .int z2, .int z3, .int z4])), rdC ra x0 size ta ba v_at v_begin v_token v_value v_open v_fault v_place, tnC ta u, LC (ta 1) mr (ta 2) (u 0), QA cA (ta 2) cr fr, LC (ta 5) mm (ta 6) (u 56), QA cA (ta 6) cm fm, LC (ba 0) mb (ba 1) nb, QA cA (ba 1) cb fb] [5, 6, 0, 1, 2, 3, 4, 7, 8, 9, 10] (n := 11) (by decide) rfl rfl hm
  have hm : MH D vwA A H0 ([LC (ta 3) ms (ta 4) (nI n9), QA cA (ta 4) cs fs] ++ ([(q0, .inr (11, [.int z1, .int z2, .int z3, .int z4])), rdC ra x0 size ta ba v_at v_begin v_token v_value v_open v_fault v_place, tnC ta u, LC (ta 1) mr (ta 2) (u 0), QA cA (ta 2) cr fr, LC (ta 5) mm (ta 6) (u 56), QA cA (ta 6) cm fm, LC (ba 0) mb (ba 1) nb, QA cA (ba 1) cb fb] ++ (RCs cA ta u g nr ++ (lo ++ fw)))) H locs := by rw [← es]; exact hm
  refine mxV hX hK hEv hE0 hm (met_J2_add (o := some q0) (n := n9) (cap := cs) hE.1 hLs.1 hLs.2.1 (by omega) hLs.2.2.1 (fun i hi y hy => by
    rw [hLs.2.2.2 i hi] at hy
    cases hy
    exact ⟨11, _, by decide, by decide, List.mem_append_right _ (List.mem_append_right _ (List.mem_append_left _ (hst i hi)))⟩) (fun y hy => by
    cases hy
    exact ⟨_, _, by decide, by decide, List.mem_append_left _ (List.mem_of_getElem? (i := 0) rfl)⟩)) (crecv hK hm 0 17 rfl rfl) (lw_V q714 q715 q716 q134 q717) (n := 1) ⟨rfl, by decide, by decide, by decide +kernel⟩ ⟨Nat.le_trans (m := 14) (Nat.le_of_ble_eq_true rfl) hR.1, Nat.le_trans (m := 520) (Nat.le_of_ble_eq_true rfl) hR.2⟩ rfl rfl hl (Nat.le_of_ble_eq_true rfl) dX9_stone_211 ⟨by have := hf.1; show cells + 2 ≤ R.cells; omega, by have := hf.2; show slots + 24 ≤ R.slots; omega⟩ (fun w3 H locs hw hm => ?_)
  obtain ⟨e1, cap1, f1, xs, k1, k2, k3, k4, k5, rfl⟩ := hw
  refine lv_pop hx hb dX9_stone_214 rfl ?_
  have hm := MH.perm (List.Perm.append_left [LC (ta 3) (ms + 1) e1 (nI (n9 + 1)), QA cA e1 cap1 f1] (rr_p1 xs [(q0, .inr (11, [.int z1, .int z2, .int z3, .int z4])), rdC ra x0 size ta ba v_at v_begin v_token v_value v_open v_fault v_place, tnC ta u, LC (ta 1) mr (ta 2) (u 0), QA cA (ta 2) cr fr, LC (ta 5) mm (ta 6) (u 56), QA cA (ta 6) cm fm, LC (ba 0) mb (ba 1) nb, QA cA (ba 1) cb fb] (RCs cA ta u g nr) (lo ++ fw))) hm
  have hm : MH D vwA A H0 ([LC (ta 3) (ms + 1) e1 (nI (n9 + 1)), QA cA e1 cap1 f1, (q0, .inr (11, [.int z1, .int z2, .int z3, .int z4])), rdC ra x0 size ta ba v_at v_begin v_token v_value v_open v_fault v_place, tnC ta u, LC (ta 1) mr (ta 2) (u 0), QA cA (ta 2) cr fr, LC (ta 5) mm (ta 6) (u 56), QA cA (ta 6) cm fm, LC (ba 0) mb (ba 1) nb, QA cA (ba 1) cb fb] ++ (RCs cA ta u g nr ++ (xs ++ (lo ++ fw)))) H locs := hm
  have hm := MH.reorder [LC (ta 3) (ms + 1) e1 (nI (n9 + 1)), QA cA e1 cap1 f1, (q0, .inr (11, [.int z1, .int z2, .int z3, .int z4])), rdC ra x0 size ta ba v_at v_begin v_token v_value v_open v_fault v_place, tnC ta u, LC (ta 1) mr (ta 2) (u 0), QA cA (ta 2) cr fr, LC (ta 5) mm (ta 6) (u 56), QA cA (ta 6) cm fm, LC (ba 0) mb (ba 1) nb, QA cA (ba 1) cb fb] [rdC ra x0 size ta ba v_at v_begin v_token v_value v_open v_fault v_place, tnC ta u, LC (ta 1) mr (ta 2) (u 0), QA cA (ta 2) cr fr, LC (ta 3) (ms + 1) e1 (nI (n9 + 1)), QA cA e1 cap1 f1, LC (ta 5) mm (ta 6) (u 56), QA cA (ta 6) cm fm, LC (ba 0) mb (ba 1) nb, QA cA (ba 1) cb fb, (q0, .inr (11, [.int z1, .int z2, .int z3, .int z4]))] [3, 4, 5, 6, 0, 1, 7, 8, 9, 10, 2] (n := 11) (by decide) rfl rfl hm
  have hm : MH D vwA A H0 (([rdC ra x0 size ta ba v_at v_begin v_token v_value v_open v_fault v_place, tnC ta u, LC (ta 1) mr (ta 2) (u 0), QA cA (ta 2) cr fr, LC (ta 3) (ms + 1) e1 (nI (n9 + 1)), QA cA e1 cap1 f1, LC (ta 5) mm (ta 6) (u 56), QA cA (ta 6) cm fm, LC (ba 0) mb (ba 1) nb, QA cA (ba 1) cb fb] ++ [(q0, .inr (11, [.int z1, .int z2, .int z3, .int z4]))]) ++ (RCs cA ta u g nr ++ (xs ++ (lo ++ fw)))) H locs := hm
  have hm := MH.perm (rr_p2 [rdC ra x0 size ta ba v_at v_begin v_token v_value v_open v_fault v_place, tnC ta u, LC (ta 1) mr (ta 2) (u 0), QA cA (ta 2) cr fr, LC (ta 3) (ms + 1) e1 (nI (n9 + 1)), QA cA e1 cap1 f1, LC (ta 5) mm (ta 6) (u 56), QA cA (ta 6) cm fm, LC (ba 0) mb (ba 1) nb, QA cA (ba 1) cb fb] [(q0, .inr (11, [.int z1, .int z2, .int z3, .int z4]))] (RCs cA ta u g nr) (xs ++ (lo ++ fw))) hm
  have hta : ∀ k, k ≠ 4 → k ≠ 30 + n9 → (fun k => if k = 4 then e1 else if k = 30 + n9 then q0 else ta k) k = ta k := fun k a b => by
    show (if k = 4 then e1 else if k = 30 + n9 then q0 else ta k) = ta k
    rw [if_neg a, if_neg b]
  have hta2 : (fun k => if k = 4 then e1 else if k = 30 + n9 then q0 else ta k) 4 = e1 := rfl
  have htan : (fun k => if k = 4 then e1 else if k = 30 + n9 then q0 else ta k) (30 + n9) = q0 := by
    show (if 30 + n9 = 4 then e1 else if 30 + n9 = 30 + n9 then q0 else ta (30 + n9)) = q0
    rw [if_neg (by omega), if_pos rfl]
  generalize (fun k => if k = 4 then e1 else if k = 30 + n9 then q0 else ta k) = tb at *
  have hu : ∀ k, k ≠ 6 ∧ k ≠ 7 + n9 ∧ k ≠ 15 + n9 ∧ k ≠ 200 + n9 ∧ k ≠ 23 + n9 → addStone u z1 z2 z3 z4 k = u k := fun k h => addStone_ne ec h
  have hun : addStone u z1 z2 z3 z4 6 = nI (n9 + 1) := (if_pos rfl : addStone u z1 z2 z3 z4 6 = u 6 + 1).trans (nI_s es)
  have hv7 : addStone u z1 z2 z3 z4 (7 + n9) = z1 := by unfold addStone; rw [ec, if_neg (by omega), if_pos rfl]
  have hv15 : addStone u z1 z2 z3 z4 (15 + n9) = z2 := by unfold addStone; rw [ec, if_neg (by omega), if_neg (by omega), if_pos rfl]
  have hv200 : addStone u z1 z2 z3 z4 (200 + n9) = z3 := by unfold addStone; rw [ec, if_neg (by omega), if_neg (by omega), if_neg (by omega), if_pos rfl]
  have hv23 : addStone u z1 z2 z3 z4 (23 + n9) = z4 := by unfold addStone; rw [ec, if_neg (by omega), if_neg (by omega), if_neg (by omega), if_neg (by omega), if_pos rfl]
  generalize addStone u z1 z2 z3 z4 = v at *
  have eR : RCs cA tb v g nr = RCs cA ta u g nr := RCs.cong (fun i hi => rwC_cong (hu _ (by omega)) (hu _ (by omega)) (hu _ (by omega)) (hu _ (by omega)) rfl (hta _ (by omega) (by omega)) (hta _ (by omega) (by omega)))
  refine kk ((q0, .inr (11, [.int z1, .int z2, .int z3, .int z4])) :: (xs ++ lo)) tb H locs (fun q hq => List.mem_cons_of_mem _ (List.mem_append_right _ hq)) ⟨_, ⟨nr, n9 + 1, nm, nn, mr, ms + 1, mm, mb, cr, cap1, cm, cb, fr, f1, fm, fb, g, ?_, ⟨by rw [hu 0 (by omega)]; exact er, hun, by rw [hu 56 (by omega)]; exact em, en, l1, by omega, l3, l4⟩, ⟨⟨hLr.1, hLr.2.1, hLr.2.2.1, fun i hi => ?_⟩, ⟨k3, k1, k2, fun i hi => ?_⟩, ⟨hLm.1, hLm.2.1, hLm.2.2.1, fun i hi => ?_⟩, c2, c12, cn, fun i hi => (hB i hi).mono (fun q hq => List.mem_cons_of_mem _ (List.mem_append_right _ hq))⟩, fun i hi j hj => ?_, fun i hi => ?_, fun i hi => ?_, hO⟩, hm⟩
  · show _ = _ ++ (RCs cA tb v g nr ++ ([(q0, .inr (11, [.int z1, .int z2, .int z3, .int z4]))] ++ ((xs ++ lo) ++ fw)))
    rw [eR, List.append_assoc xs, List.append_assoc (RCs cA ta u g nr)]
    unfold rHD tnC rdC
    (rw [hta 0 (by omega) (by omega), hta 1 (by omega) (by omega), hta 2 (by omega) (by omega), hta 3 (by omega) (by omega), hta 5 (by omega) (by omega), hta 6 (by omega) (by omega), hta2, hu 0 (by omega), hun, hu 56 (by omega), hu 75 (by omega), hu 76 (by omega), hu 77 (by omega), hu 378 (by omega), hu 379 (by omega)]; try rfl)
  · show fr i = some (tb (10 + i))
    rw [hta _ (by omega) (by omega)]; exact hLr.2.2.2 i hi
  · show f1 i = some (tb (30 + i))
    by_cases c : i = n9
    · subst c; rw [k5, htan]
    · rw [k4 i (by omega), hta _ (by omega) (by omega)]; exact hLs.2.2.2 i (by omega)
  · show fm i = some (tb (40 + i))
    rw [hta _ (by omega) (by omega)]; exact hLm.2.2.2 i hi
  · rw [hu _ (by omega)]; exact hg3 i hi j hj
  · by_cases c : i = n9
    · subst c
      unfold stC
      rw [htan, hv7, hv15, hv200, hv23]
      exact List.mem_cons_self
    · have := hst i (by omega)
      unfold stC at this ⊢
      rw [hta _ (by omega) (by omega), hu _ (by omega), hu _ (by omega), hu _ (by omega), hu _ (by omega)]
      exact List.mem_cons_of_mem _ (List.mem_append_right _ this)
  · have := hmu i hi
    unfold muC at this ⊢
    rw [hta _ (by omega) (by omega), hu _ (by omega), hu _ (by omega), hu _ (by omega)]
    exact List.mem_cons_of_mem _ (List.mem_append_right _ this)
theorem rs_addMust {E : EvT} {ks vs : Nat → Nat} {fo mi : Nat} {z1 z2 z3 : Int32} (hX : CallFix p m c cX9_must 4 s args lw_all RX9) (hK : va_K D vwA (cT cA) s) (hE : EvR E ks vs fo mi) (hE0 : E A s H0) (hH : RHG (RWP cA ra x0 tp size tape fw lo ta ba v_at v_begin v_token v_value v_open v_fault v_place u nb bo) D A H0 H locs) (hg : upto 5 (u 56) = some ()) (hl : lv_has ls 4 lv) (h0 : ls[0]? = some (.val (.ref ra))) (h1 : ls[1]? = some (.val (.int z1))) (h2 : ls[2]? = some (.val (.int z2))) (h3 : ls[3]? = some (.val (.int z3))) (hR : 14 ≤ R.frames ∧ 520 ≤ R.locals) (hf : cells + 2 ≤ R.cells ∧ slots + 22 ≤ R.slots)
    (kk : ∀ (lo' : va_W) (ta' : Nat → Nat) (H1 : Heap) (locs1 : List Loc), (∀ q ∈ lo, q ∈ lo') → RHG (RWP cA ra x0 tp size tape fw lo' ta' ba v_at v_begin v_token v_value v_open v_fault v_place (addMust u (if z1 = 0 then 1 else 0) z2 z3) nb bo) D A H0 H1 locs1 → W p l e R s m args below meth c H1 locs1 (cells + 2) (slots + 22) Q (F0 m 99 ls [])) : W p l e R s m args below meth c H locs cells slots Q (F0 m 64 ls [.ref ra]) := by
  have hx := hX.1
  have hb := hX.2.1
  have hown := hX.2.2.2.1
  have hts := hX.2.2.2.2
  have hEv := hE.1.1.1
  have hNW := hE.1.1.2.1 _ _ _ hE0
  refine rg_town hX hK hH dX9_must_64 ?_
  obtain ⟨w, hw, hm⟩ := hH
  refine cg_Y_Reader_town_musts hw.town (plin w) hX hK hNW hm dX9_must_67 ?_
  obtain ⟨nr, ns, nm, nn, mr, ms, mm, mb, cr, cs, cm, cb, fr, fs, fm, fb, g, rfl, ⟨er, es, em, en, l1, l2, l3, l4⟩, ⟨hLr, hLs, hLm, c2, c12, cn, hB⟩, hg3, hst, hmu, hO⟩ := hw
  obtain ⟨n9, hn4, e9⟩ := upto_nI hg (by decide)
  obtain rfl : n9 = nm := (nI_eq (by omega) (by omega)).mp (e9.symm.trans em)
  have ec : (u 56).toNatClampNeg = n9 := rr_clamp em hn4 (by decide)
  have fin : ∀ (ci : Nat) (q0 : Nat) (H : Heap) (locs : List Loc), 12 ≤ ci → ci ≤ 13 → (ci = if z1 = 0 then 13 else 12) → MH D vwA A H0 ([(q0, .inr (ci, [.int z2, .int z3]))] ++ (rHD cA ra x0 size ta ba v_at v_begin v_token v_value v_open v_fault v_place u nb mr ms mm mb cr cs cm cb fr fs fm fb ++ (RCs cA ta u g nr ++ (lo ++ fw)))) H locs → W p l e R s m args below meth c H locs (cells + 1) (slots + 2) Q (F0 m 95 ls [.ref q0, .ref (ta 5)]) := by
    intro ci q0 H locs hc1 hc2 hc3 hm
    have hm : MH D vwA A H0 ([(q0, .inr (ci, [.int z2, .int z3])), rdC ra x0 size ta ba v_at v_begin v_token v_value v_open v_fault v_place, tnC ta u, LC (ta 1) mr (ta 2) (u 0), QA cA (ta 2) cr fr, LC (ta 3) ms (ta 4) (u 6), QA cA (ta 4) cs fs, LC (ta 5) mm (ta 6) (u 56), QA cA (ta 6) cm fm, LC (ba 0) mb (ba 1) nb, QA cA (ba 1) cb fb] ++ (RCs cA ta u g nr ++ (lo ++ fw))) H locs := hm
    have hm : MH D vwA A H0 ([LC (ta 5) mm (ta 6) (u 56), QA cA (ta 6) cm fm] ++ ([(q0, .inr (ci, [.int z2, .int z3])), rdC ra x0 size ta ba v_at v_begin v_token v_value v_open v_fault v_place, tnC ta u, LC (ta 1) mr (ta 2) (u 0), QA cA (ta 2) cr fr, LC (ta 3) ms (ta 4) (u 6), QA cA (ta 4) cs fs, LC (ba 0) mb (ba 1) nb, QA cA (ba 1) cb fb] ++ (RCs cA ta u g nr ++ (lo ++ fw)))) H locs := MH.reorder [(q0, .inr (ci, [.int z2, .int z3])), rdC ra x0 size ta ba v_at v_begin v_token v_value v_open v_fault v_place, tnC ta u, LC (ta 1) mr (ta 2) (u 0), QA cA (ta 2) cr fr, LC (ta 3) ms (ta 4) (u 6), QA cA (ta 4) cs fs, LC (ta 5) mm (ta 6) (u 56), QA cA (ta 6) cm fm, LC (ba 0) mb (ba 1) nb, QA cA (ba 1) cb fb] [LC (ta 5) mm (ta 6) (u 56), QA cA (ta 6) cm fm, (q0, .inr (ci, [.int z2, .int z3])), rdC ra x0 size ta ba v_at v_begin v_token v_value v_open v_fault v_place, tnC ta u, LC (ta 1) mr (ta 2) (u 0), QA cA (ta 2) cr fr, LC (ta 3) ms (ta 4) (u 6), QA cA (ta 4) cs fs, LC (ba 0) mb (ba 1) nb, QA cA (ba 1) cb fb] [7, 8, 0, 1, 2, 3, 4, 5, 6, 9, 10] (n := 11) (by decide) rfl rfl hm
    have hm : MH D vwA A H0 ([LC (ta 5) mm (ta 6) (nI n9), QA cA (ta 6) cm fm] ++ ([(q0, .inr (ci, [.int z2, .int z3])), rdC ra x0 size ta ba v_at v_begin v_token v_value v_open v_fault v_place, tnC ta u, LC (ta 1) mr (ta 2) (u 0), QA cA (ta 2) cr fr, LC (ta 3) ms (ta 4) (u 6), QA cA (ta 4) cs fs, LC (ba 0) mb (ba 1) nb, QA cA (ba 1) cb fb] ++ (RCs cA ta u g nr ++ (lo ++ fw)))) H locs := by rw [← em]; exact hm
    refine mxV hX hK hEv hE0 hm (met_J2_add (o := some q0) (n := n9) (cap := cm) hE.1 hLm.1 hLm.2.1 (by omega) hLm.2.2.1 (fun i hi y hy => by
      rw [hLm.2.2.2 i hi] at hy
      cases hy
      exact ⟨if u (57 + i) = 0 then 12 else 13, _, by split <;> decide, by split <;> decide, List.mem_append_right _ (List.mem_append_right _ (List.mem_append_left _ (muC_ci (hmu i hi))))⟩) (fun y hy => by
      cases hy
      exact ⟨ci, _, by omega, by omega, List.mem_append_left _ (List.mem_of_getElem? (i := 0) rfl)⟩)) (crecv hK hm 0 17 rfl rfl) (lw_V q714 q715 q716 q134 q717) (n := 1) ⟨rfl, by decide, by decide, by decide +kernel⟩ ⟨Nat.le_trans (m := 14) (Nat.le_of_ble_eq_true rfl) hR.1, Nat.le_trans (m := 520) (Nat.le_of_ble_eq_true rfl) hR.2⟩ rfl rfl hl (Nat.le_of_ble_eq_true rfl) dX9_must_95 ⟨by have := hf.1; show cells + 2 ≤ R.cells; omega, by have := hf.2; show slots + 22 ≤ R.slots; omega⟩ (fun w3 H locs hw hm => ?_)
    obtain ⟨e1, cap1, f1, xs, k1, k2, k3, k4, k5, rfl⟩ := hw
    refine lv_pop hx hb dX9_must_98 rfl ?_
    have hm := MH.perm (List.Perm.append_left [LC (ta 5) (mm + 1) e1 (nI (n9 + 1)), QA cA e1 cap1 f1] (rr_p1 xs [(q0, .inr (ci, [.int z2, .int z3])), rdC ra x0 size ta ba v_at v_begin v_token v_value v_open v_fault v_place, tnC ta u, LC (ta 1) mr (ta 2) (u 0), QA cA (ta 2) cr fr, LC (ta 3) ms (ta 4) (u 6), QA cA (ta 4) cs fs, LC (ba 0) mb (ba 1) nb, QA cA (ba 1) cb fb] (RCs cA ta u g nr) (lo ++ fw))) hm
    have hm : MH D vwA A H0 ([LC (ta 5) (mm + 1) e1 (nI (n9 + 1)), QA cA e1 cap1 f1, (q0, .inr (ci, [.int z2, .int z3])), rdC ra x0 size ta ba v_at v_begin v_token v_value v_open v_fault v_place, tnC ta u, LC (ta 1) mr (ta 2) (u 0), QA cA (ta 2) cr fr, LC (ta 3) ms (ta 4) (u 6), QA cA (ta 4) cs fs, LC (ba 0) mb (ba 1) nb, QA cA (ba 1) cb fb] ++ (RCs cA ta u g nr ++ (xs ++ (lo ++ fw)))) H locs := hm
    have hm := MH.reorder [LC (ta 5) (mm + 1) e1 (nI (n9 + 1)), QA cA e1 cap1 f1, (q0, .inr (ci, [.int z2, .int z3])), rdC ra x0 size ta ba v_at v_begin v_token v_value v_open v_fault v_place, tnC ta u, LC (ta 1) mr (ta 2) (u 0), QA cA (ta 2) cr fr, LC (ta 3) ms (ta 4) (u 6), QA cA (ta 4) cs fs, LC (ba 0) mb (ba 1) nb, QA cA (ba 1) cb fb] [rdC ra x0 size ta ba v_at v_begin v_token v_value v_open v_fault v_place, tnC ta u, LC (ta 1) mr (ta 2) (u 0), QA cA (ta 2) cr fr, LC (ta 3) ms (ta 4) (u 6), QA cA (ta 4) cs fs, LC (ta 5) (mm + 1) e1 (nI (n9 + 1)), QA cA e1 cap1 f1, LC (ba 0) mb (ba 1) nb, QA cA (ba 1) cb fb, (q0, .inr (ci, [.int z2, .int z3]))] [3, 4, 5, 6, 7, 8, 0, 1, 9, 10, 2] (n := 11) (by decide) rfl rfl hm
    have hm : MH D vwA A H0 (([rdC ra x0 size ta ba v_at v_begin v_token v_value v_open v_fault v_place, tnC ta u, LC (ta 1) mr (ta 2) (u 0), QA cA (ta 2) cr fr, LC (ta 3) ms (ta 4) (u 6), QA cA (ta 4) cs fs, LC (ta 5) (mm + 1) e1 (nI (n9 + 1)), QA cA e1 cap1 f1, LC (ba 0) mb (ba 1) nb, QA cA (ba 1) cb fb] ++ [(q0, .inr (ci, [.int z2, .int z3]))]) ++ (RCs cA ta u g nr ++ (xs ++ (lo ++ fw)))) H locs := hm
    have hm := MH.perm (rr_p2 [rdC ra x0 size ta ba v_at v_begin v_token v_value v_open v_fault v_place, tnC ta u, LC (ta 1) mr (ta 2) (u 0), QA cA (ta 2) cr fr, LC (ta 3) ms (ta 4) (u 6), QA cA (ta 4) cs fs, LC (ta 5) (mm + 1) e1 (nI (n9 + 1)), QA cA e1 cap1 f1, LC (ba 0) mb (ba 1) nb, QA cA (ba 1) cb fb] [(q0, .inr (ci, [.int z2, .int z3]))] (RCs cA ta u g nr) (xs ++ (lo ++ fw))) hm
    have hta : ∀ k, k ≠ 6 → k ≠ 40 + n9 → (fun k => if k = 6 then e1 else if k = 40 + n9 then q0 else ta k) k = ta k := fun k a b => by
      show (if k = 6 then e1 else if k = 40 + n9 then q0 else ta k) = ta k
      rw [if_neg a, if_neg b]
    have hta2 : (fun k => if k = 6 then e1 else if k = 40 + n9 then q0 else ta k) 6 = e1 := rfl
    have htan : (fun k => if k = 6 then e1 else if k = 40 + n9 then q0 else ta k) (40 + n9) = q0 := by
      show (if 40 + n9 = 6 then e1 else if 40 + n9 = 40 + n9 then q0 else ta (40 + n9)) = q0
      rw [if_neg (by omega), if_pos rfl]
    generalize (fun k => if k = 6 then e1 else if k = 40 + n9 then q0 else ta k) = tb at *
    have hu : ∀ k, k ≠ 56 ∧ k ≠ 57 + n9 ∧ k ≠ 63 + n9 ∧ k ≠ 69 + n9 → addMust u (if z1 = 0 then 1 else 0) z2 z3 k = u k := fun k h => addMust_ne ec h
    have hun : addMust u (if z1 = 0 then 1 else 0) z2 z3 56 = nI (n9 + 1) := (if_pos rfl : addMust u (if z1 = 0 then 1 else 0) z2 z3 56 = u 56 + 1).trans (nI_s em)
    have hv57 : addMust u (if z1 = 0 then 1 else 0) z2 z3 (57 + n9) = if z1 = 0 then 1 else 0 := by unfold addMust; rw [ec, if_neg (by omega), if_pos rfl]
    have hv63 : addMust u (if z1 = 0 then 1 else 0) z2 z3 (63 + n9) = z2 := by unfold addMust; rw [ec, if_neg (by omega), if_neg (by omega), if_pos rfl]
    have hv69 : addMust u (if z1 = 0 then 1 else 0) z2 z3 (69 + n9) = z3 := by unfold addMust; rw [ec, if_neg (by omega), if_neg (by omega), if_neg (by omega), if_pos rfl]
    generalize addMust u (if z1 = 0 then 1 else 0) z2 z3 = v at *
    have eR : RCs cA tb v g nr = RCs cA ta u g nr := RCs.cong (fun i hi => rwC_cong (hu _ (by omega)) (hu _ (by omega)) (hu _ (by omega)) (hu _ (by omega)) rfl (hta _ (by omega) (by omega)) (hta _ (by omega) (by omega)))
    refine kk ((q0, .inr (ci, [.int z2, .int z3])) :: (xs ++ lo)) tb H locs (fun q hq => List.mem_cons_of_mem _ (List.mem_append_right _ hq)) ⟨_, ⟨nr, ns, n9 + 1, nn, mr, ms, mm + 1, mb, cr, cs, cap1, cb, fr, fs, f1, fb, g, ?_, ⟨by rw [hu 0 (by omega)]; exact er, by rw [hu 6 (by omega)]; exact es, hun, en, l1, l2, by omega, l4⟩, ⟨⟨hLr.1, hLr.2.1, hLr.2.2.1, fun i hi => ?_⟩, ⟨hLs.1, hLs.2.1, hLs.2.2.1, fun i hi => ?_⟩, ⟨k3, k1, k2, fun i hi => ?_⟩, c2, c12, cn, fun i hi => (hB i hi).mono (fun q hq => List.mem_cons_of_mem _ (List.mem_append_right _ hq))⟩, fun i hi j hj => ?_, fun i hi => ?_, fun i hi => ?_, hO⟩, hm⟩
    · show _ = _ ++ (RCs cA tb v g nr ++ ([(q0, .inr (ci, [.int z2, .int z3]))] ++ ((xs ++ lo) ++ fw)))
      rw [eR, List.append_assoc xs, List.append_assoc (RCs cA ta u g nr)]
      unfold rHD tnC rdC
      (rw [hta 0 (by omega) (by omega), hta 1 (by omega) (by omega), hta 2 (by omega) (by omega), hta 3 (by omega) (by omega), hta 4 (by omega) (by omega), hta 5 (by omega) (by omega), hta2, hu 0 (by omega), hu 6 (by omega), hun, hu 75 (by omega), hu 76 (by omega), hu 77 (by omega), hu 378 (by omega), hu 379 (by omega)]; try rfl)
    · show fr i = some (tb (10 + i))
      rw [hta _ (by omega) (by omega)]; exact hLr.2.2.2 i hi
    · show fs i = some (tb (30 + i))
      rw [hta _ (by omega) (by omega)]; exact hLs.2.2.2 i hi
    · show f1 i = some (tb (40 + i))
      by_cases c : i = n9
      · subst c; rw [k5, htan]
      · rw [k4 i (by omega), hta _ (by omega) (by omega)]; exact hLm.2.2.2 i (by omega)
    · rw [hu _ (by omega)]; exact hg3 i hi j hj
    · have := hst i hi
      unfold stC at this ⊢
      rw [hta _ (by omega) (by omega), hu _ (by omega), hu _ (by omega), hu _ (by omega), hu _ (by omega)]
      exact List.mem_cons_of_mem _ (List.mem_append_right _ this)
    · by_cases c : i = n9
      · subst c
        unfold muC
        rw [htan, hv57, hv63, hv69]
        exact (by
          by_cases c : z1 = 0
          · rw [if_pos c] at hc3
            rw [if_pos c, if_neg (by decide), hc3]
            exact List.mem_cons_self
          · rw [if_neg c] at hc3
            rw [if_neg c, if_pos rfl, hc3]
            exact List.mem_cons_self)
      · have := hmu i (by omega)
        unfold muC at this ⊢
        rw [hta _ (by omega) (by omega), hu _ (by omega), hu _ (by omega), hu _ (by omega)]
        exact List.mem_cons_of_mem _ (List.mem_append_right _ this)
  refine lv_iload_n hx hb dX9_must_70 rfl h1 ?_
  refine lv_if_eq (tgt := 86) hx hb dX9_must_71 rfl (fun c0 => ?_) (fun c0 => ?_)
  · refine va_new (ci := 13) (fs := [.int 0, .int 0]) (C := RX14) (T := TX14) (N := 2) hX.1 hX.2.1 hX.2.2.2.2 in_X14 tyX14 tyX14_ok hX.2.2.2.1 (hts _ q861) (hts _ q862) (hts _ q155) hK hm.1 hm.2.1 hm.2.2.1 hm.2.2.2 rfl df_X14 (by have := hf.1; omega) (by have := hf.2; omega) dX9_must_86 (fun q0 H hP hD hS => ?_)
    have hm := MH.perm (List.perm_append_comm) (show MH D vwA A H0 _ H locs from ⟨hP, hD, hS, hm.2.2.2⟩)
    refine lv_dup hx hb dX9_must_89 rfl ?_
    refine lv_iload_n hx hb dX9_must_90 rfl h2 ?_
    refine lv_iload_n hx hb dX9_must_91 rfl h3 ?_
    refine mxCI hX hK hEv hE0 hm (met_X14_init hE.1.1) q865 q155 q863 q864 rfl hdi_yX14_init ⟨Nat.le_trans (m := 14) (Nat.le_of_ble_eq_true rfl) hR.1, Nat.le_trans (m := 520) (Nat.le_of_ble_eq_true rfl) hR.2⟩ rfl rfl hl (Nat.le_of_ble_eq_true rfl) dX9_must_92 ⟨by have := hf.1; show cells + 1 ≤ R.cells; omega, by have := hf.2; show slots + 2 ≤ R.slots; omega⟩ (fun w2 H locs hw hm => ?_)
    subst hw
    exact fin 13 q0 H locs (by decide) (by decide) (if_pos c0).symm hm
  · refine va_new (ci := 12) (fs := [.int 0, .int 0]) (C := RX13) (T := TX13) (N := 2) hX.1 hX.2.1 hX.2.2.2.2 in_X13 tyX13 tyX13_ok hX.2.2.2.1 (hts _ q839) (hts _ q840) (hts _ q154) hK hm.1 hm.2.1 hm.2.2.1 hm.2.2.2 rfl df_X13 (by have := hf.1; omega) (by have := hf.2; omega) dX9_must_74 (fun q0 H hP hD hS => ?_)
    have hm := MH.perm (List.perm_append_comm) (show MH D vwA A H0 _ H locs from ⟨hP, hD, hS, hm.2.2.2⟩)
    refine lv_dup hx hb dX9_must_77 rfl ?_
    refine lv_iload_n hx hb dX9_must_78 rfl h2 ?_
    refine lv_iload_n hx hb dX9_must_79 rfl h3 ?_
    refine mxCI hX hK hEv hE0 hm (met_X13_init hE.1.1) q843 q154 q841 q842 rfl hdi_yX13_init ⟨Nat.le_trans (m := 14) (Nat.le_of_ble_eq_true rfl) hR.1, Nat.le_trans (m := 520) (Nat.le_of_ble_eq_true rfl) hR.2⟩ rfl rfl hl (Nat.le_of_ble_eq_true rfl) dX9_must_80 ⟨by have := hf.1; show cells + 1 ≤ R.cells; omega, by have := hf.2; show slots + 2 ≤ R.slots; omega⟩ (fun w2 H locs hw hm => ?_)
    subst hw
    refine lv_goto (tgt := 95) hx hb dX9_must_83 rfl ?_
    exact fin 12 q0 H locs (by decide) (by decide) (if_neg c0).symm hm
end RSG
