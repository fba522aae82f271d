set_option maxRecDepth 100000
/-! text: the law -/
section P89
variable {n : Nat} {a0 a8 : Nat → Int32} {T M : Nat → Nat} {V : Nat → BvT} {all t ca la : Nat → Int32} {lies : Int64} {year : Int32}
theorem b8e (b : Bool) : (b2i b = 0) = (b = false) := by cases b <;> simp [b2i]
theorem text_law (hT : TapeR a0 a8) {tp : Nat} (htp : tp ≤ 400) (h : Cur T M V all t lies ca la year) (hTF : t 378 = t 78 ∧ t 379 = t 79) (fresh : Nat → Int32) (v1 v2 v3 v4 v5 v6 v7 v8 v9 fk fp p1 p2 : Int32) : ∃ ans tp' fk' fp' t' t2 V' T' M' lies' year' ca' la' all' f' b1 b2 b3 b4 b5 b6 b7 b8 b9, FX0_text a0 ca la (nI tp) fk fp year lies t (nI (T 114)) V p1 p2 = some (ans, nI tp', fk', fp', t', nI (T' 114), V', lies', year', ca', la') ∧ FX8_text all a8 fresh (nI tp) v1 v2 v3 v4 v5 v6 v7 v8 v9 fk fp p1 p2 = some (ans, all', f', nI tp', b1, b2, b3, b4, b5, b6, b7, b8, b9, fk', fp') ∧ tp' ≤ 400 ∧ (∀ k, 531 ≤ k → all' k = all k) ∧ Cur T' M' V' all' t2 lies' ca' la' year' ∧ (∀ k, k ≠ 78 → k ≠ 79 → t2 k = t' k) ∧ t2 378 = t2 78 ∧ t2 379 = t2 79 := by
  have eI : FX0_in (Int32.toInt64 p1) 0 1 = some (decide (0 ≤ p1.toInt ∧ p1.toInt ≤ 1)) := inL (by decide) (by decide)
  have eW : FX8_within (Int32.toInt64 p1) 0 1 = some (decide (0 ≤ p1.toInt ∧ p1.toInt ≤ 1)) := wiL (by decide) (by decide)
  rcases rng p1 (n := 2) (by omega) with ⟨q, hq, rfl⟩ | hp
  rotate_left
  · rw [show ((2 : Nat) : Int) - 1 = 1 by omega] at hp
    refine ⟨-2, tp, fk, fp, t, t, V, T, M, lies, year, ca, la, all, fresh, v1, v2, v3, v4, v5, v6, v7, v8, v9, ?_, ?_, htp, fun k _ => rfl, h, fun k _ _ => rfl, hTF⟩
    · unfold FX0_text
      rw [eI, decide_eq_false hp, bd1_s, if_pos (by decide)]
    · unfold FX8_text
      rw [eW, decide_eq_false hp, bd1_s, if_pos (by decide)]
  have hq2 : 0 ≤ (nI q).toInt ∧ (nI q).toInt ≤ 1 := by rw [toN (by omega)]; omega
  rw [decide_eq_true hq2] at eI eW
  have eI2 : FX0_in (Int32.toInt64 p2) 0 (Int32.toInt64 (nI tp)) = some (decide (0 ≤ p2.toInt ∧ p2.toInt ≤ (tp : Int))) := inL (by decide) (by rw [w64, toN (by omega)])
  have eW2 : FX8_within (Int32.toInt64 p2) 0 (Int32.toInt64 (nI tp)) = some (decide (0 ≤ p2.toInt ∧ p2.toInt ≤ (tp : Int))) := wiL (by decide) (by rw [w64, toN (by omega)])
  rcases rng p2 (n := tp + 1) (by omega) with ⟨n, hn1, rfl⟩ | hp
  rotate_left
  · rw [show ((tp + 1 : Nat) : Int) - 1 = (tp : Int) by omega] at hp
    refine ⟨-3, tp, fk, fp, t, t, V, T, M, lies, year, ca, la, all, fresh, v1, v2, v3, v4, v5, v6, v7, v8, v9, ?_, ?_, htp, fun k _ => rfl, h, fun k _ _ => rfl, hTF⟩
    · unfold FX0_text
      rw [eI, bd1_s, if_neg (by decide), eI2, decide_eq_false hp, bd1_s, if_pos (by decide)]
    · unfold FX8_text
      rw [eW, bd1_s, if_neg (by decide), eW2, decide_eq_false hp, bd1_s, if_pos (by decide)]
  have hn2 : 0 ≤ (nI n).toInt ∧ (nI n).toInt ≤ (tp : Int) := by rw [toN (by omega)]; omega
  rw [decide_eq_true hn2] at eI2 eW2
  have hn : n ≤ 400 := by omega
  obtain ⟨⟨hWT, hWO, hm, hy, hBT⟩, hA, ht, hl, hca, hla, hyear⟩ := id h
  have q01 : q = 0 ∨ q = 1 := by omega
  rcases q01 with rfl | rfl
  · obtain ⟨s', z', u', f', k', e9, e8, hk, hR⟩ := town_law hT hn fresh v5 v7
    have h9 : FX0_text a0 ca la (nI tp) fk fp year lies t (nI (T 114)) V (nI 0) (nI n) = FX0_text_t ca la year lies t (nI (T 114)) V s'.2.2.2.2.1 s'.2.2.2.2.2 u' := by
      unfold FX0_text
      rw [eI, bd1_s, if_neg (by decide), eI2, bd1_s, if_neg (by decide), if_pos (show nI 0 = 0 from rfl), e9]
      show bd0 (uptoN 800 k') _ = _
      unfold uptoN
      rw [if_pos (by omega), bd0_s]
      rfl
    have h8 : FX8_text all a8 fresh (nI tp) v1 v2 v3 v4 v5 v6 v7 v8 v9 fk fp (nI 0) (nI n) = if z'.2.2.2.2.1 = 0 then FX8_text_j142 all 0 (nI n) f' z'.1 z'.2.1 z'.2.2.1 z'.2.2.2.1 z'.2.2.2.2.1 z'.2.2.2.2.2 0 0 (-1) else FX8_text_j142 all 0 (nI n) f' z'.1 z'.2.1 z'.2.2.1 z'.2.2.2.1 z'.2.2.2.2.1 z'.2.2.2.2.2 0 0 z'.2.2.2.2.2 := by
      unfold FX8_text
      rw [eW, bd1_s, if_neg (by decide), eW2, bd1_s, if_neg (by decide)]
      obtain ⟨f1, x1, x2⟩ := bd1e e8
      obtain ⟨f2, x3, x4⟩ := bd1e x2
      obtain ⟨y1, y2, y3, y4, x5, x6⟩ := bd4e x4
      rw [x1, bd1_s, x3, bd1_s, x5, bd4_s]
      exact congrArg (fun o => bd9 o _) x6
    rcases hR with hB | ⟨s0, z0, sM, T1, sr, hTR⟩
    · refine ⟨-10 - s'.2.2.2.2.1, 0, s'.2.2.2.2.1, s'.2.2.2.2.2, t, t, V, T, M, lies, year, ca, la, all, f', z'.1, z'.2.1, nI n, z'.2.2.1, z'.2.2.2.1, z'.2.2.2.2.1, z'.2.2.2.2.2, 0, 0, ?_, ?_, by omega, fun k _ => rfl, h, fun k _ _ => rfl, hTF⟩
      · rw [h9]
        unfold FX0_text_t
        rw [if_neg hB.wrong.1]
        rfl
      · rw [h8, if_neg hB.wrong.2]
        unfold FX8_text_j142
        rw [if_neg hB.wrong.2]
        obtain ⟨f, hf, q1, q2, q3⟩ := hB
        rw [q1, q2, q3]
        rfl
    · obtain ⟨c1, l1, m1, eb, hc1, hl1⟩ := begins_law hTR ca la
      obtain ⟨all', ec, hall⟩ := copy_law f' (lo := 0) (hi := 113) (by omega) (by omega) all
      have hU : ∀ k, k < 113 → (fun k => if k < 113 then T1 k else T k) k = T1 k := fun k hk => if_pos hk
      have hU2 : ∀ k, 113 ≤ k → (fun k => if k < 113 then T1 k else T k) k = T k := fun k hk => if_neg (by omega)
      have hAll : ∀ k, k < 113 → all' k = rp T1 k := fun k hk => by rw [hall k, if_pos ⟨Nat.zero_le _, hk⟩]; exact hTR.2.1.1 k hk
      have hAll2 : ∀ k, 113 ≤ k → all' k = all k := fun k hk => by rw [hall k, if_neg (by omega)]
      have u379 : u' 379 = nI (T1 79) := hTR.2.1.2.2.2
      have u378 : u' 378 = nI (T1 78) := hTR.2.1.2.2.1
      refine ⟨nI (T1 79), 0, 0, nM, u', upd (upd u' 78 (nI (T1 78))) 79 (nI (T1 79)), V, (fun k => if k < 113 then T1 k else T k), (fun r => cntR sr r (T1 6)), lN (enc (fun p => T1 (80 + p)) 0), 0, c1, l1, all', f', z'.1, z'.2.1, nI n, z'.2.2.1, z'.2.2.2.1, z'.2.2.2.2.1, z'.2.2.2.2.2, 0, 0, ?_, ?_, by omega, fun k hk => hAll2 k (by omega), ?_, fun k k1 k2 => by rw [up_f k2, up_f k1], ?_, ?_⟩
      · rw [h9]
        unfold FX0_text_t
        rw [if_pos s0, eb, bd4_s, u379, s0, sM, hU2 114 (by omega)]
        rfl
      · rw [h8, if_pos z0]
        unfold FX8_text_j142 FX8_text_j170 FX8_text_j183
        have e79 : rd 1593 all' 79 = some (nI (T1 79)) := rdn (k := 79) (by omega) (by omega) (by rw [hAll 79 (by omega), rp_n (by omega)])
        rw [if_pos z0, if_pos rfl, if_pos rfl, show ((0 : Int32), all) = (nI 0, all) from rfl, show (113 : Int32) = nI 113 from rfl, ec, bd1_s, if_pos rfl, e79, bd1_s, z0]
        rfl
      · refine ⟨⟨hTR.1.1.cong fun k hk => hU k (by omega), (hTR.1.2.1.congO (P := fun p => (fun k => if k < 113 then T1 k else T k) (80 + p)) (N := fun r => cntR sr r (T1 6)) (fun p hp => hU (80 + p) (by omega)) (fun _ _ => rfl)).congT fun k hk => hU k (by omega), ?_, ?_, hBT.cong fun k hk _ => hU2 k (by omega)⟩, fun k hk => ?_, fun k hk => ?_, ?_, fun i hi => ?_, fun i hi => ?_, ?_⟩
        · show (if 95 < 113 then T1 95 else T 95) < 256
          rw [if_pos (by omega), hTR.1.2.2.1 95 (by omega) (by omega)]
          omega
        · show (if 112 < 113 then T1 112 else T 112) ≤ 999
          rw [if_pos (by omega), hTR.1.2.2.1 112 (by omega) (by omega)]
          omega
        · by_cases c : k < 113
          · rw [hAll k c]
            exact (rp_cg (hU k c)).symm
          · rw [hAll2 k (by omega), hA k hk]
            exact (rp_cg (hU2 k (by omega))).symm
        · rw [rp_cg (hU k (by omega))]
          by_cases c1 : k = 79
          · rw [up_t c1, c1, rp_n (by omega)]
          rw [up_f c1]
          by_cases c2 : k = 78
          · rw [up_t c2, c2, rp_n (by omega)]
          rw [up_f c2]
          exact hTR.2.1.2.1 k (by omega)
        · show lN (enc (fun p => T1 (80 + p)) 0) = lN (enc (fun p => if 80 + p < 113 then T1 (80 + p) else T (80 + p)) (if 95 < 113 then T1 95 else T 95))
          rw [if_pos (show 95 < 113 by omega), hTR.1.2.2.1 95 (by omega) (by omega)]
          exact congrArg lN (enc_cong (fun p hp => (if_pos (by omega)).symm) 0)
        · show _ = nI (if 96 + i < 113 then T1 (96 + i) else T (96 + i))
          rw [hc1 i hi, if_pos (by omega), hTR.1.2.2.1 _ (by omega) (by omega)]
        · show _ = nD (if 104 + i < 113 then T1 (104 + i) else T (104 + i))
          rw [hl1 i hi, if_pos (by omega), hTR.1.2.2.1 _ (by omega) (by omega)]
        · show (0 : Int32) = nI (if 112 < 113 then T1 112 else T 112)
          rw [if_pos (by omega), hTR.1.2.2.1 112 (by omega) (by omega)]
          rfl
      · rw [up_f (by omega), up_f (by omega), up_f (by omega), up_t rfl]
        exact u378
      · rw [up_f (by omega), up_f (by omega), up_t rfl]
        exact u379
  · obtain ⟨s', z', f', nb', bo', k', x', e9, e8, hk, hR⟩ := bars_law hT hn fresh v5 v7
    have h9 : FX0_text a0 ca la (nI tp) fk fp year lies t (nI (T 114)) V (nI 1) (nI n) = FX0_text_b ca la year lies t (nI (T 114)) V s'.2.2.2.2.1 s'.2.2.2.2.2 nb' bo' := by
      unfold FX0_text
      rw [eI, bd1_s, if_neg (by decide), eI2, bd1_s, if_neg (by decide), if_neg (by decide), if_pos (show nI 1 = 1 from rfl), e9]
      show bd0 (uptoN 800 k') _ = _
      unfold uptoN
      rw [if_pos (by omega), bd0_s]
      rfl
    have h8 : FX8_text all a8 fresh (nI tp) v1 v2 v3 v4 v5 v6 v7 v8 v9 fk fp (nI 1) (nI n) = if z'.2.2.2.2.1 = 0 then FX8_text_j142 all 1 (nI n) f' z'.1 z'.2.1 z'.2.2.1 z'.2.2.2.1 z'.2.2.2.2.1 z'.2.2.2.2.2 (nI 0) x' (-1) else FX8_text_j142 all 1 (nI n) f' z'.1 z'.2.1 z'.2.2.1 z'.2.2.2.1 z'.2.2.2.2.1 z'.2.2.2.2.2 (nI 0) x' z'.2.2.2.2.2 := by
      unfold FX8_text
      rw [eW, bd1_s, if_neg (by decide), eW2, bd1_s, if_neg (by decide)]
      obtain ⟨f1, x1, x2⟩ := bd1e e8
      obtain ⟨f2, x3, x4⟩ := bd1e x2
      obtain ⟨y1, y2, y3, y4, x5, x6⟩ := bd4e x4
      rw [x1, bd1_s, x3, bd1_s, x5, bd4_s]
      exact congrArg (fun o => bd9 o _) x6
    rcases hR with hB | ⟨s0, z0, sM, N, S, rfl, hBR⟩
    · refine ⟨-10 - s'.2.2.2.2.1, 0, s'.2.2.2.2.1, s'.2.2.2.2.2, t, t, V, T, M, lies, year, ca, la, all, f', z'.1, z'.2.1, nI n, z'.2.2.1, z'.2.2.2.1, z'.2.2.2.2.1, z'.2.2.2.2.2, nI 0, x', ?_, ?_, by omega, fun k _ => rfl, h, fun k _ _ => rfl, hTF⟩
      · rw [h9]
        unfold FX0_text_b
        rw [if_neg hB.wrong.1]
        rfl
      · rw [h8, if_neg hB.wrong.2]
        unfold FX8_text_j142
        rw [if_neg hB.wrong.2]
        obtain ⟨f, hf, q1, q2, q3⟩ := hB
        rw [q1, q2, q3]
        rfl
    · obtain ⟨⟨hN8, hS2, f114⟩, hbars⟩ := hBR
      obtain ⟨all', ec, hall⟩ := copy_law f' (lo := 114) (hi := 531) (by omega) (by omega) all
      have hU : ∀ k, 114 ≤ k → k < 531 → (fun k => if 114 ≤ k ∧ k < 531 then cTn f' k else T k) k = cTn f' k := fun k h1 h2 => if_pos ⟨h1, h2⟩
      have hU2 : ∀ k, k < 114 → (fun k => if 114 ≤ k ∧ k < 531 then cTn f' k else T k) k = T k := fun k hk => if_neg (by omega)
      have eN : cTn f' 114 = N := cT_n f114 (by omega)
      have ok : okG bo' (nI N) = some () := by
        unfold okG
        rw [cl_n (by omega), if_pos (okN_of fun i hi => by
          obtain ⟨d, W, s, e, g1, g2, -⟩ := hbars i hi
          exact ⟨d, W, g1, g2⟩)]
      refine ⟨nI N, 0, 0, nM, t, t, (fun i => bvO (bo' i)), (fun k => if 114 ≤ k ∧ k < 531 then cTn f' k else T k), M, lies, year, ca, la, all', f', z'.1, z'.2.1, nI n, z'.2.2.1, z'.2.2.2.1, z'.2.2.2.2.1, z'.2.2.2.2.2, nI 0, x', ?_, ?_, by omega, fun k hk => by rw [hall k, if_neg (by omega)], ?_, fun k _ _ => rfl, hTF⟩
      · rw [h9]
        unfold FX0_text_b
        rw [if_pos s0, ok, bd0_s, s0, sM, hU 114 (by omega) (by omega), eN]
        rfl
      · rw [h8, if_pos z0]
        unfold FX8_text_j142 FX8_text_j170 FX8_text_j183
        have e114 : rd 1593 all' 114 = some (nI N) := rdn (k := 114) (by omega) (by omega) (by rw [hall 114, if_pos (by omega)]; exact f114)
        rw [if_pos z0, if_neg (by decide), if_neg (by decide), show ((114 : Int32), all) = (nI 114, all) from rfl, show (531 : Int32) = nI 531 from rfl, ec, bd1_s, if_neg (by decide), e114, bd1_s, z0]
        rfl
      · refine ⟨⟨hWT.cong fun k hk => hU2 k (by omega), (hWO.congO (P := fun p => (fun k => if 114 ≤ k ∧ k < 531 then cTn f' k else T k) (80 + p)) (N := M) (fun p hp => hU2 (80 + p) (by omega)) (fun _ _ => rfl)).congT fun k hk => hU2 k (by omega), ?_, ?_, ?_, fun k hk => ?_⟩, fun k hk => ?_, fun k hk => ?_, ?_, fun i hi => ?_, fun i hi => ?_, ?_⟩
        · show (if 114 ≤ 95 ∧ 95 < 531 then cTn f' 95 else T 95) < 256
          rw [if_neg (by omega)]
          exact hm
        · show (if 114 ≤ 112 ∧ 112 < 531 then cTn f' 112 else T 112) ≤ 999
          rw [if_neg (by omega)]
          exact hy
        · rw [hU 114 (by omega) (by omega), eN]
          exact hN8
        · rw [hU 114 (by omega) (by omega), eN] at hk
          obtain ⟨d, W, s, e, g1, g2, g3, g4, g5, g6⟩ := hbars k hk
          have gl := g6.lt
          rw [hU (123 + k) (by omega) (by omega), hU (115 + k) (by omega) (by omega), cT_n g4 (by omega), cT_n g3 (by omega)]
          refine ⟨by omega, d, ?_⟩
          show PrAt _ d s e (bvO (bo' k))
          rw [g1]
          exact g6.cong fun i h1 h2 => hU i (by omega) (by omega)
        · by_cases c : 114 ≤ k
          · rw [hall k, if_pos ⟨c, hk⟩, rp_n (by omega), if_pos ⟨c, hk⟩]
            exact (cT_e f' k).symm
          · rw [hall k, if_neg (by omega), hA k hk]
            exact (rp_cg (hU2 k (by omega))).symm
        · rw [rp_cg (hU2 k (by omega))]
          exact ht k hk
        · show lies = lN (enc (fun p => if 114 ≤ 80 + p ∧ 80 + p < 531 then cTn f' (80 + p) else T (80 + p)) (if 114 ≤ 95 ∧ 95 < 531 then cTn f' 95 else T 95))
          rw [if_neg (show ¬ (114 ≤ 95 ∧ 95 < 531) by omega), hl]
          exact congrArg lN (enc_cong (fun p hp => (if_neg (by omega)).symm) _)
        · rw [hU2 (96 + i) (by omega)]
          exact hca i hi
        · rw [hU2 (104 + i) (by omega)]
          exact hla i hi
        · rw [hU2 112 (by omega)]
          exact hyear
end P89
