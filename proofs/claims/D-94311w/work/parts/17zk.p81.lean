set_option maxRecDepth 100000
/-! lines of a town: stones -/
section P81
variable {n : Nat} {a0 a8 : Nat → Int32} {T sr : Nat → Nat} {u f : Nat → Int32} {s z : S6} {m : Nat}
theorem fm_law {r c : Nat} (hr : r < 5) (hc : c ≤ 3) {O : Nat → Nat} (h : ∀ l, l < 3 → f (80 + (3 * r + l)) = nI (O l) ∧ O l < 100 ∧ (0 < O l ↔ l < c)) : FX8_freshMany f (nI r) = some (nI c) := by
  have key : ∀ d k, k + d = c → loopC (fun s => FX8_freshMany_b2 f (nI r) s) (nI k) = some (nI c) := by
    have ix : ∀ k, (80 : Int32) + 3 * nI r + nI k = nI (80 + (3 * r + k)) := fun k => by
      rw [show (3 : Int32) = nI 3 from rfl, show (80 : Int32) = nI 80 from rfl, n_mul, n_add, n_add, Nat.add_assoc]
    intro d
    induction d with
    | zero =>
      intro k hk
      obtain rfl : k = c := by omega
      refine loopC_inr ?_
      show FX8_freshMany_b2 f (nI r) (nI k) = _
      unfold FX8_freshMany_b2
      by_cases c3 : k = 3
      · rw [c3, if_pos (by decide)]
      · obtain ⟨h1, h2, h3⟩ := h k (by omega)
        have h4 : O k = 0 := by omega
        rw [if_neg (by rw [show (3 : Int32) = nI 3 from rfl, le_f (by omega) (by omega)]; exact id), ix, rdn (by omega) (by omega) h1, bd1_s, h4, if_pos (by decide)]
    | succ d ih =>
      intro k hk
      obtain ⟨h1, h2, h3⟩ := h k (by omega)
      refine loop_st ?_ (ih (k + 1) (by omega))
      show FX8_freshMany_b2 f (nI r) (nI k) = _
      unfold FX8_freshMany_b2
      rw [if_neg (by rw [show (3 : Int32) = nI 3 from rfl, le_f (by omega) (by omega)]; exact id), ix, rdn (by omega) (by omega) h1, bd1_s, if_neg (by rw [show (0 : Int32) = nI 0 from rfl, le_f (by omega) (by omega)]; exact id), show nI k + 1 = nI (k + 1) from n_add k 1]
  unfold FX8_freshMany
  rw [show (0 : Int32) = nI 0 from rfl, key c 0 (by omega), bd1_s]
/-- how many lie on a row so far -/
theorem TR.fm (h : TR T sr u f) {r : Nat} (hr : r < T 0) {g : Nat → Int32} (hg : ∀ k, 80 ≤ k → k < 95 → g k = f k) : FX8_freshMany g (nI r) = some (nI (cntR sr r (T 6))) := by
  have w0 : T 0 ≤ 5 := h.1.1.1.1
  have w6 : T 6 ≤ 8 := h.1.1.1.2.1
  have h3 : cntR sr r (T 6) ≤ T (1 + r) := h.1.2.1.2.2.1 r (by omega)
  have h4 := h.1.1.2.1 r (by omega)
  refine fm_law (O := fun l => T (80 + (3 * r + l))) (by omega) (by omega) (fun l hl => ⟨?_, ?_, h.1.2.1.2.1 r l (by omega) hl⟩)
  · rw [hg _ (by omega) (by omega), h.2.1.1 _ (by omega), rp_n (by omega)]
  · have h5 : T (80 + (3 * r + l)) ≤ T 6 := h.1.2.1.1 (3 * r + l) (by omega)
    show T (80 + (3 * r + l)) < 100
    omega
theorem stone_end (hn : n ≤ 400) (hR : TR T sr u f) (h6 : T 6 < 8) (h : RL n a0 m s z) {p1 p2 p3 p4 q1 q2 q3 q4 : Int32} (hv : s.2.2.2.2.1 = 0 → ∃ so si r be, (p1 = nI so ∧ q1 = nI so ∧ so ≤ 7) ∧ (p2 = nI si ∧ q2 = nI si ∧ si ≤ 9) ∧ (p3 = nI r ∧ q3 = nI r ∧ r < T 0 ∧ cntR sr r (T 6) < T (1 + r)) ∧ p4 = nI be ∧ q4 = nI be ∧ be ≤ 99) : ∃ (s' z' : S6) (u' f' : Nat → Int32), FX9_stone_j159 u p1 p2 p3 p4 s.1 s.2.1 s.2.2.1 s.2.2.2.1 s.2.2.2.2.1 s.2.2.2.2.2 = some (ap6 s' u') ∧ FX8_readStone_j150 f (nI (T 6)) q1 q2 q3 q4 z.1 z.2.1 z.2.2.1 z.2.2.2.1 z.2.2.2.2.1 z.2.2.2.2.2 = some (f', z') ∧ RL n a0 m s' z' ∧ (s'.2.2.2.2.1 = 0 → ∃ T' sr', TR T' sr' u' f' ∧ T' 79 = T 79) := by
  unfold FX9_stone_j159 FX8_readStone_j150
  rcases h with ⟨a, b, j, hm, x, y, w, rfl, rfl, hK⟩ | hB
  · obtain ⟨so, si, r, be, ⟨rfl, rfl, v1⟩, ⟨rfl, rfl, v2⟩, ⟨rfl, rfl, hr, hc⟩, rfl, rfl, v4⟩ := hv rfl
    have w0 : T 0 ≤ 5 := hR.1.1.1.1
    have u0 : u 0 = nI (T 0) := hR.uat (by omega) (by omega)
    have hc3 := hR.1.1.2.1 r (by omega)
    have ul : u (210 + r) = nI (cntR sr r (T 6)) := hR.2.2.1 r hr
    have al : alg (nI (T 0)) (nI r) = some () := al_n hr (by omega)
    have hup : (upd u (210 + r) (nI (cntR sr r (T 6))+ 1)) 6 = nI (T 6) := by rw [up_f (by omega)]; exact hR.uat (by omega) (by omega)
    have ec1 : nI (cntR sr r (T 6)) + 1 = nI (cntR sr r (T 6) + 1) := n_add _ 1
    have k1 : (7 : Int32) + nI (T 6) = nI (7 + T 6) := n_add 7 _
    have k2 : (15 : Int32) + nI (T 6) = nI (15 + T 6) := n_add 15 _
    have k3 : (23 : Int32) + nI (T 6) = nI (23 + T 6) := n_add 23 _
    have k4 : FX8_freshMany (upd (upd (upd f (7 + T 6) (nI so)) (15 + T 6) (nI si)) (23 + T 6) (nI be)) (nI r) = some (nI (cntR sr r (T 6))) := hR.fm hr (fun k h1 h2 => by rw [up_f (by omega), up_f (by omega), up_f (by omega)])
    have k5 : (80 : Int32) + 3 * nI r + nI (cntR sr r (T 6)) = nI (80 + (3 * r + cntR sr r (T 6))) := by
      rw [show (3 : Int32) = nI 3 from rfl, show (80 : Int32) = nI 80 from rfl, n_mul, n_add, n_add, Nat.add_assoc]
    have k6 : nI (T 6) + 1 = nI (T 6 + 1) := n_add _ 1
    have k7 : rd 531 (upd (upd (upd (upd f (7 + T 6) (nI so)) (15 + T 6) (nI si)) (23 + T 6) (nI be)) (80 + (3 * r + cntR sr r (T 6))) (nI (T 6 + 1))) 6 = some (nI (T 6)) := rdn (k := 6) (by omega) (by omega) (by rw [up_f (by omega), up_f (by omega), up_f (by omega), up_f (by omega), hR.2.1.1 6 (by omega), rp_n (by omega)])
    have k8 : wrI 531 (upd (upd (upd (upd f (7 + T 6) (nI so)) (15 + T 6) (nI si)) (23 + T 6) (nI be)) (80 + (3 * r + cntR sr r (T 6))) (nI (T 6 + 1))) 6 (nI (T 6 + 1)) = some (upd (upd (upd (upd (upd f (7 + T 6) (nI so)) (15 + T 6) (nI si)) (23 + T 6) (nI be)) (80 + (3 * r + cntR sr r (T 6))) (nI (T 6 + 1))) 6 (nI (T 6 + 1))) := wr_n (k := 6) (by omega) (by omega)
    dsimp only
    rw [if_pos rfl, if_pos rfl, u0, al, bd0_s, bd0_s, bd0_s, bd0_s, cl_n (by omega), ul, hup, upto_n (by omega) (by omega), bd0_s, ec1, k1, wr_n (by omega) (by omega), bd1_s, k2, wr_n (by omega) (by omega), bd1_s, k3, wr_n (by omega) (by omega), bd1_s, k4, bd1_s, k5, k6, wr_n (by omega) (by omega), bd1_s, k7, bd1_s, k6, k8, bd1_s]
    exact ⟨(_, _, _, _, _, _), (_, _, _, _, _, _), _, _, rfl, rfl, Or.inl ⟨a, b, j, hm, x, y, w, rfl, rfl, hK⟩, fun _ => ⟨_, _, hR.stone h6 rfl hr rfl hc v1 v2 v4, (upn_f (by omega)).trans ((upn_f (by omega)).trans ((upn_f (by omega)).trans ((upn_f (by omega)).trans (upn_f (by omega)))))⟩⟩
  · rw [if_neg hB.wrong.1, if_neg hB.wrong.2]
    exact ⟨s, z, u, f, rfl, rfl, Or.inr hB, fun h => absurd h hB.wrong.1⟩
theorem stone_mid (hT : TapeR a0 a8) (hn : n ≤ 400) (hR : TR T sr u f) (h6 : T 6 < 8) (h : RL n a0 m s z) {p1 p2 q1 q2 : Int32} (hx : s.2.2.2.2.1 = 0 → (∃ so si, (p1 = nI so ∧ q1 = nI so ∧ so ≤ 7) ∧ p2 = nI si ∧ q2 = nI si ∧ si ≤ 9) ∧ ∀ v, s.2.2.2.1 = nI v → v < T 0 → cntR sr v (T 6) < T (1 + v)) : ∃ (s' z' : S6) (u' f' : Nat → Int32), FX9_stone_j120 u (nI n) a0 p1 p2 s.1 s.2.1 s.2.2.1 s.2.2.2.1 s.2.2.2.2.1 s.2.2.2.2.2 = some (ap6 s' u') ∧ FX8_readStone_j114 a8 f (nI n) (nI (T 6)) q1 q2 z.1 z.2.1 z.2.2.1 z.2.2.2.1 z.2.2.2.2.1 z.2.2.2.2.2 = some (f', z') ∧ RL n a0 m s' z' ∧ (s'.2.2.2.2.1 = 0 → ∃ T' sr', TR T' sr' u' f' ∧ T' 79 = T 79) := by
  have w0 : T 0 ≤ 5 := hR.1.1.1.1
  have u0 : u 0 = nI (T 0) := hR.uat (by omega) (by omega)
  have f0 : rd 531 f 0 = some (nI (T 0)) := hR.rdf (k := 0) (by omega) (by omega)
  obtain ⟨p, q, s1, z1, e9, e8, r1, hv⟩ := L_number hT hn (lo := 0) (hi := nI (T 0) - 1) (l := 0) (h := (T 0 : Int) - 1) (by decide) (toD (by omega)) h
  obtain ⟨c, s2, z2, g9, g8, k1, k2, r2, -, hc⟩ := L_takes hT hn (k := 4) (q := 5) (kb := kb_195) (kk := 4) rfl rfl rfl (by omega) r1
  unfold FX9_stone_j120 FX8_readStone_j114
  rw [u0, e9, f0, bd1_s, e8, bd7_t, bd7_t]
  dsimp only
  rw [g9, g8, bd5_t, bd5_t]
  dsimp only
  rw [← k1.1, ← k1.2, ← k2.1, ← k2.2]
  have hp : s1.2.2.2.2.1 = 0 → (∃ so si, (p1 = nI so ∧ q1 = nI so ∧ so ≤ 7) ∧ p2 = nI si ∧ q2 = nI si ∧ si ≤ 9) ∧ ∃ r, p = nI r ∧ q = nI r ∧ r < T 0 ∧ cntR sr r (T 6) < T (1 + r) := fun h0 => by
    obtain ⟨h1, h2, v, h3, h4, h5, h6, h7⟩ := hv h0
    obtain ⟨h8, h9⟩ := hx h1
    exact ⟨h8, v, h3, h4, by omega, h9 v (h2.symm.trans h3) (by omega)⟩
  cases c with
  | false =>
    rw [if_pos b2f, if_pos b2f]
    have r3 : RL n a0 m s2 z2 := r2.mono (by show m ≤ m + 1; omega)
    exact stone_end hn hR h6 r3 (fun h0 => by
      obtain ⟨⟨so, si, ha, hb⟩, r, h3, h4, h5, h7⟩ := hp (k1.1.symm.trans h0)
      exact ⟨so, si, r, 99, ha, hb, ⟨h3, h4, h5, h7⟩, rfl, rfl, by omega⟩)
  | true =>
    rw [if_neg b2t, if_neg b2t]
    obtain ⟨p4, q4, s3, z3, e9, e8, r3, hv3⟩ := L_number hT hn (lo := 0) (hi := 99) (l := 0) (h := 99) (by decide) (by decide) r2
    rw [e9, e8, bd7_t, bd7_t]
    dsimp only
    have r4 : RL n a0 m s3 z3 := r3.mono (by show m ≤ m + 1 + 2 + 1; omega)
    exact stone_end hn hR h6 r4 (fun h0 => by
      obtain ⟨h1, -, v, hva, hvb, hvc, hvd, -⟩ := hv3 h0
      obtain ⟨⟨so, si, ha, hb⟩, r, h3, h4, h5, h7⟩ := hp (k1.1.symm.trans h1)
      exact ⟨so, si, r, v, ha, hb, ⟨h3, h4, h5, h7⟩, hva, hvb, by omega⟩)
theorem tstone_law (hT : TapeR a0 a8) (hn : n ≤ 400) {a b j : Nat} (hO : OK6 n a0 s z a b j) (hR : TR T sr u f) : ∃ (s' z' : S6) (u' f' : Nat → Int32), FX9_stone (nI n) a0 s.1 s.2.1 s.2.2.1 s.2.2.2.1 s.2.2.2.2.1 s.2.2.2.2.2 u = some (ap6 s' u') ∧ FX8_readStone a8 f z.1 z.2.1 (nI n) z.2.2.1 z.2.2.2.1 z.2.2.2.2.1 z.2.2.2.2.2 = some (f', z') ∧ RL n a0 b s' z' ∧ (s'.2.2.2.2.1 = 0 → ∃ T' sr', TR T' sr' u' f' ∧ T' 79 = T 79) := by
  obtain ⟨x, y, w, rfl, rfl, hK⟩ := hO
  have hj := hK.1.2.2.2.1
  have w0 : T 0 ≤ 5 := hR.1.1.1.1
  have w6 : T 6 ≤ 8 := hR.1.1.1.2.1
  have u6 : u 6 = nI (T 6) := hR.uat (by omega) (by omega)
  have u0 : u 0 = nI (T 0) := hR.uat (by omega) (by omega)
  have f6 : rd 531 f 6 = some (nI (T 6)) := hR.rdf (k := 6) (by omega) (by omega)
  have f0 : rd 531 f 0 = some (nI (T 0)) := hR.rdf (k := 0) (by omega) (by omega)
  dsimp only
  unfold FX9_stone FX8_readStone FX9_stone_j21 FX8_readStone_j19
  rw [u6, f6, bd1_s]
  by_cases c : T 6 = 8
  · have nz := nz_f (fk (j := j) (p := 4) (by omega) (by omega))
    have hf := fk (j := j) (p := 4) (by omega) (by omega)
    rw [if_pos (show nI (T 6) = 8 by rw [c]; rfl), if_pos (show nI (T 6) = 8 by rw [c]; rfl), sp_full hj, bd6_s, number9_bad hf, bd7_s, need9_bad hf, bd6_s, number9_bad hf, bd7_s, need9_bad hf, bd6_s, seen_bad hf, bd3_s, if_pos b2f, show (4 : Int32) = nI 4 from rfl, fl_ok hj, bd2_s, if_neg nz]
    unfold FX9_stone_j120 FX9_stone_j159
    rw [number9_bad hf, bd7_s, takes9_bad hf, bd5_s, if_pos b2f, if_neg nz]
    exact ⟨(_, _, _, _, _, _), (_, _, _, _, _, _), u, f, rfl, rfl, Or.inr ⟨_, hf, rfl, rfl, rfl⟩, fun h => absurd h nz⟩
  · have c5 : ¬ nI (T 6) = 8 := by rw [show (8 : Int32) = nI 8 from rfl, eq_f c (by omega) (by omega)]; exact id
    obtain ⟨a', b', j', x', y', h1, h2, h3, h4⟩ := next_law hT hn hK.1.2.1 x y
    obtain ⟨p1, q1, s1, z1, e9, e8, r1, v1⟩ := L_number hT hn (lo := 0) (hi := 7) (l := 0) (h := 7) (by decide) (by decide) (show RL n a0 b (nI b', nI a', tkT j', x', 0, nM) (nI a', nI b', nI j', y', 0, w) from Or.inl ⟨a', b', j', h1, x', y', w, rfl, rfl, h4⟩)
    dsimp only at e9 e8
    obtain ⟨s2, z2, e92, e82, r2, v2⟩ := L_need hT hn (k := 2) (q := 4) (kb := kb_179) (kk := 2) rfl rfl rfl (by omega) r1
    obtain ⟨p3, q3, s3, z3, e93, e83, r3, v3⟩ := L_number hT hn (lo := 1) (hi := 9) (l := 1) (h := 9) (by decide) (by decide) r2
    obtain ⟨s4, z4, e94, e84, r4, v4⟩ := L_need hT hn (k := 3) (q := 2) (kb := kb_184) (kk := 3) rfl rfl rfl (by omega) r3
    rw [if_neg c5, if_neg c5, sp_go, if_pos rfl, h2, h3, bd4_s, bd4_s, bd6_s, e9, e8, bd7_t, bd7_t]
    dsimp only
    rw [e92, e82, bd6_t, bd6_t, e93, e83, bd7_t, bd7_t]
    dsimp only
    rw [e94, e84, bd6_t, bd6_t, u0]
    have hx : s4.2.2.2.2.1 = 0 → ∃ so si, (p1 = nI so ∧ q1 = nI so ∧ so ≤ 7) ∧ p3 = nI si ∧ q3 = nI si ∧ si ≤ 9 := fun h0 => by
      obtain ⟨g1, -, v, k1, k2, k3, k4, -⟩ := v3 (v4 h0)
      obtain ⟨g2, -, v', k1', k2', k3', k4', -⟩ := v1 (v2 g1)
      exact ⟨v', v, ⟨k1', k2', by omega⟩, k1, k2, by omega⟩
    have r5 : RL n a0 b s4 z4 := r4.mono (by omega)
    rcases r5 with ⟨A, B, J, hm, X, Y, W', rfl, rfl, hL⟩ | hB
    · have hJ := hL.1.2.2.2.1
      dsimp only
      by_cases c25 : J = 25
      · subst c25
        obtain ⟨v, hv, rfl, rfl⟩ := hL.2.1 rfl
        rw [is25, bd1_s, if_neg b2t, f0, bd1_s]
        by_cases cv : (0 : Int) ≤ (v : Int) ∧ (v : Int) ≤ (T 0 : Int) - 1
        · have hvT : v < T 0 := by omega
          have al : alg (nI (T 0)) (nI v) = some () := al_n hvT (by omega)
          have ul : u (210 + v) = nI (cntR sr v (T 6)) := hR.2.2.1 v hvT
          have uh : u (1 + v) = nI (T (1 + v)) := hR.uat (by omega) (by omega)
          have fh : rd 531 f (1 + nI v) = some (nI (T (1 + v))) := by
            rw [show (1 : Int32) + nI v = nI (1 + v) from n_add 1 v]
            exact hR.rdf (by omega) (by omega)
          have hc3 := hR.1.1.2.1 v (by omega)
          have hcc : cntR sr v (T 6) ≤ T (1 + v) := hR.1.2.1.2.2.1 v (by omega)
          rw [seen_in (lo := 0) (hi := nI (T 0) - 1) (l := 0) (h := (T 0 : Int) - 1) (by decide) (toD (by omega)) hv cv.1 cv.2, bd3_s, if_neg b2t, al, bd0_s, bd0_s, bd0_s, bd0_s, bd0_s, bd0_s, cl_n (by omega), ul, uh, wiL (q := 0) (r := Int32.toInt64 (nI (T 0) - 1)) (a := 0) (b := (T 0 : Int) - 1) (by decide) (by rw [w64]; exact toD (by omega)), toN (by omega), decide_eq_true cv, bd1_s, if_neg b2t, hR.fm hvT (fun k _ _ => rfl), bd1_s, fh, bd1_s]
          by_cases cf : cntR sr v (T 6) = T (1 + v)
          · have hf3 : 1 ≤ 3 ∧ 3 ≤ 5 := by omega
            rw [if_pos (congrArg nI cf), if_pos (congrArg nI cf), show (3 : Int32) = nI 3 from rfl, wr_ok (j := 25) (by omega), if_neg (by omega), bd2_s, fl_ok (j := 25) (by omega), if_neg (by omega), bd2_s]
            exact stone_mid (s := (nI B, nI A, tkT 25, nI v, nI 3, nI A)) (z := (nI A, nI B, nI 25, nI v, nI 3, nI A)) hT hn hR (by omega) (Or.inr ⟨3, hf3, rfl, rfl, rfl⟩) (fun h0 => absurd h0 (nz_f hf3))
          · have cf2 : ¬ nI (cntR sr v (T 6)) = nI (T (1 + v)) := by rw [eq_f cf (by omega) (by omega)]; exact id
            rw [if_neg cf2, if_neg cf2]
            exact stone_mid (s := (nI B, nI A, tkT 25, nI v, 0, nM)) (z := (nI A, nI B, nI 25, nI v, 0, W')) hT hn hR (by omega) (Or.inl ⟨A, B, 25, hm, nI v, nI v, W', rfl, rfl, hL⟩) (fun h0 => ⟨hx rfl, fun v' hv' hT' => by
              have : v = v' := by
                by_cases ce : v = v'
                · exact ce
                · have hv' : nI v = nI v' := hv'
                  rw [eq_f ce (by omega) (by omega)] at hv'
                  exact hv'.elim
              rw [← this]
              omega⟩)
        · rw [seen_out (lo := 0) (hi := nI (T 0) - 1) (l := 0) (h := (T 0 : Int) - 1) (by decide) (toD (by omega)) hv cv, bd3_s, if_pos b2f, wiL (q := 0) (r := Int32.toInt64 (nI (T 0) - 1)) (a := 0) (b := (T 0 : Int) - 1) (by decide) (by rw [w64]; exact toD (by omega)), toN (by omega), decide_eq_false cv, bd1_s, if_pos b2f]
          have hf3 : 1 ≤ 3 ∧ 3 ≤ 5 := by omega
          unfold FX9_stone_j120 FX9_stone_j159 FX8_readStone_j114 FX8_readStone_j150
          rw [number9_bad hf3, bd7_s, takes9_bad hf3, bd5_s, if_pos b2f, if_neg (nz_f hf3), f0, bd1_s, reads_out (lo := 0) (hi := nI (T 0) - 1) (l := 0) (h := (T 0 : Int) - 1) (by decide) (toD (by omega)) hv cv, bd7_s, ea_no (is8_bad hf3), bd5_s, if_pos b2f, if_neg (nz_f hf3)]
          exact ⟨(_, _, _, _, _, _), (_, _, _, _, _, _), u, f, rfl, rfl, Or.inr ⟨3, hf3, rfl, rfl, rfl⟩, fun h => absurd h (nz_f hf3)⟩
      · have hf := fk (j := J) (p := 2) (by omega) (by omega)
        rw [seen_no hJ c25, bd3_s, if_pos b2f, show (25 : Int32) = nI 25 from rfl, is8 hJ (by omega), decide_eq_false c25, bd1_s, if_pos b2f]
        unfold FX9_stone_j120 FX9_stone_j159 FX8_readStone_j114 FX8_readStone_j150
        rw [number9_bad hf, bd7_s, takes9_bad hf, bd5_s, if_pos b2f, if_neg (nz_f hf), f0, bd1_s, reads_no hJ c25, bd7_s, ea_no (is8_bad hf), bd5_s, if_pos b2f, if_neg (nz_f hf)]
        exact ⟨(_, _, _, _, _, _), (_, _, _, _, _, _), u, f, rfl, rfl, Or.inr ⟨_, hf, rfl, rfl, rfl⟩, fun h => absurd h (nz_f hf)⟩
    · obtain ⟨g, hf, q1', q2', q3'⟩ := id hB
      have e1 : FX9_seen s4.2.1 s4.2.2.1 s4.2.2.2.1 s4.2.2.2.2.1 s4.2.2.2.2.2 0 (nI (T 0) - 1) = some (false, s4.2.2.2.2.1, s4.2.2.2.2.2) := by rw [q1']; exact seen_bad hf
      have e2 : FX8_is z4.2.2.1 z4.2.2.2.2.1 25 = some false := by rw [q2']; exact is8_bad hf
      rw [e1, bd3_s, if_pos b2f, e2, bd1_s, if_pos b2f]
      exact stone_mid hT hn hR (by omega) (Or.inr hB) (fun h0 => absurd h0 hB.wrong.1)
end P81
