set_option maxRecDepth 100000
/-! lines of a town: wishes -/
section P82
variable {n : Nat} {a0 a8 : Nat → Int32} {T sr : Nat → Nat} {u f : Nat → Int32} {s z : S6} {m : Nat}
theorem wrW_n {v : Nat → Int32} {r l : Nat} {x : Int32} (hr : r < 5) (hl : l < 3) : wrW v (nI r) (nI l) x = some (upd v (41 + 3 * r + l) x) := by
  unfold wrW
  rw [cl_n (by omega), cl_n (by omega), if_neg]
  rw [lt_iff, toN (by omega)]
  show ¬ ((l : Int) < 0 ∨ 3 ≤ l)
  omega
/-- a wish, so far: the numbers on both sides -/
def WR (T : Nat → Nat) (r l : Nat) (w : Nat → Nat) (u u1 f1 : Nat → Int32) : Prop := (l ≤ T (1 + r) ∧ ∀ i, i < l → w i ≤ 7) ∧ (∀ k, k < 113 → f1 k = rp (wT T r w l) k) ∧ (∀ k, k < 78 → u1 k = rp (wT T r w l) k) ∧ ∀ k, 78 ≤ k → u1 k = u k
theorem wish_loop (hT : TapeR a0 a8) (hn : n ≤ 400) (hR : TR T sr u f) {r : Nat} (hr : r < T 0) : ∀ d a b j (s z : S6) l w u1 f1, n < a + d → OK6 n a0 s z a b j → WR T r l w u u1 f1 → ∃ X Y, loopC (fun (s : Int32 × Int32 × Int32 × Int32 × Int32 × Int32 × Int32 × (Nat → Int32)) => FX9_wish_b123 (nI n) a0 (nI r) s.1 s.2.1 s.2.2.1 s.2.2.2.1 s.2.2.2.2.1 s.2.2.2.2.2.1 s.2.2.2.2.2.2.1 s.2.2.2.2.2.2.2) (nI l, s.1, s.2.1, s.2.2.1, s.2.2.2.1, s.2.2.2.2.1, s.2.2.2.2.2, u1) = some X ∧ loopC (fun (s : Int32 × (Nat → Int32) × Int32 × Int32 × Int32 × Int32 × Int32 × Int32) => FX8_readWish_b103 a8 (nI n) (nI r) s.1 s.2.1 s.2.2.1 s.2.2.2.1 s.2.2.2.2.1 s.2.2.2.2.2.1 s.2.2.2.2.2.2.1 s.2.2.2.2.2.2.2) (nI l, f1, z.1, z.2.1, z.2.2.1, z.2.2.2.1, z.2.2.2.2.1, z.2.2.2.2.2) = some Y ∧ ((∃ (s' z' : S6) (u' f' : Nat → Int32), X = .inl (ap6 s' u') ∧ Y = .inl (f', z') ∧ BD6 s' z') ∨ ∃ (s' z' : S6) (u' f' : Nat → Int32) (a' b' j' l' : Nat) (w' : Nat → Nat), X = .inr (nI l', ap6 s' u') ∧ Y = .inr (nI l', f', z') ∧ a ≤ a' ∧ OK6 n a0 s' z' a' b' j' ∧ WR T r l' w' u u' f') := by
  have w0 : T 0 ≤ 5 := hR.1.1.1.1
  have hr3 := hR.1.1.2.1 r (by omega)
  intro d
  induction d with
  | zero =>
    rintro a b j s z l w u1 f1 hd ⟨x, y, q, -, -, hK⟩
    have := hK.1
    omega
  | succ d ih =>
    rintro a b j s z l w u1 f1 hd ⟨x, y, q, rfl, rfl, hK⟩ hW
    have hW2 := hW
    obtain ⟨⟨hl, hw7⟩, hf1, hu1, hu2⟩ := hW
    have hj := hK.1.2.2.2.1
    have wk : ∀ k, ¬ (41 ≤ k ∧ k < 56) → wT T r w l k = T k := fun k hk => if_neg (by omega)
    have e0 : u1 0 = nI (T 0) := by rw [hu1 0 (by omega), rp_n (by omega), wk 0 (by omega)]
    have e1 : u1 (1 + r) = nI (T (1 + r)) := by rw [hu1 _ (by omega), rp_n (by omega), wk _ (by omega)]
    have al : alg (nI (T 0)) (nI r) = some () := al_n hr (by omega)
    have g1 : rd 531 f1 (1 + nI r) = some (nI (T (1 + r))) := by
      rw [show (1 : Int32) + nI r = nI (1 + r) from n_add 1 r]
      exact rdn (by omega) (by omega) (by rw [hf1 _ (by omega), rp_n (by omega), wk _ (by omega)])
    by_cases c25 : j = 25
    · subst c25
      obtain ⟨v, hv, rfl, rfl⟩ := hK.2.1 rfl
      by_cases cl : l = T (1 + r)
      · have hf3 : 1 ≤ 3 ∧ 3 ≤ 5 := by omega
        refine ⟨.inl (ap6 (nI b, nI a, tkT 25, nI v, nI 3, nI a) u1), .inl (f1, (nI a, nI b, nI 25, nI v, nI 3, nI a)), loopC_inr ?_, loopC_inr ?_, Or.inl ⟨_, _, _, _, rfl, rfl, 3, hf3, rfl, rfl, rfl⟩⟩
        · show FX9_wish_b123 (nI n) a0 (nI r) (nI l) (nI b) (nI a) (tkT 25) (nI v) 0 nM u1 = _
          unfold FX9_wish_b123 FX9_wish_j152
          rw [if_pos rfl, if_pos (by decide), e0, al, bd0_s, cl_n (by omega), e1, if_pos (congrArg nI cl), show (3 : Int32) = nI 3 from rfl, wr_ok (j := 25) (by omega), if_neg (by omega), bd2_s, number9_bad hf3, bd7_s, if_neg (nz_f hf3)]
          rfl
        · show FX8_readWish_b103 a8 (nI n) (nI r) (nI l) f1 (nI a) (nI b) (nI 25) (nI v) 0 q = _
          unfold FX8_readWish_b103 FX8_readWish_j129
          rw [is25, bd1_s, if_neg b2t, g1, bd1_s, if_pos (congrArg nI cl), show (3 : Int32) = nI 3 from rfl, fl_ok (j := 25) (by omega), if_neg (by omega), bd2_s, reads_bad hf3, bd7_s, if_neg (nz_f hf3)]
      · have cl2 : ¬ nI l = nI (T (1 + r)) := by rw [eq_f cl (by omega) (by omega)]; exact id
        obtain ⟨p, p', s', z', n9, n8, r1, v1⟩ := L_number hT hn (lo := 0) (hi := 7) (l := 0) (h := 7) (by decide) (by decide) (show RL n a0 a (nI b, nI a, tkT 25, nI v, 0, nM) (nI a, nI b, nI 25, nI v, 0, q) from Or.inl ⟨a, b, 25, Nat.le_refl _, _, _, q, rfl, rfl, hK⟩)
        dsimp only at n9 n8
        have b9 : FX9_wish_b123 (nI n) a0 (nI r) (nI l) (nI b) (nI a) (tkT 25) (nI v) 0 nM u1 = if s'.2.2.2.2.1 = 0 then bd0 (alg (u1 0) (nI r)) (bd0 (alg (u1 0) (nI r)) (bd1 (wrW u1 (nI r) (nI l) p) fun u_115 => some (.inl (nI l + 1, s'.1, s'.2.1, s'.2.2.1, s'.2.2.2.1, s'.2.2.2.2.1, s'.2.2.2.2.2, u_115)))) else some (.inr (.inl (ap6 s' u1))) := by
          unfold FX9_wish_b123 FX9_wish_j152
          rw [if_pos rfl, if_pos (by decide), e0, al, bd0_s, cl_n (by omega), e1, if_neg cl2, n9, bd7_t]
          rfl
        have b8 : FX8_readWish_b103 a8 (nI n) (nI r) (nI l) f1 (nI a) (nI b) (nI 25) (nI v) 0 q = if z'.2.2.2.2.1 = 0 then bd1 (wrI 531 f1 (41 + 3 * nI r + nI l) p') (fun f2 => some (.inl (nI l + 1, f2, z'))) else some (.inr (.inl (f1, z'))) := by
          unfold FX8_readWish_b103 FX8_readWish_j129
          rw [is25, bd1_s, if_neg b2t, g1, bd1_s, if_neg cl2, n8, bd7_t]
        by_cases c0 : s'.2.2.2.2.1 = 0
        · obtain ⟨-, -, v', rfl, rfl, hv1, hv2, -⟩ := v1 c0
          obtain ⟨a2, b2, j2, k1, x2, y2, q2, rfl, rfl, k2⟩ := r1.ok c0
          have ix : (41 : Int32) + 3 * nI r + nI l = nI (41 + 3 * r + l) := by
            rw [show (3 : Int32) = nI 3 from rfl, show (41 : Int32) = nI 41 from rfl, n_mul, n_add, n_add]
          have el : nI l + 1 = nI (l + 1) := n_add l 1
          dsimp only at b9 b8
          rw [if_pos rfl, e0, al, bd0_s, bd0_s, wrW_n (by omega) (by omega), bd1_s, el] at b9
          rw [if_pos rfl, ix, wr_n (by omega) (by omega), bd1_s, el] at b8
          have hx : rpv (41 + 3 * r + l) (v' + 1) = nI v' := by rw [rpv_d (by omega), nD_succ]
          have hW3 : WR T r (l + 1) (up w l v') u (upd u1 (41 + 3 * r + l) (nI v')) (upd f1 (41 + 3 * r + l) (nI v')) := by
            refine ⟨⟨by omega, fun i hi => ?_⟩, ?_, ?_, fun k hk => ?_⟩
            · by_cases ci : i = l
              · rw [upn_t ci]; omega
              · rw [upn_f ci]; exact hw7 i (by omega)
            · rw [← wT_s]
              exact fr_up hf1 hx
            · rw [← wT_s]
              exact fr_up hu1 hx
            · rw [up_f (by omega)]
              exact hu2 k hk
          obtain ⟨X, Y, h1, h2, h3⟩ := ih a2 b2 j2 (nI b2, nI a2, tkT j2, x2, 0, nM) (nI a2, nI b2, nI j2, y2, 0, q2) (l + 1) (up w l v') _ _ (by omega) ⟨x2, y2, q2, rfl, rfl, k2⟩ hW3
          refine ⟨X, Y, loop_st b9 h1, loop_st b8 h2, ?_⟩
          rcases h3 with h3 | ⟨s3, z3, u3, f3, a3, b3, j3, l3, w3, h4, h5, h6, h7, h8⟩
          · exact Or.inl h3
          · exact Or.inr ⟨s3, z3, u3, f3, a3, b3, j3, l3, w3, h4, h5, by omega, h7, h8⟩
        · have hB := r1.bad c0
          rw [if_neg hB.wrong.1] at b9
          rw [if_neg hB.wrong.2] at b8
          exact ⟨_, _, loopC_inr b9, loopC_inr b8, Or.inl ⟨s', z', u1, f1, rfl, rfl, hB⟩⟩
    · refine ⟨.inr (nI l, ap6 (nI b, nI a, tkT j, x, 0, nM) u1), .inr (nI l, f1, (nI a, nI b, nI j, y, 0, q)), loopC_inr ?_, loopC_inr ?_, Or.inr ⟨_, _, _, _, a, b, j, l, w, rfl, rfl, Nat.le_refl _, ⟨x, y, q, rfl, rfl, hK⟩, hW2⟩⟩
      · show FX9_wish_b123 (nI n) a0 (nI r) (nI l) (nI b) (nI a) (tkT j) x 0 nM u1 = _
        unfold FX9_wish_b123
        rw [if_pos rfl, if_neg (fun h => c25 (((tk_eq j hj).2.1).mp h))]
        rfl
      · show FX8_readWish_b103 a8 (nI n) (nI r) (nI l) f1 (nI a) (nI b) (nI j) y 0 q = _
        unfold FX8_readWish_b103
        rw [show (25 : Int32) = nI 25 from rfl, is8 hj (by omega), decide_eq_false c25, bd1_s, if_pos b2f]
theorem wish_end (hT : TapeR a0 a8) (hn : n ≤ 400) (hR : TR T sr u f) (h : RL n a0 m s z) {p3 p4 q3 q4 : Int32} (hv : s.2.2.2.2.1 = 0 → ∃ r wh, (p3 = nI r ∧ q3 = nI r ∧ r < T 0 ∧ T (31 + r) = 0) ∧ p4 = nI wh ∧ q4 = nI wh ∧ wh ≤ 1) : ∃ (s' z' : S6) (u' f' : Nat → Int32), FX9_wish_j90 u (nI n) a0 p3 p4 s.1 s.2.1 s.2.2.1 s.2.2.2.1 s.2.2.2.2.1 s.2.2.2.2.2 = some (ap6 s' u') ∧ FX8_readWish_j87 a8 f (nI n) q3 q4 z.1 z.2.1 z.2.2.1 z.2.2.2.1 z.2.2.2.2.1 z.2.2.2.2.2 = some (f', z') ∧ RL n a0 m s' z' ∧ (s'.2.2.2.2.1 = 0 → ∃ T' sr', TR T' sr' u' f' ∧ T' 79 = T 79) := by
  obtain ⟨s1, z1, e9, e8, r1, v1⟩ := L_need hT hn (k := 7) (q := 3) (kb := kb_207) (kk := 7) rfl rfl rfl (by omega) h
  unfold FX9_wish_j90 FX8_readWish_j87
  rw [e9, e8, bd6_t, bd6_t]
  rcases r1 with ⟨a, b, j, hm, x, y, q, rfl, rfl, hK⟩ | hB
  · obtain ⟨r, wh, ⟨rfl, rfl, hr, h31⟩, rfl, rfl, hwh⟩ := hv (v1 rfl)
    have w0 : T 0 ≤ 5 := hR.1.1.1.1
    have hr3 := hR.1.1.2.1 r (by omega)
    have u0 : u 0 = nI (T 0) := hR.uat (by omega) (by omega)
    have al : alg (nI (T 0)) (nI r) = some () := al_n hr (by omega)
    have hW0 : WR T r 0 (fun _ => 0) u u f := by
      refine ⟨⟨Nat.zero_le _, fun i hi => absurd hi (Nat.not_lt_zero i)⟩, ?_, ?_, fun k hk => rfl⟩
      · rw [wT_0]; exact hR.2.1.1
      · rw [wT_0]; exact hR.2.1.2.1
    obtain ⟨X, Y, h1, h2, h3⟩ := wish_loop hT hn hR hr (n + 1) a b j (nI b, nI a, tkT j, x, 0, nM) (nI a, nI b, nI j, y, 0, q) 0 (fun _ => 0) u f (by omega) ⟨x, y, q, rfl, rfl, hK⟩ hW0
    dsimp only at h1 h2
    dsimp only
    rw [if_pos rfl, if_pos rfl, u0, al, bd0_s, bd0_s, show ((0 : Int32), nI b, nI a, tkT j, x, (0 : Int32), nM, u) = (nI 0, nI b, nI a, tkT j, x, 0, nM, u) from rfl, show ((0 : Int32), f, nI a, nI b, nI j, y, (0 : Int32), q) = (nI 0, f, nI a, nI b, nI j, y, 0, q) from rfl, h1, h2]
    rcases h3 with ⟨s', z', u', f', rfl, rfl, hB⟩ | ⟨s', z', u', f', a', b', j', l', w', rfl, rfl, k1, k2, k3⟩
    · exact ⟨s', z', u', f', rfl, rfl, Or.inr hB, fun h => absurd h hB.wrong.1⟩
    · have ks := hR.wish hr h31 k3.1.1 k3.1.2 hwh k3.2.1 k3.2.2.1 k3.2.2.2
      have wk : wT T r w' l' 0 = T 0 := if_neg (by omega)
      have u1 : u' 0 = nI (T 0) := by rw [k3.2.2.1 0 (by omega), rp_n (by omega), wk]
      have u2 : (upd u' (31 + r) (nI l')) 0 = nI (T 0) := by rw [up_f (by omega)]; exact u1
      have x1 : (31 : Int32) + nI r = nI (31 + r) := n_add 31 r
      have x2 : (36 : Int32) + nI r = nI (36 + r) := n_add 36 r
      refine ⟨s', z', upd (upd u' (31 + r) (nI l')) (36 + r) (nI wh), upd (upd f' (31 + r) (nI l')) (36 + r) (nI wh), ?_, ?_, k2.rl (by omega), fun _ => ⟨_, _, ks, ?_⟩⟩
      · show (bd0 (alg (u' 0) (nI r)) <| bd0 (alg ((upd u' (31 + (nI r).toNatClampNeg) (nI l')) 0) (nI r)) <| some (s'.1, s'.2.1, s'.2.2.1, s'.2.2.2.1, s'.2.2.2.2.1, s'.2.2.2.2.2, upd (upd u' (31 + (nI r).toNatClampNeg) (nI l')) (36 + (nI r).toNatClampNeg) (nI wh))) = _
        rw [cl_n (by omega), u1, u2, al, bd0_s, bd0_s]
        rfl
      · show (bd1 (wrI 531 f' (31 + nI r) (nI l')) fun g1 => bd1 (wrI 531 g1 (36 + nI r) (nI wh)) fun g2 => some (g2, z')) = _
        rw [x1, x2, wr_n (by omega) (by omega), bd1_s, wr_n (by omega) (by omega), bd1_s]
      · have h9 := k3.1.1
        rw [upn_f (by omega), upn_f (by omega)]
        exact if_neg (by omega)
  · rw [if_neg hB.wrong.1, if_neg hB.wrong.2]
    exact ⟨s1, z1, u, f, rfl, rfl, Or.inr hB, fun h => absurd h hB.wrong.1⟩
theorem wish_mid (hT : TapeR a0 a8) (hn : n ≤ 400) (hR : TR T sr u f) (h : RL n a0 m s z) (hx : s.2.2.2.2.1 = 0 → ∀ v, s.2.2.2.1 = nI v → v < T 0 → T (31 + v) = 0) : ∃ (s' z' : S6) (u' f' : Nat → Int32), FX9_wish_j53 u (nI n) a0 s.1 s.2.1 s.2.2.1 s.2.2.2.1 s.2.2.2.2.1 s.2.2.2.2.2 = some (ap6 s' u') ∧ FX8_readWish_j55 a8 f (nI n) z.1 z.2.1 z.2.2.1 z.2.2.2.1 z.2.2.2.2.1 z.2.2.2.2.2 = some (f', z') ∧ RL n a0 m s' z' ∧ (s'.2.2.2.2.1 = 0 → ∃ T' sr', TR T' sr' u' f' ∧ T' 79 = T 79) := by
  have w0 : T 0 ≤ 5 := hR.1.1.1.1
  have u0 : u 0 = nI (T 0) := hR.uat (by omega) (by omega)
  have f0 : rd 531 f 0 = some (nI (T 0)) := hR.rdf (k := 0) (by omega) (by omega)
  obtain ⟨p, q, s1, z1, e9, e8, r1, hv⟩ := L_number hT hn (lo := 0) (hi := nI (T 0) - 1) (l := 0) (h := (T 0 : Int) - 1) (by decide) (toD (by omega)) h
  obtain ⟨c, s2, z2, g9, g8, k1, k2, r2, -, hc⟩ := L_takes hT hn (k := 6) (q := 2) (kb := kb_205) (kk := 6) rfl rfl rfl (by omega) r1
  unfold FX9_wish_j53 FX8_readWish_j55
  rw [u0, e9, f0, bd1_s, e8, bd7_t, bd7_t]
  dsimp only
  rw [g9, g8, bd5_t, bd5_t]
  dsimp only
  rw [← k1.1, ← k1.2, ← k2.1, ← k2.2]
  have hp : s1.2.2.2.2.1 = 0 → ∃ r, p = nI r ∧ q = nI r ∧ r < T 0 ∧ T (31 + r) = 0 := fun h0 => by
    obtain ⟨h1, h2, v, h3, h4, h5, h6, h7⟩ := hv h0
    exact ⟨v, h3, h4, by omega, hx h1 v (h2.symm.trans h3) (by omega)⟩
  cases c with
  | false =>
    rw [if_pos b2f, if_pos b2f]
    have r3 : RL n a0 m s2 z2 := r2.mono (by show m ≤ m + 1; omega)
    exact wish_end hT hn hR r3 (fun h0 => by
      obtain ⟨r, h3, h4, h5, h7⟩ := hp (k1.1.symm.trans h0)
      exact ⟨r, 0, ⟨h3, h4, h5, h7⟩, rfl, rfl, by omega⟩)
  | true =>
    rw [if_neg b2t, if_neg b2t]
    obtain ⟨p4, q4, s3, z3, e9, e8, r3, hv3⟩ := L_number hT hn (lo := 0) (hi := 1) (l := 0) (h := 1) (by decide) (by decide) r2
    rw [e9, e8, bd7_t, bd7_t]
    dsimp only
    have r4 : RL n a0 m s3 z3 := r3.mono (by show m ≤ m + 1 + 2 + 1; omega)
    exact wish_end hT hn hR r4 (fun h0 => by
      obtain ⟨h1, -, v, hva, hvb, hvc, hvd, -⟩ := hv3 h0
      obtain ⟨r, h3, h4, h5, h7⟩ := hp (k1.1.symm.trans h1)
      exact ⟨r, v, ⟨h3, h4, h5, h7⟩, hva, hvb, by omega⟩)
theorem twish_law (hT : TapeR a0 a8) (hn : n ≤ 400) {a b j : Nat} (hO : OK6 n a0 s z a b j) (hR : TR T sr u f) : ∃ (s' z' : S6) (u' f' : Nat → Int32), FX9_wish (nI n) a0 s.1 s.2.2.2.1 s.2.2.2.2.1 s.2.2.2.2.2 u = some (ap6 s' u') ∧ FX8_readWish a8 f z.2.1 (nI n) z.2.2.2.1 z.2.2.2.2.1 z.2.2.2.2.2 = some (f', z') ∧ RL n a0 b s' z' ∧ (s'.2.2.2.2.1 = 0 → ∃ T' sr', TR T' sr' u' f' ∧ T' 79 = T 79) := by
  obtain ⟨x, y, w, rfl, rfl, hK⟩ := hO
  have w0 : T 0 ≤ 5 := hR.1.1.1.1
  have u0 : u 0 = nI (T 0) := hR.uat (by omega) (by omega)
  have f0 : rd 531 f 0 = some (nI (T 0)) := hR.rdf (k := 0) (by omega) (by omega)
  obtain ⟨A, B, J, X, Y, hm, h2, h3, hL⟩ := next_law hT hn hK.1.2.1 x y
  have hJ := hL.1.2.2.2.1
  dsimp only
  unfold FX9_wish FX8_readWish
  rw [h2, h3, bd4_s, bd4_s, u0]
  by_cases c25 : J = 25
  · subst c25
    obtain ⟨v, hv, rfl, rfl⟩ := hL.2.1 rfl
    rw [is25, bd1_s, if_neg b2t, f0, bd1_s]
    by_cases cv : (0 : Int) ≤ (v : Int) ∧ (v : Int) ≤ (T 0 : Int) - 1
    · have hvT : v < T 0 := by omega
      have al : alg (nI (T 0)) (nI v) = some () := al_n hvT (by omega)
      have hw := hR.1.1.2.1 v (by omega)
      have uh : u (31 + v) = nD (T (31 + v)) := by rw [hR.2.1.2.1 _ (by omega), rp_d (by omega)]
      have fh : rd 531 f (31 + nI v) = some (nD (T (31 + v))) := by
        rw [show (31 : Int32) + nI v = nI (31 + v) from n_add 31 v]
        exact rdn (by omega) (by omega) (by rw [hR.2.1.1 _ (by omega), rp_d (by omega)])
      rw [seen_in (lo := 0) (hi := nI (T 0) - 1) (l := 0) (h := (T 0 : Int) - 1) (by decide) (toD (by omega)) hv cv.1 cv.2, bd3_s, if_neg b2t, al, bd0_s, bd0_s, bd0_s, cl_n (by omega), uh, wiL (q := 0) (r := Int32.toInt64 (nI (T 0) - 1)) (a := 0) (b := (T 0 : Int) - 1) (by decide) (by rw [w64]; exact toD (by omega)), toN (by omega), decide_eq_true cv, bd1_s, if_neg b2t, fh, bd1_s]
      by_cases cf : T (31 + v) = 0
      · have em : nD (T (31 + v)) = -1 := by rw [cf]; exact nD_zero
        rw [if_pos em, if_pos em]
        exact wish_mid (s := (nI B, nI A, tkT 25, nI v, 0, nM)) (z := (nI A, nI B, nI 25, nI v, 0, w)) hT hn hR (Or.inl ⟨A, B, 25, hm, nI v, nI v, w, rfl, rfl, hL⟩) (fun _ v' hv' hT' => by
            have : v = v' := by
              by_cases ce : v = v'
              · exact ce
              · have hv' : nI v = nI v' := hv'
                rw [eq_f ce (by omega) (by omega)] at hv'
                exact hv'.elim
            rw [← this]
            exact cf)
      · have em : ¬ nD (T (31 + v)) = -1 := by rw [show (-1 : Int32) = nM from rfl, d_neM cf (by omega)]; exact id
        have hf3 : 1 ≤ 3 ∧ 3 ≤ 5 := by omega
        rw [if_neg em, if_neg em, show (3 : Int32) = nI 3 from rfl, wr_ok (j := 25) (by omega), if_neg (by omega), bd2_s, fl_ok (j := 25) (by omega), if_neg (by omega), bd2_s]
        exact wish_mid (s := (nI B, nI A, tkT 25, nI v, nI 3, nI A)) (z := (nI A, nI B, nI 25, nI v, nI 3, nI A)) hT hn hR (Or.inr ⟨3, hf3, rfl, rfl, rfl⟩) (fun h0 => absurd h0 (nz_f hf3))
    · rw [seen_out (lo := 0) (hi := nI (T 0) - 1) (l := 0) (h := (T 0 : Int) - 1) (by decide) (toD (by omega)) hv cv, bd3_s, if_pos b2f, wiL (q := 0) (r := Int32.toInt64 (nI (T 0) - 1)) (a := 0) (b := (T 0 : Int) - 1) (by decide) (by rw [w64]; exact toD (by omega)), toN (by omega), decide_eq_false cv, bd1_s, if_pos b2f]
      have hf3 : 1 ≤ 3 ∧ 3 ≤ 5 := by omega
      unfold FX9_wish_j53 FX9_wish_j90 FX8_readWish_j55 FX8_readWish_j87
      rw [u0, number9_bad hf3, bd7_s, takes9_bad hf3, bd5_s, if_pos b2f, need9_bad hf3, bd6_s, if_neg (nz_f hf3), f0, bd1_s, reads_out (lo := 0) (hi := nI (T 0) - 1) (l := 0) (h := (T 0 : Int) - 1) (by decide) (toD (by omega)) hv cv, bd7_s, ea_no (is8_bad hf3), bd5_s, if_pos b2f]
      unfold FX8_needs
      rw [ea_no (is8_bad hf3), bd5_s, if_pos b2f, fl_bad hf3, bd2_s, bd6_s, if_neg (nz_f hf3)]
      exact ⟨(_, _, _, _, _, _), (_, _, _, _, _, _), u, f, rfl, rfl, Or.inr ⟨3, hf3, rfl, rfl, rfl⟩, fun h => absurd h (nz_f hf3)⟩
  · have hf := fk (j := J) (p := 2) (by omega) (by omega)
    rw [seen_no hJ c25, bd3_s, if_pos b2f, show (25 : Int32) = nI 25 from rfl, is8 hJ (by omega), decide_eq_false c25, bd1_s, if_pos b2f]
    unfold FX9_wish_j53 FX9_wish_j90 FX8_readWish_j55 FX8_readWish_j87
    rw [u0, number9_bad hf, bd7_s, takes9_bad hf, bd5_s, if_pos b2f, need9_bad hf, bd6_s, if_neg (nz_f hf), f0, bd1_s, reads_no hJ c25, bd7_s, ea_no (is8_bad hf), bd5_s, if_pos b2f]
    unfold FX8_needs
    rw [ea_no (is8_bad hf), bd5_s, if_pos b2f, fl_bad hf, bd2_s, bd6_s, if_neg (nz_f hf)]
    exact ⟨(_, _, _, _, _, _), (_, _, _, _, _, _), u, f, rfl, rfl, Or.inr ⟨_, hf, rfl, rfl, rfl⟩, fun h => absurd h (nz_f hf)⟩
end P82
