set_option maxRecDepth 100000
/-! lines of a town, one after the other -/
section P83
variable {n : Nat} {a0 a8 : Nat → Int32} {T sr : Nat → Nat} {u f : Nat → Int32} {s z : S6} {m : Nat}
theorem tline_law (hT : TapeR a0 a8) (hn : n ≤ 400) {a b j : Nat} (hO : OK6 n a0 s z a b j) (hR : TR T sr u f) : ∃ (s' z' : S6) (u' f' : Nat → Int32), FX9_line (nI n) a0 s.1 s.2.1 s.2.2.1 s.2.2.2.1 s.2.2.2.2.1 s.2.2.2.2.2 u = some (ap6 s' u') ∧ FX8_readLine a8 f z.1 z.2.1 (nI n) z.2.2.1 z.2.2.2.1 z.2.2.2.2.1 z.2.2.2.2.2 = FX8_readLine_j175 a8 (nI n) f' z'.1 z'.2.1 z'.2.2.1 z'.2.2.2.1 z'.2.2.2.2.1 z'.2.2.2.2.2 ∧ RL n a0 b s' z' ∧ (s'.2.2.2.2.1 = 0 → ∃ T' sr', TR T' sr' u' f' ∧ T' 79 = T 79) := by
  obtain ⟨x, y, w, rfl, rfl, hK⟩ := id hO
  have hj := hK.1.2.2.2.1
  have i0 : FX9_is (nI n) a0 3 kb_116 (nI b) (nI a) (tkT j) 0 = some (decide (j = 0)) := hK.2.2 0 (by omega)
  have i1 : FX9_is (nI n) a0 5 kb_120 (nI b) (nI a) (tkT j) 0 = some (decide (j = 1)) := hK.2.2 1 (by omega)
  have i5 : FX9_is (nI n) a0 4 kb_124 (nI b) (nI a) (tkT j) 0 = some (decide (j = 5)) := hK.2.2 5 (by omega)
  have i8 : FX9_is (nI n) a0 4 kb_128 (nI b) (nI a) (tkT j) 0 = some (decide (j = 8)) := hK.2.2 8 (by omega)
  have i9 : FX9_is (nI n) a0 4 kb_130 (nI b) (nI a) (tkT j) 0 = some (decide (j = 9)) := hK.2.2 9 (by omega)
  have m0 : FX8_is (nI j) 0 0 = some (decide (j = 0)) := is8 (k := 0) hj (by omega)
  have m1 : FX8_is (nI j) 0 1 = some (decide (j = 1)) := is8 (k := 1) hj (by omega)
  have m5 : FX8_is (nI j) 0 5 = some (decide (j = 5)) := is8 (k := 5) hj (by omega)
  have m8 : FX8_is (nI j) 0 8 = some (decide (j = 8)) := is8 (k := 8) hj (by omega)
  have m9 : FX8_is (nI j) 0 9 = some (decide (j = 9)) := is8 (k := 9) hj (by omega)
  have nt : ¬ b2i true = 0 := by decide
  have nf : b2i false = 0 := rfl
  dsimp only
  unfold FX9_line FX8_readLine FX9_line_j66
  rw [i0, m0, bd1_s, bd1_s]
  by_cases c0 : j = 0
  · rw [decide_eq_true c0, if_neg nt, if_neg nt]
    obtain ⟨s', z', u', f', e9, e8, h1, h2⟩ := trow_law hT hn hO hR
    dsimp only at e9 e8
    rw [e9, e8]
    exact ⟨s', z', u', f', rfl, rfl, h1, h2⟩
  rw [decide_eq_false c0, if_pos nf, if_pos nf, i1, m1, bd1_s, bd1_s]
  by_cases c1 : j = 1
  · rw [decide_eq_true c1, if_neg nt, if_neg nt]
    obtain ⟨s', z', u', f', e9, e8, h1, h2⟩ := tstone_law hT hn hO hR
    dsimp only at e9 e8
    rw [e9, e8]
    exact ⟨s', z', u', f', rfl, rfl, h1, h2⟩
  rw [decide_eq_false c1, if_pos nf, if_pos nf, i5, m5, bd1_s, bd1_s]
  by_cases c5 : j = 5
  · rw [decide_eq_true c5, if_neg nt, if_neg nt]
    obtain ⟨s', z', u', f', e9, e8, h1, h2⟩ := twish_law hT hn hO hR
    dsimp only at e9 e8
    rw [e9, e8]
    exact ⟨s', z', u', f', rfl, rfl, h1, h2⟩
  rw [decide_eq_false c5, if_pos nf, if_pos nf, i8, m8, bd1_s, bd1_s]
  by_cases c8 : j = 8
  · rw [decide_eq_true c8, if_neg nt, if_neg nt]
    obtain ⟨s', z', u', f', e9, e8, h1, h2⟩ := tmust_law hT hn hO (Or.inl c8) (p1 := 0) (by rw [c8]; rfl) hR
    dsimp only at e9 e8
    rw [e9, e8]
    exact ⟨s', z', u', f', rfl, rfl, h1, h2⟩
  rw [decide_eq_false c8, if_pos nf, if_pos nf, i9, m9, bd1_s, bd1_s]
  by_cases c9 : j = 9
  · rw [decide_eq_true c9, if_neg nt, if_neg nt]
    obtain ⟨s', z', u', f', e9, e8, h1, h2⟩ := tmust_law hT hn hO (Or.inr c9) (p1 := 1) (by rw [c9]; rfl) hR
    dsimp only at e9 e8
    rw [e9, e8]
    exact ⟨s', z', u', f', rfl, rfl, h1, h2⟩
  rw [decide_eq_false c9, if_pos nf, if_pos nf]
  unfold FX9_more
  have hRL : RL n a0 a (nI b, nI a, tkT j, x, 0, nM) (nI a, nI b, nI j, y, 0, w) := Or.inl ⟨a, b, j, Nat.le_refl _, hO⟩
  have j10 : FX9_is (nI n) a0 4 kb_138 (nI b) (nI a) (tkT j) 0 = some (decide (j = 10)) := hK.2.2 10 (by omega)
  have j11 : FX9_is (nI n) a0 4 kb_145 (nI b) (nI a) (tkT j) 0 = some (decide (j = 11)) := hK.2.2 11 (by omega)
  have j12 : FX9_is (nI n) a0 4 kb_149 (nI b) (nI a) (tkT j) 0 = some (decide (j = 12)) := hK.2.2 12 (by omega)
  have j13 : FX9_is (nI n) a0 5 kb_155 (nI b) (nI a) (tkT j) 0 = some (decide (j = 13)) := hK.2.2 13 (by omega)
  have l10 : FX8_is (nI j) 0 10 = some (decide (j = 10)) := is8 (k := 10) hj (by omega)
  have l11 : FX8_is (nI j) 0 11 = some (decide (j = 11)) := is8 (k := 11) hj (by omega)
  have l12 : FX8_is (nI j) 0 12 = some (decide (j = 12)) := is8 (k := 12) hj (by omega)
  have l13 : FX8_is (nI j) 0 13 = some (decide (j = 13)) := is8 (k := 13) hj (by omega)
  obtain ⟨A, B, J, X, Y, g1, g2, g3, g4⟩ := next_law hT hn hK.1.2.1 x y
  have hRN : RL n a0 b (nI B, nI A, tkT J, X, 0, nM) (nI A, nI B, nI J, Y, 0, w) := Or.inl ⟨A, B, J, g1, X, Y, w, rfl, rfl, g4⟩
  by_cases d10 : j = 10
  · rw [decide_eq_true d10] at j10 l10
    obtain ⟨p, q, s', z', e9, e8, h1, h2⟩ := L_number hT hn (lo := 1) (hi := 3) (l := 1) (h := 3) (by decide) (by decide) hRN
    dsimp only at e9 e8 h2
    rw [tk_yes j10, ea_yes l10, g2, g3, bd4_s, bd4_s, bd5_s, bd5_s, if_neg nt, if_neg nt, e9, e8, bd7_t, bd7_t, bd7_t]
    dsimp only
    have ew : wrI 531 f 75 q = some (upd f 75 q) := wr_n (k := 75) (by omega) (by omega)
    rw [ew, bd1_s]
    refine ⟨s', z', upd u 75 p, upd f 75 q, rfl, rfl, h1.mono (by omega), fun h0 => ?_⟩
    obtain ⟨-, -, v, rfl, rfl, v1, v2, -⟩ := h2 h0
    exact ⟨_, sr, hR.set (j := 75) (v := v) (by omega), upn_f (by omega)⟩
  rw [decide_eq_false d10] at j10 l10
  rw [tk_no j10, ea_no l10, bd5_s, bd5_s, if_pos nf, if_pos nf]
  by_cases d11 : j = 11
  · rw [decide_eq_true d11] at j11 l11
    obtain ⟨p, q, s', z', e9, e8, h1, h2⟩ := L_number hT hn (lo := 1) (hi := 8) (l := 1) (h := 8) (by decide) (by decide) hRN
    dsimp only at e9 e8 h2
    rw [tk_yes j11, ea_yes l11, g2, g3, bd4_s, bd4_s, bd5_s, bd5_s, if_neg nt, if_neg nt, e9, e8, bd7_t, bd7_t, bd7_t]
    dsimp only
    have ew : wrI 531 f 76 q = some (upd f 76 q) := wr_n (k := 76) (by omega) (by omega)
    rw [ew, bd1_s]
    refine ⟨s', z', upd u 76 p, upd f 76 q, rfl, rfl, h1.mono (by omega), fun h0 => ?_⟩
    obtain ⟨-, -, v, rfl, rfl, v1, v2, -⟩ := h2 h0
    exact ⟨_, sr, hR.set (j := 76) (v := v) (by omega), upn_f (by omega)⟩
  rw [decide_eq_false d11] at j11 l11
  rw [tk_no j11, ea_no l11, bd5_s, bd5_s, if_pos nf, if_pos nf]
  by_cases d12 : j = 12
  · rw [decide_eq_true d12] at j12 l12
    rw [tk_yes j12, ea_yes l12, g2, g3, bd4_s, bd4_s, bd5_s, bd5_s, if_neg nt, if_neg nt]
    have ew : wrI 531 f 77 1 = some (upd f 77 1) := wr_n (k := 77) (by omega) (by omega)
    rw [ew, bd1_s]
    exact ⟨(_, _, _, _, _, _), (_, _, _, _, _, _), upd u 77 1, upd f 77 1, rfl, rfl, hRN, fun h0 => ⟨_, sr, hR.set (j := 77) (v := 1) (by omega), upn_f (by omega)⟩⟩
  rw [decide_eq_false d12] at j12 l12
  rw [tk_no j12, ea_no l12, bd5_s, bd5_s, if_pos nf, if_pos nf]
  by_cases d13 : j = 13
  · rw [decide_eq_true d13] at j13 l13
    rw [tk_yes j13, ea_yes l13, g2, g3, bd4_s, bd4_s, bd5_s, bd5_s, if_neg nt, if_neg nt]
    have ew : wrI 531 f 78 1 = some (upd f 78 1) := wr_n (k := 78) (by omega) (by omega)
    rw [ew, bd1_s]
    exact ⟨(_, _, _, _, _, _), (_, _, _, _, _, _), upd u 378 1, upd f 78 1, rfl, rfl, hRN, fun h0 => ⟨_, sr, hR.set2 (j := 78) (v := 1) (by omega), upn_f (by omega)⟩⟩
  rw [decide_eq_false d13] at j13 l13
  rw [tk_no j13, ea_no l13, bd5_s, bd5_s, if_pos nf, if_pos nf, show (2 : Int32) = nI 2 from rfl, wr_ok hj, fl_ok hj, bd2_s, bd2_s]
  have hf := fk (j := j) (p := 2) (by omega) (by omega)
  exact ⟨(_, _, _, _, _, _), (_, _, _, _, _, _), u, f, rfl, rfl, Or.inr ⟨_, hf, rfl, rfl, rfl⟩, fun h => absurd h (nz_f hf)⟩
def TWs (s : S6) (u : Nat → Int32) (k : Nat) : Int32 × Int32 × Int32 × Int32 × Int32 × Int32 × (Nat → Int32) × Nat := (s.1, s.2.1, s.2.2.1, s.2.2.2.1, s.2.2.2.2.1, s.2.2.2.2.2, u, k)
def TXs (f : Nat → Int32) (z : S6) (d e : Int32) : (Nat → Int32) × Int32 × Int32 × Int32 × Int32 × Int32 × Int32 × Int32 × Int32 := (f, z.1, z.2.1, z.2.2.1, z.2.2.2.1, z.2.2.2.2.1, z.2.2.2.2.2, d, e)
noncomputable def tw9 (n : Nat) (a0 : Nat → Int32) (s : Int32 × Int32 × Int32 × Int32 × Int32 × Int32 × (Nat → Int32) × Nat) : Option ((Int32 × Int32 × Int32 × Int32 × Int32 × Int32 × (Nat → Int32) × Nat) ⊕ (Int32 × Int32 × Int32 × Int32 × Int32 × Int32 × (Nat → Int32) × Nat)) := FX9_town_b (nI n) a0 s.1 s.2.1 s.2.2.1 s.2.2.2.1 s.2.2.2.2.1 s.2.2.2.2.2.1 s.2.2.2.2.2.2.1 s.2.2.2.2.2.2.2
noncomputable def tw8 (n : Nat) (a8 : Nat → Int32) (p1 : Int32) (s : (Nat → Int32) × Int32 × Int32 × Int32 × Int32 × Int32 × Int32 × Int32 × Int32) : Option (((Nat → Int32) × Int32 × Int32 × Int32 × Int32 × Int32 × Int32 × Int32 × Int32) ⊕ ((Nat → Int32) × Int32 × Int32 × Int32 × Int32 × Int32 × Int32 × Int32 × Int32)) := FX8_text_b84 a8 p1 (nI n) s.1 s.2.1 s.2.2.1 s.2.2.2.1 s.2.2.2.2.1 s.2.2.2.2.2.1 s.2.2.2.2.2.2.1 s.2.2.2.2.2.2.2.1 s.2.2.2.2.2.2.2.2
theorem town_bad (h : BD6 s z) (k : Nat) (d e p1 : Int32) : loopC (tw9 n a0) (TWs s u k) = some (TWs s u k) ∧ loopC (tw8 n a8 p1) (TXs f z d e) = some (TXs f z d e) := by
  constructor
  · refine loopC_inr ?_
    show FX9_town_b (nI n) a0 s.1 s.2.1 s.2.2.1 s.2.2.2.1 s.2.2.2.2.1 s.2.2.2.2.2 u k = _
    unfold FX9_town_b
    rw [if_neg h.wrong.1]
    rfl
  · refine loopC_inr ?_
    show FX8_text_b84 a8 p1 (nI n) f z.1 z.2.1 z.2.2.1 z.2.2.2.1 z.2.2.2.2.1 z.2.2.2.2.2 d e = _
    unfold FX8_text_b84
    rw [if_neg h.wrong.2]
    rfl
theorem town_loop (hT : TapeR a0 a8) (hn : n ≤ 400) (dp st : Int32) : ∀ d a b j (s z : S6) T sr u f k, n < a + d → OK6 n a0 s z a b j → TR T sr u f → T 79 ≤ a → k ≤ a → ∃ (s' z' : S6) (u' f' : Nat → Int32) (k' : Nat), loopC (tw9 n a0) (TWs s u k) = some (TWs s' u' k') ∧ loopC (tw8 n a8 0) (TXs f z dp st) = some (TXs f' z' dp st) ∧ k' ≤ 401 ∧ (BD6 s' z' ∨ (s'.2.2.2.2.1 = 0 ∧ z'.2.2.2.2.1 = 0 ∧ s'.2.2.2.2.2 = nM ∧ ∃ T' sr', TR T' sr' u' f')) := by
  intro d
  induction d with
  | zero =>
    rintro a b j s z T sr u f k hd ⟨x, y, q, -, -, hK⟩
    have := hK.1
    omega
  | succ d ih =>
    intro a b j s z T sr u f k hd hO hR h79 hk
    obtain ⟨x, y, w, rfl, rfl, hK⟩ := id hO
    have hj := hK.1.2.2.2.1
    have hab := hK.1
    by_cases c29 : j = 29
    · subst c29
      refine ⟨(nI b, nI a, tkT 29, x, 0, nM), (nI a, nI b, nI 29, y, 0, w), u, f, k, loopC_inr ?_, loopC_inr ?_, by omega, Or.inr ⟨rfl, rfl, rfl, T, sr, hR⟩⟩
      · show FX9_town_b (nI n) a0 (nI b) (nI a) (tkT 29) x 0 nM u k = _
        unfold FX9_town_b
        rw [if_pos rfl, if_pos (by decide)]
        rfl
      · show FX8_text_b84 a8 0 (nI n) f (nI a) (nI b) (nI 29) y 0 w dp st = _
        unfold FX8_text_b84
        rw [if_pos rfl, if_pos (by decide)]
        rfl
    · have t29 : ¬ tkT j = 0 := fun h => c29 (((tk_eq j hj).2.2.2.2.2.1).mp h)
      have n29 : ¬ nI j = 29 := by rw [show (29 : Int32) = nI 29 from rfl, eq_f c29 (by omega) (by omega)]; exact id
      obtain ⟨s1, z1, u1, f1, e9, e8, r1, v1⟩ := tline_law hT hn hO hR
      obtain ⟨s2, z2, g9, g8, r2, v2⟩ := L_over hT hn r1
      dsimp only at e9 e8
      have b9 : tw9 n a0 (TWs (nI b, nI a, tkT j, x, 0, nM) u k) = some (.inl (TWs s2 (upd u1 379 (u1 379 + 1)) (k + 1))) := by
        show FX9_town_b (nI n) a0 (nI b) (nI a) (tkT j) x 0 nM u k = _
        unfold FX9_town_b
        rw [if_pos rfl, if_neg t29, e9]
        rw [bd7_ap6, g9]
        rfl
      have b8 : tw8 n a8 0 (TXs f (nI a, nI b, nI j, y, 0, w) dp st) = some (.inl (TXs (upd f1 79 (f1 79 + 1)) z2 dp st)) := by
        show FX8_text_b84 a8 0 (nI n) f (nI a) (nI b) (nI j) y 0 w dp st = _
        unfold FX8_text_b84
        have k1 : rd 531 f1 79 = some (f1 79) := rdn (k := 79) (by omega) (by omega) rfl
        have k2 : wrI 531 f1 79 (f1 79 + 1) = some (upd f1 79 (f1 79 + 1)) := wr_n (k := 79) (by omega) (by omega)
        rw [if_pos rfl, if_neg n29, if_pos rfl, e8]
        unfold FX8_readLine_j175
        rw [g8, bd6_t, k1, bd1_s, k2, bd1_s]
        rfl
      by_cases c0 : s2.2.2.2.2.1 = 0
      · obtain ⟨T1, sr1, hR1, h791⟩ := v1 (v2 c0)
        obtain ⟨a2, b2, j2, k1, hO2⟩ := r2.ok c0
        have hlt := hab.2.2.2.2.1 c29
        have hR2 := hR1.set2 (j := 79) (v := T 79 + 1) (by omega)
        have eu : u1 379 + 1 = nI (T 79 + 1) := by
          rw [hR1.2.1.2.2.2, h791]
          exact n_add _ 1
        have ef : f1 79 + 1 = nI (T 79 + 1) := by
          rw [hR1.2.1.1 79 (by omega), rp_n (by omega), h791]
          exact n_add _ 1
        rw [eu] at b9
        rw [ef] at b8
        obtain ⟨s3, z3, u3, f3, k3, h1, h2, h3, h4⟩ := ih a2 b2 j2 s2 z2 _ _ _ _ (k + 1) (by omega) hO2 hR2 (by rw [upn_t rfl]; omega) (by omega)
        exact ⟨s3, z3, u3, f3, k3, loop_st b9 h1, loop_st b8 h2, h3, h4⟩
      · have hB := r2.bad c0
        obtain ⟨h1, h2⟩ := town_bad (n := n) (a0 := a0) (a8 := a8) (u := upd u1 379 (u1 379 + 1)) (f := upd f1 79 (f1 79 + 1)) hB (k + 1) dp st 0
        exact ⟨s2, z2, _, _, k + 1, loop_st b9 h1, loop_st b8 h2, by omega, Or.inl hB⟩
end P83
