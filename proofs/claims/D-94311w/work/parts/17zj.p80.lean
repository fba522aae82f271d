set_option maxRecDepth 100000
/-! lines of a town: rows, musts -/
def ap6 {α : Type} (s : S6) (x : α) : Int32 × Int32 × Int32 × Int32 × Int32 × Int32 × α := (s.1, s.2.1, s.2.2.1, s.2.2.2.1, s.2.2.2.2.1, s.2.2.2.2.2, x)
theorem bd7_ap6 {γ : Type} {s : S6} {u : Nat → Int32} {k : Int32 → Int32 → Int32 → Int32 → Int32 → Int32 → (Nat → Int32) → Option γ} : bd7 (some (ap6 s u)) k = k s.1 s.2.1 s.2.2.1 s.2.2.2.1 s.2.2.2.2.1 s.2.2.2.2.2 u := rfl
theorem upto_n {n k : Nat} (h : k ≤ n) (h2 : n < 2147483648) : upto n (nI k) = some () := by
  unfold upto
  rw [cl_n (by omega), if_neg]
  rw [lt_iff, toN (by omega)]
  show ¬ ((k : Int) < 0 ∨ n < k)
  omega
theorem is25 : FX8_is (nI 25) 0 25 = some true := by decide +kernel
section P80
variable {n : Nat} {a0 a8 : Nat → Int32} {T sr : Nat → Nat} {u f : Nat → Int32} {s z : S6}
theorem TR.rdf (h : TR T sr u f) {k : Nat} (hk : k < 113) (hs : ¬ ((31 ≤ k ∧ k < 56) ∨ (104 ≤ k ∧ k < 112))) : rd 531 f (nI k) = some (nI (T k)) := rdn (by omega) (by omega) (by rw [h.2.1.1 k hk, rp_n hs])
theorem TR.uat (h : TR T sr u f) {k : Nat} (hk : k < 78) (hs : ¬ ((31 ≤ k ∧ k < 56) ∨ (104 ≤ k ∧ k < 112))) : u k = nI (T k) := by rw [h.2.1.2.1 k hk, rp_n hs]
theorem number9_bad {g : Nat} (hf : 1 ≤ g ∧ g ≤ 5) {b a t x q lo hi : Int32} : FX9_number (nI n) a0 b a t x (nI g) q lo hi = some (0, b, a, t, x, nI g, q) := by
  unfold FX9_number
  rw [seen_bad hf, bd3_s, if_pos (by decide)]
theorem takes9_bad {g : Nat} (hf : 1 ≤ g ∧ g ≤ 5) {k : Nat} {kb : Nat → Int32} {b a t x : Int32} : FX9_takes (nI n) a0 k kb b a t x (nI g) = some (false, b, a, t, x) := tk_no (is9_bad hf)
theorem need9_bad {g : Nat} (hf : 1 ≤ g ∧ g ≤ 5) {k : Nat} {kb : Nat → Int32} {b a t x q : Int32} : FX9_need (nI n) a0 k kb b a t x (nI g) q = some (b, a, t, x, nI g, q) := by
  unfold FX9_need
  rw [takes9_bad hf, bd5_s, if_pos (by decide), wr_bad hf, bd2_s]
theorem over9_bad {g : Nat} (hf : 1 ≤ g ∧ g ≤ 5) {b a t x q : Int32} : FX9_over (nI n) a0 b a t x (nI g) q = some (b, a, t, x, nI g, q) := by
  unfold FX9_over FX9_over_j21
  rw [if_neg (nz_f hf), if_neg (nz_f hf)]
theorem BD6.wrong (h : BD6 s z) : ¬ s.2.2.2.2.1 = 0 ∧ ¬ z.2.2.2.2.1 = 0 := by
  obtain ⟨g, q1, q2, q3, -⟩ := h
  rw [q2, q3]
  exact ⟨nz_f q1, nz_f q1⟩
theorem trow_law (hT : TapeR a0 a8) (hn : n ≤ 400) {a b j : Nat} (hO : OK6 n a0 s z a b j) (hR : TR T sr u f) : ∃ (s' z' : S6) (u' f' : Nat → Int32), FX9_row (nI n) a0 s.1 s.2.1 s.2.2.1 s.2.2.2.1 s.2.2.2.2.1 s.2.2.2.2.2 u = some (ap6 s' u') ∧ FX8_readRow a8 f z.1 z.2.1 (nI n) z.2.2.1 z.2.2.2.1 z.2.2.2.2.1 z.2.2.2.2.2 = some (f', z') ∧ RL n a0 b s' z' ∧ (s'.2.2.2.2.1 = 0 → ∃ T' sr', TR T' sr' u' f' ∧ T' 79 = T 79) := by
  obtain ⟨x, y, w, rfl, rfl, hK⟩ := hO
  have hj := hK.1.2.2.2.1
  have w0 : T 0 ≤ 5 := hR.1.1.1.1
  have u0 : u 0 = nI (T 0) := hR.uat (by omega) (by omega)
  have f0 : rd 531 f 0 = some (nI (T 0)) := hR.rdf (k := 0) (by omega) (by omega)
  dsimp only
  unfold FX9_row FX8_readRow FX9_row_j20 FX8_readRow_j15
  rw [u0, f0, bd1_s]
  by_cases c : T 0 = 5
  · have nz := nz_f (fk (j := j) (p := 4) (by omega) (by omega))
    rw [if_pos (show nI (T 0) = 5 by rw [c]; rfl), if_pos (show nI (T 0) = 5 by rw [c]; rfl), sp_full hj, bd6_s]
    unfold FX9_number
    rw [seen_bad (fk (by omega) (by omega)), bd3_s, if_pos (by decide), bd7_s, if_neg nz, show (4 : Int32) = nI 4 from rfl, fl_ok hj, bd2_s, if_neg nz]
    exact ⟨(_, _, _, _, _, _), (_, _, _, _, _, _), u, f, rfl, rfl, Or.inr ⟨_, fk (p := 4) (by omega) (by omega), rfl, rfl, rfl⟩, fun h => absurd h nz⟩
  · have c5 : ¬ nI (T 0) = 5 := by rw [show (5 : Int32) = nI 5 from rfl, eq_f c (by omega) (by omega)]; exact id
    obtain ⟨a', b', j', x', y', h1, h2, h3, h4⟩ := next_law hT hn hK.1.2.1 x y
    obtain ⟨p, q, s', z', e9, e8, hr, hv⟩ := L_number hT hn (lo := 1) (hi := 3) (l := 1) (h := 3) (by decide) (by decide) (show RL n a0 b (nI b', nI a', tkT j', x', 0, nM) (nI a', nI b', nI j', y', 0, w) from Or.inl ⟨a', b', j', h1, x', y', w, rfl, rfl, h4⟩)
    dsimp only at e9 e8 hv
    rw [if_neg c5, if_neg c5, sp_go, if_pos rfl, h2, h3, bd4_s, bd4_s, bd6_s, e9, e8, bd7_t, bd7_t]
    dsimp only
    by_cases c0 : s'.2.2.2.2.1 = 0
    · obtain ⟨-, -, v, rfl, rfl, hv1, hv2, -⟩ := hv c0
      obtain ⟨a1, b1, j1, g1, x1, y1, w1, rfl, rfl, g2⟩ := hr.ok c0
      have k1 : (1 : Int32) + nI (T 0) = nI (1 + T 0) := n_add 1 _
      have k2 : rd 531 (upd f (1 + T 0) (nI v)) 0 = some (nI (T 0)) := rdn (k := 0) (by omega) (by omega) (by rw [up_f (by omega), hR.2.1.1 0 (by omega), rp_n (by omega)])
      have k3 : wrI 531 (upd f (1 + T 0) (nI v)) 0 (nI (T 0) + 1) = some (upd (upd f (1 + T 0) (nI v)) 0 (nI (T 0 + 1))) := by
        rw [show nI (T 0) + 1 = nI (T 0 + 1) from n_add _ 1]
        exact wr_n (k := 0) (by omega) (by omega)
      dsimp only
      rw [if_pos rfl, if_pos rfl, upto_n (by omega) (by omega), bd0_s, bd1_s, k1, wr_n (by omega) (by omega), bd1_s, k2, bd1_s, k3, bd1_s]
      exact ⟨(_, _, _, _, _, _), (_, _, _, _, _, _), _, _, rfl, rfl, Or.inl ⟨a1, b1, j1, by omega, x1, y1, w1, rfl, rfl, g2⟩, fun _ => ⟨_, _, hR.row (by omega) (v := v) (by omega), (upn_f (by omega)).trans (upn_f (by omega))⟩⟩
    · have hb := hr.bad c0
      have c1 : ¬ z'.2.2.2.2.1 = 0 := by
        obtain ⟨f, q1, q2, q3, -⟩ := hb
        rw [q3]
        exact nz_f q1
      rw [if_neg c0, if_neg c1]
      exact ⟨s', z', u, f, rfl, rfl, Or.inr hb, fun h => absurd h c0⟩
theorem tmust_law (hT : TapeR a0 a8) (hn : n ≤ 400) {a b j : Nat} (hO : OK6 n a0 s z a b j) (hj8 : j = 8 ∨ j = 9) {p1 : Int32} (hp : nI (j - 8) = p1) (hR : TR T sr u f) : ∃ (s' z' : S6) (u' f' : Nat → Int32), FX9_must (nI n) a0 s.1 s.2.1 s.2.2.1 s.2.2.2.1 s.2.2.2.2.1 s.2.2.2.2.2 u = some (ap6 s' u') ∧ FX8_readMust a8 f z.1 z.2.1 (nI n) z.2.2.1 z.2.2.2.1 z.2.2.2.2.1 z.2.2.2.2.2 p1 = some (f', z') ∧ RL n a0 b s' z' ∧ (s'.2.2.2.2.1 = 0 → ∃ T' sr', TR T' sr' u' f' ∧ T' 79 = T 79) := by
  subst hp
  obtain ⟨x, y, w, rfl, rfl, hK⟩ := hO
  have hj := hK.1.2.2.2.1
  have w0 : T 0 ≤ 5 := hR.1.1.1.1
  have w56 : T 56 ≤ 6 := hR.1.1.1.2.2.1
  have u0 : u 0 = nI (T 0) := hR.uat (by omega) (by omega)
  have u56 : u 56 = nI (T 56) := hR.uat (by omega) (by omega)
  have f0 : rd 531 f 0 = some (nI (T 0)) := hR.rdf (k := 0) (by omega) (by omega)
  have f56 : rd 531 f 56 = some (nI (T 56)) := hR.rdf (k := 56) (by omega) (by omega)
  have i8 : FX9_is (nI n) a0 4 kb_128 (nI b) (nI a) (tkT j) 0 = some (decide (j = 8)) := hK.2.2 8 (by omega)
  have ek : (if b2i (decide (j = 8)) = 0 then (1 : Int32) else 0) = nI (j - 8) := by
    rcases hj8 with rfl | rfl <;> rfl
  dsimp only
  unfold FX9_must FX8_readMust FX9_must_j28 FX8_readMust_j19
  rw [i8, bd1_s, u0, u56, f56, bd1_s]
  by_cases c : T 56 = 6
  · have nz := nz_f (fk (j := j) (p := 4) (by omega) (by omega))
    rw [if_pos (show nI (T 56) = 6 by rw [c]; rfl), if_pos (show nI (T 56) = 6 by rw [c]; rfl), sp_full hj, bd6_s]
    unfold FX9_number
    rw [seen_bad (fk (by omega) (by omega)), bd3_s, if_pos (by decide), bd7_s, seen_bad (fk (by omega) (by omega)), bd3_s, if_pos (by decide), bd7_s, if_neg nz, show (4 : Int32) = nI 4 from rfl, fl_ok hj, bd2_s, if_neg nz]
    exact ⟨(_, _, _, _, _, _), (_, _, _, _, _, _), u, f, rfl, rfl, Or.inr ⟨_, fk (p := 4) (by omega) (by omega), rfl, rfl, rfl⟩, fun h => absurd h nz⟩
  · have c5 : ¬ nI (T 56) = 6 := by rw [show (6 : Int32) = nI 6 from rfl, eq_f c (by omega) (by omega)]; exact id
    obtain ⟨a', b', j', x', y', h1, h2, h3, h4⟩ := next_law hT hn hK.1.2.1 x y
    obtain ⟨p, q, s', z', e9, e8, hr, hv⟩ := L_number hT hn (lo := 0) (hi := nI (T 0) - 1) (l := 0) (h := (T 0 : Int) - 1) (by decide) (toD (by omega)) (show RL n a0 b (nI b', nI a', tkT j', x', 0, nM) (nI a', nI b', nI j', y', 0, w) from Or.inl ⟨a', b', j', h1, x', y', w, rfl, rfl, h4⟩)
    obtain ⟨p2, q2, s2, z2, e92, e82, hr2, hv2⟩ := L_number hT hn (lo := 0) (hi := 3) (l := 0) (h := 3) (by decide) (by decide) hr
    dsimp only at e9 e8 hv
    rw [if_neg c5, if_neg c5, sp_go, if_pos rfl, h2, h3, bd4_s, bd4_s, bd6_s, f0, bd1_s, e9, e8, bd7_t, bd7_t]
    dsimp only
    rw [e92, e82, bd7_t, bd7_t]
    dsimp only
    by_cases c0 : s2.2.2.2.2.1 = 0
    · obtain ⟨c1, -, v2, rfl, rfl, hv21, hv22, -⟩ := hv2 c0
      obtain ⟨-, -, v, rfl, rfl, hv1, hv2, -⟩ := hv c1
      obtain ⟨a1, b1, j1, g1, x1, y1, w1, rfl, rfl, g2⟩ := hr2.ok c0
      have k1 : (57 : Int32) + nI (T 56) = nI (57 + T 56) := n_add 57 _
      have k2 : (63 : Int32) + nI (T 56) = nI (63 + T 56) := n_add 63 _
      have k3 : (69 : Int32) + nI (T 56) = nI (69 + T 56) := n_add 69 _
      have k4 : rd 531 (upd (upd (upd f (57 + T 56) (nI (j - 8))) (63 + T 56) (nI v)) (69 + T 56) (nI v2)) 56 = some (nI (T 56)) := rdn (k := 56) (by omega) (by omega) (by rw [up_f (by omega), up_f (by omega), up_f (by omega), hR.2.1.1 56 (by omega), rp_n (by omega)])
      have k5 : wrI 531 (upd (upd (upd f (57 + T 56) (nI (j - 8))) (63 + T 56) (nI v)) (69 + T 56) (nI v2)) 56 (nI (T 56) + 1) = some (upd (upd (upd (upd f (57 + T 56) (nI (j - 8))) (63 + T 56) (nI v)) (69 + T 56) (nI v2)) 56 (nI (T 56 + 1))) := by
        rw [show nI (T 56) + 1 = nI (T 56 + 1) from n_add _ 1]
        exact wr_n (k := 56) (by omega) (by omega)
      dsimp only
      rw [if_pos rfl, if_pos rfl, upto_n (by omega) (by omega), bd0_s, ek, k1, wr_n (by omega) (by omega), bd1_s, k2, wr_n (by omega) (by omega), bd1_s, k3, wr_n (by omega) (by omega), bd1_s, k4, bd1_s, k5, bd1_s]
      exact ⟨(_, _, _, _, _, _), (_, _, _, _, _, _), _, _, rfl, rfl, Or.inl ⟨a1, b1, j1, by omega, x1, y1, w1, rfl, rfl, g2⟩, fun _ => ⟨_, _, hR.must (by omega) (kd := j - 8) (r := v) (v := v2) (by omega) (by omega) (by omega), (upn_f (by omega)).trans ((upn_f (by omega)).trans ((upn_f (by omega)).trans (upn_f (by omega))))⟩⟩
    · have hb := hr2.bad c0
      have c1 : ¬ z2.2.2.2.2.1 = 0 := by
        obtain ⟨f, q1, q2, q3, -⟩ := hb
        rw [q3]
        exact nz_f q1
      rw [if_neg c0, if_neg c1]
      exact ⟨s2, z2, u, f, rfl, rfl, Or.inr hb, fun h => absurd h c0⟩
end P80
