set_option maxRecDepth 100000
/-! text: both sides answer alike -/
section P88
variable {n : Nat} {a0 a8 : Nat → Int32}
theorem okN_of {bo : Nat → FcT} : ∀ {N : Nat}, (∀ i, i < N → ∃ d V, bo i = some (d, V) ∧ d ≤ 250) → okN bo N = true := by
  intro N
  induction N with
  | zero => intro _; rfl
  | succ N ih =>
    intro h
    obtain ⟨d, V, h1, h2⟩ := h N (by omega)
    show (okN bo N && (match bo N with
      | some q => decide (q.1 ≤ 250)
      | none => false)) = true
    rw [ih fun i hi => h i (by omega), h1]
    exact decide_eq_true h2
theorem copy_law (f : Nat → Int32) {lo hi : Nat} (hlo : lo ≤ hi) (hhi : hi ≤ 531) (all : Nat → Int32) : ∃ all', loopC (fun (s : Int32 × (Nat → Int32)) => FX8_text_b188 f (nI hi) s.1 s.2) (nI lo, all) = some all' ∧ ∀ k, all' k = if lo ≤ k ∧ k < hi then f k else all k := by
  refine up_rule (B := fun (s : Int32 × (Nat → Int32)) => FX8_text_b188 f (nI hi) s.1 s.2) (fun k (x : Nat → Int32) => (nI k, x)) (fun m x => lo ≤ m ∧ ∀ k, x k = if lo ≤ k ∧ k < m then f k else all k) (fun x => ∀ k, x k = if lo ≤ k ∧ k < hi then f k else all k) hi ?_ ?_ lo all hlo ⟨Nat.le_refl _, fun k => by rw [if_neg (by omega)]⟩
  · rintro m x hm ⟨h0, h1⟩
    refine Or.inl ⟨upd x m (f m), ?_, by omega, fun k => ?_⟩
    · show FX8_text_b188 f (nI hi) (nI m) x = _
      unfold FX8_text_b188
      rw [if_neg (by rw [le_f hm (by omega)]; exact id), rd_n (by omega) (by omega), bd1_s, wr_n (by omega) (by omega), bd1_s, show nI m + 1 = nI (m + 1) from n_add m 1]
    · by_cases c : k = m
      · rw [up_t c, c, if_pos (by omega)]
      · rw [up_f c, h1 k]
        by_cases c2 : lo ≤ k ∧ k < m
        · rw [if_pos c2, if_pos (by omega)]
        · rw [if_neg c2, if_neg (by omega)]
  · rintro x ⟨h0, h1⟩
    refine ⟨x, ?_, h1⟩
    show FX8_text_b188 f (nI hi) (nI hi) x = _
    unfold FX8_text_b188
    rw [if_pos (by rw [le_t (Nat.le_refl _) (by omega)]; trivial)]
/-- text of a town: the reader's way -/
theorem town_law (hT : TapeR a0 a8) (hn : n ≤ 400) (g : Nat → Int32) (num : Int32) (wa : Int32) : ∃ (s' z' : S6) (u' f' : Nat → Int32) (k' : Nat), FX9_town (nI n) a0 0 0 0 (-1) u0F = some (TWs s' u' k') ∧ (bd1 (FX8_plain_fresh g) fun f1 => bd1 (wrI 531 f1 114 0) fun f2 => bd4 (FX8_next a8 0 (nI n) num) fun x1 x2 x3 x4 => loopC (tw8 n a8 0) (f2, x1, x2, x3, x4, 0, wa, 0, 0)) = some (TXs f' z' 0 0) ∧ k' ≤ 401 ∧ (BD6 s' z' ∨ (s'.2.2.2.2.1 = 0 ∧ z'.2.2.2.2.1 = 0 ∧ s'.2.2.2.2.2 = nM ∧ ∃ T' sr', TR T' sr' u' f')) := by
  obtain ⟨f1, e1, h1, h2⟩ := plain_law g
  have e2 : wrI 531 f1 114 0 = some (upd f1 114 0) := wr_n (k := 114) (by omega) (by omega)
  obtain ⟨a, b, j, x, y, -, h3, h4, h5⟩ := next_law hT hn (k := 0) (by omega) 0 num
  have h3 : FX9_next (nI n) a0 0 0 = some (nI b, nI a, tkT j, x) := h3
  have h4 : FX8_next a8 0 (nI n) num = some (nI a, nI b, nI j, y) := h4
  obtain ⟨s', z', u', f', k', l9, l8, hk, hR⟩ := town_loop hT hn 0 0 (n + 1) a b j (nI b, nI a, tkT j, x, 0, nM) (nI a, nI b, nI j, y, 0, wa) T00 (fun _ => 0) u0F (upd f1 114 0) 0 (by omega) ⟨x, y, wa, rfl, rfl, h5⟩ (TR00 (fun k hk => by rw [up_f (by omega)]; exact h1 k hk)) (Nat.zero_le _) (Nat.zero_le _)
  refine ⟨s', z', u', f', k', ?_, ?_, hk, hR⟩
  · unfold FX9_town
    rw [h3]
    exact l9
  · rw [e1, bd1_s, e2, bd1_s, h4]
    exact l8
theorem bars_law (hT : TapeR a0 a8) (hn : n ≤ 400) (g : Nat → Int32) (num : Int32) (wa : Int32) : ∃ (s' z' : S6) (f' : Nat → Int32) (nb' : Int32) (bo' : Nat → FcT) (k' : Nat) (x' : Int32), FX9_bars (nI n) a0 12 0 0 0 0 0 0 (-1) 0 (fun _ => none) = some (BWs s' nb' bo' k') ∧ (bd1 (FX8_plain_fresh g) fun f1 => bd1 (wrI 531 f1 114 0) fun f2 => bd4 (FX8_next a8 0 (nI n) num) fun x1 x2 x3 x4 => loopC (tw8 n a8 1) (f2, x1, x2, x3, x4, 0, wa, 0, 0)) = some (TXs f' z' (nI 0) x') ∧ k' ≤ 402 ∧ (BD6 s' z' ∨ (s'.2.2.2.2.1 = 0 ∧ z'.2.2.2.2.1 = 0 ∧ s'.2.2.2.2.2 = nM ∧ ∃ N S, nb' = nI N ∧ BR f' N S bo')) := by
  obtain ⟨f1, e1, h1, h2⟩ := plain_law g
  have e2 : wrI 531 f1 114 0 = some (upd f1 114 0) := wr_n (k := 114) (by omega) (by omega)
  obtain ⟨a, b, j, x, y, -, h3, h4, h5⟩ := next_law hT hn (k := 0) (by omega) 0 num
  have h3 : FX9_next (nI n) a0 0 0 = some (nI b, nI a, tkT j, x) := h3
  have h4 : FX8_next a8 0 (nI n) num = some (nI a, nI b, nI j, y) := h4
  obtain ⟨s', z', f', nb', bo', k', x', l9, l8, hk, hR⟩ := bars_loop hT hn (n + 1) a b j (nI b, nI a, tkT j, x, 0, nM) (nI a, nI b, nI j, y, 0, wa) (upd f1 114 0) 0 0 (fun _ => none) 0 (by omega) ⟨x, y, wa, rfl, rfl, h5⟩ ⟨⟨by omega, by omega, up_t rfl⟩, fun i hi => absurd hi (Nat.not_lt_zero i)⟩ (Nat.zero_le _) (Nat.zero_le _)
  refine ⟨s', z', f', nb', bo', k', x', ?_, ?_, hk, hR⟩
  · unfold FX9_bars
    rw [h3]
    exact l9
  · rw [e1, bd1_s, e2, bd1_s, h4]
    exact l8
end P88
