set_option maxRecDepth 100000
/-! bars, one after the other -/
section P87
variable {n : Nat} {a0 a8 : Nat → Int32}
def BR (F : Nat → Int32) (nb st : Nat) (bo : Nat → FcT) : Prop := (nb ≤ 8 ∧ st ≤ 200 ∧ F 114 = nI nb) ∧ ∀ i, i < nb → ∃ dp V s e, bo i = some (dp, V) ∧ dp ≤ 250 ∧ F (115 + i) = nI s ∧ F (123 + i) = nI e ∧ e ≤ st ∧ PrAt (cTn F) dp s e V
theorem BR.next {F F2 : Nat → Int32} {nb st k dp : Nat} {bo : Nat → FcT} {V : BvT} (h : BR F nb st bo) (hnb : nb < 8) (hst : st + k ≤ 200) (hdp : dp ≤ k) (hPr : PrAt (cTn F2) dp st (st + k) V) (hF : ∀ i, (i < 131 + 2 * st ∨ 131 + 2 * (st + k) ≤ i) → F2 i = upd F (115 + nb) (nI st) i) : BR (upd (upd F2 (123 + nb) (nI (st + k))) 114 (nI (nb + 1))) (nb + 1) (st + k) (addBar bo (nI nb) (some (dp, V))) := by
  have hA : ∀ i, addBar bo (nI nb) (some (dp, V)) i = if i = nb then some (dp, V) else bo i := fun i => by unfold addBar; rw [cl_n (by omega)]
  have e1 : ∀ i, i ≠ 114 → i ≠ 123 + nb → upd (upd F2 (123 + nb) (nI (st + k))) 114 (nI (nb + 1)) i = F2 i := fun i h1 h2 => by rw [up_f h1, up_f h2]
  refine ⟨⟨by omega, hst, up_t rfl⟩, fun i hi => ?_⟩
  rw [hA i]
  by_cases c : i = nb
  · subst c
    rw [if_pos rfl]
    refine ⟨dp, V, st, st + k, rfl, by omega, ?_, by rw [up_f (by omega), up_t rfl], Nat.le_refl _, hPr.cong (fun t h1 h2 => cT_c (e1 t (by omega) (by omega)))⟩
    rw [e1 _ (by omega) (by omega), hF _ (by omega), up_t rfl]
  · rw [if_neg c]
    obtain ⟨d, W, s, e, h1, h2, h3, h4, h5, h6⟩ := h.2 i (by omega)
    refine ⟨d, W, s, e, h1, h2, ?_, ?_, by omega, h6.cong (fun t g1 g2 => cT_c ?_)⟩
    · rw [e1 _ (by omega) (by omega), hF _ (by omega), up_f (by omega)]
      exact h3
    · rw [e1 _ (by omega) (by omega), hF _ (by omega), up_f (by omega)]
      exact h4
    · rw [e1 _ (by omega) (by omega), hF _ (by omega), up_f (by omega)]
def BWs (s : S6) (nb : Int32) (bo : Nat → FcT) (k : Nat) : Int32 × Int32 × Int32 × Int32 × Int32 × Int32 × Int32 × Int32 × (Nat → FcT) × Nat := (s.1, s.2.1, s.2.2.1, s.2.2.2.1, nI 0, s.2.2.2.2.1, s.2.2.2.2.2, nb, bo, k)
noncomputable def bw9 (n : Nat) (a0 : Nat → Int32) (s : Int32 × Int32 × Int32 × Int32 × Int32 × Int32 × Int32 × Int32 × (Nat → FcT) × Nat) : Option ((Int32 × Int32 × Int32 × Int32 × Int32 × Int32 × Int32 × Int32 × (Nat → FcT) × Nat) ⊕ (Int32 × Int32 × Int32 × Int32 × Int32 × Int32 × Int32 × Int32 × (Nat → FcT) × Nat)) := FX9_bars_b (nI n) a0 12 s.1 s.2.1 s.2.2.1 s.2.2.2.1 s.2.2.2.2.1 s.2.2.2.2.2.1 s.2.2.2.2.2.2.1 s.2.2.2.2.2.2.2.1 s.2.2.2.2.2.2.2.2.1 s.2.2.2.2.2.2.2.2.2
theorem bars_stop {s z : S6} (h : BD6 s z) (nb : Int32) (bo : Nat → FcT) (k : Nat) : loopC (bw9 n a0) (BWs s nb bo k) = some (BWs s nb bo k) := by
  refine loopC_inr ?_
  show FX9_bars_b (nI n) a0 12 s.1 s.2.1 s.2.2.1 s.2.2.2.1 (nI 0) s.2.2.2.2.1 s.2.2.2.2.2 nb bo k = _
  unfold FX9_bars_b
  rw [if_neg h.wrong.1]
  rfl
theorem bars_c_bad (hT : TapeR a0 a8) (hn : n ≤ 400) {s z : S6} (h : BD6 s z) {nb : Nat} (hnb : nb ≤ 8) (bo : Nat → FcT) (k : Nat) : ∃ bo', FX9_bars_c (nI n) a0 12 s.1 s.2.1 s.2.2.1 s.2.2.2.1 (nI 0) s.2.2.2.2.1 s.2.2.2.2.2 (nI nb) bo k = some (.inl (BWs s (nI (nb + 1)) bo' (k + 1 + 1))) := by
  obtain ⟨o, e9, -⟩ := (FP.some hT hn (fact_law hT hn 12 0 (by omega) (by omega))).2 s z (fun _ => 0) 0 h
  obtain ⟨f, hf, q1, q2, q3⟩ := h
  unfold FX9_bars_c
  rw [q1, need9_bad hf, bd6_s, ← q1, e9, bd9_FA, q1, over9_bad hf, bd6_s, upto_n hnb (by omega), bd0_s, ← q1, show nI nb + 1 = nI (nb + 1) from n_add nb 1]
  exact ⟨_, rfl⟩
noncomputable def brM (n : Nat) (a8 F : Nat → Int32) (nb st : Nat) (z : S6) : Option R8S :=
  bd6 (FX8_needs a8 z.1 z.2.1 (nI n) z.2.2.1 z.2.2.2.1 z.2.2.2.2.1 z.2.2.2.2.2 15) fun v_at_60 v_behind_61 v_kind_62 v_number_63 v_wrong_64 v_wrongAt_65 =>
    bd1 (wrI 531 F (115 + nI nb) (nI st)) fun a_fresh_66 =>
    bd9 (FX8_readTest (FX8_readFact 12) a8 a_fresh_66 v_at_60 v_behind_61 (nI n) v_kind_62 v_number_63 v_wrong_64 v_wrongAt_65 (nI 0) (nI st)) fun a_fresh_67 v_at_68 v_behind_69 v_kind_70 v_number_71 v_wrong_72 v_wrongAt_73 v_depth_74 v_steps_75 =>
    bd1 (wrI 531 a_fresh_67 (123 + nI nb) v_steps_75) fun a_fresh_76 =>
    bd6 (FX8_needs a8 v_at_68 v_behind_69 (nI n) v_kind_70 v_number_71 v_wrong_72 v_wrongAt_73 26) fun v_at_77 v_behind_78 v_kind_79 v_number_80 v_wrong_81 v_wrongAt_82 =>
    bd1 (rd 531 a_fresh_76 114) fun x_83 =>
    bd1 (wrI 531 a_fresh_76 114 (x_83 + 1)) fun a_fresh_84 =>
    some (a_fresh_84, v_at_77, v_behind_78, v_kind_79, v_number_80, v_wrong_81, v_wrongAt_82, v_depth_74, v_steps_75)
theorem bars_c_law (hT : TapeR a0 a8) (hn : n ≤ 400) {s z : S6} {a b j nb st : Nat} (hO : OK6 n a0 s z a b j) (hnb : nb < 8) {F : Nat → Int32} {bo : Nat → FcT} (hB : BR F nb st bo) (hst : 2 * st ≤ a) (k : Nat) : ∃ (s' z' : S6) (bo' : Nat → FcT) (F' : Nat → Int32) (k' : Nat) (x' : Int32), FX9_bars_c (nI n) a0 12 s.1 s.2.1 s.2.2.1 s.2.2.2.1 (nI 0) s.2.2.2.2.1 s.2.2.2.2.2 (nI nb) bo k = some (.inl (BWs s' (nI (nb + 1)) bo' (k + 1 + k'))) ∧ brM n a8 F nb st z = some (FB F' z' 0 x') ∧ ((BD6 s' z' ∧ a + k' ≤ n + 1) ∨ ∃ a' b' j', OK6 n a0 s' z' a' b' j' ∧ a + 2 * k' + 1 ≤ a' ∧ x' = nI (st + k') ∧ BR F' (nb + 1) (st + k') bo') := by
  have han : a ≤ n := by
    obtain ⟨x, y, w, -, -, hK⟩ := hO
    have := hK.1
    omega
  have i1 : (115 : Int32) + nI nb = nI (115 + nb) := n_add 115 nb
  have i2 : (123 : Int32) + nI nb = nI (123 + nb) := n_add 123 nb
  obtain ⟨s1, z1, e9, e8, r1, -⟩ := L_need hT hn (k := 15) (q := 2) (kb := kb_228) (kk := 15) rfl rfl rfl (by omega) (hO.rl (Nat.le_refl a))
  have hP := FP.some hT hn (fact_law hT hn 12 0 (by omega) (by omega))
  have t9 : ∀ (o2 : FcT) (s2 : S6) (m2 : Nat) (G : FcT → Int32 → Int32 → Int32 → Int32 → Int32 → Int32 → Int32 → Nat → Option ((Int32 × Int32 × Int32 × Int32 × Int32 × Int32 × Int32 × Int32 × (Nat → FcT) × Nat) ⊕ (Int32 × Int32 × Int32 × Int32 × Int32 × Int32 × Int32 × Int32 × (Nat → FcT) × Nat))), bd9 (some (FA o2 s2 0 m2)) G = G o2 s2.1 s2.2.1 s2.2.2.1 s2.2.2.2.1 (nI 0) s2.2.2.2.2.1 s2.2.2.2.2.2 m2 := fun _ _ _ _ => rfl
  have t8 : ∀ (F2 : Nat → Int32) (z2 : S6) (x2 : Int32) (G : (Nat → Int32) → Int32 → Int32 → Int32 → Int32 → Int32 → Int32 → Int32 → Int32 → Option R8S), bd9 (some (FB F2 z2 0 x2)) G = G F2 z2.1 z2.2.1 z2.2.2.1 z2.2.2.2.1 z2.2.2.2.2.1 z2.2.2.2.2.2 (nI 0) x2 := fun _ _ _ _ => rfl
  have k2 : ∀ G : Nat → Int32, rd 531 G 114 = some (G 114) := fun G => rdn (k := 114) (by omega) (by omega) rfl
  have k3 : ∀ (G : Nat → Int32) (v : Int32), wrI 531 G 114 v = some (upd G 114 v) := fun G v => wr_n (k := 114) (by omega) (by omega)
  have eb : nI nb + 1 = nI (nb + 1) := n_add nb 1
  unfold FX9_bars_c brM
  rw [e9, e8, bd6_t, bd6_t, i1, wr_n (by omega) (by omega), bd1_s, i2]
  rcases r1 with ⟨a1, b1, j1, hm, hO1⟩ | hB1
  · obtain ⟨o2, s2, z2, F2, m2, x2, r9e, r8e, hR⟩ := hP.1 s1 z1 a1 b1 j1 (upd F (115 + nb) (nI st)) st hO1 (by omega)
    have an1 : a1 ≤ n := by
      obtain ⟨x, y, w, -, -, hK⟩ := hO1
      have := hK.1
      omega
    rw [r9e, r8e, t9, t8, wr_n (by omega) (by omega), bd1_s]
    rcases hR with ⟨hB2, hk⟩ | ⟨a2, b2, j2, dp2, V2, hO2, hA2, rfl, hdp2, rfl, hPr2, hF2⟩
    · obtain ⟨s3, z3, f9, f8, r3, v3⟩ := L_over hT hn (Or.inr hB2 : RL n a0 0 s2 z2)
      rw [f9, f8, bd6_t, bd6_t, upto_n (by omega) (by omega), bd0_s, k2, bd1_s, k3, bd1_s, eb]
      have hB3 : BD6 s3 z3 := r3.bad (fun h => hB2.wrong.1 (v3 h))
      exact ⟨s3, z3, _, _, m2, _, rfl, rfl, Or.inl ⟨hB3, by omega⟩⟩
    · have an2 : a2 ≤ n := by
        obtain ⟨x, y, w, -, -, hK⟩ := hO2
        have := hK.1
        omega
      obtain ⟨s3, z3, f9, f8, r3, v3⟩ := L_over hT hn (hO2.rl (Nat.le_refl a2))
      have e114 : upd F2 (123 + nb) (nI (st + m2)) 114 + 1 = nI (nb + 1) := by
        rw [up_f (by omega), hF2 114 (by omega), up_f (by omega), hB.1.2.2]
        exact eb
      rw [f9, f8, bd6_t, bd6_t, upto_n (by omega) (by omega), bd0_s, k2, bd1_s, k3, bd1_s, eb, e114]
      refine ⟨s3, z3, _, _, m2, _, rfl, rfl, ?_⟩
      rcases r3 with ⟨a3, b3, j3, h3, hO3⟩ | hB3
      · exact Or.inr ⟨a3, b3, j3, hO3, by omega, rfl, hB.next hnb (by omega) hdp2 hPr2 hF2⟩
      · exact Or.inl ⟨hB3, by omega⟩
  · obtain ⟨o2, r9e, r8e⟩ := hP.2 s1 z1 (upd F (115 + nb) (nI st)) (nI st) hB1
    obtain ⟨s3, z3, f9, f8, r3, v3⟩ := L_over hT hn (Or.inr hB1 : RL n a0 0 s1 z1)
    rw [r9e, r8e, t9, t8, wr_n (by omega) (by omega), bd1_s, f9, f8, bd6_t, bd6_t, upto_n (by omega) (by omega), bd0_s, k2, bd1_s, k3, bd1_s, eb]
    have hB3 : BD6 s3 z3 := r3.bad (fun h => hB1.wrong.1 (v3 h))
    exact ⟨s3, z3, _, _, 1, _, rfl, rfl, Or.inl ⟨hB3, by omega⟩⟩
theorem bars_loop (hT : TapeR a0 a8) (hn : n ≤ 400) : ∀ d a b j (s z : S6) F nb st bo k, n < a + d → OK6 n a0 s z a b j → BR F nb st bo → 2 * st ≤ a → k ≤ a → ∃ (s' z' : S6) (F' : Nat → Int32) (nb' : Int32) (bo' : Nat → FcT) (k' : Nat) (x' : Int32), loopC (bw9 n a0) (BWs s (nI nb) bo k) = some (BWs s' nb' bo' k') ∧ loopC (tw8 n a8 1) (TXs F z (nI 0) (nI st)) = some (TXs F' z' (nI 0) x') ∧ k' ≤ 402 ∧ (BD6 s' z' ∨ (s'.2.2.2.2.1 = 0 ∧ z'.2.2.2.2.1 = 0 ∧ s'.2.2.2.2.2 = nM ∧ ∃ N S, nb' = nI N ∧ BR F' N S bo')) := by
  intro d
  induction d with
  | zero =>
    rintro a b j s z F nb st bo k hd ⟨x, y, q, -, -, hK⟩
    have := hK.1
    omega
  | succ d ih =>
    rintro a b j s z F nb st bo k hd ⟨x, y, w, rfl, rfl, hK⟩ hB hst hk
    have hj := hK.1.2.2.2.1
    have hab := hK.1
    have h8 := hB.1.1
    by_cases c29 : j = 29
    · subst c29
      refine ⟨(nI b, nI a, tkT 29, x, 0, nM), (nI a, nI b, nI 29, y, 0, w), F, nI nb, bo, k, nI st, loopC_inr ?_, loopC_inr ?_, by omega, Or.inr ⟨rfl, rfl, rfl, nb, st, rfl, hB⟩⟩
      · show FX9_bars_b (nI n) a0 12 (nI b) (nI a) (tkT 29) x (nI 0) 0 nM (nI nb) bo k = _
        unfold FX9_bars_b
        rw [if_pos rfl, if_pos (by decide)]
        rfl
      · show FX8_text_b84 a8 1 (nI n) F (nI a) (nI b) (nI 29) y 0 w (nI 0) (nI st) = _
        unfold FX8_text_b84
        rw [if_pos rfl, if_pos (by decide)]
        rfl
    have t29 : ¬ tkT j = 0 := fun h => c29 (((tk_eq j hj).2.2.2.2.2.1).mp h)
    have n29 : ¬ nI j = 29 := by rw [show (29 : Int32) = nI 29 from rfl, eq_f c29 (by omega) (by omega)]; exact id
    have i14 : FX9_is (nI n) a0 3 kb_226 (nI b) (nI a) (tkT j) 0 = some (decide (j = 14)) := hK.2.2 14 (by omega)
    have m14 : FX8_is (nI j) 0 14 = some (decide (j = 14)) := is8 (k := 14) hj (by omega)
    have r114 : rd 531 F 114 = some (nI nb) := rdn (k := 114) (by omega) (by omega) hB.1.2.2
    have bad : ∀ f, 1 ≤ f ∧ f ≤ 5 → bw9 n a0 (BWs (nI b, nI a, tkT j, x, 0, nM) (nI nb) bo k) = FX9_bars_c (nI n) a0 12 (nI b) (nI a) (tkT j) x (nI 0) (nI f) (nI a) (nI nb) bo k → tw8 n a8 1 (TXs F (nI a, nI b, nI j, y, 0, w) (nI 0) (nI st)) = some (.inl (TXs F (nI a, nI b, nI j, y, nI f, nI a) (nI 0) (nI st))) → ∃ (s' z' : S6) (F' : Nat → Int32) (nb' : Int32) (bo' : Nat → FcT) (k' : Nat) (x' : Int32), loopC (bw9 n a0) (BWs (nI b, nI a, tkT j, x, 0, nM) (nI nb) bo k) = some (BWs s' nb' bo' k') ∧ loopC (tw8 n a8 1) (TXs F (nI a, nI b, nI j, y, 0, w) (nI 0) (nI st)) = some (TXs F' z' (nI 0) x') ∧ k' ≤ 402 ∧ (BD6 s' z' ∨ (s'.2.2.2.2.1 = 0 ∧ z'.2.2.2.2.1 = 0 ∧ s'.2.2.2.2.2 = nM ∧ ∃ N S, nb' = nI N ∧ BR F' N S bo')) := fun f hf b9 b8 => by
      have hBD : BD6 (nI b, nI a, tkT j, x, nI f, nI a) (nI a, nI b, nI j, y, nI f, nI a) := ⟨f, hf, rfl, rfl, rfl⟩
      obtain ⟨bo', e9⟩ := bars_c_bad hT hn hBD h8 bo k
      refine ⟨_, _, F, nI (nb + 1), bo', k + 1 + 1, nI st, loop_st (b9.trans e9) (bars_stop hBD _ _ _), loop_st b8 (town_bad (n := n) (a0 := a0) (a8 := a8) (u := F) (f := F) hBD 0 (nI 0) (nI st) 1).2, by omega, Or.inl hBD⟩
    by_cases c14 : j = 14
    · subst c14
      have hlt := hab.2.2.2.2.2 (by omega)
      by_cases c8 : nb = 8
      · subst c8
        have hf := fk (j := 14) (p := 4) (by omega) (by omega)
        refine bad _ hf ?_ ?_
        · show FX9_bars_b (nI n) a0 12 (nI b) (nI a) (tkT 14) x (nI 0) 0 nM (nI 8) bo k = _
          unfold FX9_bars_b FX9_bars_s
          rw [if_pos rfl, if_neg t29, i14, bd1_s, if_neg (by decide), if_pos rfl, if_pos (show nI 8 = 8 from rfl), sp_full hj, bd6_s]
        · show FX8_text_b84 a8 1 (nI n) F (nI a) (nI b) (nI 14) y 0 w (nI 0) (nI st) = _
          unfold FX8_text_b84 FX8_readBar FX8_readBar_j36
          rw [if_pos rfl, if_neg n29, if_neg (by decide), r114, bd1_s, m14, bd1_s, if_neg (by decide), if_pos (show nI 8 = 8 from rfl), show (4 : Int32) = nI 4 from rfl, fl_ok hj, bd2_s, if_neg (nz_f hf)]
          rfl
      · have n8 : ¬ nI nb = 8 := by rw [show (8 : Int32) = nI 8 from rfl, eq_f c8 (by omega) (by omega)]; exact id
        obtain ⟨A, B, J, X, Y, g1, g2, g3, g4⟩ := next_law hT hn hab.2.1 x y
        obtain ⟨s2, z2, bo2, F2, k2, x2, f9, f8, hR⟩ := bars_c_law hT hn (s := (nI B, nI A, tkT J, X, 0, nM)) (z := (nI A, nI B, nI J, Y, 0, w)) (a := A) (b := B) (j := J) ⟨X, Y, w, rfl, rfl, g4⟩ (show nb < 8 by omega) hB (by omega) k
        dsimp only at f9
        have b9 : bw9 n a0 (BWs (nI b, nI a, tkT 14, x, 0, nM) (nI nb) bo k) = some (.inl (BWs s2 (nI (nb + 1)) bo2 (k + 1 + k2))) := by
          show FX9_bars_b (nI n) a0 12 (nI b) (nI a) (tkT 14) x (nI 0) 0 nM (nI nb) bo k = _
          unfold FX9_bars_b FX9_bars_s
          rw [if_pos rfl, if_neg t29, i14, bd1_s, if_neg (by decide), if_pos rfl, if_neg n8, sp_go, g2, bd4_s, bd6_s, f9]
        have b8 : tw8 n a8 1 (TXs F (nI a, nI b, nI 14, y, 0, w) (nI 0) (nI st)) = some (.inl (TXs F2 z2 (nI 0) x2)) := by
          show FX8_text_b84 a8 1 (nI n) F (nI a) (nI b) (nI 14) y 0 w (nI 0) (nI st) = _
          unfold FX8_text_b84 FX8_readBar FX8_readBar_j36
          rw [if_pos rfl, if_neg n29, if_neg (by decide), r114, bd1_s, m14, bd1_s, if_neg (by decide), if_neg n8, if_pos rfl, g3, bd4_s]
          unfold brM at f8
          dsimp only at f8
          rw [f8]
          rfl
        rcases hR with ⟨hB2, hk2⟩ | ⟨a3, b3, j3, hO3, hA3, rfl, hB3⟩
        · exact ⟨_, _, _, _, _, _, _, loop_st b9 (bars_stop hB2 _ _ _), loop_st b8 (town_bad (n := n) (a0 := a0) (a8 := a8) (u := F) (f := F2) hB2 0 (nI 0) x2 1).2, by omega, Or.inl hB2⟩
        · obtain ⟨s4, z4, F4, nb4, bo4, k4, x4, l9, l8, hk4, hR4⟩ := ih a3 b3 j3 s2 z2 F2 (nb + 1) (st + k2) bo2 (k + 1 + k2) (by omega) hO3 hB3 (by omega) (by omega)
          exact ⟨s4, z4, F4, nb4, bo4, k4, x4, loop_st b9 l9, loop_st b8 l8, hk4, hR4⟩
    · have hf := fk (j := j) (p := 2) (by omega) (by omega)
      rw [decide_eq_false c14] at i14 m14
      refine bad _ hf ?_ ?_
      · show FX9_bars_b (nI n) a0 12 (nI b) (nI a) (tkT j) x (nI 0) 0 nM (nI nb) bo k = _
        unfold FX9_bars_b FX9_bars_s
        rw [if_pos rfl, if_neg t29, i14, bd1_s, if_pos (by decide), show (2 : Int32) = nI 2 from rfl, wr_ok hj, bd2_s, if_neg (nz_f hf)]
      · show FX8_text_b84 a8 1 (nI n) F (nI a) (nI b) (nI j) y 0 w (nI 0) (nI st) = _
        unfold FX8_text_b84 FX8_readBar FX8_readBar_j36
        rw [if_pos rfl, if_neg n29, if_neg (by decide), r114, bd1_s, m14, bd1_s, if_pos (by decide), show (2 : Int32) = nI 2 from rfl, fl_ok hj, bd2_s, if_neg (nz_f hf)]
        rfl
end P87
