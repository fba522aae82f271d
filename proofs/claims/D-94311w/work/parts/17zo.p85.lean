set_option maxRecDepth 100000
/-! bars: a fact's words, on both sides -/
abbrev R8T : Type := (Nat → Int32) → (Nat → Int32) → Int32 → Int32 → Int32 → Int32 → Int32 → Int32 → Int32 → Int32 → Int32 → Option ((Nat → Int32) × Int32 × Int32 × Int32 × Int32 × Int32 × Int32 × Int32 × Int32)
abbrev R8S : Type := (Nat → Int32) × Int32 × Int32 × Int32 × Int32 × Int32 × Int32 × Int32 × Int32
/-- the numbers of the model's steps -/
def cTn (F : Nat → Int32) (k : Nat) : Nat := (F k).toBitVec.toNat
theorem cT_e (F : Nat → Int32) (k : Nat) : nI (cTn F k) = F k := by
  apply Int32.toBitVec_inj.mp
  show BitVec.ofNat 32 (F k).toBitVec.toNat = (F k).toBitVec
  apply BitVec.eq_of_toNat_eq
  rw [BitVec.toNat_ofNat]
  exact Nat.mod_eq_of_lt (F k).toBitVec.isLt
theorem cT_n {F : Nat → Int32} {k v : Nat} (h : F k = nI v) (hv : v < 4294967296) : cTn F k = v := by
  unfold cTn
  rw [h]
  show (BitVec.ofNat 32 v).toNat = v
  rw [BitVec.toNat_ofNat]
  exact Nat.mod_eq_of_lt hv
theorem cT_c {F G : Nat → Int32} {k : Nat} (h : F k = G k) : cTn F k = cTn G k := by unfold cTn; rw [h]
def FA (o : FcT) (s : S6) (op : Nat) (k : Nat) : FaR := (o, s.1, s.2.1, s.2.2.1, s.2.2.2.1, nI op, s.2.2.2.2.1, s.2.2.2.2.2, k)
def FB (F : Nat → Int32) (z : S6) (op : Nat) (x : Int32) : R8S := (F, z.1, z.2.1, z.2.2.1, z.2.2.2.1, z.2.2.2.2.1, z.2.2.2.2.2, nI op, x)
theorem bd9_FA {γ : Type} {o : FcT} {s : S6} {op k : Nat} {G : FcT → Int32 → Int32 → Int32 → Int32 → Int32 → Int32 → Int32 → Nat → Option γ} : bd9 (some (FA o s op k)) G = G o s.1 s.2.1 s.2.2.1 s.2.2.2.1 (nI op) s.2.2.2.2.1 s.2.2.2.2.2 k := rfl
noncomputable def ch8b (kk : Int32) (rf : R8T) (a_tape : Nat → Int32) (v_size : Int32) (s : R8S) : Option (R8S ⊕ R8S) :=
  bd5 (FX8_eats a_tape s.2.1 s.2.2.1 v_size s.2.2.2.1 s.2.2.2.2.1 s.2.2.2.2.2.1 kk) fun b_81 v_at_82 v_behind_83 v_kind_84 v_number_85 =>
  if (b2i b_81) = 0 then
    some (.inr (s.1, v_at_82, v_behind_83, v_kind_84, v_number_85, s.2.2.2.2.2.1, s.2.2.2.2.2.2.1, s.2.2.2.2.2.2.2.1, s.2.2.2.2.2.2.2.2))
  else
    bd9 (rf a_tape s.1 v_at_82 v_behind_83 v_size v_kind_84 v_number_85 s.2.2.2.2.2.1 s.2.2.2.2.2.2.1 s.2.2.2.2.2.2.2.1 s.2.2.2.2.2.2.2.2) fun a_fresh_87 v_at_88 v_behind_89 v_kind_90 v_number_91 v_wrong_92 v_wrongAt_93 v_depth_94 v_steps_95 =>
    if v_wrong_92 = 0 then
      bd2 (FX8_emit a_fresh_87 v_steps_95 kk 0) fun a_fresh_97 v_steps_98 =>
      some (.inl (a_fresh_97, v_at_88, v_behind_89, v_kind_90, v_number_91, v_wrong_92, v_wrongAt_93, v_depth_94, v_steps_98))
    else
      some (.inl (a_fresh_87, v_at_88, v_behind_89, v_kind_90, v_number_91, v_wrong_92, v_wrongAt_93, v_depth_94, v_steps_95))
noncomputable def ch8 (kk : Int32) (rf : R8T) : R8T := fun a_tape a_fresh v_at v_behind v_size v_kind v_number v_wrong v_wrongAt v_depth v_steps =>
  bd9 (rf a_tape a_fresh v_at v_behind v_size v_kind v_number v_wrong v_wrongAt v_depth v_steps) fun x1 x2 x3 x4 x5 x6 x7 x8 x9 => loopC (ch8b kk rf a_tape v_size) (x1, x2, x3, x4, x5, x6, x7, x8, x9)
theorem bd9_id {a1 a2 a3 a4 a5 a6 a7 a8 a9 : Type} (o : Option (a1 × a2 × a3 × a4 × a5 × a6 × a7 × a8 × a9)) : (bd9 o fun x1 x2 x3 x4 x5 x6 x7 x8 x9 => some (x1, x2, x3, x4, x5, x6, x7, x8, x9)) = o := by
  cases o <;> rfl
theorem part_ch (rf : R8T) : FX8_readPart rf = ch8 17 rf := by
  funext t F a b n k v w q d e
  unfold FX8_readPart ch8
  congr 1
  funext x1 x2 x3 x4 x5 x6 x7 x8 x9
  rw [bd9_id]
  rfl
theorem test_ch (rf : R8T) : FX8_readTest rf = ch8 16 (ch8 17 rf) := by
  funext t F a b n k v w q d e
  rw [← part_ch]
  unfold FX8_readTest ch8
  congr 1
  funext x1 x2 x3 x4 x5 x6 x7 x8 x9
  rw [bd9_id]
  rfl
section P85
variable {n : Nat} {a0 a8 : Nat → Int32}
/-- what came of a fact that began at word a with st steps: a fault, or k things made and as many steps -/
def FO (n : Nat) (a0 : Nat → Int32) (a st k : Nat) (F F' : Nat → Int32) (o : FcT) (s' z' : S6) (x' : Int32) : Prop :=
  (BD6 s' z' ∧ a + k ≤ n + 1) ∨ ∃ a' b' j' dp V, OK6 n a0 s' z' a' b' j' ∧ a + 2 * k ≤ a' ∧ x' = nI (st + k) ∧ dp ≤ k ∧ o = some (dp, V) ∧ PrAt (cTn F') dp st (st + k) V ∧ ∀ i, (i < 131 + 2 * st ∨ 131 + 2 * (st + k) ≤ i) → F' i = F i
/-- two readers of facts in step -/
def FP (n : Nat) (a0 a8 : Nat → Int32) (op : Nat) (r9 : FaF) (r8 : R8T) : Prop :=
  (∀ (s z : S6) a b j F st, OK6 n a0 s z a b j → 2 * st ≤ a → ∃ o s' z' F' k x', r9 s.1 s.2.1 s.2.2.1 s.2.2.2.1 (nI op) s.2.2.2.2.1 s.2.2.2.2.2 = some (FA o s' op k) ∧ r8 a8 F z.1 z.2.1 (nI n) z.2.2.1 z.2.2.2.1 z.2.2.2.2.1 z.2.2.2.2.2 (nI op) (nI st) = some (FB F' z' op x') ∧ FO n a0 a st k F F' o s' z' x') ∧
  ∀ (s z : S6) F x, BD6 s z → ∃ o, r9 s.1 s.2.1 s.2.2.1 s.2.2.2.1 (nI op) s.2.2.2.2.1 s.2.2.2.2.2 = some (FA o s op 1) ∧ r8 a8 F z.1 z.2.1 (nI n) z.2.2.1 z.2.2.2.1 z.2.2.2.2.1 z.2.2.2.2.2 (nI op) x = some (FB F z op x)
theorem emit_n {F : Nat → Int32} {st : Nat} {k v : Int32} (h : st < 200) : FX8_emit F (nI st) k v = some (upd (upd F (131 + 2 * st) k) (131 + 2 * st + 1) v, nI (st + 1)) := by
  have e1 : (131 : Int32) + 2 * nI st = nI (131 + 2 * st) := by
    rw [show (2 : Int32) = nI 2 from rfl, show (131 : Int32) = nI 131 from rfl, n_mul, n_add]
  unfold FX8_emit
  rw [e1, wr_n (by omega) (by omega), bd1_s, show nI (131 + 2 * st) + 1 = nI (131 + 2 * st + 1) from n_add _ 1, wr_n (by omega) (by omega), bd1_s, show nI st + 1 = nI (st + 1) from n_add st 1]
theorem takes_bad (hn : n ≤ 400) {s z : S6} (h : BD6 s z) {q : Nat} {kb : Nat → Int32} {kk sz : Int32} : FX9_takes (nI n) a0 q kb s.1 s.2.1 s.2.2.1 s.2.2.2.1 s.2.2.2.2.1 = some (false, s.1, s.2.1, s.2.2.1, s.2.2.2.1) ∧ FX8_eats a8 z.1 z.2.1 sz z.2.2.1 z.2.2.2.1 z.2.2.2.2.1 kk = some (false, z.1, z.2.1, z.2.2.1, z.2.2.2.1) := by
  obtain ⟨f, hf, e1, e2, -⟩ := h
  rw [e1, e2]
  exact ⟨takes9_bad hf, ea_no (is8_bad hf)⟩
noncomputable def ch9b (n : Nat) (a0 : Nat → Int32) (q : Nat) (kb : Nat → Int32) (i : Int32) (rf : FaF) (s : FaR) : Option (FaR ⊕ FaR) := FX9_ch_b (nI n) a0 q kb i rf s.1 s.2.1 s.2.2.1 s.2.2.2.1 s.2.2.2.2.1 s.2.2.2.2.2.1 s.2.2.2.2.2.2.1 s.2.2.2.2.2.2.2.1 s.2.2.2.2.2.2.2.2
theorem ch_bad (hn : n ≤ 400) {s z : S6} (h : BD6 s z) {q : Nat} {kb : Nat → Int32} {kk i : Int32} {r9 : FaF} {r8 : R8T} {o : FcT} {op k : Nat} {F : Nat → Int32} {x : Int32} : loopC (ch9b n a0 q kb i r9) (FA o s op k) = some (FA o s op k) ∧ loopC (ch8b kk r8 a8 (nI n)) (FB F z op x) = some (FB F z op x) := by
  obtain ⟨e9, e8⟩ := takes_bad (a0 := a0) (a8 := a8) hn h (q := q) (kb := kb) (kk := kk) (sz := nI n)
  constructor
  · refine loopC_inr ?_
    show FX9_ch_b (nI n) a0 q kb i r9 o s.1 s.2.1 s.2.2.1 s.2.2.2.1 (nI op) s.2.2.2.2.1 s.2.2.2.2.2 k = _
    unfold FX9_ch_b
    rw [e9, bd5_s, if_pos (by decide)]
    rfl
  · refine loopC_inr ?_
    show (bd5 (FX8_eats a8 z.1 z.2.1 (nI n) z.2.2.1 z.2.2.2.1 z.2.2.2.2.1 kk) _) = _
    rw [e8, bd5_s, if_pos (by decide)]
    rfl
theorem ch_loop (hT : TapeR a0 a8) (hn : n ≤ 400) {q kw ic op : Nat} {kb : Nat → Int32} {kk i : Int32} (hq : kl kw = q) (hb : kbT kw = kb) (hkk : nI kw = kk) (hi : nI ic = i) (hw : kw = 16 + ic) (hic : ic < 2) {r9 : FaF} {r8 : R8T} (hP : FP n a0 a8 op r9 r8) (A st : Nat) (F0 : Nat → Int32) (hst : 2 * st ≤ A) : ∀ d a b j (s z : S6) F k dp V, n < a + d → OK6 n a0 s z a b j → A + 2 * k ≤ a → dp ≤ k → PrAt (cTn F) dp st (st + k) V → (∀ i, (i < 131 + 2 * st ∨ 131 + 2 * (st + k) ≤ i) → F i = F0 i) → ∃ o s' z' F' k' x', loopC (ch9b n a0 q kb i r9) (FA (some (dp, V)) s op k) = some (FA o s' op k') ∧ loopC (ch8b kk r8 a8 (nI n)) (FB F z op (nI (st + k))) = some (FB F' z' op x') ∧ FO n a0 A st k' F0 F' o s' z' x' := by
  intro d
  induction d with
  | zero =>
    rintro a b j s z F k dp V hd ⟨x, y, w, -, -, hK⟩
    have := hK.1
    omega
  | succ d ih =>
    intro a b j s z F k dp V hd hO hA hdp hPr hF
    obtain ⟨c, s1, z1, e9, e8, k1, k2, -, ht, hf⟩ := L_takes hT hn hq hb hkk (by omega) (hO.rl (Nat.le_refl a))
    have an : a ≤ n := by
      obtain ⟨x, y, w, -, -, hK⟩ := hO
      have := hK.1
      omega
    cases c with
    | false =>
      obtain ⟨rfl, rfl, -⟩ := hf rfl
      refine ⟨some (dp, V), s1, z1, F, k, nI (st + k), loopC_inr ?_, loopC_inr ?_, Or.inr ⟨a, b, j, dp, V, hO, hA, rfl, hdp, rfl, hPr, hF⟩⟩
      · show FX9_ch_b (nI n) a0 q kb i r9 (some (dp, V)) s1.1 s1.2.1 s1.2.2.1 s1.2.2.2.1 (nI op) s1.2.2.2.2.1 s1.2.2.2.2.2 k = _
        unfold FX9_ch_b
        rw [e9, bd5_s, if_pos (by decide)]
        rfl
      · show (bd5 (FX8_eats a8 z1.1 z1.2.1 (nI n) z1.2.2.1 z1.2.2.2.1 z1.2.2.2.2.1 kk) _) = _
        rw [e8, bd5_s, if_pos (by decide)]
        rfl
    | true =>
      obtain ⟨a1, b1, j1, ha1, hO1⟩ := ht rfl
      have an1 : a1 ≤ n := by
        obtain ⟨x, y, w, -, -, hK⟩ := hO1
        have := hK.1
        omega
      obtain ⟨o2, s2, z2, F2, m2, x2, r9e, r8e, hR⟩ := hP.1 s1 z1 a1 b1 j1 F (st + k) hO1 (by omega)
      have b9 : ch9b n a0 q kb i r9 (FA (some (dp, V)) s op k) = some (.inl (FA (bothO i (some (dp, V)) o2) s2 op (k + 1 + m2))) := by
        show FX9_ch_b (nI n) a0 q kb i r9 (some (dp, V)) s.1 s.2.1 s.2.2.1 s.2.2.2.1 (nI op) s.2.2.2.2.1 s.2.2.2.2.2 k = _
        unfold FX9_ch_b
        rw [e9, bd5_s, if_neg (by decide), ← k1.1, ← k1.2, r9e]
        rfl
      have b8 : ch8b kk r8 a8 (nI n) (FB F z op (nI (st + k))) = if z2.2.2.2.2.1 = 0 then bd2 (FX8_emit F2 x2 kk 0) (fun g1 g2 => some (.inl (FB g1 z2 op g2))) else some (.inl (FB F2 z2 op x2)) := by
        show (bd5 (FX8_eats a8 z.1 z.2.1 (nI n) z.2.2.1 z.2.2.2.1 z.2.2.2.2.1 kk) _) = _
        rw [e8, bd5_s, if_neg (by decide)]
        show (bd9 (r8 a8 F z1.1 z1.2.1 (nI n) z1.2.2.1 z1.2.2.2.1 z.2.2.2.2.1 z.2.2.2.2.2 (nI op) (nI (st + k))) _) = _
        rw [← k2.1, ← k2.2, r8e]
        rfl
      rcases hR with ⟨hB, hk⟩ | ⟨a2, b2, j2, dp2, V2, hO2, hA2, rfl, hdp2, rfl, hPr2, hF2⟩
      · rw [if_neg hB.wrong.2] at b8
        obtain ⟨l9, l8⟩ := ch_bad (a0 := a0) (a8 := a8) hn hB (q := q) (kb := kb) (kk := kk) (i := i) (r9 := r9) (r8 := r8) (o := bothO i (some (dp, V)) o2) (op := op) (k := k + 1 + m2) (F := F2) (x := x2)
        exact ⟨_, s2, z2, F2, _, x2, loop_st b9 l9, loop_st b8 l8, Or.inl ⟨hB, by omega⟩⟩
      · have an2 : a2 ≤ n := by
          obtain ⟨x, y, w, -, -, hK⟩ := hO2
          have := hK.1
          omega
        have z0 : z2.2.2.2.2.1 = 0 := by
          obtain ⟨x, y, w, -, rfl, -⟩ := hO2
          rfl
        rw [if_pos z0, emit_n (by omega), bd2_s] at b8
        have e1 : st + k + m2 + 1 = st + (k + 1 + m2) := by omega
        rw [e1] at b8
        have g1 : ∀ t, t < 131 + 2 * (st + k + m2) → upd (upd F2 (131 + 2 * (st + k + m2)) kk) (131 + 2 * (st + k + m2) + 1) 0 t = F2 t := fun t ht => by rw [up_f (by omega), up_f (by omega)]
        have g2 : upd (upd F2 (131 + 2 * (st + k + m2)) kk) (131 + 2 * (st + k + m2) + 1) 0 (131 + 2 * (st + k + m2)) = nI (16 + ic) := by rw [up_f (by omega), up_t rfl, ← hkk, hw]
        have hPr' : PrAt (cTn (upd (upd F2 (131 + 2 * (st + k + m2)) kk) (131 + 2 * (st + k + m2) + 1) 0)) (max dp dp2 + 1) st (st + (k + 1 + m2)) (bothB i V V2) := by
          refine Or.inr (Or.inr ⟨st + k + m2, st + k, ic, e1.symm, hic, cT_n g2 (by omega), V, V2, ?_, ?_, by rw [hi]⟩)
          · refine (hPr.up (Nat.le_max_left dp dp2)).cong (fun t h1 h2 => cT_c ?_)
            rw [g1 t (by omega)]
            exact hF2 t (Or.inl h2)
          · refine (hPr2.up (Nat.le_max_right dp dp2)).cong (fun t h1 h2 => cT_c ?_)
            exact g1 t h2
        have hF' : ∀ t, (t < 131 + 2 * st ∨ 131 + 2 * (st + (k + 1 + m2)) ≤ t) → upd (upd F2 (131 + 2 * (st + k + m2)) kk) (131 + 2 * (st + k + m2) + 1) 0 t = F0 t := fun t ht => by
          rw [up_f (by omega), up_f (by omega), hF2 t (by omega)]
          exact hF t (by omega)
        obtain ⟨o3, s3, z3, F3, k3, x3, l9, l8, hR3⟩ := ih a2 b2 j2 s2 z2 _ (k + 1 + m2) (max dp dp2 + 1) (bothB i V V2) (by omega) hO2 (by omega) (by omega) hPr' hF'
        exact ⟨o3, s3, z3, F3, k3, x3, loop_st b9 l9, loop_st b8 l8, hR3⟩
theorem FP.chain (hT : TapeR a0 a8) (hn : n ≤ 400) {q kw ic op : Nat} {kb : Nat → Int32} {kk i : Int32} (hq : kl kw = q) (hb : kbT kw = kb) (hkk : nI kw = kk) (hi : nI ic = i) (hw : kw = 16 + ic) (hic : ic < 2) {r9 : FaF} {r8 : R8T} (hP : FP n a0 a8 op r9 r8) : FP n a0 a8 op (fun v_at v_begin v_token v_value v_open v_fault v_place => FX9_ch (nI n) a0 q kb i r9 v_at v_begin v_token v_value v_open v_fault v_place) (ch8 kk r8) := by
  constructor
  · intro s z a b j F st hO hst
    obtain ⟨o1, s1, z1, F1, k1, x1, r9e, r8e, hR⟩ := hP.1 s z a b j F st hO hst
    have c9 : FX9_ch (nI n) a0 q kb i r9 s.1 s.2.1 s.2.2.1 s.2.2.2.1 (nI op) s.2.2.2.2.1 s.2.2.2.2.2 = loopC (ch9b n a0 q kb i r9) (FA o1 s1 op k1) := by
      unfold FX9_ch
      rw [r9e]
      rfl
    have c8 : ch8 kk r8 a8 F z.1 z.2.1 (nI n) z.2.2.1 z.2.2.2.1 z.2.2.2.2.1 z.2.2.2.2.2 (nI op) (nI st) = loopC (ch8b kk r8 a8 (nI n)) (FB F1 z1 op x1) := by
      unfold ch8
      rw [r8e]
      rfl
    rcases hR with ⟨hB, hk⟩ | ⟨a2, b2, j2, dp2, V2, hO2, hA2, rfl, hdp2, rfl, hPr2, hF2⟩
    · obtain ⟨l9, l8⟩ := ch_bad (a0 := a0) (a8 := a8) hn hB (q := q) (kb := kb) (kk := kk) (i := i) (r9 := r9) (r8 := r8) (o := o1) (op := op) (k := k1) (F := F1) (x := x1)
      exact ⟨o1, s1, z1, F1, k1, x1, c9.trans l9, c8.trans l8, Or.inl ⟨hB, hk⟩⟩
    · obtain ⟨o3, s3, z3, F3, k3, x3, l9, l8, hR3⟩ := ch_loop hT hn hq hb hkk hi hw hic hP a st F hst (n + 1) a2 b2 j2 s1 z1 F1 k1 dp2 V2 (by omega) hO2 hA2 hdp2 hPr2 hF2
      exact ⟨o3, s3, z3, F3, k3, x3, c9.trans l9, c8.trans l8, hR3⟩
  · intro s z F x hB
    obtain ⟨o, r9e, r8e⟩ := hP.2 s z F x hB
    obtain ⟨l9, l8⟩ := ch_bad (a0 := a0) (a8 := a8) hn hB (q := q) (kb := kb) (kk := kk) (i := i) (r9 := r9) (r8 := r8) (o := o) (op := op) (k := 1) (F := F) (x := x)
    refine ⟨o, ?_, ?_⟩
    · refine Eq.trans ?_ l9
      show FX9_ch (nI n) a0 q kb i r9 s.1 s.2.1 s.2.2.1 s.2.2.2.1 (nI op) s.2.2.2.2.1 s.2.2.2.2.2 = _
      unfold FX9_ch
      rw [r9e]
      rfl
    · refine Eq.trans ?_ l8
      unfold ch8
      rw [r8e]
      rfl
theorem FP.some (hT : TapeR a0 a8) (hn : n ≤ 400) {op : Nat} {r9 : FaF} {r8 : R8T} (hP : FP n a0 a8 op r9 r8) : FP n a0 a8 op (FX9_some (nI n) a0 r9) (FX8_readTest r8) := by
  rw [test_ch]
  exact FP.chain hT hn (kw := 16) (ic := 0) (q := 2) (kb := kb_237) (kk := 16) (i := 0) rfl rfl rfl rfl rfl (by omega) (FP.chain hT hn (kw := 17) (ic := 1) (q := 3) (kb := kb_247) (kk := 17) (i := 1) rfl rfl rfl rfl rfl (by omega) hP)
end P85
