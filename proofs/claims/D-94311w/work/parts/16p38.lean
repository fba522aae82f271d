set_option maxRecDepth 100000
theorem bits_or : ∀ g, g < 256 → ∀ i, i < 8 → g.testBit i = false → bitsN (g ||| 2 ^ i) = bitsN g + 1 := by decide +kernel
theorem bits_ct : ∀ g, g < 256 → bitsN g = fb_ct g.testBit 8 := by decide +kernel
theorem bits_eq {g G : Nat} (hg : g < 256) (hG : G < 256) (h : ∀ i, g.testBit i = true → G.testBit i = true) (hb : bitsN g = bitsN G) : g = G := by
  refine Nat.eq_of_testBit_eq fun i => ?_
  cases hx : g.testBit i with
  | true => exact (h i hx).symm
  | false =>
    cases hy : G.testBit i with
    | false => rfl
    | true =>
      exfalso
      have hi : i < 8 := by
        by_cases c : i < 8
        · exact c
        · have : G.testBit i = false := Nat.testBit_lt_two_pow (Nat.lt_of_lt_of_le hG (show (256 : Nat) ≤ 2 ^ i from Nat.pow_le_pow_right (n := 2) (i := 8) (by decide) (by omega)))
          rw [this] at hy; exact absurd hy Bool.false_ne_true
      have h1 := fb_ct_upd g.testBit true (i := i) (n := 8) hi
      have h2 := fb_ct_sub (p := fun k => if k = i then true else g.testBit k) (q := G.testBit) (n := 8) (fun k _ hk => by
        by_cases c : k = i
        · rw [c]; exact hy
        · rw [if_neg c] at hk; exact h k hk)
      rw [hx, if_neg Bool.false_ne_true, if_pos rfl, ← bits_ct g hg] at h1
      rw [← bits_ct G hG] at h2
      omega
section P38
variable {all t on at' many ca la pc m1 to1 : Nat → Int32} {T O O' N N' M M' O0 : Nat → Nat} {V : Nat → BvT} {mv as1 a b g : Nat} {p q : Int32} {lies : Int64} {year : Int32}
theorem pl_ca (hW : WT T) (hS : WO T O M) (ha : a < T 0) (hb : b < T 0) (hab : a ≠ b) (h1 : M a ≠ 0) (h2 : M b ≠ T (1 + b)) (j : Nat) : pl (caO O M a b) j = if j + 1 = O (3 * a + (M a - 1)) then 3 * b + M b else pl O j := by
  have hw := hW.b
  have hS' := hS.ca hW ha hb hab h1 h2
  have m3 := hS.m3 hW (show a < 5 by omega)
  have n3 := hS.m3 hW (show b < 5 by omega)
  have w3 := hW.hi (show b < 5 by omega)
  obtain ⟨s1, s2, s3⟩ := hS.st hW (show a < 5 by omega) (show M a - 1 < M a by omega)
  have hO : ∀ p, caO O M a b p = if p = 3 * b + M b then O (3 * a + (M a - 1)) else if p = 3 * a + (M a - 1) then 0 else O p := fun p => rfl
  have h0 : ¬ 0 < O (3 * b + M b) := fun z => by have := (hS.2.1 b (M b) (by omega) (by omega)).mp z; omega
  by_cases c : j + 1 = O (3 * a + (M a - 1))
  · rw [if_pos c]
    exact pl_of hS' (by omega) (by rw [hO, if_pos rfl]; exact c.symm)
  · rw [if_neg c]
    have hle := pl_le O j
    have hle' := pl_le (caO O M a b) j
    by_cases c2 : pl O j = 15
    · by_cases c3 : pl (caO O M a b) j = 15
      · rw [c3, c2]
      · have h3 := pl_in (O := caO O M a b) (i := j) (by omega)
        rw [hO] at h3
        split at h3
        · exact absurd h3.symm c
        · split at h3
          · omega
          · exact absurd h3 (pl_out c2 _ (by omega))
    · have h3 := pl_in (O := O) (i := j) (by omega)
      refine pl_of hS' (by omega) ?_
      rw [hO, if_neg (fun z => by rw [z] at h3; omega), if_neg (fun z => by rw [z] at h3; omega)]
      exact h3
theorem ca_undo (hW : WT T) (hS : WO T O M) (ha : a < T 0) (hb : b < T 0) (hab : a ≠ b) (h1 : M a ≠ 0) (h2 : M b ≠ T (1 + b)) : (∀ p, p < 15 → caO (caO O M a b) (caM M a b) b a p = O p) ∧ ∀ r, r < 5 → caM (caM M a b) b a r = M r := by
  have hw := hW.b
  have m3 := hS.m3 hW (show a < 5 by omega)
  have n3 := hS.m3 hW (show b < 5 by omega)
  have w3 := hW.hi (show b < 5 by omega)
  have hO : ∀ p, caO O M a b p = if p = 3 * b + M b then O (3 * a + (M a - 1)) else if p = 3 * a + (M a - 1) then 0 else O p := fun p => rfl
  have hM : ∀ r, caM M a b r = if r = b then M b + 1 else if r = a then M a - 1 else M r := fun r => rfl
  have e1 : caM M a b b = M b + 1 := by rw [hM, if_pos rfl]
  have e2 : caM M a b a = M a - 1 := by rw [hM, if_neg hab, if_pos rfl]
  have h0 : ¬ 0 < O (3 * b + M b) := fun z => by have := (hS.2.1 b (M b) (by omega) (by omega)).mp z; omega
  constructor
  · intro p hp
    show up (up (caO O M a b) (3 * b + (caM M a b b - 1)) 0) (3 * a + caM M a b a) (caO O M a b (3 * b + (caM M a b b - 1))) p = O p
    rw [e1, e2, Nat.add_sub_cancel, hO (3 * b + M b), if_pos rfl]
    by_cases c1 : p = 3 * a + (M a - 1)
    · rw [upn_t c1, c1]
    · rw [upn_f c1]
      by_cases c2 : p = 3 * b + M b
      · rw [upn_t c2, c2]; omega
      · rw [upn_f c2, hO, if_neg c2, if_neg c1]
  · intro r hr
    show up (up (caM M a b) b (caM M a b b - 1)) a (caM M a b a + 1) r = M r
    rw [e1, e2]
    by_cases c1 : r = a
    · rw [upn_t c1, c1]; omega
    · rw [upn_f c1]
      by_cases c2 : r = b
      · rw [upn_t c2, c2, Nat.add_sub_cancel]
      · rw [upn_f c2, hM, if_neg c2, if_neg c1]
theorem pl_det (hW : WT T) (hS : WO T O M) (hS' : WO T O' M') (hp : ∀ i, i < 8 → pl O i = pl O' i) : (∀ p, p < 15 → O p = O' p) ∧ ∀ r, r < 5 → M r = M' r := by
  have h6 := hW.b
  have key : ∀ {A B : Nat → Nat} {MA MB : Nat → Nat}, WO T A MA → WO T B MB → (∀ i, i < 8 → pl A i = pl B i) → ∀ p, p < 15 → 0 < A p → B p = A p := by
    intro A B MA MB hA hB hab p hp h0
    have h1 := hA.1 p hp
    obtain ⟨i, hi⟩ : ∃ i, A p = i + 1 := ⟨A p - 1, by omega⟩
    have h2 := pl_of hA hp hi
    have h3 := hab i (by omega)
    rw [hi, ← pl_in (O := B) (i := i) (by omega), ← h3, h2]
  have hO : ∀ p, p < 15 → O p = O' p := fun p hpp => by
    by_cases c : 0 < O p
    · exact (key hS hS' hp p hpp c).symm
    · by_cases c' : 0 < O' p
      · exact key hS' hS (fun i hi => (hp i hi).symm) p hpp c'
      · omega
  refine ⟨hO, fun r hr => ?_⟩
  have hc : ∀ l, l ≤ 3 → c3 O r l = c3 O' r l := by
    intro l
    induction l with
    | zero => intro _; rfl
    | succ l ih =>
      intro hl
      show c3 O r l + _ = c3 O' r l + _
      rw [ih (by omega), hO (3 * r + l) (by omega)]
  have e1 := c3_eq hS hr 3 (by omega)
  have e2 := c3_eq hS' hr 3 (by omega)
  have := hc 3 (by omega)
  have := hS.m3 hW hr
  have := hS'.m3 hW hr
  omega
/-- the state when those of g have gone straight -/
def StG (T O0 : Nat → Nat) (g : Nat) (O N : Nat → Nat) : Prop := WO T O N ∧ ∀ i, i < 8 → pl O i = if g.testBit i then mtS' T O0 i - 1 else pl O0 i
def rA (O0 : Nat → Nat) (i : Nat) : Nat := pl O0 i / 3
def rB (T O0 : Nat → Nat) (i : Nat) : Nat := (mtS' T O0 i - 1) / 3
/-- one more can go -/
noncomputable def okS (T O0 : Nat → Nat) (V : Nat → BvT) (g : Nat) (O N : Nat → Nat) (i : Nat) : Bool :=
  decide (i < T 6) && awB T O0 i && !g.testBit i && decide (N (rA O0 i) ≠ 0) && decide (O (3 * rA O0 i + (N (rA O0 i) - 1)) = i + 1) && decide (maS T O N V g 0 (nI (rA O0 i)) (nI (rB T O0 i)) = 0) && decide (3 * rB T O0 i + N (rB T O0 i) = mtS' T O0 i - 1)
def Win (T O0 : Nat → Nat) (V : Nat → BvT) : Nat → Nat → (Nat → Nat) → (Nat → Nat) → Prop
  | 0, _, _, _ => True
  | d + 1, g, O, N => ∃ i, i < 8 ∧ okS T O0 V g O N i = true ∧ Win T O0 V d (g ||| 2 ^ i) (caO O N (rA O0 i) (rB T O0 i)) (caM N (rA O0 i) (rB T O0 i))
def OrS (T O0 : Nat → Nat) (V : Nat → BvT) : Nat → Nat → Nat → (Nat → Nat) → (Nat → Nat) → (Nat → Nat) → Prop
  | 0, _, _, _, _, _ => True
  | d + 1, k, g, O, N, o => o k < 8 ∧ okS T O0 V g O N (o k) = true ∧ (∀ j, j < o k → okS T O0 V g O N j = true → ¬ Win T O0 V d (g ||| 2 ^ j) (caO O N (rA O0 j) (rB T O0 j)) (caM N (rA O0 j) (rB T O0 j))) ∧ OrS T O0 V d (k + 1) (g ||| 2 ^ o k) (caO O N (rA O0 (o k)) (rB T O0 (o k))) (caM N (rA O0 (o k)) (rB T O0 (o k))) o
theorem okS_in {i : Nat} (hW : WT T) (h : okS T O0 V g O N i = true) : i < T 6 ∧ awB T O0 i = true ∧ g.testBit i = false ∧ N (rA O0 i) ≠ 0 ∧ O (3 * rA O0 i + (N (rA O0 i) - 1)) = i + 1 ∧ maS T O N V g 0 (nI (rA O0 i)) (nI (rB T O0 i)) = 0 ∧ 3 * rB T O0 i + N (rB T O0 i) = mtS' T O0 i - 1 ∧ rA O0 i < T 0 ∧ rB T O0 i < T 0 ∧ rA O0 i ≠ rB T O0 i ∧ N (rB T O0 i) ≠ T (1 + rB T O0 i) := by
  unfold okS at h
  simp only [Bool.and_eq_true, decide_eq_true_eq, Bool.not_eq_true'] at h
  obtain ⟨⟨⟨⟨⟨⟨h1, h2⟩, h3⟩, h4⟩, h5⟩, h6⟩, h7⟩ := h
  have hb := hW.b
  obtain ⟨a, b, ha, hb', hab, ea, eb, -, hb0, -, -⟩ := maS_0 hW h6
  obtain ⟨w1, w2, w3, w4, w5⟩ := awB_in h2
  have ea' := nI_inj ea (by unfold rA; omega) (by omega)
  have eb' := nI_inj eb (by unfold rB; omega) (by omega)
  rw [← ea'] at ha hab
  rw [← eb'] at hb' hab hb0
  exact ⟨h1, h2, h3, h4, h5, h6, h7, ha, hb', hab, hb0⟩
theorem StG.step (hW : WT T) (hG : StG T O0 g O N) {i : Nat} (h : okS T O0 V g O N i = true) : StG T O0 (g ||| 2 ^ i) (caO O N (rA O0 i) (rB T O0 i)) (caM N (rA O0 i) (rB T O0 i)) := by
  obtain ⟨h1, h2, h3, h4, h5, h6, h7, h8, h9, h10, h11⟩ := okS_in hW h
  obtain ⟨hS, hp⟩ := hG
  refine ⟨hS.ca hW h8 h9 h10 h4 h11, fun j hj => ?_⟩
  rw [pl_ca hW hS h8 h9 h10 h4 h11 j, h5, hp j hj, Nat.testBit_or, Nat.testBit_two_pow]
  by_cases c : j = i
  · subst c
    rw [if_pos rfl, decide_eq_true rfl, Bool.or_true, if_pos rfl, h7]
  · rw [if_neg (by omega), decide_eq_false (fun z => c z.symm), Bool.or_false]
theorem StG.det (hW : WT T) (h : StG T O0 g O N) (h' : StG T O0 g O' N') : (∀ p, p < 15 → O p = O' p) ∧ ∀ r, r < 5 → N r = N' r := pl_det hW h.1 h'.1 fun i hi => by rw [h.2 i hi, h'.2 i hi]
theorem okS_det (hW : WT T) (h114 : T 114 ≤ 8) (hg : g < 256) (h : StG T O0 g O N) (h' : StG T O0 g O' N') (i : Nat) : okS T O0 V g O N i = okS T O0 V g O' N' i := by
  obtain ⟨d1, d2⟩ := h.det hW h'
  have e := maS_cong (V := V) (as1 := 0) (U := T) hW h.1 h114 (fun _ _ => rfl) rfl (fun p hp => (d1 p hp).symm) (fun r hr => (d2 r hr).symm) hg (by omega) (nI (rA O0 i)) (nI (rB T O0 i))
  unfold okS
  rw [e]
  by_cases c : awB T O0 i = true
  · obtain ⟨w1, w2, w3, w4, w5⟩ := awB_in c
    have hr := d2 (rA O0 i) (by unfold rA; omega)
    have hr2 := d2 (rB T O0 i) (by unfold rB; omega)
    have ra5 : rA O0 i < 5 := by unfold rA; omega
    have hm := h'.1.m3 hW (r := rA O0 i) ra5
    rw [hr, hr2, d1 (3 * rA O0 i + (N' (rA O0 i) - 1)) (by omega)]
  · rw [Bool.eq_false_iff.mpr c]
    simp only [Bool.and_false, Bool.false_and]
theorem Win_det (hW : WT T) (h114 : T 114 ≤ 8) : ∀ d g (O N O' N' : Nat → Nat), g < 256 → StG T O0 g O N → StG T O0 g O' N' → Win T O0 V d g O N → Win T O0 V d g O' N' := by
  intro d
  induction d with
  | zero => intro g O N O' N' _ _ _ _; trivial
  | succ d ih =>
    intro g O N O' N' hg h h' ⟨i, hi, hok, hw⟩
    have hok' : okS T O0 V g O' N' i = true := by rw [← okS_det hW h114 hg h h']; exact hok
    exact ⟨i, hi, hok', ih _ _ _ _ _ (or_lt hg hi) (h.step hW hok) (h'.step hW hok') hw⟩
theorem OrS.win : ∀ d k g (O N : Nat → Nat) (o : Nat → Nat), OrS T O0 V d k g O N o → Win T O0 V d g O N := by
  intro d
  induction d with
  | zero => intro k g O N o _; trivial
  | succ d ih =>
    intro k g O N o ⟨h1, h2, _, h4⟩
    exact ⟨o k, h1, h2, ih _ _ _ _ _ h4⟩
theorem OrS.cong : ∀ d k g (O N : Nat → Nat) (o o' : Nat → Nat), (∀ j, k ≤ j → o' j = o j) → OrS T O0 V d k g O N o → OrS T O0 V d k g O N o' := by
  intro d
  induction d with
  | zero => intro k g O N o o' _ _; trivial
  | succ d ih =>
    intro k g O N o o' he ⟨h1, h2, h3, h4⟩
    have e := he k (Nat.le_refl k)
    refine ⟨by rw [e]; exact h1, by rw [e]; exact h2, by rw [e]; exact h3, ?_⟩
    rw [e]
    exact ih _ _ _ _ o o' (fun j hj => he j (by omega)) h4
theorem OrS.det (hW : WT T) (h114 : T 114 ≤ 8) : ∀ d k g (O N O' N' : Nat → Nat) (o o' : Nat → Nat), g < 256 → StG T O0 g O N → StG T O0 g O' N' → OrS T O0 V d k g O N o → OrS T O0 V d k g O' N' o' → ∀ j, k ≤ j → j < k + d → o j = o' j := by
  intro d
  induction d with
  | zero => intro k g O N O' N' o o' _ _ _ _ _ j h1 h2; omega
  | succ d ih =>
    intro k g O N O' N' o o' hg hG hG' ⟨h1, h2, h3, h4⟩ ⟨h1', h2', h3', h4'⟩
    have hok : ∀ i, okS T O0 V g O N i = okS T O0 V g O' N' i := okS_det hW h114 hg hG hG'
    have e : o k = o' k := by
      rcases Nat.lt_trichotomy (o k) (o' k) with c | c | c
      · have z := h3' (o k) c (by rw [← hok]; exact h2)
        exact absurd (Win_det hW h114 d _ _ _ _ _ (or_lt hg h1) (hG.step hW h2) (hG'.step hW (by rw [← hok]; exact h2)) (OrS.win _ _ _ _ _ _ h4)) z
      · exact c
      · have z := h3 (o' k) c (by rw [hok]; exact h2')
        exact absurd (Win_det hW h114 d _ _ _ _ _ (or_lt hg h1') (hG'.step hW h2') (hG.step hW (by rw [hok]; exact h2')) (OrS.win _ _ _ _ _ _ h4')) z
    intro j hj hjd
    by_cases c : j = k
    · rw [c]; exact e
    · rw [← e] at h4' h2'
      exact ih (k + 1) _ _ _ _ _ o o' (or_lt hg h1) (hG.step hW h2) (hG'.step hW h2') h4 h4' j (by omega) (by omega)
theorem ord8 (hA : AllAt all T) (hW : WT T) {M : Nat → Nat} (hSc : WO T (fun p => T (80 + p)) M) (hB : BarsOK all T V) (hm : ∀ i, i < 8 → m1 i = nD (mtS' T (fun p => T (80 + p)) i)) {n : Nat} (hn : n ≤ 8) : ∀ d D, d < D → ∀ k g (O N on many pile ord : Nat → _), k + d = n → g < 256 → StG T (fun p => T (80 + p)) g O N → OnAt on many O N → ∃ b on' many' mv' pile' ord', FX8_orders D all on many (nI g) pile nM m1 ord (nI k) (nI n) = some (b, on', many', mv', pile', ord') ∧ (∀ k', k' < k → ord' k' = ord k') ∧ ((b = true ∧ ∃ o, OrS T (fun p => T (80 + p)) V d k g O N o ∧ ∀ k', k ≤ k' → k' < n → ord' k' = nI (o k')) ∨ (b = false ∧ ¬ Win T (fun p => T (80 + p)) V d g O N)) := by
  have hb := hW.b
  intro d
  induction d with
  | zero =>
    intro D hD k g O N on many pile ord hk hg hG hon
    obtain ⟨D, rfl⟩ : ∃ z, D = z + 1 := ⟨D - 1, by omega⟩
    obtain rfl : k = n := by omega
    exact ⟨true, on, many, nI g, pile, ord, by show FX8_orders_b (FX8_orders D) _ _ _ _ _ _ _ _ _ _ = _; unfold FX8_orders_b; rw [if_pos rfl], fun _ _ => rfl, Or.inl ⟨rfl, fun _ => 0, trivial, fun k' h1 h2 => by omega⟩⟩
  | succ d ih =>
    intro D hD k g O N on many pile ord hk hg hG hon
    obtain ⟨D, rfl⟩ : ∃ z, D = z + 1 := ⟨D - 1, by omega⟩
    have hS := hG.1
    have ep := packed8 hW hS hon.1
    have e6 := hA.n (k := 6) (by omega) (by omega)
    obtain ⟨r, h1, h2⟩ := up_rule (B := fun (s : Int32 × (Nat → Int32) × (Nat → Int32) × Int32 × (Nat → Int32) × (Nat → Int32)) => FX8_orders_b_b24 (FX8_orders D) all (nI g) nM m1 (nI k) (nI n) (lN (pk O 15)) s.1 s.2.1 s.2.2.1 s.2.2.2.1 s.2.2.2.2.1 s.2.2.2.2.2) (fun i (a : (Nat → Int32) × (Nat → Int32) × (Nat → Int32) × (Nat → Int32)) => (nI i, a.1, a.2.1, nI g, a.2.2.1, a.2.2.2)) (fun i a => OnAt a.1 a.2.1 O N ∧ (∀ k', k' < k → a.2.2.2 k' = ord k') ∧ ∀ j, j < i → okS T (fun p => T (80 + p)) V g O N j = true → ¬ Win T (fun p => T (80 + p)) V d (g ||| 2 ^ j) (caO O N (rA (fun p => T (80 + p)) j) (rB T (fun p => T (80 + p)) j)) (caM N (rA (fun p => T (80 + p)) j) (rB T (fun p => T (80 + p)) j)))
      (fun r => (∃ x1 x2 x3 x4 ord' o, r = .inl (x1, x2, x3, x4, ord') ∧ (∀ k', k' < k → ord' k' = ord k') ∧ OrS T (fun p => T (80 + p)) V (d + 1) k g O N o ∧ ∀ k', k ≤ k' → k' < n → ord' k' = nI (o k')) ∨ (∃ x1 x2 x3 x4 ord', r = .inr (x1, x2, x3, x4, ord') ∧ (∀ k', k' < k → ord' k' = ord k') ∧ ¬ Win T (fun p => T (80 + p)) V (d + 1) g O N)) (T 6) (by
      rintro i ⟨on1, mn1, pl1, ord1⟩ hi ⟨hon1, hord1, hno⟩
      dsimp only at hon1 hord1 hno
      generalize hO0 : (fun p => T (80 + p)) = O0 at *
      have hi8 : i < 8 := by omega
      -- not this one
      have go : ∀ (mn2 pl2 : Nat → Int32), OnAt on1 mn2 O N → okS T O0 V g O N i = false → FX8_orders_b_b24 (FX8_orders D) all (nI g) nM m1 (nI k) (nI n) (lN (pk O 15)) (nI i) on1 mn1 (nI g) pl1 ord1 = FX8_orders_b_j171 (FX8_orders D) (nI i) on1 mn2 (nI g) pl2 ord1 → ∃ a' : (Nat → Int32) × (Nat → Int32) × (Nat → Int32) × (Nat → Int32), FX8_orders_b_b24 (FX8_orders D) all (nI g) nM m1 (nI k) (nI n) (lN (pk O 15)) (nI i) on1 mn1 (nI g) pl1 ord1 = some (.inl (nI (i + 1), a'.1, a'.2.1, nI g, a'.2.2.1, a'.2.2.2)) ∧ OnAt a'.1 a'.2.1 O N ∧ (∀ k', k' < k → a'.2.2.2 k' = ord k') ∧ ∀ j, j < i + 1 → okS T O0 V g O N j = true → ¬ Win T O0 V d (g ||| 2 ^ j) (caO O N (rA O0 j) (rB T O0 j)) (caM N (rA O0 j) (rB T O0 j)) := by
        intro mn2 pl2 hon2 hok hs
        refine ⟨(on1, mn2, pl2, ord1), ?_, hon2, hord1, fun j hj hj2 => ?_⟩
        · rw [hs]
          unfold FX8_orders_b_j171
          rw [show nI i + 1 = nI (i + 1) from n_add i 1]
        · by_cases c : j = i
          · rw [c, hok] at hj2; exact absurd hj2 Bool.false_ne_true
          · exact hno j (by omega) hj2
      have e1 : FX8_isAway all m1 (nI i) = some (awB T O0 i) := by
        have := isAway8 hA hW (by rw [hO0]; exact hSc) (by rw [hO0]; exact hm) hi8
        rw [hO0] at this
        exact this
      have n6 : ¬ nI (T 6) ≤ nI i := by rw [le_f (by omega) (by omega)]; exact id
      have r6 : rd 1593 all 6 = some (nI (T 6)) := rdn (k := 6) (by omega) (by omega) e6
      have pre : ∀ r, (if (b2i (awB T O0 i)) = 0 then
            FX8_orders_b_j171 (FX8_orders D) (nI i) on1 mn1 (nI g) pl1 ord1
          else
            bd1 (FX8_wasMoved (nI g) (nI i)) fun b_97 =>
            if (b2i b_97) = 0 then
              bd1 (FX8_placeOf all (nI i)) fun x_99 =>
              bd1 (rd 8 m1 (nI i)) fun x_100 =>
              bd1 (rd 5 mn1 (x_99 / 3)) fun x_101 =>
              if x_101 = 0 then
                FX8_orders_b_j171 (FX8_orders D) (nI i) on1 mn1 (nI g) pl1 ord1
              else
                bd1 (FX8_topOf on1 mn1 (x_99 / 3)) fun x_103 =>
                if x_103 = (nI i) then
                  bd3 (FX8_mayCarry all on1 mn1 (nI g) pl1 nM (x_99 / 3) (x_100 / 3)) fun x_105 a_many_106 a_pile_107 =>
                  if x_105 = 0 then
                    bd1 (rd 5 a_many_106 (x_100 / 3)) fun x_109 =>
                    bd1 (rd 8 m1 (nI i)) fun x_110 =>
                    if ((3 * (x_100 / 3)) + x_109) = x_110 then
                      bd3 (FX8_carries on1 a_many_106 (nI g) (x_99 / 3) (x_100 / 3)) fun a_on_112 a_many_113 v_moved_114 =>
                      bd1 (wrI 8 ord1 (nI k) (nI i)) fun a_order_115 =>
                      bd6 ((FX8_orders D) all a_on_112 a_many_113 v_moved_114 a_pile_107 nM m1 a_order_115 ((nI k) + 1) (nI n)) fun b_116 a_on_117 a_many_118 v_moved_119 a_pile_120 a_order_121 =>
                      if (b2i b_116) = 0 then
                        bd3 (FX8_looksAt a_on_117 a_many_118 (lN (pk O 15)) (nI g)) fun a_on_123 a_many_124 v_moved_125 =>
                        FX8_orders_b_j171 (FX8_orders D) (nI i) a_on_123 a_many_124 v_moved_125 a_pile_120 a_order_121
                      else
                        some (.inr (.inl (a_on_117, a_many_118, v_moved_119, a_pile_120, a_order_121)))
                    else
                      FX8_orders_b_j171 (FX8_orders D) (nI i) on1 a_many_106 (nI g) a_pile_107 ord1
                  else
                    FX8_orders_b_j171 (FX8_orders D) (nI i) on1 a_many_106 (nI g) a_pile_107 ord1
                else
                  FX8_orders_b_j171 (FX8_orders D) (nI i) on1 mn1 (nI g) pl1 ord1
            else
              FX8_orders_b_j171 (FX8_orders D) (nI i) on1 mn1 (nI g) pl1 ord1) = r → FX8_orders_b_b24 (FX8_orders D) all (nI g) nM m1 (nI k) (nI n) (lN (pk O 15)) (nI i) on1 mn1 (nI g) pl1 ord1 = r := by
        intro r hr
        unfold FX8_orders_b_b24
        rw [r6, bd1_s, if_neg n6, e1, bd1_s]
        exact hr
      cases ha : awB T O0 i with
      | false =>
        rw [ha] at pre
        exact Or.inl (go mn1 pl1 hon1 (by unfold okS; rw [ha]; simp only [Bool.and_false, Bool.false_and]) (pre _ (if_pos rfl)))
      | true =>
        obtain ⟨w1, w2, w3, w4, w5⟩ := awB_in ha
        rw [ha] at pre
        have e2 := wasMoved8 (m := g) (i := i) (by omega) (by omega)
        cases hgb : g.testBit i with
        | true =>
          have : g / 2 ^ i % 2 = 1 := by rw [bit_iff, hgb]; rfl
          rw [this] at e2
          exact Or.inl (go mn1 pl1 hon1 (by unfold okS; rw [hgb]; simp only [Bool.not_true, Bool.and_false, Bool.false_and]) (pre _ (by rw [if_neg (by decide), e2, bd1_s, if_neg (by decide)])))
        | false =>
          have : g / 2 ^ i % 2 = 0 := by rw [bit_iff, hgb]; rfl
          rw [this] at e2
          have e3 := placeOf8 (M := M) hA hW (by rw [hO0]; exact hSc) hi8
          rw [hO0, plD, if_neg (by omega), nD_succ] at e3
          have e4 : rd 8 m1 (nI i) = some (nI (mtS' T O0 i - 1)) := rdn (by omega) (by omega) (by rw [hm i hi8, nD_pos (by omega)])
          have ea : nI (pl O0 i) / 3 = nI (rA O0 i) := by rw [show (3 : Int32) = nI 3 from rfl, n_div (by omega) (by omega)]; rfl
          have eb : nI (mtS' T O0 i - 1) / 3 = nI (rB T O0 i) := by rw [show (3 : Int32) = nI 3 from rfl, n_div (by omega) (by omega)]; rfl
          have ra5 : rA O0 i < 5 := by unfold rA; omega
          have rb5 : rB T O0 i < 5 := by unfold rB; omega
          have m3 := hS.m3 hW ra5
          have n3 := hS.m3 hW rb5
          have e5 : rd 5 mn1 (nI (rA O0 i)) = some (nI (N (rA O0 i))) := rdn (by omega) (by omega) (hon1.2 _ ra5)
          by_cases c0 : N (rA O0 i) = 0
          · exact Or.inl (go mn1 pl1 hon1 (by unfold okS; rw [decide_eq_false (show ¬ N (rA O0 i) ≠ 0 from fun z => z c0)]; simp only [Bool.and_false, Bool.false_and]) (pre _ (by rw [if_neg (by decide), e2, bd1_s, if_pos (by decide), e3, bd1_s, e4, bd1_s, ea, e5, bd1_s, if_pos (by rw [c0]; rfl)])))
          · have c0' : ¬ nI (N (rA O0 i)) = 0 := by rw [show (0 : Int32) = nI 0 from rfl, eq_f c0 (by omega) (by omega)]; exact id
            have e6' := top8 hon1 hW hS ra5 (by omega)
            obtain ⟨s1, s2, s3⟩ := hS.st hW ra5 (show N (rA O0 i) - 1 < N (rA O0 i) by omega)
            by_cases c1 : O (3 * rA O0 i + (N (rA O0 i) - 1)) = i + 1
            · have c1' : nI (O (3 * rA O0 i + (N (rA O0 i) - 1)) - 1) = nI i := by rw [c1, Nat.add_sub_cancel]
              obtain ⟨⟨z1, mn2, pl2⟩, e7, hz, hon2⟩ := may8 (as1 := 0) hA hon1 hW hS hB hg (by omega) pl1 (nI (rA O0 i)) (nI (rB T O0 i))
              dsimp only at hz hon2
              subst hz
              rw [nD_zero] at e7
              have hle := maS_le (T := T) (O := O) (M := N) (V := V) (mv := g) (as1 := 0) (p := nI (rA O0 i)) (q := nI (rB T O0 i))
              by_cases c2 : maS T O N V g 0 (nI (rA O0 i)) (nI (rB T O0 i)) = 0
              · have c2' : nI (maS T O N V g 0 (nI (rA O0 i)) (nI (rB T O0 i))) = 0 := by rw [c2]; rfl
                have e8 : rd 5 mn2 (nI (rB T O0 i)) = some (nI (N (rB T O0 i))) := rdn (by omega) (by omega) (hon2.2 _ rb5)
                have e9 : 3 * nI (rB T O0 i) + nI (N (rB T O0 i)) = nI (3 * rB T O0 i + N (rB T O0 i)) := by rw [show (3 : Int32) = nI 3 from rfl, n_mul, n_add]
                by_cases c3 : 3 * rB T O0 i + N (rB T O0 i) = mtS' T O0 i - 1
                · -- it goes
                  have hok : okS T O0 V g O N i = true := by
                    unfold okS
                    rw [decide_eq_true hi, ha, hgb, decide_eq_true c0, decide_eq_true c1, decide_eq_true c2, decide_eq_true c3]
                    rfl
                  obtain ⟨-, -, -, k4, k5, k6, k7, k8, k9, k10, k11⟩ := okS_in hW hok
                  obtain ⟨on3, mn3, e10, hon3⟩ := carries8 (mv := g) hon2 hW hS hg k8 k9 k10 k4 k11
                  rw [c1, Nat.add_sub_cancel] at e10
                  have e11 : wrI 8 ord1 (nI k) (nI i) = some (upd ord1 k (nI i)) := wr_n (by omega) (by omega)
                  obtain ⟨bb, on4, mn4, mv4, pl4, ord4, e12, e13, e14⟩ := ih D (by omega) (k + 1) (g ||| 2 ^ i) _ _ on3 mn3 pl2 (upd ord1 k (nI i)) (by omega) (or_lt hg hi8) (hG.step hW hok) hon3
                  have base : FX8_orders_b_b24 (FX8_orders D) all (nI g) nM m1 (nI k) (nI n) (lN (pk O 15)) (nI i) on1 mn1 (nI g) pl1 ord1 = if (b2i bb) = 0 then
                        bd3 (FX8_looksAt on4 mn4 (lN (pk O 15)) (nI g)) fun a_on_123 a_many_124 v_moved_125 =>
                        FX8_orders_b_j171 (FX8_orders D) (nI i) a_on_123 a_many_124 v_moved_125 pl4 ord4
                      else
                        some (.inr (.inl (on4, mn4, mv4, pl4, ord4))) := by
                    refine pre _ ?_
                    rw [if_neg (by decide), e2, bd1_s, if_pos (by decide), e3, bd1_s, e4, bd1_s, ea, e5, bd1_s, if_neg c0', e6', bd1_s, if_pos c1', eb, e7, bd3_s, if_pos c2', e8, bd1_s, bd1_s, e9, if_pos (by rw [c3]), e10, bd3_s, e11, bd1_s, show nI k + 1 = nI (k + 1) from n_add k 1, e12, bd6_s]
                  rcases e14 with ⟨rfl, o, ho1, ho2⟩ | ⟨rfl, hnw⟩
                  · refine Or.inr ⟨.inl (on4, mn4, mv4, pl4, ord4), ?_, Or.inl ⟨on4, mn4, mv4, pl4, ord4, up o k i, rfl, fun k' hk' => ?_, ⟨?_, ?_, ?_, ?_⟩, fun k' hk' hk2 => ?_⟩⟩
                    · show FX8_orders_b_b24 (FX8_orders D) all (nI g) nM m1 (nI k) (nI n) (lN (pk O 15)) (nI i) on1 mn1 (nI g) pl1 ord1 = _
                      rw [base, if_neg (by decide)]
                    · rw [e13 k' (by omega), up_f (by omega), hord1 k' hk']
                    · rw [upn_t rfl]; exact hi8
                    · rw [upn_t rfl]; exact hok
                    · rw [upn_t rfl]; exact hno
                    · rw [upn_t rfl]
                      exact OrS.cong _ _ _ _ _ o _ (fun j hj => upn_f (by omega)) ho1
                    · by_cases c : k' = k
                      · rw [c, e13 k (by omega), up_t rfl, upn_t rfl]
                      · rw [ho2 k' (by omega) hk2, upn_f c]
                  · obtain ⟨on5, mn5, e15, hon5⟩ := looksAt8 hW hS g on4 mn4
                    refine Or.inl ⟨(on5, mn5, pl4, ord4), ?_, hon5, fun k' hk' => ?_, fun j hj hj2 => ?_⟩
                    · show FX8_orders_b_b24 (FX8_orders D) all (nI g) nM m1 (nI k) (nI n) (lN (pk O 15)) (nI i) on1 mn1 (nI g) pl1 ord1 = _
                      rw [base, if_pos (by decide), e15, bd3_s]
                      unfold FX8_orders_b_j171
                      rw [show nI i + 1 = nI (i + 1) from n_add i 1]
                    · show ord4 k' = _
                      rw [e13 k' (by omega), up_f (by omega), hord1 k' hk']
                    · by_cases c : j = i
                      · rw [c]; exact hnw
                      · exact hno j (by omega) hj2
                · have c3' : ¬ nI (3 * rB T O0 i + N (rB T O0 i)) = nI (mtS' T O0 i - 1) := by rw [eq_f c3 (by omega) (by omega)]; exact id
                  exact Or.inl (go mn2 pl2 hon2 (by unfold okS; rw [decide_eq_false c3]; simp only [Bool.and_false]) (pre _ (by rw [if_neg (by decide), e2, bd1_s, if_pos (by decide), e3, bd1_s, e4, bd1_s, ea, e5, bd1_s, if_neg c0', e6', bd1_s, if_pos c1', eb, e7, bd3_s, if_pos c2', e8, bd1_s, bd1_s, e9, if_neg c3'])))
              · have c2' : ¬ nI (maS T O N V g 0 (nI (rA O0 i)) (nI (rB T O0 i))) = 0 := by rw [show (0 : Int32) = nI 0 from rfl, eq_f c2 (by omega) (by omega)]; exact id
                exact Or.inl (go mn2 pl2 hon2 (by unfold okS; rw [decide_eq_false c2]; simp only [Bool.and_false, Bool.false_and]) (pre _ (by rw [if_neg (by decide), e2, bd1_s, if_pos (by decide), e3, bd1_s, e4, bd1_s, ea, e5, bd1_s, if_neg c0', e6', bd1_s, if_pos c1', eb, e7, bd3_s, if_neg c2'])))
            · have c1' : ¬ nI (O (3 * rA O0 i + (N (rA O0 i) - 1)) - 1) = nI i := by rw [eq_f (by omega) (by omega) (by omega)]; exact id
              exact Or.inl (go mn1 pl1 hon1 (by unfold okS; rw [decide_eq_false c1]; simp only [Bool.and_false, Bool.false_and]) (pre _ (by rw [if_neg (by decide), e2, bd1_s, if_pos (by decide), e3, bd1_s, e4, bd1_s, ea, e5, bd1_s, if_neg c0', e6', bd1_s, if_neg c1'])))) (by
      rintro ⟨on1, mn1, pl1, ord1⟩ ⟨hon1, hord1, hno⟩
      dsimp only at hon1 hord1 hno
      refine ⟨.inr (on1, mn1, nI g, pl1, ord1), ?_, Or.inr ⟨on1, mn1, nI g, pl1, ord1, rfl, hord1, ?_⟩⟩
      · show FX8_orders_b_b24 (FX8_orders D) all (nI g) nM m1 (nI k) (nI n) (lN (pk O 15)) (nI (T 6)) on1 mn1 (nI g) pl1 ord1 = _
        unfold FX8_orders_b_b24
        simp (disch := omega) only [i_0, i_1, i_2, i_3, i_4, i_5, i_6, i_7, i_8, i_9, i_10, i_11, i_12, i_13, i_14, i_15, i_16, i_17, i_18, i_19, i_20, i_21, i_22, i_23, i_24, i_25, i_26, i_27, i_28, i_29, i_30, i_31, i_32, i_36, i_40, i_41, i_43, i_48, i_50, i_56, i_57, i_59, i_63, i_64, i_69, i_75, i_76, i_77, i_78, i_79, i_80, i_95, i_96, i_97, i_98, i_99, i_100, i_101, i_102, i_103, i_104, i_105, i_108, i_109, i_110, i_111, i_112, i_113, i_114, i_115, i_116, i_117, i_118, i_119, i_121, i_122, i_123, i_131, i_160, i_199, i_220, i_255, i_256, i_400, i_531, i_999, i_1000, i_1593, i_6000, i_6001, i_6002, i_10000, i_16383, i_16384, i_32768, i_100000, i_294912, i_1000000, bd0_s, bdS2_0, bdS2_1, bdS3_0, bdS3_1, bdS3_2, bdS4_0, bdS4_1, bdS4_2, bdS4_3, un0_s, bd1_s, bd2_s, bd3_s, bd4_s, bd5_s, bd6_s, bd7_s, bd8_s, bd9_s, bd10_s, bd11_s, bd12_s, bd13_s, bd14_s, bd15_s, bd16_s, un1_s, un2_s, un3_s, un4_s, un5_s, un6_s, un7_s, n_add, n_mul, n_addM, n_addD, n_Dadd, n_subD, n_sub, n_div, nD_succ, nD_zero, n_negM, cl_n, cl_d, rd_n, rd_d, wr_n, wr_d, al_n, al_d, b2i_t, b2i_f, lt_t, lt_f, le_t, le_f, eq_t, eq_f, dlt_t, dlt_f, ltd_t, ltd_f, ddl_t, ddl_f, dle_t, dle_f, led_t, led_f, deq_t, deq_f, eqd_t, eqd_f, dde_t, dde_f, m_ne, n_neM, m_lt, n_ltM, m_le, n_leM, m_eqD, m_neD, d_eqM, d_neM, up_t, up_f, bit_n, bit_d, rp_n, rp_d, asb1, sh1_n, sh1_d, or_n, ↓reduceIte, ite_self, Nat.add_sub_cancel, Nat.sub_self, Nat.add_zero, Nat.zero_add, Nat.mul_zero, Nat.zero_mul, eq_self, and_true, true_and, or_true, true_or, and_self, or_self, not_true_eq_false, not_false_eq_true, e6]
      · rintro ⟨i, hi, hok, hw⟩
        exact hno i (okS_in hW hok).1 hok hw) 0 (on, many, pile, ord) (by omega) ⟨hon, fun _ _ => rfl, fun j hj => absurd hj (Nat.not_lt_zero j)⟩
    have hkn : ¬ nI k = nI n := by rw [eq_f (by omega) (by omega) (by omega)]; exact id
    have h1' : loopC (fun (s : Int32 × (Nat → Int32) × (Nat → Int32) × Int32 × (Nat → Int32) × (Nat → Int32)) => FX8_orders_b_b24 (FX8_orders D) all (nI g) nM m1 (nI k) (nI n) (lN (pk O 15)) s.1 s.2.1 s.2.2.1 s.2.2.2.1 s.2.2.2.2.1 s.2.2.2.2.2) ((0 : Int32), on, many, nI g, pile, ord) = some r := h1
    rcases h2 with ⟨x1, x2, x3, x4, ord', o, rfl, ho1, ho2, ho3⟩ | ⟨x1, x2, x3, x4, ord', rfl, ho1, ho2⟩
    · refine ⟨true, x1, x2, x3, x4, ord', ?_, ho1, Or.inl ⟨rfl, o, ho2, ho3⟩⟩
      show FX8_orders_b (FX8_orders D) _ _ _ _ _ _ _ _ _ _ = _
      unfold FX8_orders_b
      rw [if_neg hkn, ep, bd1_s, h1', bdS2_0, un5_s]
    · refine ⟨false, x1, x2, x3, x4, ord', ?_, ho1, Or.inr ⟨rfl, ho2⟩⟩
      show FX8_orders_b (FX8_orders D) _ _ _ _ _ _ _ _ _ _ = _
      unfold FX8_orders_b
      rw [if_neg hkn, ep, bd1_s, h1', bdS2_1, un5_s]
end P38
