set_option maxRecDepth 100000
/-! the search, told once for both -/
abbrev St : Type := (Nat → Nat) × (Nat → Nat) × Nat
abbrev Acc : Type := Nat × (Nat → St) × Bool
def kyS (s : St) : Nat × Nat := (pk s.1 15, s.2.2)
def cdS (s : St) : Nat := enc s.1 s.2.2
def memS (E : Nat → St) (k : Nat × Nat) : Nat → Bool
  | 0 => false
  | n + 1 => memS E k n || decide (kyS (E n) = k)
theorem memS_iff (E : Nat → St) (k : Nat × Nat) : ∀ n, memS E k n = true ↔ ∃ j, j < n ∧ kyS (E j) = k := by
  intro n
  induction n with
  | zero => exact ⟨fun z => absurd z Bool.false_ne_true, fun ⟨j, hj, _⟩ => absurd hj (Nat.not_lt_zero j)⟩
  | succ n ih =>
    rw [memS, Bool.or_eq_true, ih, decide_eq_true_eq]
    constructor
    · rintro (⟨j, h1, h2⟩ | h)
      · exact ⟨j, by omega, h2⟩
      · exact ⟨n, by omega, h⟩
    · rintro ⟨j, h1, h2⟩
      by_cases c : j = n
      · exact Or.inr (by rw [← c]; exact h2)
      · exact Or.inl ⟨j, by omega, h2⟩
def addS (f : Nat) (a : Acc) (s : St) : Acc := if memS a.2.1 (kyS s) a.1 then a else if f + a.1 = 6000 then (a.1, a.2.1, true) else (a.1 + 1, up a.2.1 a.1 s, a.2.2)
def carS (fl : Bool) (s : St) (a b : Nat) : St := (caO s.1 s.2.1 a b, caM s.2.1 a b, if fl then 0 else s.2.2 ||| 2 ^ (s.1 (3 * a + (s.2.1 a - 1)) - 1))
def exSt (fl : Bool) (s : St) (a b : Nat) : St := (exO s.1 s.2.1 a b, s.2.1, if fl then 0 else s.2.2 ||| (2 ^ (s.1 (3 * b + (s.2.1 b - 1)) - 1) ||| 2 ^ (s.1 (3 * a + (s.2.1 a - 1)) - 1)))
noncomputable def pair1 (T : Nat → Nat) (V : Nat → BvT) (as1 : Nat) (fl : Bool) (f : Nat) (s : St) (a b : Nat) (acc : Acc) : Acc := if maS T s.1 s.2.1 V s.2.2 as1 (nI a) (nI b) = 0 then addS f acc (carS fl s a b) else acc
noncomputable def pair2 (T : Nat → Nat) (V : Nat → BvT) (fl : Bool) (f : Nat) (s : St) (a b : Nat) (acc : Acc) : Acc := if a < b ∧ mtS T s.1 s.2.1 V s.2.2 (nI a) (nI b) = 0 then addS f acc (exSt fl s a b) else acc
noncomputable def rowS (T : Nat → Nat) (V : Nat → BvT) (as1 : Nat) (fl : Bool) (f : Nat) (s : St) (a : Nat) (acc : Acc) : Nat → Acc
  | 0 => acc
  | b + 1 => pair2 T V fl f s a b (pair1 T V as1 fl f s a b (rowS T V as1 fl f s a acc b))
noncomputable def allS (T : Nat → Nat) (V : Nat → BvT) (as1 : Nat) (fl : Bool) (f : Nat) (s : St) (acc : Acc) : Nat → Acc
  | 0 => acc
  | a + 1 => rowS T V as1 fl f s a (allS T V as1 fl f s acc a) (T 0)
noncomputable def spS (T : Nat → Nat) (V : Nat → BvT) (as1 : Nat) (fl : Bool) (f : Nat) : Nat → Nat → Acc → Acc
  | 0, _, acc => acc
  | d + 1, x, acc => if acc.1 ≤ x then acc else if acc.2.2 then acc else spS T V as1 fl f d (x + 1) (allS T V as1 fl f (acc.2.1 x) acc (T 0))
def VS (T : Nat → Nat) (s : St) : Prop := WO T s.1 s.2.1 ∧ s.2.2 < 256
def VA (T : Nat → Nat) (f : Nat) (acc : Acc) : Prop := f + acc.1 ≤ 6000 ∧ ∀ j, j < acc.1 → VS T (acc.2.1 j)
def MA (T : Nat → Nat) (lies : Nat → Int64) (mt yt ym : Nat → Int32) (mk f : Nat) (acc : Acc) (sp : Int32) : Prop := VA T f acc ∧ MT lies mt yt ym mk f acc.1 (fun j => kyS (acc.2.1 j)) ∧ sp = if acc.2.2 then 1 else 0
/-- what was told in the years before stays -/
def KP (f : Nat) (l : Nat → Int64) (m : Nat → Int32) (l' : Nat → Int64) (m' : Nat → Int32) : Prop := ∀ j, j < f → l' j = l j ∧ m' j = m j
theorem KP.rf {f : Nat} {l : Nat → Int64} {m : Nat → Int32} : KP f l m l m := fun _ _ => ⟨rfl, rfl⟩
theorem KP.tr {f : Nat} {l l1 l2 : Nat → Int64} {m m1 m2 : Nat → Int32} (h : KP f l m l1 m1) (k : KP f l1 m1 l2 m2) : KP f l m l2 m2 := fun j hj => ⟨(k j hj).1.trans (h j hj).1, (k j hj).2.trans (h j hj).2⟩
section P48
variable {all t on at' many : Nat → Int32} {T O O' M : Nat → Nat} {V : Nat → BvT} {mv as1 : Nat}
theorem VA.add {f : Nat} {acc : Acc} {s : St} (h : VA T f acc) (hs : VS T s) : VA T f (addS f acc s) := by
  unfold addS
  split
  · exact h
  · split
    · exact h
    · rename_i h1 h2
      refine ⟨by have := h.1; show f + (acc.1 + 1) ≤ 6000; omega, fun j hj => ?_⟩
      show VS T (up acc.2.1 acc.1 s j)
      have hj' : j < acc.1 + 1 := hj
      by_cases c : j = acc.1
      · rw [upn_t c]; exact hs
      · rw [upn_f c]; exact h.2 j (by omega)
theorem pk_CX (hW : WT T) (hS : WO T O M) : pk O 15 < CX := by
  have := dk_lt (P := O) 15 (fun p hp => by have := hS.1 p hp; have := hW.b; omega)
  unfold CX
  rw [show (16 : Nat) ^ 15 = 1152921504606846976 from rfl] at this
  omega
theorem addM {lies : Nat → Int64} {mt yt ym : Nat → Int32} {mk f : Nat} {acc : Acc} {sp : Int32} {s : St} (h : MA T lies mt yt ym mk f acc sp) (hW : WT T) (hs : VS T s) (hmk : mk < 2147483648) : ∃ lies' mt' yt' ym' sp', FX8_takes lies mt yt ym (nI (f + acc.1)) (nI mk) sp (lN (pk s.1 15)) (nI s.2.2) = some (lies', mt', yt', ym', nI (f + (addS f acc s).1), sp') ∧ MA T lies' mt' yt' ym' mk f (addS f acc s) sp' ∧ ∀ j, j < f → lies' j = lies j ∧ mt' j = mt j := by
  obtain ⟨h1, h2, h3⟩ := h
  obtain ⟨lies', mt', yt', ym', n', keys', sp', e1, e2, e3, e4⟩ := takes8 h2 hmk (pk_CX hW hs.1) hs.2 sp
  have hv := h1.add (f := f) hs
  rcases e4 with ⟨e5, rfl, rfl, rfl⟩ | ⟨e5, ⟨e6, rfl, rfl, rfl⟩ | ⟨e6, rfl, rfl, rfl⟩⟩
  · have hmm : memS acc.2.1 (kyS s) acc.1 = true := (memS_iff _ _ _).mpr e5
    have : addS f acc s = acc := by unfold addS; rw [if_pos hmm]
    rw [this]
    exact ⟨lies', mt', yt', ym', _, e1, ⟨h1, e2, h3⟩, e3⟩
  · have hm : ¬ memS acc.2.1 (kyS s) acc.1 = true := fun z => by
      obtain ⟨j, a, b⟩ := (memS_iff _ _ _).mp z
      exact e5 j a b
    have : addS f acc s = (acc.1, acc.2.1, true) := by unfold addS; rw [if_neg hm, if_pos e6]
    rw [this] at hv ⊢
    exact ⟨lies', mt', yt', ym', _, e1, ⟨hv, e2, rfl⟩, e3⟩
  · have hm : ¬ memS acc.2.1 (kyS s) acc.1 = true := fun z => by
      obtain ⟨j, a, b⟩ := (memS_iff _ _ _).mp z
      exact e5 j a b
    have : addS f acc s = (acc.1 + 1, up acc.2.1 acc.1 s, acc.2.2) := by unfold addS; rw [if_neg hm, if_neg (by omega)]
    rw [this] at hv ⊢
    refine ⟨lies', mt', yt', ym', _, e1, ⟨hv, ?_, h3⟩, e3⟩
    have hk : up (fun j => kyS (acc.2.1 j)) acc.1 (pk s.1 15, s.2.2) = fun j => kyS (up acc.2.1 acc.1 s j) := by
      funext j
      by_cases c : j = acc.1
      · rw [upn_t c, upn_t c]; rfl
      · rw [upn_f c, upn_f c]
    rw [hk] at e2
    exact e2
theorem VS.car (hW : WT T) {s : St} (hs : VS T s) {fl : Bool} {a b : Nat} (h : maS T s.1 s.2.1 V s.2.2 as1 (nI a) (nI b) = 0) (ha5 : a < 5) (hb5 : b < 5) : VS T (carS fl s a b) ∧ a < T 0 ∧ b < T 0 ∧ a ≠ b ∧ s.2.1 a ≠ 0 ∧ s.2.1 b ≠ T (1 + b) := by
  have hb := hW.b
  obtain ⟨a', b', h1, h2, h3, h4, h5, h6, h7, -, -⟩ := maS_0 hW h
  have ea := nI_inj h4 (by omega) (by omega)
  have eb := nI_inj h5 (by omega) (by omega)
  subst ea eb
  obtain ⟨s1, s2, s3⟩ := hs.1.st hW (show a < 5 by omega) (show s.2.1 a - 1 < s.2.1 a by omega)
  refine ⟨⟨hs.1.ca hW h1 h2 h3 h6 h7, ?_⟩, h1, h2, h3, h6, h7⟩
  show (if fl then 0 else s.2.2 ||| 2 ^ (s.1 (3 * a + (s.2.1 a - 1)) - 1)) < 256
  split
  · omega
  · exact or_lt hs.2 (by omega)
theorem VS.ex (hW : WT T) {s : St} (hs : VS T s) {fl : Bool} {a b : Nat} (h : mtS T s.1 s.2.1 V s.2.2 (nI a) (nI b) = 0) (ha5 : a < 5) (hb5 : b < 5) : VS T (exSt fl s a b) ∧ a < T 0 ∧ b < T 0 ∧ a ≠ b ∧ s.2.1 a ≠ 0 ∧ s.2.1 b ≠ 0 := by
  have hb := hW.b
  obtain ⟨a', b', h1, h2, h3, h4, h5, h6, h7, -⟩ := mtS_0 hW h
  have ea := nI_inj h4 (by omega) (by omega)
  have eb := nI_inj h5 (by omega) (by omega)
  subst ea eb
  obtain ⟨s1, s2, s3⟩ := hs.1.st hW (show a < 5 by omega) (show s.2.1 a - 1 < s.2.1 a by omega)
  obtain ⟨r1, r2, r3⟩ := hs.1.st hW (show b < 5 by omega) (show s.2.1 b - 1 < s.2.1 b by omega)
  refine ⟨⟨hs.1.ex hW h1 h2 h3 h6 h7, ?_⟩, h1, h2, h3, h6, h7⟩
  show (if fl then 0 else s.2.2 ||| (2 ^ (s.1 (3 * b + (s.2.1 b - 1)) - 1) ||| 2 ^ (s.1 (3 * a + (s.2.1 a - 1)) - 1))) < 256
  split
  · omega
  · rw [← Nat.or_assoc]; exact or_lt (or_lt hs.2 (by omega)) (by omega)
theorem ex_undo (hW : WT T) (hS : WO T O M) {a b : Nat} (ha : a < T 0) (hb : b < T 0) (hab : a ≠ b) (h1 : M a ≠ 0) (h2 : M b ≠ 0) (p : Nat) : exO (exO O M a b) M a b p = O p := by
  obtain ⟨n1, n2, n3⟩ := ex_ne hS hW ha hb hab h1 h2
  have hO : ∀ (O : Nat → Nat) p, exO O M a b p = if p = 3 * b + (M b - 1) then O (3 * a + (M a - 1)) else if p = 3 * a + (M a - 1) then O (3 * b + (M b - 1)) else O p := fun O p => rfl
  rw [hO (exO O M a b)]
  by_cases c : p = 3 * b + (M b - 1)
  · rw [if_pos c, hO, if_neg n1, if_pos rfl, c]
  · rw [if_neg c]
    by_cases c2 : p = 3 * a + (M a - 1)
    · rw [if_pos c2, hO, if_pos rfl, c2]
    · rw [if_neg c2, hO, if_neg c, if_neg c2]
theorem pairM (hA : AllAt all T) (hW : WT T) (hB : BarsOK all T V) {s : St} (hs : VS T s) (has : as1 < 100) {a b : Nat} (ha : a < T 0) (hb : b < T 0) (fl : Bool) (hon : OnAt on many s.1 s.2.1) {lies : Nat → Int64} {mt yt ym : Nat → Int32} {mk f : Nat} {acc : Acc} {sp : Int32} (h : MA T lies mt yt ym mk f acc sp) (hmk : mk < 2147483648) (pile : Nat → Int32) : ∃ on' many' pile' lies' mt' yt' ym' sp', FX8_spreads_b58 all (nD as1) (nI mk) (nI (if fl then 1 else 0)) (nI s.2.2) (nI a) (nI b) on many pile lies mt yt ym (nI (f + acc.1)) sp = some (.inl (nI (b + 1), on', many', pile', lies', mt', yt', ym', nI (f + (pair2 T V fl f s a b (pair1 T V as1 fl f s a b acc)).1), sp')) ∧ OnAt on' many' s.1 s.2.1 ∧ MA T lies' mt' yt' ym' mk f (pair2 T V fl f s a b (pair1 T V as1 fl f s a b acc)) sp' ∧ KP f lies mt lies' mt' := by
  have hw := hW.b
  have g0 := hA.n (k := 0) (by omega) (by omega)
  have r0 : rd 1593 all 0 = some (nI (T 0)) := rdn (k := 0) (by omega) (by omega) g0
  have n0 : ¬ nI (T 0) ≤ nI b := by rw [le_f (by omega) (by omega)]; exact id
  have eb1 : nI b + 1 = nI (b + 1) := n_add b 1
  have hm := hs.2
  have hS := hs.1
  -- the second half
  have half : ∀ (on1 many1 pile1 : Nat → Int32) (lies1 : Nat → Int64) (mt1 yt1 ym1 : Nat → Int32) (acc1 : Acc) (sp1 : Int32), OnAt on1 many1 s.1 s.2.1 → MA T lies1 mt1 yt1 ym1 mk f acc1 sp1 → ∃ on' many' pile' lies' mt' yt' ym' sp', FX8_spreads_j134 all (nI mk) (nI (if fl then 1 else 0)) (nI s.2.2) (nI a) (nI b) pile1 on1 many1 lies1 mt1 yt1 ym1 (nI (f + acc1.1)) sp1 = some (.inl (nI (b + 1), on', many', pile', lies', mt', yt', ym', nI (f + (pair2 T V fl f s a b acc1).1), sp')) ∧ OnAt on' many' s.1 s.2.1 ∧ MA T lies' mt' yt' ym' mk f (pair2 T V fl f s a b acc1) sp' ∧ KP f lies1 mt1 lies' mt' := by
    intro on1 many1 pile1 lies1 mt1 yt1 ym1 acc1 sp1 hon1 h1
    unfold FX8_spreads_j134 FX8_spreads_j196
    rw [eb1]
    by_cases c : b ≤ a
    · have : pair2 T V fl f s a b acc1 = acc1 := if_neg (fun z => by omega)
      rw [this, if_pos (by rw [le_t c (by omega)]; trivial)]
      exact ⟨_, _, _, _, _, _, _, _, rfl, hon1, h1, KP.rf⟩
    · rw [if_neg (by rw [le_f (by omega) (by omega)]; exact id)]
      obtain ⟨⟨z1, pl2⟩, e1, hz⟩ := mayX8 (mv := s.2.2) hA hon1 hW hS hB hm pile1 (nI a) (nI b)
      dsimp only at hz
      subst hz
      rw [e1, bd2_s]
      by_cases c2 : mtS T s.1 s.2.1 V s.2.2 (nI a) (nI b) = 0
      · obtain ⟨v1, v2, v3, v4, v5, v6⟩ := VS.ex (fl := fl) hW hs c2 (by omega) (by omega)
        have : pair2 T V fl f s a b acc1 = addS f acc1 (exSt fl s a b) := if_pos ⟨by omega, c2⟩
        rw [this, if_pos (by rw [c2]; rfl)]
        obtain ⟨on2, e2, hon2⟩ := turns8 (mv := s.2.2) hon1 hW hS v2 v3 v4 v5 v6
        have e3 := packed8 hW v1.1 hon2.1
        obtain ⟨lies2, mt2, yt2, ym2, sp2, e4, e5, ekp⟩ := addM h1 hW v1 hmk
        obtain ⟨on3, e6, hon3⟩ := turns8 (mv := s.2.2 ||| (2 ^ (s.1 (3 * b + (s.2.1 b - 1)) - 1) ||| 2 ^ (s.1 (3 * a + (s.2.1 a - 1)) - 1))) hon2 hW v1.1 v2 v3 v4 v5 v6
        refine ⟨on3, many1, pl2, lies2, mt2, yt2, ym2, sp2, ?_, ⟨fun p hp => by rw [hon3.1 p hp]; exact congrArg nI (ex_undo hW hS v2 v3 v4 v5 v6 p), hon3.2⟩, e5, ekp⟩
        unfold FX8_spreads_j180 FX8_spreads_j196
        cases fl with
        | true =>
          rw [e2, bd2_s, show FX8_packed on2 = _ from e3, bd1_s, if_neg (by decide), show FX8_takes lies1 mt1 yt1 ym1 (nI (f + acc1.1)) (nI mk) sp1 (lN (pk (exSt true s a b).1 15)) 0 = _ from e4, bd6_s, e6, bd2_s, eb1]
        | false =>
          rw [e2, bd2_s, show FX8_packed on2 = _ from e3, bd1_s, if_pos (by decide), show FX8_takes lies1 mt1 yt1 ym1 (nI (f + acc1.1)) (nI mk) sp1 (lN (pk (exSt false s a b).1 15)) (nI (s.2.2 ||| (2 ^ (s.1 (3 * b + (s.2.1 b - 1)) - 1) ||| 2 ^ (s.1 (3 * a + (s.2.1 a - 1)) - 1)))) = _ from e4, bd6_s, e6, bd2_s, eb1]
      · have hle : mtS T s.1 s.2.1 V s.2.2 (nI a) (nI b) < 2147483648 := Nat.lt_of_le_of_lt mtS_le (by decide)
        have : pair2 T V fl f s a b acc1 = acc1 := if_neg (fun z => c2 z.2)
        rw [this, if_neg (by rw [show (0 : Int32) = nI 0 from rfl, eq_f c2 hle (by omega)]; exact id)]
        exact ⟨_, _, _, _, _, _, _, _, rfl, hon1, h1, KP.rf⟩
  unfold FX8_spreads_b58
  rw [r0, bd1_s, if_neg n0]
  by_cases c : a = b
  · subst c
    have p1 : pair1 T V as1 fl f s a a acc = acc := if_neg (fun z => (VS.car (fl := fl) hW hs z (by omega) (by omega)).2.2.2.1 rfl)
    have p2 : pair2 T V fl f s a a acc = acc := if_neg (fun z => by omega)
    rw [if_pos rfl, p1, p2]
    unfold FX8_spreads_j196
    rw [eb1]
    exact ⟨_, _, _, _, _, _, _, _, rfl, hon, h, KP.rf⟩
  · rw [if_neg (by rw [eq_f c (by omega) (by omega)]; exact id)]
    obtain ⟨⟨z1, many2, pl2⟩, e1, hz, hon2⟩ := may8 (as1 := as1) (mv := s.2.2) hA hon hW hS hB hm has pile (nI a) (nI b)
    dsimp only at hz hon2
    subst hz
    rw [e1, bd3_s]
    by_cases c2 : maS T s.1 s.2.1 V s.2.2 as1 (nI a) (nI b) = 0
    · obtain ⟨v1, v2, v3, v4, v5, v6⟩ := VS.car (fl := fl) hW hs c2 (by omega) (by omega)
      have p1 : pair1 T V as1 fl f s a b acc = addS f acc (carS fl s a b) := if_pos c2
      rw [p1, if_pos (by rw [c2]; rfl)]
      obtain ⟨on3, many3, e2, hon3⟩ := carries8 (mv := s.2.2) hon2 hW hS hm v2 v3 v4 v5 v6
      have e3 := packed8 hW v1.1 hon3.1
      obtain ⟨lies2, mt2, yt2, ym2, sp2, e4, e5, ekp⟩ := addM h hW v1 hmk
      obtain ⟨s1, s2, s3⟩ := hS.st hW (show a < 5 by omega) (show s.2.1 a - 1 < s.2.1 a by omega)
      have q1 : caM s.2.1 a b b = s.2.1 b + 1 := upn_t rfl
      have q2 : caM s.2.1 a b a = s.2.1 a - 1 := by
        show up (up s.2.1 a (s.2.1 a - 1)) b (s.2.1 b + 1) a = _
        rw [upn_f v4, upn_t rfl]
      have wh : s.2.1 a ≤ T (1 + a) := hS.2.2.1 _ (by omega)
      obtain ⟨on4, many4, e6, hon4⟩ := carries8 (mv := s.2.2 ||| 2 ^ (s.1 (3 * a + (s.2.1 a - 1)) - 1)) hon3 hW v1.1 (or_lt hm (by omega)) v3 v2 (fun z => v4 z.symm) (by rw [q1]; omega) (by rw [q2]; omega)
      obtain ⟨u1, u2⟩ := ca_undo hW hS v2 v3 v4 v5 v6
      have hon4' : OnAt on4 many4 s.1 s.2.1 := ⟨fun p hp => by rw [hon4.1 p hp]; exact congrArg nI (u1 p hp), fun r hr => by rw [hon4.2 r hr]; exact congrArg nI (u2 r hr)⟩
      obtain ⟨o5, m5, p5, l5, mt5, yt5, ym5, sp5, e7, e8, e9, ekp2⟩ := half on4 many4 pl2 lies2 mt2 yt2 ym2 _ sp2 hon4' e5
      refine ⟨o5, m5, p5, l5, mt5, yt5, ym5, sp5, ?_, e8, e9, KP.tr ekp ekp2⟩
      unfold FX8_spreads_j118
      cases fl with
      | true =>
        rw [e2, bd3_s, show FX8_packed on3 = _ from e3, bd1_s, if_neg (by decide), show FX8_takes lies mt yt ym (nI (f + acc.1)) (nI mk) sp (lN (pk (carS true s a b).1 15)) 0 = _ from e4, bd6_s, e6, bd3_s]
        exact e7
      | false =>
        rw [e2, bd3_s, show FX8_packed on3 = _ from e3, bd1_s, if_pos (by decide), show FX8_takes lies mt yt ym (nI (f + acc.1)) (nI mk) sp (lN (pk (carS false s a b).1 15)) (nI (s.2.2 ||| 2 ^ (s.1 (3 * a + (s.2.1 a - 1)) - 1))) = _ from e4, bd6_s, e6, bd3_s]
        exact e7
    · have hle := maS_le (T := T) (O := s.1) (M := s.2.1) (V := V) (mv := s.2.2) (as1 := as1) (p := nI a) (q := nI b)
      have p1 : pair1 T V as1 fl f s a b acc = acc := if_neg c2
      rw [p1, if_neg (by rw [show (0 : Int32) = nI 0 from rfl, eq_f c2 (by omega) (by omega)]; exact id)]
      exact half on many2 pl2 lies mt yt ym acc sp hon2 h
end P48
