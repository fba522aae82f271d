set_option maxRecDepth 100000
/-! the reader's world: its object, the town and the bars that it makes, the rest -/
/-- a fact that is held: a reference and what it says -/
def FactV (lo : va_W) (r : Option Nat) (o : FcT) : Prop := ElOk lo r ∧ ∀ (d : Nat) (V : BvT), o = some (d, V) → ∃ a : Nat, r = some a ∧ FactAt lo d a V
theorem FactAt.mono {p1 p2 : va_W} (h : ∀ q ∈ p1, q ∈ p2) : ∀ {d a : Nat} {f : BvT}, FactAt p1 d a f → FactAt p2 d a f := by
  intro d
  induction d with
  | zero => intro a f h; exact h
  | succ d ih =>
    intro a f k
    rcases k with ⟨w, n, h1, h2⟩ | ⟨b, g, h1, h2, h3⟩ | ⟨i, b, c, g, k, h1, h2, h3, h4⟩
    · exact Or.inl ⟨w, n, h _ h1, h2⟩
    · exact Or.inr (Or.inl ⟨b, g, h _ h1, ih h2, h3⟩)
    · exact Or.inr (Or.inr ⟨i, b, c, g, k, h _ h1, ih h2, ih h3, h4⟩)
theorem FactAt.up {pl : va_W} : ∀ {d a : Nat} {f : BvT}, FactAt pl d a f → ∀ {e : Nat}, d ≤ e → FactAt pl e a f := by
  intro d
  induction d with
  | zero => intro a f h; exact h.elim
  | succ d ih =>
    intro a f k e he
    obtain ⟨e, rfl⟩ : ∃ j, e = j + 1 := ⟨e - 1, by omega⟩
    have he' : d ≤ e := by omega
    rcases k with ⟨w, n, h1, h2⟩ | ⟨b, g, h1, h2, h3⟩ | ⟨i, b, c, g, k, h1, h2, h3, h4⟩
    · exact Or.inl ⟨w, n, h1, h2⟩
    · exact Or.inr (Or.inl ⟨b, g, h1, ih h2 he', h3⟩)
    · exact Or.inr (Or.inr ⟨i, b, c, g, k, h1, ih h2 he', ih h3 he', h4⟩)
theorem ElOk.mono {p1 p2 : va_W} (h : ∀ q ∈ p1, q ∈ p2) {o : Option Nat} (k : ElOk p1 o) : ElOk p2 o := fun y hy => by
  obtain ⟨ci, fs, c1, c2, hm⟩ := k y hy
  exact ⟨ci, fs, c1, c2, h _ hm⟩
theorem FactV.mono {p1 p2 : va_W} (h : ∀ q ∈ p1, q ∈ p2) {r : Option Nat} {o : FcT} (k : FactV p1 r o) : FactV p2 r o := ⟨k.1.mono h, fun d V e => by
  obtain ⟨a, h1, h2⟩ := k.2 d V e
  exact ⟨a, h1, h2.mono h⟩⟩
theorem FactV.null {lo : va_W} : FactV lo none none := ⟨fun y hy => (by cases hy), fun d V h => (by cases h)⟩
theorem FactV.ask {lo : va_W} {a : Nat} {w n : Int32} (h : ((a, .inr (15, [.int w, .int n])) : Nat × va_E) ∈ lo) : FactV lo (some a) (some (1, askB w n)) := ⟨fun y hy => by
  cases hy
  exact ⟨15, _, by decide, by decide, h⟩, fun d V e => by
  cases e
  exact ⟨a, rfl, Or.inl ⟨w, n, h, rfl⟩⟩⟩
theorem FactV.not {lo : va_W} {a : Nat} {r : Option Nat} {o : FcT} (h : ((a, .inr (14, [va_rf r])) : Nat × va_E) ∈ lo) (k : FactV lo r o) : FactV lo (some a) (notO o) := ⟨fun y hy => by
  cases hy
  exact ⟨14, _, by decide, by decide, h⟩, fun d V e => by
  cases o with
  | none => cases e
  | some q =>
    cases e
    obtain ⟨b, rfl, h2⟩ := k.2 q.1 q.2 rfl
    exact ⟨a, rfl, Or.inr (Or.inl ⟨b, q.2, h, h2, rfl⟩)⟩⟩
theorem FactV.both {lo : va_W} {a : Nat} {i : Int32} {r1 r2 : Option Nat} {o1 o2 : FcT} (h : ((a, .inr (16, [.int i, va_rf r1, va_rf r2])) : Nat × va_E) ∈ lo) (k1 : FactV lo r1 o1) (k2 : FactV lo r2 o2) : FactV lo (some a) (bothO i o1 o2) := ⟨fun y hy => by
  cases hy
  exact ⟨16, _, by decide, by decide, h⟩, fun d V e => by
  cases o1 with
  | none => cases o2 <;> cases e
  | some q1 =>
    cases o2 with
    | none => cases e
    | some q2 =>
      cases e
      obtain ⟨b, rfl, h2⟩ := k1.2 q1.1 q1.2 rfl
      obtain ⟨c, rfl, h3⟩ := k2.2 q2.1 q2.2 rfl
      exact ⟨a, rfl, Or.inr (Or.inr ⟨i, b, c, q1.2, q2.2, h, h2.up (Nat.le_max_left _ _), h3.up (Nat.le_max_right _ _), rfl⟩)⟩⟩
theorem rr_n {f : Nat → Int32} {k j : Nat} {v : Int32} (h : j ≠ k) : upd f k v j = f j := if_neg h
theorem rr_eq {f : Nat → Int32} {k j : Nat} {v : Int32} (h : j = k) : upd f k v j = v := if_pos h
/-- a row's cells -/
abbrev rwX (ta : Nat → Nat) (u : Nat → Int32) (i : Nat) : Nat × va_E := (ta (10 + i), .inr (10, [.int (u (1 + i)), .ref (ta (20 + i)), .int (u (31 + i)), .int (u (36 + i)), .int (u (210 + i))]))
abbrev rwY (cA : Nat → ClassId) (ta : Nat → Nat) (g : Nat → Nat → Int32) (i : Nat) : Nat × va_E := (ta (20 + i), .inl (cA 45, 3, .inl (g i)))
abbrev rwC (cA : Nat → ClassId) (ta : Nat → Nat) (u : Nat → Int32) (g : Nat → Nat → Int32) (i : Nat) : va_W := [rwX ta u i, rwY cA ta g i]
def RCs (cA : Nat → ClassId) (ta : Nat → Nat) (u : Nat → Int32) (g : Nat → Nat → Int32) : Nat → va_W
  | 0 => []
  | n + 1 => RCs cA ta u g n ++ rwC cA ta u g n
section RC
variable {cA : Nat → ClassId} {ta tb : Nat → Nat} {u v : Nat → Int32} {g k : Nat → Nat → Int32}
theorem rwC_cong {i : Nat} (h1 : v (1 + i) = u (1 + i)) (h2 : v (31 + i) = u (31 + i)) (h3 : v (36 + i) = u (36 + i)) (h4 : v (210 + i) = u (210 + i)) (h5 : k i = g i) (h6 : tb (10 + i) = ta (10 + i)) (h7 : tb (20 + i) = ta (20 + i)) : rwC cA tb v k i = rwC cA ta u g i := by
  show [rwX tb v i, rwY cA tb k i] = [rwX ta u i, rwY cA ta g i]
  unfold rwX rwY
  rw [h1, h2, h3, h4, h5, h6, h7]
theorem RCs.mem {i : Nat} {q : Nat × va_E} : ∀ {n : Nat}, i < n → q ∈ rwC cA ta u g i → q ∈ RCs cA ta u g n := by
  intro n
  induction n with
  | zero => intro h; exact absurd h (Nat.not_lt_zero _)
  | succ n ih =>
    intro h hq
    by_cases c : i = n
    · subst c; exact List.mem_append_right _ hq
    · exact List.mem_append_left _ (ih (by omega) hq)
theorem RCs.cong : ∀ {n : Nat}, (∀ i, i < n → rwC cA tb v k i = rwC cA ta u g i) → RCs cA tb v k n = RCs cA ta u g n := by
  intro n
  induction n with
  | zero => intro _; rfl
  | succ n ih =>
    intro h
    show RCs cA tb v k n ++ rwC cA tb v k n = RCs cA ta u g n ++ rwC cA ta u g n
    rw [ih (fun i hi => h i (by omega)), h n (Nat.lt_succ_self n)]
/-- the row i of n, between the others -/
theorem RCs.split {i : Nat} : ∀ {n : Nat}, i < n → ∃ a b : va_W, RCs cA ta u g n = a ++ (rwC cA ta u g i ++ b) ∧ ∀ (tb : Nat → Nat) (v : Nat → Int32) (k : Nat → Nat → Int32), (∀ j, j < n → j ≠ i → rwC cA tb v k j = rwC cA ta u g j) → RCs cA tb v k n = a ++ (rwC cA tb v k i ++ b) := by
  intro n
  induction n with
  | zero => intro h; exact absurd h (Nat.not_lt_zero _)
  | succ n ih =>
    intro h
    by_cases c : i = n
    · subst c
      refine ⟨RCs cA ta u g i, [], by show RCs cA ta u g i ++ rwC cA ta u g i = _; rw [List.append_nil], fun tb v k hj => ?_⟩
      show RCs cA tb v k i ++ rwC cA tb v k i = _
      rw [List.append_nil, RCs.cong (fun j hj' => hj j (by omega) (by omega))]
    · obtain ⟨a, b, h1, h2⟩ := ih (by omega)
      refine ⟨a, b ++ rwC cA ta u g n, by show RCs cA ta u g n ++ rwC cA ta u g n = _; rw [h1, List.append_assoc, List.append_assoc], fun tb v k hj => ?_⟩
      show RCs cA tb v k n ++ rwC cA tb v k n = _
      rw [h2 tb v k (fun j hj1 hj2 => hj j (by omega) hj2), hj n (by omega) (fun z => c z.symm), List.append_assoc, List.append_assoc]
theorem rr_at (p t : va_W) (x : Nat × va_E) : (p ++ x :: t)[p.length]? = some x := by
  rw [List.getElem?_append_right (Nat.le_refl _), Nat.sub_self]
  rfl
theorem rr_set (p t : va_W) (x z : Nat × va_E) : (p ++ x :: t).set p.length z = p ++ z :: t := by
  induction p with
  | nil => rfl
  | cons a p ih => exact congrArg (a :: ·) ih
/-- a row among the cells of a world -/
theorem rr_row (h lo : va_W) {i n : Nat} (hi : i < n) : ∃ q0 q1 : Nat, (h ++ (RCs cA ta u g n ++ lo))[q0]? = some (rwX ta u i) ∧ (h ++ (RCs cA ta u g n ++ lo))[q1]? = some (rwY cA ta g i) ∧
    ∀ (v : Nat → Int32) (k : Nat → Nat → Int32), (∀ j, j < n → j ≠ i → rwC cA ta v k j = rwC cA ta u g j) → (rwY cA ta k i = rwY cA ta g i → (h ++ (RCs cA ta u g n ++ lo)).set q0 (rwX ta v i) = h ++ (RCs cA ta v k n ++ lo)) ∧ (rwX ta v i = rwX ta u i → (h ++ (RCs cA ta u g n ++ lo)).set q1 (rwY cA ta k i) = h ++ (RCs cA ta v k n ++ lo)) := by
  obtain ⟨a, b, e1, e2⟩ := RCs.split (cA := cA) (ta := ta) (u := u) (g := g) hi
  have f1 : h ++ (RCs cA ta u g n ++ lo) = (h ++ a) ++ (rwX ta u i :: (rwY cA ta g i :: (b ++ lo))) := by
    rw [e1, List.append_assoc, List.append_assoc, List.append_assoc]
    rfl
  have f2 : h ++ (RCs cA ta u g n ++ lo) = (h ++ a ++ [rwX ta u i]) ++ (rwY cA ta g i :: (b ++ lo)) := by
    rw [f1, List.append_assoc (h ++ a)]
    rfl
  refine ⟨(h ++ a).length, (h ++ a ++ [rwX ta u i]).length, by rw [f1]; exact rr_at _ _ _, by rw [f2]; exact rr_at _ _ _, fun v k hj => ?_⟩
  have f3 : h ++ (RCs cA ta v k n ++ lo) = (h ++ a) ++ (rwX ta v i :: (rwY cA ta k i :: (b ++ lo))) := by
    rw [e2 ta v k hj, List.append_assoc, List.append_assoc, List.append_assoc]
    rfl
  refine ⟨fun hy => ?_, fun hx => ?_⟩
  · rw [f3, f1, rr_set, hy]
  · rw [f3, f2, rr_set, hx, List.append_assoc (h ++ a)]
    rfl
end RC
def LOk (c n : Nat) (f : Nat → Option Nat) (els : Nat → Nat) : Prop := 2 ≤ c ∧ c ≤ 12 ∧ n ≤ c ∧ ∀ i, i < n → f i = some (els i)
abbrev stC (ta : Nat → Nat) (u : Nat → Int32) (i : Nat) : Nat × va_E := (ta (30 + i), .inr (11, [.int (u (7 + i)), .int (u (15 + i)), .int (u (200 + i)), .int (u (23 + i))]))
abbrev muC (ta : Nat → Nat) (u : Nat → Int32) (i : Nat) : Nat × va_E := (ta (40 + i), if u (57 + i) = 0 then .inr (12, [.int (u (63 + i)), .int (u (69 + i))]) else .inr (13, [.int (u (63 + i)), .int (u (69 + i))]))
abbrev tnC (ta : Nat → Nat) (u : Nat → Int32) : Nat × va_E := (ta 0, .inr (2, [.ref (ta 1), .ref (ta 3), .ref (ta 5), .int (u 75), .int (u 76), .int (u 379), .int (u 77), .int (u 378)]))
/-- what else holds: how many, the lists, the cells that never change, the outer object -/
def RI (cA : Nat → ClassId) (x0 tp : Nat) (tape : Nat → Int32) (fw : va_W) (lo : va_W) (ta ba : Nat → Nat) (u : Nat → Int32) (nb : Int32) (bo : Nat → FcT) (nr ns nm nn : Nat) (cr cs cm cb : Nat) (fr fs fm fb : Nat → Option Nat) (g : Nat → Nat → Int32) : Prop :=
  (u 0 = nI nr ∧ u 6 = nI ns ∧ u 56 = nI nm ∧ nb = nI nn ∧ nr ≤ 5 ∧ ns ≤ 8 ∧ nm ≤ 6 ∧ nn ≤ 9) ∧
  (LOk cr nr fr (fun i => ta (10 + i)) ∧ LOk cs ns fs (fun i => ta (30 + i)) ∧ LOk cm nm fm (fun i => ta (40 + i)) ∧ 2 ≤ cb ∧ cb ≤ 12 ∧ nn ≤ cb ∧ ∀ i, i < nn → FactV lo (fb i) (bo i)) ∧
  (∀ i, i < nr → ∀ j, j < 3 → g i j = u (41 + 3 * i + j)) ∧ (∀ i, i < ns → stC ta u i ∈ lo) ∧ (∀ i, i < nm → muC ta u i ∈ lo) ∧
  (∃ fs : List Value, ((x0, .inr (0, fs)) : Nat × va_E) ∈ fw ∧ fs[2]? = some (.ref tp)) ∧ ((tp, .inl (cA 2, 400, .inl tape)) : Nat × va_E) ∈ fw
abbrev rdC (ra x0 : Nat) (size : Int32) (ta ba : Nat → Nat) (v_at v_begin v_token v_value v_open v_fault v_place : Int32) : Nat × va_E := (ra, .inr (9, [.int size, .ref (ta 0), .ref (ba 0), .int v_at, .int v_begin, .int v_token, .int v_value, .int v_open, .int v_fault, .int v_place, .ref x0]))
abbrev rHD (cA : Nat → ClassId) (ra x0 : Nat) (size : Int32) (ta ba : Nat → Nat) (v_at v_begin v_token v_value v_open v_fault v_place : Int32) (u : Nat → Int32) (nb : Int32) (mr ms mm mb : Int32) (cr cs cm cb : Nat) (fr fs fm fb : Nat → Option Nat) : va_W :=
  [rdC ra x0 size ta ba v_at v_begin v_token v_value v_open v_fault v_place, tnC ta u, LC (ta 1) mr (ta 2) (u 0), QA cA (ta 2) cr fr, LC (ta 3) ms (ta 4) (u 6), QA cA (ta 4) cs fs, LC (ta 5) mm (ta 6) (u 56), QA cA (ta 6) cm fm, LC (ba 0) mb (ba 1) nb, QA cA (ba 1) cb fb]
def RWP (cA : Nat → ClassId) (ra x0 tp : Nat) (size : Int32) (tape : Nat → Int32) (fw : va_W) (lo : va_W) (ta ba : Nat → Nat) (v_at v_begin v_token v_value v_open v_fault v_place : Int32) (u : Nat → Int32) (nb : Int32) (bo : Nat → FcT) (w : va_W) : Prop :=
  ∃ (nr ns nm nn : Nat) (mr ms mm mb : Int32) (cr cs cm cb : Nat) (fr fs fm fb : Nat → Option Nat) (g : Nat → Nat → Int32), w = rHD cA ra x0 size ta ba v_at v_begin v_token v_value v_open v_fault v_place u nb mr ms mm mb cr cs cm cb fr fs fm fb ++ (RCs cA ta u g nr ++ (lo ++ fw)) ∧ RI cA x0 tp tape fw lo ta ba u nb bo nr ns nm nn cr cs cm cb fr fs fm fb g
def LsN (pl : va_W) (a : Nat) (n : Int32) : Prop := ∃ (mc : Int32) (e : Nat), ((a, .inr (17, [.int mc, .ref e, .int n])) : Nat × va_E) ∈ pl
section RW0
variable {cA : Nat → ClassId} {ra x0 tp : Nat} {size : Int32} {tape : Nat → Int32} {fw : va_W} {lo : va_W} {ta ba : Nat → Nat} {v_at v_begin v_token v_value v_open v_fault v_place : Int32} {u : Nat → Int32} {nb : Int32} {bo : Nat → FcT} {w : va_W}
theorem plin (w : va_W) : PlIn w w := fun _ h => List.getElem?_of_mem h
theorem RWP.town (h : (RWP cA ra x0 tp size tape fw lo ta ba v_at v_begin v_token v_value v_open v_fault v_place u nb bo) w) : TownAt cA w ta u := by
  obtain ⟨nr, ns, nm, nn, mr, ms, mm, mb, cr, cs, cm, cb, fr, fs, fm, fb, g, rfl, ⟨e0, e6, e56, -, l1, l2, l3, -⟩, ⟨⟨-, -, r3, r4⟩, ⟨-, -, s3, s4⟩, ⟨-, -, m3, m4⟩, -⟩, hg, hs, hm, -⟩ := h
  have k0 : (u 0).toNatClampNeg = nr := by rw [e0]; exact nI_clamp (by omega)
  have k6 : (u 6).toNatClampNeg = ns := by rw [e6]; exact nI_clamp (by omega)
  have k56 : (u 56).toNatClampNeg = nm := by rw [e56]; exact nI_clamp (by omega)
  refine ⟨List.mem_append_left _ (List.mem_of_getElem? (i := 1) rfl), ⟨mr, cr, fr, List.mem_append_left _ (List.mem_of_getElem? (i := 2) rfl), List.mem_append_left _ (List.mem_of_getElem? (i := 3) rfl), by rw [k0]; exact r3, by rw [k0]; exact r4⟩, ⟨ms, cs, fs, List.mem_append_left _ (List.mem_of_getElem? (i := 4) rfl), List.mem_append_left _ (List.mem_of_getElem? (i := 5) rfl), by rw [k6]; exact s3, by rw [k6]; exact s4⟩, ⟨mm, cm, fm, List.mem_append_left _ (List.mem_of_getElem? (i := 6) rfl), List.mem_append_left _ (List.mem_of_getElem? (i := 7) rfl), by rw [k56]; exact m3, by rw [k56]; exact m4⟩, ?_, ?_, ?_⟩
  · rw [k0]
    intro i hi
    refine ⟨List.mem_append_right _ (List.mem_append_left _ (RCs.mem hi (List.mem_of_getElem? (i := 0) rfl))), g i, List.mem_append_right _ (List.mem_append_left _ (RCs.mem hi (List.mem_of_getElem? (i := 1) rfl))), fun j hj => ?_⟩
    rw [hg i hi j hj]
  · rw [k6]
    exact fun i hi => List.mem_append_right _ (List.mem_append_right _ (List.mem_append_left _ (hs i hi)))
  · rw [k56]
    exact fun i hi => List.mem_append_right _ (List.mem_append_right _ (List.mem_append_left _ (hm i hi)))
theorem RWP.bars (h : (RWP cA ra x0 tp size tape fw lo ta ba v_at v_begin v_token v_value v_open v_fault v_place u nb bo) w) : LsAt cA w (ba 0) (ba 1) nb (fun _ => 0) ∨ LsN w (ba 0) nb := by
  obtain ⟨nr, ns, nm, nn, mr, ms, mm, mb, cr, cs, cm, cb, fr, fs, fm, fb, g, rfl, -⟩ := h
  exact Or.inr ⟨mb, ba 1, List.mem_append_left _ (List.mem_of_getElem? (i := 8) rfl)⟩
theorem RWP.rd0 (h : (RWP cA ra x0 tp size tape fw lo ta ba v_at v_begin v_token v_value v_open v_fault v_place u nb bo) w) : ∃ fs : List Value, w[0]? = some (ra, .inr (9, fs)) := by
  obtain ⟨nr, ns, nm, nn, mr, ms, mm, mb, cr, cs, cm, cb, fr, fs, fm, fb, g, rfl, -⟩ := h
  exact ⟨_, rfl⟩
theorem rHD_cong {v : Nat → Int32} {mr ms mm mb : Int32} {cr cs cm cb : Nat} {fr fs fm fb : Nat → Option Nat} (h : ∀ k, k = 0 ∨ k = 6 ∨ k = 56 ∨ (75 ≤ k ∧ k < 78) ∨ k = 378 ∨ k = 379 → v k = u k) : rHD cA ra x0 size ta ba v_at v_begin v_token v_value v_open v_fault v_place v nb mr ms mm mb cr cs cm cb fr fs fm fb = rHD cA ra x0 size ta ba v_at v_begin v_token v_value v_open v_fault v_place u nb mr ms mm mb cr cs cm cb fr fs fm fb := by
  unfold rHD tnC
  rw [h 0 (by omega), h 6 (by omega), h 56 (by omega), h 75 (by omega), h 76 (by omega), h 77 (by omega), h 378 (by omega), h 379 (by omega)]
theorem RI.same {v : Nat → Int32} {nr ns nm nn cr cs cm cb : Nat} {fr fs fm fb : Nat → Option Nat} {g k : Nat → Nat → Int32} (h : RI cA x0 tp tape fw lo ta ba u nb bo nr ns nm nn cr cs cm cb fr fs fm fb g) (e : ∀ k, k = 0 ∨ (6 ≤ k ∧ k < 31) ∨ (56 ≤ k ∧ k < 75) ∨ (200 ≤ k ∧ k < 208) → v k = u k) (eg : ∀ i, i < nr → ∀ j, j < 3 → k i j = v (41 + 3 * i + j)) : RI cA x0 tp tape fw lo ta ba v nb bo nr ns nm nn cr cs cm cb fr fs fm fb k := by
  obtain ⟨⟨a1, a2, a3, a4, a5, a6, a7, a8⟩, hL, hg, hs, hm, hO⟩ := h
  refine ⟨⟨by rw [e 0 (by omega)]; exact a1, by rw [e 6 (by omega)]; exact a2, by rw [e 56 (by omega)]; exact a3, a4, a5, a6, a7, a8⟩, hL, eg, fun i hi => ?_, fun i hi => ?_, hO⟩
  · have := hs i hi
    unfold stC at this ⊢
    rw [e (7 + i) (by omega), e (15 + i) (by omega), e (200 + i) (by omega), e (23 + i) (by omega)]
    exact this
  · have := hm i hi
    unfold muC at this ⊢
    rw [e (57 + i) (by omega), e (63 + i) (by omega), e (69 + i) (by omega)]
    exact this
end RW0
/-! the frame, calls and entries -/
def RHG (P : va_W → Prop) (D : va_G) (A : Nat → Prop) (H0 : Heap) (H : Heap) (locs : List Loc) : Prop := ∃ w, P w ∧ MH D vwA A H0 w H locs
def RX (l : Launch) (y : MethodName) (ws : List Cond) (rm : Room) (D : va_G) (cA : Nat → ClassId) (E : EvT) (As : List Value) (P P' : va_W → Prop) (vo : Option Value) : Prop := ∀ w, P w → MX l y ws rm D vwA (cT cA) E As w P' vo
/-- the words of the reader, as the class has them -/
def EvR (E : EvT) (ks vs : Nat → Nat) (fo mi : Nat) : Prop := EvL E mi ∧ ∀ q ∈ kwT, EvS E (ks q.1) (vs q.1) fo q.2.2.length (kwb q.2.2) ∧ ∀ (A : Nat → Prop) (U : State) (H : Heap), E A U H → vk_R RX9 q.1 q.2.1 (ks q.1) U

theorem EvR.s116 {E : EvT} {ks vs : Nat → Nat} {fo mi : Nat} (h : EvR E ks vs fo mi) : EvS E (ks 116) (vs 116) fo 3 kb_116 := (h.2 _ kwm_116).1
theorem EvR.r116 {E : EvT} {ks vs : Nat → Nat} {fo mi : Nat} (h : EvR E ks vs fo mi) : ∀ (A : Nat → Prop) (U : State) (H : Heap), E A U H → vk_R RX9 116 "row" (ks 116) U := (h.2 _ kwm_116).2
theorem EvR.s120 {E : EvT} {ks vs : Nat → Nat} {fo mi : Nat} (h : EvR E ks vs fo mi) : EvS E (ks 120) (vs 120) fo 5 kb_120 := (h.2 _ kwm_120).1
theorem EvR.r120 {E : EvT} {ks vs : Nat → Nat} {fo mi : Nat} (h : EvR E ks vs fo mi) : ∀ (A : Nat → Prop) (U : State) (H : Heap), E A U H → vk_R RX9 120 "stone" (ks 120) U := (h.2 _ kwm_120).2
theorem EvR.s124 {E : EvT} {ks vs : Nat → Nat} {fo mi : Nat} (h : EvR E ks vs fo mi) : EvS E (ks 124) (vs 124) fo 4 kb_124 := (h.2 _ kwm_124).1
theorem EvR.r124 {E : EvT} {ks vs : Nat → Nat} {fo mi : Nat} (h : EvR E ks vs fo mi) : ∀ (A : Nat → Prop) (U : State) (H : Heap), E A U H → vk_R RX9 124 "wish" (ks 124) U := (h.2 _ kwm_124).2
theorem EvR.s128 {E : EvT} {ks vs : Nat → Nat} {fo mi : Nat} (h : EvR E ks vs fo mi) : EvS E (ks 128) (vs 128) fo 4 kb_128 := (h.2 _ kwm_128).1
theorem EvR.r128 {E : EvT} {ks vs : Nat → Nat} {fo mi : Nat} (h : EvR E ks vs fo mi) : ∀ (A : Nat → Prop) (U : State) (H : Heap), E A U H → vk_R RX9 128 "roof" (ks 128) U := (h.2 _ kwm_128).2
theorem EvR.s130 {E : EvT} {ks vs : Nat → Nat} {fo mi : Nat} (h : EvR E ks vs fo mi) : EvS E (ks 130) (vs 130) fo 4 kb_130 := (h.2 _ kwm_130).1
theorem EvR.r130 {E : EvT} {ks vs : Nat → Nat} {fo mi : Nat} (h : EvR E ks vs fo mi) : ∀ (A : Nat → Prop) (U : State) (H : Heap), E A U H → vk_R RX9 130 "lane" (ks 130) U := (h.2 _ kwm_130).2
theorem EvR.s138 {E : EvT} {ks vs : Nat → Nat} {fo mi : Nat} (h : EvR E ks vs fo mi) : EvS E (ks 138) (vs 138) fo 4 kb_138 := (h.2 _ kwm_138).1
theorem EvR.r138 {E : EvT} {ks vs : Nat → Nat} {fo mi : Nat} (h : EvR E ks vs fo mi) : ∀ (A : Nat → Prop) (U : State) (H : Heap), E A U H → vk_R RX9 138 "over" (ks 138) U := (h.2 _ kwm_138).2
theorem EvR.s145 {E : EvT} {ks vs : Nat → Nat} {fo mi : Nat} (h : EvR E ks vs fo mi) : EvS E (ks 145) (vs 145) fo 4 kb_145 := (h.2 _ kwm_145).1
theorem EvR.r145 {E : EvT} {ks vs : Nat → Nat} {fo mi : Nat} (h : EvR E ks vs fo mi) : ∀ (A : Nat → Prop) (U : State) (H : Heap), E A U H → vk_R RX9 145 "most" (ks 145) U := (h.2 _ kwm_145).2
theorem EvR.s149 {E : EvT} {ks vs : Nat → Nat} {fo mi : Nat} (h : EvR E ks vs fo mi) : EvS E (ks 149) (vs 149) fo 4 kb_149 := (h.2 _ kwm_149).1
theorem EvR.r149 {E : EvT} {ks vs : Nat → Nat} {fo mi : Nat} (h : EvR E ks vs fo mi) : ∀ (A : Nat → Prop) (U : State) (H : Heap), E A U H → vk_R RX9 149 "ring" (ks 149) U := (h.2 _ kwm_149).2
theorem EvR.s155 {E : EvT} {ks vs : Nat → Nat} {fo mi : Nat} (h : EvR E ks vs fo mi) : EvS E (ks 155) (vs 155) fo 5 kb_155 := (h.2 _ kwm_155).1
theorem EvR.r155 {E : EvT} {ks vs : Nat → Nat} {fo mi : Nat} (h : EvR E ks vs fo mi) : ∀ (A : Nat → Prop) (U : State) (H : Heap), E A U H → vk_R RX9 155 "flood" (ks 155) U := (h.2 _ kwm_155).2
theorem EvR.s179 {E : EvT} {ks vs : Nat → Nat} {fo mi : Nat} (h : EvR E ks vs fo mi) : EvS E (ks 179) (vs 179) fo 4 kb_179 := (h.2 _ kwm_179).1
theorem EvR.r179 {E : EvT} {ks vs : Nat → Nat} {fo mi : Nat} (h : EvR E ks vs fo mi) : ∀ (A : Nat → Prop) (U : State) (H : Heap), E A U H → vk_R RX9 179 "size" (ks 179) U := (h.2 _ kwm_179).2
theorem EvR.s184 {E : EvT} {ks vs : Nat → Nat} {fo mi : Nat} (h : EvR E ks vs fo mi) : EvS E (ks 184) (vs 184) fo 2 kb_184 := (h.2 _ kwm_184).1
theorem EvR.r184 {E : EvT} {ks vs : Nat → Nat} {fo mi : Nat} (h : EvR E ks vs fo mi) : ∀ (A : Nat → Prop) (U : State) (H : Heap), E A U H → vk_R RX9 184 "at" (ks 184) U := (h.2 _ kwm_184).2
theorem EvR.s195 {E : EvT} {ks vs : Nat → Nat} {fo mi : Nat} (h : EvR E ks vs fo mi) : EvS E (ks 195) (vs 195) fo 5 kb_195 := (h.2 _ kwm_195).1
theorem EvR.r195 {E : EvT} {ks vs : Nat → Nat} {fo mi : Nat} (h : EvR E ks vs fo mi) : ∀ (A : Nat → Prop) (U : State) (H : Heap), E A U H → vk_R RX9 195 "bears" (ks 195) U := (h.2 _ kwm_195).2
theorem EvR.s205 {E : EvT} {ks vs : Nat → Nat} {fo mi : Nat} (h : EvR E ks vs fo mi) : EvS E (ks 205) (vs 205) fo 2 kb_205 := (h.2 _ kwm_205).1
theorem EvR.r205 {E : EvT} {ks vs : Nat → Nat} {fo mi : Nat} (h : EvR E ks vs fo mi) : ∀ (A : Nat → Prop) (U : State) (H : Heap), E A U H → vk_R RX9 205 "by" (ks 205) U := (h.2 _ kwm_205).2
theorem EvR.s207 {E : EvT} {ks vs : Nat → Nat} {fo mi : Nat} (h : EvR E ks vs fo mi) : EvS E (ks 207) (vs 207) fo 3 kb_207 := (h.2 _ kwm_207).1
theorem EvR.r207 {E : EvT} {ks vs : Nat → Nat} {fo mi : Nat} (h : EvR E ks vs fo mi) : ∀ (A : Nat → Prop) (U : State) (H : Heap), E A U H → vk_R RX9 207 "for" (ks 207) U := (h.2 _ kwm_207).2
theorem EvR.s226 {E : EvT} {ks vs : Nat → Nat} {fo mi : Nat} (h : EvR E ks vs fo mi) : EvS E (ks 226) (vs 226) fo 3 kb_226 := (h.2 _ kwm_226).1
theorem EvR.r226 {E : EvT} {ks vs : Nat → Nat} {fo mi : Nat} (h : EvR E ks vs fo mi) : ∀ (A : Nat → Prop) (U : State) (H : Heap), E A U H → vk_R RX9 226 "bar" (ks 226) U := (h.2 _ kwm_226).2
theorem EvR.s228 {E : EvT} {ks vs : Nat → Nat} {fo mi : Nat} (h : EvR E ks vs fo mi) : EvS E (ks 228) (vs 228) fo 2 kb_228 := (h.2 _ kwm_228).1
theorem EvR.r228 {E : EvT} {ks vs : Nat → Nat} {fo mi : Nat} (h : EvR E ks vs fo mi) : ∀ (A : Nat → Prop) (U : State) (H : Heap), E A U H → vk_R RX9 228 "if" (ks 228) U := (h.2 _ kwm_228).2
theorem EvR.s237 {E : EvT} {ks vs : Nat → Nat} {fo mi : Nat} (h : EvR E ks vs fo mi) : EvS E (ks 237) (vs 237) fo 2 kb_237 := (h.2 _ kwm_237).1
theorem EvR.r237 {E : EvT} {ks vs : Nat → Nat} {fo mi : Nat} (h : EvR E ks vs fo mi) : ∀ (A : Nat → Prop) (U : State) (H : Heap), E A U H → vk_R RX9 237 "or" (ks 237) U := (h.2 _ kwm_237).2
theorem EvR.s247 {E : EvT} {ks vs : Nat → Nat} {fo mi : Nat} (h : EvR E ks vs fo mi) : EvS E (ks 247) (vs 247) fo 3 kb_247 := (h.2 _ kwm_247).1
theorem EvR.r247 {E : EvT} {ks vs : Nat → Nat} {fo mi : Nat} (h : EvR E ks vs fo mi) : ∀ (A : Nat → Prop) (U : State) (H : Heap), E A U H → vk_R RX9 247 "and" (ks 247) U := (h.2 _ kwm_247).2
theorem EvR.s252 {E : EvT} {ks vs : Nat → Nat} {fo mi : Nat} (h : EvR E ks vs fo mi) : EvS E (ks 252) (vs 252) fo 3 kb_252 := (h.2 _ kwm_252).1
theorem EvR.r252 {E : EvT} {ks vs : Nat → Nat} {fo mi : Nat} (h : EvR E ks vs fo mi) : ∀ (A : Nat → Prop) (U : State) (H : Heap), E A U H → vk_R RX9 252 "not" (ks 252) U := (h.2 _ kwm_252).2
theorem EvR.s262 {E : EvT} {ks vs : Nat → Nat} {fo mi : Nat} (h : EvR E ks vs fo mi) : EvS E (ks 262) (vs 262) fo 4 kb_262 := (h.2 _ kwm_262).1
theorem EvR.r262 {E : EvT} {ks vs : Nat → Nat} {fo mi : Nat} (h : EvR E ks vs fo mi) : ∀ (A : Nat → Prop) (U : State) (H : Heap), E A U H → vk_R RX9 262 "sort" (ks 262) U := (h.2 _ kwm_262).2
theorem EvR.s264 {E : EvT} {ks vs : Nat → Nat} {fo mi : Nat} (h : EvR E ks vs fo mi) : EvS E (ks 264) (vs 264) fo 4 kb_264 := (h.2 _ kwm_264).1
theorem EvR.r264 {E : EvT} {ks vs : Nat → Nat} {fo mi : Nat} (h : EvR E ks vs fo mi) : ∀ (A : Nat → Prop) (U : State) (H : Heap), E A U H → vk_R RX9 264 "from" (ks 264) U := (h.2 _ kwm_264).2
theorem EvR.s266 {E : EvT} {ks vs : Nat → Nat} {fo mi : Nat} (h : EvR E ks vs fo mi) : EvS E (ks 266) (vs 266) fo 2 kb_266 := (h.2 _ kwm_266).1
theorem EvR.r266 {E : EvT} {ks vs : Nat → Nat} {fo mi : Nat} (h : EvR E ks vs fo mi) : ∀ (A : Nat → Prop) (U : State) (H : Heap), E A U H → vk_R RX9 266 "to" (ks 266) U := (h.2 _ kwm_266).2
theorem EvR.s268 {E : EvT} {ks vs : Nat → Nat} {fo mi : Nat} (h : EvR E ks vs fo mi) : EvS E (ks 268) (vs 268) fo 4 kb_268 := (h.2 _ kwm_268).1
theorem EvR.r268 {E : EvT} {ks vs : Nat → Nat} {fo mi : Nat} (h : EvR E ks vs fo mi) : ∀ (A : Nat → Prop) (U : State) (H : Heap), E A U H → vk_R RX9 268 "high" (ks 268) U := (h.2 _ kwm_268).2
theorem EvR.s269 {E : EvT} {ks vs : Nat → Nat} {fo mi : Nat} (h : EvR E ks vs fo mi) : EvS E (ks 269) (vs 269) fo 4 kb_269 := (h.2 _ kwm_269).1
theorem EvR.r269 {E : EvT} {ks vs : Nat → Nat} {fo mi : Nat} (h : EvR E ks vs fo mi) : ∀ (A : Nat → Prop) (U : State) (H : Heap), E A U H → vk_R RX9 269 "full" (ks 269) U := (h.2 _ kwm_269).2
theorem RX.ofV {l : Launch} {y : MethodName} {cc : ByteArray} {maxL : Nat} {rm : Room} {D : va_G} {cA : Nat → ClassId} {E : EvT} {As : List Value} {P P' : va_W → Prop} (hy : plainName y.cls = true) (hsz : (lg_sl As).length ≤ maxL)
    (body : ∀ {p : Program} {e : Env} {s : State} {m : MethodId} {args : Array Value} {below : List Frame} {meth : Method} {c : Code} {Q : State → Prop} {A : Nat → Prop}, CallFix p m c cc maxL s args lw_all y.cls → va_K D vwA (cT cA) s → E A s s.heap → meth.name = y.name →
      (∀ (H : Heap) (locs : List Loc) (pc : Nat) (ls : Array Slot), RHG P' D A s.heap H locs → decode cc pc = .ok (.return_, 1) → W p l e rm s m args below meth c H locs rm.cells rm.slots Q (F0 m pc ls [])) →
      ∀ (H : Heap) (locs : List Loc) (ls : Array Slot), RHG P D A s.heap H locs → lv_has ls maxL (lv_args 0 As) → W p l e rm s m args below meth c H locs 0 0 Q (F0 m 0 ls [])) : RX l y (ws_ y cc maxL none) rm D cA E As P P' none := fun w hw =>
  MX.ofV  hy hsz fun hX hK hE0 hname hret H locs ls hH hl => body hX hK hE0 hname (fun H1 locs1 pc ls1 h hdg => by
    obtain ⟨w1, hw1, hm⟩ := h
    exact hret w1 H1 locs1 pc ls1 hw1 hm hdg) H locs ls ⟨w, hw, hH⟩ hl

theorem RX.ofI {l : Launch} {y : MethodName} {cc : ByteArray} {maxL : Nat} {rm : Room} {D : va_G} {cA : Nat → ClassId} {E : EvT} {As : List Value} {P P' : va_W → Prop} {r : Int32} (hy : plainName y.cls = true) (hsz : (lg_sl As).length ≤ maxL)
    (body : ∀ {p : Program} {e : Env} {s : State} {m : MethodId} {args : Array Value} {below : List Frame} {meth : Method} {c : Code} {Q : State → Prop} {A : Nat → Prop}, CallFix p m c cc maxL s args lw_all y.cls → va_K D vwA (cT cA) s → E A s s.heap → meth.name = y.name →
      (∀ (H : Heap) (locs : List Loc) (pc : Nat) (ls : Array Slot), RHG P' D A s.heap H locs → decode cc pc = .ok (.ireturn, 1) → W p l e rm s m args below meth c H locs rm.cells rm.slots Q (F0 m pc ls [.int r])) →
      ∀ (H : Heap) (locs : List Loc) (ls : Array Slot), RHG P D A s.heap H locs → lv_has ls maxL (lv_args 0 As) → W p l e rm s m args below meth c H locs 0 0 Q (F0 m 0 ls [])) : RX l y (ws_ y cc maxL (some .int)) rm D cA E As P P' (some (.int r)) := fun w hw =>
  MX.ofI  hy hsz fun hX hK hE0 hname hret H locs ls hH hl => body hX hK hE0 hname (fun H1 locs1 pc ls1 h hdg => by
    obtain ⟨w1, hw1, hm⟩ := h
    exact hret w1 H1 locs1 pc ls1 hw1 hm hdg) H locs ls ⟨w, hw, hH⟩ hl

theorem RX.ofZ {l : Launch} {y : MethodName} {cc : ByteArray} {maxL : Nat} {rm : Room} {D : va_G} {cA : Nat → ClassId} {E : EvT} {As : List Value} {P P' : va_W → Prop} {r : Bool} (hy : plainName y.cls = true) (hsz : (lg_sl As).length ≤ maxL)
    (body : ∀ {p : Program} {e : Env} {s : State} {m : MethodId} {args : Array Value} {below : List Frame} {meth : Method} {c : Code} {Q : State → Prop} {A : Nat → Prop}, CallFix p m c cc maxL s args lw_all y.cls → va_K D vwA (cT cA) s → E A s s.heap → meth.name = y.name →
      (∀ (H : Heap) (locs : List Loc) (pc : Nat) (ls : Array Slot), RHG P' D A s.heap H locs → decode cc pc = .ok (.ireturn, 1) → W p l e rm s m args below meth c H locs rm.cells rm.slots Q (F0 m pc ls [.int (b2i r)])) →
      ∀ (H : Heap) (locs : List Loc) (ls : Array Slot), RHG P D A s.heap H locs → lv_has ls maxL (lv_args 0 As) → W p l e rm s m args below meth c H locs 0 0 Q (F0 m 0 ls [])) : RX l y (ws_ y cc maxL (some .boolean)) rm D cA E As P P' (some (.int (b2i r))) := fun w hw =>
  MX.ofZ  hy hsz fun hX hK hE0 hname hret H locs ls hH hl => body hX hK hE0 hname (fun H1 locs1 pc ls1 h hdg => by
    obtain ⟨w1, hw1, hm⟩ := h
    exact hret w1 H1 locs1 pc ls1 hw1 hm hdg) H locs ls ⟨w, hw, hH⟩ hl

section RB
variable {p : Program} {l : Launch} {e : Env} {R : Room} {s : State} {m : MethodId} {args : Array Value} {below : List Frame} {meth : Method} {c : Code} {H : Heap} {locs : List Loc} {cells slots : Nat} {Q : State → Prop}
variable {D : va_G} {A : Nat → Prop} {H0 : Heap} {pc : Nat} {ls : Array Slot} {rest st0 : List Value} {cc : ByteArray} {nL : Nat} {own : String} {lv : List (Nat × Value)} {index : Nat}
variable {cA : Nat → ClassId} {ra x0 tp : Nat} {size : Int32} {tape : Nat → Int32} {fw : va_W} {lo : va_W} {ta ba : Nat → Nat} {v_at v_begin v_token v_value v_open v_fault v_place : Int32} {u : Nat → Int32} {nb : Int32} {bo : Nat → FcT}
theorem va_ldcWS (hexec : p.tables.exec = Jvm.exec) (hb : c.code = cc) {own tx : String} {index q : Nat} (hown : s.vm.findClass own = some m.cls) (hZ : vk_R own index tx q s) (hdg : decode cc pc = .ok (.ldc_w index, 3))
    (k : W p l e R s m args below meth c H locs cells slots Q (F0 m (pc + 3) ls (.ref q :: rest))) : W p l e R s m args below meth c H locs cells slots Q (F0 m pc ls rest) := by
  intro T hT X
  obtain ⟨t, a1, b1⟩ := k T hT X
  refine ⟨t, ?_, b1⟩
  obtain ⟨k, cf, i, a', hk, hcf, hcp, -, hr, hev'⟩ := Cond.stringRef_spec hown hZ.1
  obtain rfl : q = a' := by
    have := hZ.2.symm.trans hev'
    injection this with this
    injection this
  obtain ⟨k', hk', he⟩ := X.warmed.alike.2.2 _ _ hk
  have hr' : k'.resolved[index]? = some (some (.string q)) := by
    rcases X.warmed.entry hk hk' index with h | ⟨h, -⟩
    · rw [h]; exact hr
    · rw [hr] at h; cases h
  have hdg' : decode c.code (F0 m pc ls rest).pc = .ok (.ldc_w index, 3) := by rw [hb]; exact hdg
  jvm_step X.here [hexec, hdg', ldc_w.wp_string (e := e) (s := T) (f := F0 m pc ls rest) X.here.top hk' (by rw [he]; exact hcf) hcp hr']
  exact a1
/-- a call of a method of the reader's -/
theorem rxV {y : MethodName} {bytes : ByteArray} {maxL n : Nat} {ret : Option FieldType} {rm : Room} {As : List Value} {vo : Option Value} {E : EvT} {P' : va_W → Prop} (hX : CallFix p m c cc nL s args lw_all own) (hK : va_K D vwA (cT cA) s) (hEv : EvOK E) (hE : E A s H0) (hH : RHG (RWP cA ra x0 tp size tape fw lo ta ba v_at v_begin v_token v_value v_open v_fault v_place u nb bo) D A H0 H locs) (hM : RX l y (ws_ y bytes maxL ret) rm D cA E (.ref ra :: As) (RWP cA ra x0 tp size tape fw lo ta ba v_at v_begin v_token v_value v_open v_fault v_place u nb bo) P' vo)
    (hG : GoodIn lw_all (wsV own index RX9 y (ws_ y bytes maxL ret))) (hd : y.cls = RX9 ∧ y.cls ≠ "java/lang/invoke/MethodHandle" ∧ y.cls ≠ "java/lang/invoke/VarHandle" ∧ (parseMethodDescriptor y.desc).map (fun d => d.parameters.length) = some n) (hR : rm.frames + 1 ≤ R.frames ∧ 8 + (maxL + 11) + rm.locals ≤ R.locals)
    (hn : As.length = n) (hst : st0 = As.reverse ++ .ref ra :: rest) (hl : lv_has ls nL lv) (hW : (rest.map fun v => v.category).sum ≤ 8) (hdg : decode cc pc = .ok (.invokevirtual index, 3)) (hf : cells + rm.cells ≤ R.cells ∧ slots + rm.slots ≤ R.slots)
    (kk : ∀ (H1 : Heap) (locs1 : List Loc), RHG P' D A H0 H1 locs1 → W p l e R s m args below meth c H1 locs1 (cells + rm.cells) (slots + rm.slots) Q (F0 m (pc + 3) ls (vo.toList ++ rest))) : W p l e R s m args below meth c H locs cells slots Q (F0 m pc ls st0) := by
  obtain ⟨w, hw, hm⟩ := hH
  obtain ⟨fs, h0⟩ := hw.rd0
  exact mxV hX hK hEv hE hm (hM w hw) (crecv hK hm 0 9 h0 rfl) hG hd hR hn hst hl hW hdg hf (fun w1 H1 locs1 hw1 hm1 => kk H1 locs1 ⟨w1, hw1, hm1⟩)

theorem rg_size (hX : CallFix p m c cc nL s args lw_all RX9) (hK : va_K D vwA (cT cA) s) (hH : RHG (RWP cA ra x0 tp size tape fw lo ta ba v_at v_begin v_token v_value v_open v_fault v_place u nb bo) D A H0 H locs) (hdg : decode cc pc = .ok (.getfield 35, 3)) (kk : W p l e R s m args below meth c H locs cells slots Q (F0 m (pc + 3) ls (.int size :: rest))) : W p l e R s m args below meth c H locs cells slots Q (F0 m pc ls (.ref ra :: rest)) := by
  obtain ⟨w, ⟨nr, ns, nm, nn, mr, ms, mm, mb, cr, cs, cm, cb, fr, fs, fm, fb, g, rfl, hI⟩, hm⟩ := hH
  exact va_get (C := RX9) (T := TX9) (N := 11) hX.1 hX.2.1 hX.2.2.2.2 in_X9 hX.2.2.2.1 hK hm.1 0 rfl rfl 0 (by decide) (hX.2.2.2.2 _ q540) (fun _ h9 => h9) rfl hdg kk
theorem rg_at (hX : CallFix p m c cc nL s args lw_all RX9) (hK : va_K D vwA (cT cA) s) (hH : RHG (RWP cA ra x0 tp size tape fw lo ta ba v_at v_begin v_token v_value v_open v_fault v_place u nb bo) D A H0 H locs) (hdg : decode cc pc = .ok (.getfield 58, 3)) (kk : W p l e R s m args below meth c H locs cells slots Q (F0 m (pc + 3) ls (.int v_at :: rest))) : W p l e R s m args below meth c H locs cells slots Q (F0 m pc ls (.ref ra :: rest)) := by
  obtain ⟨w, ⟨nr, ns, nm, nn, mr, ms, mm, mb, cr, cs, cm, cb, fr, fs, fm, fb, g, rfl, hI⟩, hm⟩ := hH
  exact va_get (C := RX9) (T := TX9) (N := 11) hX.1 hX.2.1 hX.2.2.2.2 in_X9 hX.2.2.2.1 hK hm.1 0 rfl rfl 3 (by decide) (hX.2.2.2.2 _ q545) (fun _ h9 => h9) rfl hdg kk
theorem rp_at {z : Int32} (hX : CallFix p m c cc nL s args lw_all RX9) (hK : va_K D vwA (cT cA) s) (hH : RHG (RWP cA ra x0 tp size tape fw lo ta ba v_at v_begin v_token v_value v_open v_fault v_place u nb bo) D A H0 H locs) (hdg : decode cc pc = .ok (.putfield 58, 3)) (kk : ∀ (H1 : Heap) (locs1 : List Loc), RHG (RWP cA ra x0 tp size tape fw lo ta ba z v_begin v_token v_value v_open v_fault v_place u nb bo) D A H0 H1 locs1 → W p l e R s m args below meth c H1 locs1 cells slots Q (F0 m (pc + 3) ls rest)) : W p l e R s m args below meth c H locs cells slots Q (F0 m pc ls (.int z :: .ref ra :: rest)) := by
  obtain ⟨w, ⟨nr, ns, nm, nn, mr, ms, mm, mb, cr, cs, cm, cb, fr, fs, fm, fb, g, rfl, hI⟩, hm⟩ := hH
  exact va_put (C := RX9) (T := TX9) (N := 11) (ty := .int) hX.1 hX.2.1 hX.2.2.2.2 in_X9 tyX9 tyX9_ok nmX9 hX.2.2.2.1 hK hm.1 hm.2.1 hm.2.2.1 0 rfl rfl 3 (by decide) (hX.2.2.2.2 _ q545) (fun _ h9 => h9) rfl (by decide +kernel) rfl rfl (Nat.le_of_ble_eq_true rfl) hdg (fun H1 locs1 hP hD hS => kk H1 locs1 ⟨_, ⟨nr, ns, nm, nn, mr, ms, mm, mb, cr, cs, cm, cb, fr, fs, fm, fb, g, rfl, hI⟩, hP, hD, hS, hm.2.2.2⟩)
theorem rg_begin (hX : CallFix p m c cc nL s args lw_all RX9) (hK : va_K D vwA (cT cA) s) (hH : RHG (RWP cA ra x0 tp size tape fw lo ta ba v_at v_begin v_token v_value v_open v_fault v_place u nb bo) D A H0 H locs) (hdg : decode cc pc = .ok (.getfield 61, 3)) (kk : W p l e R s m args below meth c H locs cells slots Q (F0 m (pc + 3) ls (.int v_begin :: rest))) : W p l e R s m args below meth c H locs cells slots Q (F0 m pc ls (.ref ra :: rest)) := by
  obtain ⟨w, ⟨nr, ns, nm, nn, mr, ms, mm, mb, cr, cs, cm, cb, fr, fs, fm, fb, g, rfl, hI⟩, hm⟩ := hH
  exact va_get (C := RX9) (T := TX9) (N := 11) hX.1 hX.2.1 hX.2.2.2.2 in_X9 hX.2.2.2.1 hK hm.1 0 rfl rfl 4 (by decide) (hX.2.2.2.2 _ q546) (fun _ h9 => h9) rfl hdg kk
theorem rp_begin {z : Int32} (hX : CallFix p m c cc nL s args lw_all RX9) (hK : va_K D vwA (cT cA) s) (hH : RHG (RWP cA ra x0 tp size tape fw lo ta ba v_at v_begin v_token v_value v_open v_fault v_place u nb bo) D A H0 H locs) (hdg : decode cc pc = .ok (.putfield 61, 3)) (kk : ∀ (H1 : Heap) (locs1 : List Loc), RHG (RWP cA ra x0 tp size tape fw lo ta ba v_at z v_token v_value v_open v_fault v_place u nb bo) D A H0 H1 locs1 → W p l e R s m args below meth c H1 locs1 cells slots Q (F0 m (pc + 3) ls rest)) : W p l e R s m args below meth c H locs cells slots Q (F0 m pc ls (.int z :: .ref ra :: rest)) := by
  obtain ⟨w, ⟨nr, ns, nm, nn, mr, ms, mm, mb, cr, cs, cm, cb, fr, fs, fm, fb, g, rfl, hI⟩, hm⟩ := hH
  exact va_put (C := RX9) (T := TX9) (N := 11) (ty := .int) hX.1 hX.2.1 hX.2.2.2.2 in_X9 tyX9 tyX9_ok nmX9 hX.2.2.2.1 hK hm.1 hm.2.1 hm.2.2.1 0 rfl rfl 4 (by decide) (hX.2.2.2.2 _ q546) (fun _ h9 => h9) rfl (by decide +kernel) rfl rfl (Nat.le_of_ble_eq_true rfl) hdg (fun H1 locs1 hP hD hS => kk H1 locs1 ⟨_, ⟨nr, ns, nm, nn, mr, ms, mm, mb, cr, cs, cm, cb, fr, fs, fm, fb, g, rfl, hI⟩, hP, hD, hS, hm.2.2.2⟩)
theorem rg_token (hX : CallFix p m c cc nL s args lw_all RX9) (hK : va_K D vwA (cT cA) s) (hH : RHG (RWP cA ra x0 tp size tape fw lo ta ba v_at v_begin v_token v_value v_open v_fault v_place u nb bo) D A H0 H locs) (hdg : decode cc pc = .ok (.getfield 64, 3)) (kk : W p l e R s m args below meth c H locs cells slots Q (F0 m (pc + 3) ls (.int v_token :: rest))) : W p l e R s m args below meth c H locs cells slots Q (F0 m pc ls (.ref ra :: rest)) := by
  obtain ⟨w, ⟨nr, ns, nm, nn, mr, ms, mm, mb, cr, cs, cm, cb, fr, fs, fm, fb, g, rfl, hI⟩, hm⟩ := hH
  exact va_get (C := RX9) (T := TX9) (N := 11) hX.1 hX.2.1 hX.2.2.2.2 in_X9 hX.2.2.2.1 hK hm.1 0 rfl rfl 5 (by decide) (hX.2.2.2.2 _ q547) (fun _ h9 => h9) rfl hdg kk
theorem rp_token {z : Int32} (hX : CallFix p m c cc nL s args lw_all RX9) (hK : va_K D vwA (cT cA) s) (hH : RHG (RWP cA ra x0 tp size tape fw lo ta ba v_at v_begin v_token v_value v_open v_fault v_place u nb bo) D A H0 H locs) (hdg : decode cc pc = .ok (.putfield 64, 3)) (kk : ∀ (H1 : Heap) (locs1 : List Loc), RHG (RWP cA ra x0 tp size tape fw lo ta ba v_at v_begin z v_value v_open v_fault v_place u nb bo) D A H0 H1 locs1 → W p l e R s m args below meth c H1 locs1 cells slots Q (F0 m (pc + 3) ls rest)) : W p l e R s m args below meth c H locs cells slots Q (F0 m pc ls (.int z :: .ref ra :: rest)) := by
  obtain ⟨w, ⟨nr, ns, nm, nn, mr, ms, mm, mb, cr, cs, cm, cb, fr, fs, fm, fb, g, rfl, hI⟩, hm⟩ := hH
  exact va_put (C := RX9) (T := TX9) (N := 11) (ty := .int) hX.1 hX.2.1 hX.2.2.2.2 in_X9 tyX9 tyX9_ok nmX9 hX.2.2.2.1 hK hm.1 hm.2.1 hm.2.2.1 0 rfl rfl 5 (by decide) (hX.2.2.2.2 _ q547) (fun _ h9 => h9) rfl (by decide +kernel) rfl rfl (Nat.le_of_ble_eq_true rfl) hdg (fun H1 locs1 hP hD hS => kk H1 locs1 ⟨_, ⟨nr, ns, nm, nn, mr, ms, mm, mb, cr, cs, cm, cb, fr, fs, fm, fb, g, rfl, hI⟩, hP, hD, hS, hm.2.2.2⟩)
theorem rg_value (hX : CallFix p m c cc nL s args lw_all RX9) (hK : va_K D vwA (cT cA) s) (hH : RHG (RWP cA ra x0 tp size tape fw lo ta ba v_at v_begin v_token v_value v_open v_fault v_place u nb bo) D A H0 H locs) (hdg : decode cc pc = .ok (.getfield 74, 3)) (kk : W p l e R s m args below meth c H locs cells slots Q (F0 m (pc + 3) ls (.int v_value :: rest))) : W p l e R s m args below meth c H locs cells slots Q (F0 m pc ls (.ref ra :: rest)) := by
  obtain ⟨w, ⟨nr, ns, nm, nn, mr, ms, mm, mb, cr, cs, cm, cb, fr, fs, fm, fb, g, rfl, hI⟩, hm⟩ := hH
  exact va_get (C := RX9) (T := TX9) (N := 11) hX.1 hX.2.1 hX.2.2.2.2 in_X9 hX.2.2.2.1 hK hm.1 0 rfl rfl 6 (by decide) (hX.2.2.2.2 _ q548) (fun _ h9 => h9) rfl hdg kk
theorem rp_value {z : Int32} (hX : CallFix p m c cc nL s args lw_all RX9) (hK : va_K D vwA (cT cA) s) (hH : RHG (RWP cA ra x0 tp size tape fw lo ta ba v_at v_begin v_token v_value v_open v_fault v_place u nb bo) D A H0 H locs) (hdg : decode cc pc = .ok (.putfield 74, 3)) (kk : ∀ (H1 : Heap) (locs1 : List Loc), RHG (RWP cA ra x0 tp size tape fw lo ta ba v_at v_begin v_token z v_open v_fault v_place u nb bo) D A H0 H1 locs1 → W p l e R s m args below meth c H1 locs1 cells slots Q (F0 m (pc + 3) ls rest)) : W p l e R s m args below meth c H locs cells slots Q (F0 m pc ls (.int z :: .ref ra :: rest)) := by
  obtain ⟨w, ⟨nr, ns, nm, nn, mr, ms, mm, mb, cr, cs, cm, cb, fr, fs, fm, fb, g, rfl, hI⟩, hm⟩ := hH
  exact va_put (C := RX9) (T := TX9) (N := 11) (ty := .int) hX.1 hX.2.1 hX.2.2.2.2 in_X9 tyX9 tyX9_ok nmX9 hX.2.2.2.1 hK hm.1 hm.2.1 hm.2.2.1 0 rfl rfl 6 (by decide) (hX.2.2.2.2 _ q548) (fun _ h9 => h9) rfl (by decide +kernel) rfl rfl (Nat.le_of_ble_eq_true rfl) hdg (fun H1 locs1 hP hD hS => kk H1 locs1 ⟨_, ⟨nr, ns, nm, nn, mr, ms, mm, mb, cr, cs, cm, cb, fr, fs, fm, fb, g, rfl, hI⟩, hP, hD, hS, hm.2.2.2⟩)
theorem rg_open (hX : CallFix p m c cc nL s args lw_all RX9) (hK : va_K D vwA (cT cA) s) (hH : RHG (RWP cA ra x0 tp size tape fw lo ta ba v_at v_begin v_token v_value v_open v_fault v_place u nb bo) D A H0 H locs) (hdg : decode cc pc = .ok (.getfield 249, 3)) (kk : W p l e R s m args below meth c H locs cells slots Q (F0 m (pc + 3) ls (.int v_open :: rest))) : W p l e R s m args below meth c H locs cells slots Q (F0 m pc ls (.ref ra :: rest)) := by
  obtain ⟨w, ⟨nr, ns, nm, nn, mr, ms, mm, mb, cr, cs, cm, cb, fr, fs, fm, fb, g, rfl, hI⟩, hm⟩ := hH
  exact va_get (C := RX9) (T := TX9) (N := 11) hX.1 hX.2.1 hX.2.2.2.2 in_X9 hX.2.2.2.1 hK hm.1 0 rfl rfl 7 (by decide) (hX.2.2.2.2 _ q549) (fun _ h9 => h9) rfl hdg kk
theorem rp_open {z : Int32} (hX : CallFix p m c cc nL s args lw_all RX9) (hK : va_K D vwA (cT cA) s) (hH : RHG (RWP cA ra x0 tp size tape fw lo ta ba v_at v_begin v_token v_value v_open v_fault v_place u nb bo) D A H0 H locs) (hdg : decode cc pc = .ok (.putfield 249, 3)) (kk : ∀ (H1 : Heap) (locs1 : List Loc), RHG (RWP cA ra x0 tp size tape fw lo ta ba v_at v_begin v_token v_value z v_fault v_place u nb bo) D A H0 H1 locs1 → W p l e R s m args below meth c H1 locs1 cells slots Q (F0 m (pc + 3) ls rest)) : W p l e R s m args below meth c H locs cells slots Q (F0 m pc ls (.int z :: .ref ra :: rest)) := by
  obtain ⟨w, ⟨nr, ns, nm, nn, mr, ms, mm, mb, cr, cs, cm, cb, fr, fs, fm, fb, g, rfl, hI⟩, hm⟩ := hH
  exact va_put (C := RX9) (T := TX9) (N := 11) (ty := .int) hX.1 hX.2.1 hX.2.2.2.2 in_X9 tyX9 tyX9_ok nmX9 hX.2.2.2.1 hK hm.1 hm.2.1 hm.2.2.1 0 rfl rfl 7 (by decide) (hX.2.2.2.2 _ q549) (fun _ h9 => h9) rfl (by decide +kernel) rfl rfl (Nat.le_of_ble_eq_true rfl) hdg (fun H1 locs1 hP hD hS => kk H1 locs1 ⟨_, ⟨nr, ns, nm, nn, mr, ms, mm, mb, cr, cs, cm, cb, fr, fs, fm, fb, g, rfl, hI⟩, hP, hD, hS, hm.2.2.2⟩)
theorem rg_fault (hX : CallFix p m c cc nL s args lw_all RX9) (hK : va_K D vwA (cT cA) s) (hH : RHG (RWP cA ra x0 tp size tape fw lo ta ba v_at v_begin v_token v_value v_open v_fault v_place u nb bo) D A H0 H locs) (hdg : decode cc pc = .ok (.getfield 77, 3)) (kk : W p l e R s m args below meth c H locs cells slots Q (F0 m (pc + 3) ls (.int v_fault :: rest))) : W p l e R s m args below meth c H locs cells slots Q (F0 m pc ls (.ref ra :: rest)) := by
  obtain ⟨w, ⟨nr, ns, nm, nn, mr, ms, mm, mb, cr, cs, cm, cb, fr, fs, fm, fb, g, rfl, hI⟩, hm⟩ := hH
  exact va_get (C := RX9) (T := TX9) (N := 11) hX.1 hX.2.1 hX.2.2.2.2 in_X9 hX.2.2.2.1 hK hm.1 0 rfl rfl 8 (by decide) (hX.2.2.2.2 _ q550) (fun _ h9 => h9) rfl hdg kk
theorem rp_fault {z : Int32} (hX : CallFix p m c cc nL s args lw_all RX9) (hK : va_K D vwA (cT cA) s) (hH : RHG (RWP cA ra x0 tp size tape fw lo ta ba v_at v_begin v_token v_value v_open v_fault v_place u nb bo) D A H0 H locs) (hdg : decode cc pc = .ok (.putfield 77, 3)) (kk : ∀ (H1 : Heap) (locs1 : List Loc), RHG (RWP cA ra x0 tp size tape fw lo ta ba v_at v_begin v_token v_value v_open z v_place u nb bo) D A H0 H1 locs1 → W p l e R s m args below meth c H1 locs1 cells slots Q (F0 m (pc + 3) ls rest)) : W p l e R s m args below meth c H locs cells slots Q (F0 m pc ls (.int z :: .ref ra :: rest)) := by
  obtain ⟨w, ⟨nr, ns, nm, nn, mr, ms, mm, mb, cr, cs, cm, cb, fr, fs, fm, fb, g, rfl, hI⟩, hm⟩ := hH
  exact va_put (C := RX9) (T := TX9) (N := 11) (ty := .int) hX.1 hX.2.1 hX.2.2.2.2 in_X9 tyX9 tyX9_ok nmX9 hX.2.2.2.1 hK hm.1 hm.2.1 hm.2.2.1 0 rfl rfl 8 (by decide) (hX.2.2.2.2 _ q550) (fun _ h9 => h9) rfl (by decide +kernel) rfl rfl (Nat.le_of_ble_eq_true rfl) hdg (fun H1 locs1 hP hD hS => kk H1 locs1 ⟨_, ⟨nr, ns, nm, nn, mr, ms, mm, mb, cr, cs, cm, cb, fr, fs, fm, fb, g, rfl, hI⟩, hP, hD, hS, hm.2.2.2⟩)
theorem rg_place (hX : CallFix p m c cc nL s args lw_all RX9) (hK : va_K D vwA (cT cA) s) (hH : RHG (RWP cA ra x0 tp size tape fw lo ta ba v_at v_begin v_token v_value v_open v_fault v_place u nb bo) D A H0 H locs) (hdg : decode cc pc = .ok (.getfield 31, 3)) (kk : W p l e R s m args below meth c H locs cells slots Q (F0 m (pc + 3) ls (.int v_place :: rest))) : W p l e R s m args below meth c H locs cells slots Q (F0 m pc ls (.ref ra :: rest)) := by
  obtain ⟨w, ⟨nr, ns, nm, nn, mr, ms, mm, mb, cr, cs, cm, cb, fr, fs, fm, fb, g, rfl, hI⟩, hm⟩ := hH
  exact va_get (C := RX9) (T := TX9) (N := 11) hX.1 hX.2.1 hX.2.2.2.2 in_X9 hX.2.2.2.1 hK hm.1 0 rfl rfl 9 (by decide) (hX.2.2.2.2 _ q552) (fun _ h9 => h9) rfl hdg kk
theorem rp_place {z : Int32} (hX : CallFix p m c cc nL s args lw_all RX9) (hK : va_K D vwA (cT cA) s) (hH : RHG (RWP cA ra x0 tp size tape fw lo ta ba v_at v_begin v_token v_value v_open v_fault v_place u nb bo) D A H0 H locs) (hdg : decode cc pc = .ok (.putfield 31, 3)) (kk : ∀ (H1 : Heap) (locs1 : List Loc), RHG (RWP cA ra x0 tp size tape fw lo ta ba v_at v_begin v_token v_value v_open v_fault z u nb bo) D A H0 H1 locs1 → W p l e R s m args below meth c H1 locs1 cells slots Q (F0 m (pc + 3) ls rest)) : W p l e R s m args below meth c H locs cells slots Q (F0 m pc ls (.int z :: .ref ra :: rest)) := by
  obtain ⟨w, ⟨nr, ns, nm, nn, mr, ms, mm, mb, cr, cs, cm, cb, fr, fs, fm, fb, g, rfl, hI⟩, hm⟩ := hH
  exact va_put (C := RX9) (T := TX9) (N := 11) (ty := .int) hX.1 hX.2.1 hX.2.2.2.2 in_X9 tyX9 tyX9_ok nmX9 hX.2.2.2.1 hK hm.1 hm.2.1 hm.2.2.1 0 rfl rfl 9 (by decide) (hX.2.2.2.2 _ q552) (fun _ h9 => h9) rfl (by decide +kernel) rfl rfl (Nat.le_of_ble_eq_true rfl) hdg (fun H1 locs1 hP hD hS => kk H1 locs1 ⟨_, ⟨nr, ns, nm, nn, mr, ms, mm, mb, cr, cs, cm, cb, fr, fs, fm, fb, g, rfl, hI⟩, hP, hD, hS, hm.2.2.2⟩)
theorem rg_town (hX : CallFix p m c cc nL s args lw_all RX9) (hK : va_K D vwA (cT cA) s) (hH : RHG (RWP cA ra x0 tp size tape fw lo ta ba v_at v_begin v_token v_value v_open v_fault v_place u nb bo) D A H0 H locs) (hdg : decode cc pc = .ok (.getfield 18, 3)) (kk : W p l e R s m args below meth c H locs cells slots Q (F0 m (pc + 3) ls (.ref (ta 0) :: rest))) : W p l e R s m args below meth c H locs cells slots Q (F0 m pc ls (.ref ra :: rest)) := by
  obtain ⟨w, ⟨nr, ns, nm, nn, mr, ms, mm, mb, cr, cs, cm, cb, fr, fs, fm, fb, g, rfl, hI⟩, hm⟩ := hH
  exact va_get (C := RX9) (T := TX9) (N := 11) hX.1 hX.2.1 hX.2.2.2.2 in_X9 hX.2.2.2.1 hK hm.1 0 rfl rfl 1 (by decide) (hX.2.2.2.2 _ q541) (fun _ h9 => h9) rfl hdg kk
theorem rg_bars (hX : CallFix p m c cc nL s args lw_all RX9) (hK : va_K D vwA (cT cA) s) (hH : RHG (RWP cA ra x0 tp size tape fw lo ta ba v_at v_begin v_token v_value v_open v_fault v_place u nb bo) D A H0 H locs) (hdg : decode cc pc = .ok (.getfield 27, 3)) (kk : W p l e R s m args below meth c H locs cells slots Q (F0 m (pc + 3) ls (.ref (ba 0) :: rest))) : W p l e R s m args below meth c H locs cells slots Q (F0 m pc ls (.ref ra :: rest)) := by
  obtain ⟨w, ⟨nr, ns, nm, nn, mr, ms, mm, mb, cr, cs, cm, cb, fr, fs, fm, fb, g, rfl, hI⟩, hm⟩ := hH
  exact va_get (C := RX9) (T := TX9) (N := 11) hX.1 hX.2.1 hX.2.2.2.2 in_X9 hX.2.2.2.1 hK hm.1 0 rfl rfl 2 (by decide) (hX.2.2.2.2 _ q543) (fun _ h9 => h9) rfl hdg kk
theorem rg_this (hX : CallFix p m c cc nL s args lw_all RX9) (hK : va_K D vwA (cT cA) s) (hH : RHG (RWP cA ra x0 tp size tape fw lo ta ba v_at v_begin v_token v_value v_open v_fault v_place u nb bo) D A H0 H locs) (hdg : decode cc pc = .ok (.getfield 3, 3)) (kk : W p l e R s m args below meth c H locs cells slots Q (F0 m (pc + 3) ls (.ref x0 :: rest))) : W p l e R s m args below meth c H locs cells slots Q (F0 m pc ls (.ref ra :: rest)) := by
  obtain ⟨w, ⟨nr, ns, nm, nn, mr, ms, mm, mb, cr, cs, cm, cb, fr, fs, fm, fb, g, rfl, hI⟩, hm⟩ := hH
  exact va_get (C := RX9) (T := TX9) (N := 11) hX.1 hX.2.1 hX.2.2.2.2 in_X9 hX.2.2.2.1 hK hm.1 0 rfl rfl 10 (by decide) (hX.2.2.2.2 _ q554) (fun _ h9 => h9) rfl hdg kk
theorem rg_tape (hX : CallFix p m c cc nL s args lw_all RX9) (hK : va_K D vwA (cT cA) s) (hH : RHG (RWP cA ra x0 tp size tape fw lo ta ba v_at v_begin v_token v_value v_open v_fault v_place u nb bo) D A H0 H locs) (hNW : NW s) (hdg : decode cc pc = .ok (.getfield 38, 3)) (kk : W p l e R s m args below meth c H locs cells slots Q (F0 m (pc + 3) ls (.ref tp :: rest))) : W p l e R s m args below meth c H locs cells slots Q (F0 m pc ls (.ref x0 :: rest)) := by
  obtain ⟨w, ⟨nr, ns, nm, nn, mr, ms, mm, mb, cr, cs, cm, cb, fr, fs, fm, fb, g, rfl, hI⟩, hm⟩ := hH
  obtain ⟨xs, hx1, hx2⟩ := hI.2.2.2.2.2.1
  obtain ⟨k9, hk9⟩ := List.getElem?_of_mem (List.mem_append_right (rHD cA ra x0 size ta ba v_at v_begin v_token v_value v_open v_fault v_place u nb mr ms mm mb cr cs cm cb fr fs fm fb) (List.mem_append_right (RCs cA ta u g nr) (List.mem_append_right lo hx1)))
  exact va_getN (C := RX0) (T := TX0) (N := 23) hX.1 hX.2.1 hX.2.2.2.2 in_X0 hX.2.2.2.1 hK hm.1 k9 hk9 rfl 2 (by decide) (va_Nw.use rfl (hNW _ nw_q445)) (fun _ h9 => h9) hx2 hdg kk
theorem rl_tape (hX : CallFix p m c cc nL s args lw_all RX9) (hK : va_K D vwA (cT cA) s) (hH : RHG (RWP cA ra x0 tp size tape fw lo ta ba v_at v_begin v_token v_value v_open v_fault v_place u nb bo) D A H0 H locs) {i v : Int32} (he : rd 400 tape i = some v) (hdg : decode cc pc = .ok (.baload, 1)) (kk : W p l e R s m args below meth c H locs cells slots Q (F0 m (pc + 1) ls (.int v :: rest))) : W p l e R s m args below meth c H locs cells slots Q (F0 m pc ls (.int i :: .ref tp :: rest)) := by
  obtain ⟨w, ⟨nr, ns, nm, nn, mr, ms, mm, mb, cr, cs, cm, cb, fr, fs, fm, fb, g, rfl, hI⟩, hm⟩ := hH
  obtain ⟨k9, hk9⟩ := List.getElem?_of_mem (List.mem_append_right (rHD cA ra x0 size ta ba v_at v_begin v_token v_value v_open v_fault v_place u nb mr ms mm mb cr cs cm cb fr fs fm fb) (List.mem_append_right (RCs cA ta u g nr) (List.mem_append_right lo hI.2.2.2.2.2.2)))
  exact va_bald hX.1 hX.2.1 hK hm.1 k9 1 hk9 rfl (rd_in he) hdg (by rw [rd_eq he]; exact kk)
theorem rp_over {z : Int32} (hX : CallFix p m c cc nL s args lw_all RX9) (hK : va_K D vwA (cT cA) s) (hH : RHG (RWP cA ra x0 tp size tape fw lo ta ba v_at v_begin v_token v_value v_open v_fault v_place u nb bo) D A H0 H locs) (hNW : NW s) (hdg : decode cc pc = .ok (.putfield 143, 3)) (kk : ∀ (H1 : Heap) (locs1 : List Loc), RHG (RWP cA ra x0 tp size tape fw lo ta ba v_at v_begin v_token v_value v_open v_fault v_place (upd u 75 z) nb bo) D A H0 H1 locs1 → W p l e R s m args below meth c H1 locs1 cells slots Q (F0 m (pc + 3) ls rest)) : W p l e R s m args below meth c H locs cells slots Q (F0 m pc ls (.int z :: .ref (ta 0) :: rest)) := by
  obtain ⟨w, ⟨nr, ns, nm, nn, mr, ms, mm, mb, cr, cs, cm, cb, fr, fs, fm, fb, g, rfl, hI⟩, hm⟩ := hH
  have h5 := hI.1.2.2.2.2.1
  refine va_putN (C := RX2) (T := TX2) (N := 8) (ty := .int) hX.1 hX.2.1 hX.2.2.2.2 in_X2 tyX2 tyX2_ok nmX2 hX.2.2.2.1 hK hm.1 hm.2.1 hm.2.2.1 1 rfl rfl 3 (by decide) (va_Nw.use rfl (hNW _ nw_q232)) (fun _ h9 => h9) rfl (by decide +kernel) rfl rfl (Nat.le_of_ble_eq_true rfl) hdg (fun H1 locs1 hP hD hS => kk H1 locs1 ⟨_, ⟨nr, ns, nm, nn, mr, ms, mm, mb, cr, cs, cm, cb, fr, fs, fm, fb, g, ?_, hI.same (fun k h => if_neg (by omega)) (fun i hi j hj => by rw [hI.2.2.1 i hi j hj]; exact (if_neg (by omega)).symm)⟩, hP, hD, hS, hm.2.2.2⟩)
  rw [RCs.cong (cA := cA) (tb := ta) (ta := ta) (v := upd u 75 z) (u := u) (k := g) (g := g) (fun i hi => rwC_cong (if_neg (by omega)) (if_neg (by omega)) (if_neg (by omega)) (if_neg (by omega)) rfl rfl rfl)]
  rfl
theorem rp_most {z : Int32} (hX : CallFix p m c cc nL s args lw_all RX9) (hK : va_K D vwA (cT cA) s) (hH : RHG (RWP cA ra x0 tp size tape fw lo ta ba v_at v_begin v_token v_value v_open v_fault v_place u nb bo) D A H0 H locs) (hNW : NW s) (hdg : decode cc pc = .ok (.putfield 147, 3)) (kk : ∀ (H1 : Heap) (locs1 : List Loc), RHG (RWP cA ra x0 tp size tape fw lo ta ba v_at v_begin v_token v_value v_open v_fault v_place (upd u 76 z) nb bo) D A H0 H1 locs1 → W p l e R s m args below meth c H1 locs1 cells slots Q (F0 m (pc + 3) ls rest)) : W p l e R s m args below meth c H locs cells slots Q (F0 m pc ls (.int z :: .ref (ta 0) :: rest)) := by
  obtain ⟨w, ⟨nr, ns, nm, nn, mr, ms, mm, mb, cr, cs, cm, cb, fr, fs, fm, fb, g, rfl, hI⟩, hm⟩ := hH
  have h5 := hI.1.2.2.2.2.1
  refine va_putN (C := RX2) (T := TX2) (N := 8) (ty := .int) hX.1 hX.2.1 hX.2.2.2.2 in_X2 tyX2 tyX2_ok nmX2 hX.2.2.2.1 hK hm.1 hm.2.1 hm.2.2.1 1 rfl rfl 4 (by decide) (va_Nw.use rfl (hNW _ nw_q236)) (fun _ h9 => h9) rfl (by decide +kernel) rfl rfl (Nat.le_of_ble_eq_true rfl) hdg (fun H1 locs1 hP hD hS => kk H1 locs1 ⟨_, ⟨nr, ns, nm, nn, mr, ms, mm, mb, cr, cs, cm, cb, fr, fs, fm, fb, g, ?_, hI.same (fun k h => if_neg (by omega)) (fun i hi j hj => by rw [hI.2.2.1 i hi j hj]; exact (if_neg (by omega)).symm)⟩, hP, hD, hS, hm.2.2.2⟩)
  rw [RCs.cong (cA := cA) (tb := ta) (ta := ta) (v := upd u 76 z) (u := u) (k := g) (g := g) (fun i hi => rwC_cong (if_neg (by omega)) (if_neg (by omega)) (if_neg (by omega)) (if_neg (by omega)) rfl rfl rfl)]
  rfl
theorem rp_lines {z : Int32} (hX : CallFix p m c cc nL s args lw_all RX9) (hK : va_K D vwA (cT cA) s) (hH : RHG (RWP cA ra x0 tp size tape fw lo ta ba v_at v_begin v_token v_value v_open v_fault v_place u nb bo) D A H0 H locs) (hNW : NW s) (hdg : decode cc pc = .ok (.putfield 113, 3)) (kk : ∀ (H1 : Heap) (locs1 : List Loc), RHG (RWP cA ra x0 tp size tape fw lo ta ba v_at v_begin v_token v_value v_open v_fault v_place (upd u 379 z) nb bo) D A H0 H1 locs1 → W p l e R s m args below meth c H1 locs1 cells slots Q (F0 m (pc + 3) ls rest)) : W p l e R s m args below meth c H locs cells slots Q (F0 m pc ls (.int z :: .ref (ta 0) :: rest)) := by
  obtain ⟨w, ⟨nr, ns, nm, nn, mr, ms, mm, mb, cr, cs, cm, cb, fr, fs, fm, fb, g, rfl, hI⟩, hm⟩ := hH
  have h5 := hI.1.2.2.2.2.1
  refine va_putN (C := RX2) (T := TX2) (N := 8) (ty := .int) hX.1 hX.2.1 hX.2.2.2.2 in_X2 tyX2 tyX2_ok nmX2 hX.2.2.2.1 hK hm.1 hm.2.1 hm.2.2.1 1 rfl rfl 5 (by decide) (va_Nw.use rfl (hNW _ nw_q239)) (fun _ h9 => h9) rfl (by decide +kernel) rfl rfl (Nat.le_of_ble_eq_true rfl) hdg (fun H1 locs1 hP hD hS => kk H1 locs1 ⟨_, ⟨nr, ns, nm, nn, mr, ms, mm, mb, cr, cs, cm, cb, fr, fs, fm, fb, g, ?_, hI.same (fun k h => if_neg (by omega)) (fun i hi j hj => by rw [hI.2.2.1 i hi j hj]; exact (if_neg (by omega)).symm)⟩, hP, hD, hS, hm.2.2.2⟩)
  rw [RCs.cong (cA := cA) (tb := ta) (ta := ta) (v := upd u 379 z) (u := u) (k := g) (g := g) (fun i hi => rwC_cong (if_neg (by omega)) (if_neg (by omega)) (if_neg (by omega)) (if_neg (by omega)) rfl rfl rfl)]
  rfl
theorem rp_rings {z : Int32} (hn : narrow .boolean (.int z) = .int z ∧ fits .boolean (.int z) = true) (hX : CallFix p m c cc nL s args lw_all RX9) (hK : va_K D vwA (cT cA) s) (hH : RHG (RWP cA ra x0 tp size tape fw lo ta ba v_at v_begin v_token v_value v_open v_fault v_place u nb bo) D A H0 H locs) (hNW : NW s) (hdg : decode cc pc = .ok (.putfield 151, 3)) (kk : ∀ (H1 : Heap) (locs1 : List Loc), RHG (RWP cA ra x0 tp size tape fw lo ta ba v_at v_begin v_token v_value v_open v_fault v_place (upd u 77 z) nb bo) D A H0 H1 locs1 → W p l e R s m args below meth c H1 locs1 cells slots Q (F0 m (pc + 3) ls rest)) : W p l e R s m args below meth c H locs cells slots Q (F0 m pc ls (.int z :: .ref (ta 0) :: rest)) := by
  obtain ⟨w, ⟨nr, ns, nm, nn, mr, ms, mm, mb, cr, cs, cm, cb, fr, fs, fm, fb, g, rfl, hI⟩, hm⟩ := hH
  have h5 := hI.1.2.2.2.2.1
  refine va_putN (C := RX2) (T := TX2) (N := 8) (ty := .boolean) hX.1 hX.2.1 hX.2.2.2.2 in_X2 tyX2 tyX2_ok nmX2 hX.2.2.2.1 hK hm.1 hm.2.1 hm.2.2.1 1 rfl rfl 6 (by decide) (va_Nw.use rfl (hNW _ nw_q241)) (fun _ h9 => h9) rfl (by decide +kernel) hn.1 hn.2 (Nat.le_of_ble_eq_true rfl) hdg (fun H1 locs1 hP hD hS => kk H1 locs1 ⟨_, ⟨nr, ns, nm, nn, mr, ms, mm, mb, cr, cs, cm, cb, fr, fs, fm, fb, g, ?_, hI.same (fun k h => if_neg (by omega)) (fun i hi j hj => by rw [hI.2.2.1 i hi j hj]; exact (if_neg (by omega)).symm)⟩, hP, hD, hS, hm.2.2.2⟩)
  rw [RCs.cong (cA := cA) (tb := ta) (ta := ta) (v := upd u 77 z) (u := u) (k := g) (g := g) (fun i hi => rwC_cong (if_neg (by omega)) (if_neg (by omega)) (if_neg (by omega)) (if_neg (by omega)) rfl rfl rfl)]
  rfl
theorem rp_floods {z : Int32} (hn : narrow .boolean (.int z) = .int z ∧ fits .boolean (.int z) = true) (hX : CallFix p m c cc nL s args lw_all RX9) (hK : va_K D vwA (cT cA) s) (hH : RHG (RWP cA ra x0 tp size tape fw lo ta ba v_at v_begin v_token v_value v_open v_fault v_place u nb bo) D A H0 H locs) (hNW : NW s) (hdg : decode cc pc = .ok (.putfield 157, 3)) (kk : ∀ (H1 : Heap) (locs1 : List Loc), RHG (RWP cA ra x0 tp size tape fw lo ta ba v_at v_begin v_token v_value v_open v_fault v_place (upd u 378 z) nb bo) D A H0 H1 locs1 → W p l e R s m args below meth c H1 locs1 cells slots Q (F0 m (pc + 3) ls rest)) : W p l e R s m args below meth c H locs cells slots Q (F0 m pc ls (.int z :: .ref (ta 0) :: rest)) := by
  obtain ⟨w, ⟨nr, ns, nm, nn, mr, ms, mm, mb, cr, cs, cm, cb, fr, fs, fm, fb, g, rfl, hI⟩, hm⟩ := hH
  have h5 := hI.1.2.2.2.2.1
  refine va_putN (C := RX2) (T := TX2) (N := 8) (ty := .boolean) hX.1 hX.2.1 hX.2.2.2.2 in_X2 tyX2 tyX2_ok nmX2 hX.2.2.2.1 hK hm.1 hm.2.1 hm.2.2.1 1 rfl rfl 7 (by decide) (va_Nw.use rfl (hNW _ nw_q243)) (fun _ h9 => h9) rfl (by decide +kernel) hn.1 hn.2 (Nat.le_of_ble_eq_true rfl) hdg (fun H1 locs1 hP hD hS => kk H1 locs1 ⟨_, ⟨nr, ns, nm, nn, mr, ms, mm, mb, cr, cs, cm, cb, fr, fs, fm, fb, g, ?_, hI.same (fun k h => if_neg (by omega)) (fun i hi j hj => by rw [hI.2.2.1 i hi j hj]; exact (if_neg (by omega)).symm)⟩, hP, hD, hS, hm.2.2.2⟩)
  rw [RCs.cong (cA := cA) (tb := ta) (ta := ta) (v := upd u 378 z) (u := u) (k := g) (g := g) (fun i hi => rwC_cong (if_neg (by omega)) (if_neg (by omega)) (if_neg (by omega)) (if_neg (by omega)) rfl rfl rfl)]
  rfl
theorem rp_wished {z i : Int32} (hg : alg (u 0) i = some ()) (hX : CallFix p m c cc nL s args lw_all RX9) (hK : va_K D vwA (cT cA) s) (hH : RHG (RWP cA ra x0 tp size tape fw lo ta ba v_at v_begin v_token v_value v_open v_fault v_place u nb bo) D A H0 H locs) (hNW : NW s) (hdg : decode cc pc = .ok (.putfield 202, 3)) (kk : ∀ (H1 : Heap) (locs1 : List Loc), RHG (RWP cA ra x0 tp size tape fw lo ta ba v_at v_begin v_token v_value v_open v_fault v_place (upd u (31 + i.toNatClampNeg) z) nb bo) D A H0 H1 locs1 → W p l e R s m args below meth c H1 locs1 cells slots Q (F0 m (pc + 3) ls rest)) : W p l e R s m args below meth c H locs cells slots Q (F0 m pc ls (.int z :: .ref (ta (10 + i.toNatClampNeg)) :: rest)) := by
  obtain ⟨w, ⟨nr, ns, nm, nn, mr, ms, mm, mb, cr, cs, cm, cb, fr, fs, fm, fb, g, rfl, hI⟩, hm⟩ := hH
  have h5 := hI.1.2.2.2.2.1
  have hi := alg_lt hg
  rw [hI.1.1, nI_clamp (by omega)] at hi
  generalize i.toNatClampNeg = i at *
  obtain ⟨q0, q1, k0, k1, k2⟩ := rr_row (cA := cA) (ta := ta) (u := u) (g := g) (rHD cA ra x0 size ta ba v_at v_begin v_token v_value v_open v_fault v_place u nb mr ms mm mb cr cs cm cb fr fs fm fb) (lo ++ fw) hi
  refine va_putN (C := RX10) (T := TX10) (N := 5) (ty := .int) hX.1 hX.2.1 hX.2.2.2.2 in_X10 tyX10 tyX10_ok nmX10 hX.2.2.2.1 hK hm.1 hm.2.1 hm.2.2.1 q0 k0 rfl 2 (by decide) (va_Nw.use rfl (hNW _ nw_q698)) (fun _ h9 => h9) rfl (by decide +kernel) rfl rfl (Nat.le_of_ble_eq_true rfl) hdg (fun H1 locs1 hP hD hS => ?_)
  have e1 : rwX ta (upd u (31 + i) z) i = (ta (10 + i), .inr (10, [.int (u (1 + i)), .ref (ta (20 + i)), .int (u (31 + i)), .int (u (36 + i)), .int (u (210 + i))].set 2 (.int z))) := by
    unfold rwX
    show (ta (10 + i), Sum.inr (10, [Value.int (upd u (31 + i) z (1 + i)), .ref (ta (20 + i)), .int (upd u (31 + i) z (31 + i)), .int (upd u (31 + i) z (36 + i)), .int (upd u (31 + i) z (210 + i))])) = _
    rw [rr_n (f := u) (v := z) (show 1 + i ≠ 31 + i by omega), rr_eq (f := u) (v := z) (show 31 + i = 31 + i from rfl), rr_n (f := u) (v := z) (show 36 + i ≠ 31 + i by omega), rr_n (f := u) (v := z) (show 210 + i ≠ 31 + i by omega)]
    rfl
  have e2 := (k2 (upd u (31 + i) z) g (fun j hj1 hj2 => rwC_cong (if_neg (by omega)) (if_neg (by omega)) (if_neg (by omega)) (if_neg (by omega)) rfl rfl rfl)).1 rfl
  rw [e1] at e2
  rw [e2] at hP hD
  refine kk H1 locs1 ⟨_, ⟨nr, ns, nm, nn, mr, ms, mm, mb, cr, cs, cm, cb, fr, fs, fm, fb, g, ?_, hI.same (fun k h => if_neg (by omega)) (fun i hi j hj => by rw [hI.2.2.1 i hi j hj]; exact (if_neg (by omega)).symm)⟩, hP, hD, hS, hm.2.2.2⟩
  rw [rHD_cong (u := u) (v := upd u (31 + i) z) (fun k h => if_neg (by omega))]
theorem rp_whose {z i : Int32} (hg : alg (u 0) i = some ()) (hX : CallFix p m c cc nL s args lw_all RX9) (hK : va_K D vwA (cT cA) s) (hH : RHG (RWP cA ra x0 tp size tape fw lo ta ba v_at v_begin v_token v_value v_open v_fault v_place u nb bo) D A H0 H locs) (hNW : NW s) (hdg : decode cc pc = .ok (.putfield 212, 3)) (kk : ∀ (H1 : Heap) (locs1 : List Loc), RHG (RWP cA ra x0 tp size tape fw lo ta ba v_at v_begin v_token v_value v_open v_fault v_place (upd u (36 + i.toNatClampNeg) z) nb bo) D A H0 H1 locs1 → W p l e R s m args below meth c H1 locs1 cells slots Q (F0 m (pc + 3) ls rest)) : W p l e R s m args below meth c H locs cells slots Q (F0 m pc ls (.int z :: .ref (ta (10 + i.toNatClampNeg)) :: rest)) := by
  obtain ⟨w, ⟨nr, ns, nm, nn, mr, ms, mm, mb, cr, cs, cm, cb, fr, fs, fm, fb, g, rfl, hI⟩, hm⟩ := hH
  have h5 := hI.1.2.2.2.2.1
  have hi := alg_lt hg
  rw [hI.1.1, nI_clamp (by omega)] at hi
  generalize i.toNatClampNeg = i at *
  obtain ⟨q0, q1, k0, k1, k2⟩ := rr_row (cA := cA) (ta := ta) (u := u) (g := g) (rHD cA ra x0 size ta ba v_at v_begin v_token v_value v_open v_fault v_place u nb mr ms mm mb cr cs cm cb fr fs fm fb) (lo ++ fw) hi
  refine va_putN (C := RX10) (T := TX10) (N := 5) (ty := .int) hX.1 hX.2.1 hX.2.2.2.2 in_X10 tyX10 tyX10_ok nmX10 hX.2.2.2.1 hK hm.1 hm.2.1 hm.2.2.1 q0 k0 rfl 3 (by decide) (va_Nw.use rfl (hNW _ nw_q701)) (fun _ h9 => h9) rfl (by decide +kernel) rfl rfl (Nat.le_of_ble_eq_true rfl) hdg (fun H1 locs1 hP hD hS => ?_)
  have e1 : rwX ta (upd u (36 + i) z) i = (ta (10 + i), .inr (10, [.int (u (1 + i)), .ref (ta (20 + i)), .int (u (31 + i)), .int (u (36 + i)), .int (u (210 + i))].set 3 (.int z))) := by
    unfold rwX
    show (ta (10 + i), Sum.inr (10, [Value.int (upd u (36 + i) z (1 + i)), .ref (ta (20 + i)), .int (upd u (36 + i) z (31 + i)), .int (upd u (36 + i) z (36 + i)), .int (upd u (36 + i) z (210 + i))])) = _
    rw [rr_n (f := u) (v := z) (show 1 + i ≠ 36 + i by omega), rr_n (f := u) (v := z) (show 31 + i ≠ 36 + i by omega), rr_eq (f := u) (v := z) (show 36 + i = 36 + i from rfl), rr_n (f := u) (v := z) (show 210 + i ≠ 36 + i by omega)]
    rfl
  have e2 := (k2 (upd u (36 + i) z) g (fun j hj1 hj2 => rwC_cong (if_neg (by omega)) (if_neg (by omega)) (if_neg (by omega)) (if_neg (by omega)) rfl rfl rfl)).1 rfl
  rw [e1] at e2
  rw [e2] at hP hD
  refine kk H1 locs1 ⟨_, ⟨nr, ns, nm, nn, mr, ms, mm, mb, cr, cs, cm, cb, fr, fs, fm, fb, g, ?_, hI.same (fun k h => if_neg (by omega)) (fun i hi j hj => by rw [hI.2.2.1 i hi j hj]; exact (if_neg (by omega)).symm)⟩, hP, hD, hS, hm.2.2.2⟩
  rw [rHD_cong (u := u) (v := upd u (36 + i) z) (fun k h => if_neg (by omega))]
theorem rp_lay {z i : Int32} (hg : alg (u 0) i = some ()) (hX : CallFix p m c cc nL s args lw_all RX9) (hK : va_K D vwA (cT cA) s) (hH : RHG (RWP cA ra x0 tp size tape fw lo ta ba v_at v_begin v_token v_value v_open v_fault v_place u nb bo) D A H0 H locs) (hNW : NW s) (hdg : decode cc pc = .ok (.putfield 189, 3)) (kk : ∀ (H1 : Heap) (locs1 : List Loc), RHG (RWP cA ra x0 tp size tape fw lo ta ba v_at v_begin v_token v_value v_open v_fault v_place (upd u (210 + i.toNatClampNeg) z) nb bo) D A H0 H1 locs1 → W p l e R s m args below meth c H1 locs1 cells slots Q (F0 m (pc + 3) ls rest)) : W p l e R s m args below meth c H locs cells slots Q (F0 m pc ls (.int z :: .ref (ta (10 + i.toNatClampNeg)) :: rest)) := by
  obtain ⟨w, ⟨nr, ns, nm, nn, mr, ms, mm, mb, cr, cs, cm, cb, fr, fs, fm, fb, g, rfl, hI⟩, hm⟩ := hH
  have h5 := hI.1.2.2.2.2.1
  have hi := alg_lt hg
  rw [hI.1.1, nI_clamp (by omega)] at hi
  generalize i.toNatClampNeg = i at *
  obtain ⟨q0, q1, k0, k1, k2⟩ := rr_row (cA := cA) (ta := ta) (u := u) (g := g) (rHD cA ra x0 size ta ba v_at v_begin v_token v_value v_open v_fault v_place u nb mr ms mm mb cr cs cm cb fr fs fm fb) (lo ++ fw) hi
  refine va_putN (C := RX10) (T := TX10) (N := 5) (ty := .int) hX.1 hX.2.1 hX.2.2.2.2 in_X10 tyX10 tyX10_ok nmX10 hX.2.2.2.1 hK hm.1 hm.2.1 hm.2.2.1 q0 k0 rfl 4 (by decide) (va_Nw.use rfl (hNW _ nw_q702)) (fun _ h9 => h9) rfl (by decide +kernel) rfl rfl (Nat.le_of_ble_eq_true rfl) hdg (fun H1 locs1 hP hD hS => ?_)
  have e1 : rwX ta (upd u (210 + i) z) i = (ta (10 + i), .inr (10, [.int (u (1 + i)), .ref (ta (20 + i)), .int (u (31 + i)), .int (u (36 + i)), .int (u (210 + i))].set 4 (.int z))) := by
    unfold rwX
    show (ta (10 + i), Sum.inr (10, [Value.int (upd u (210 + i) z (1 + i)), .ref (ta (20 + i)), .int (upd u (210 + i) z (31 + i)), .int (upd u (210 + i) z (36 + i)), .int (upd u (210 + i) z (210 + i))])) = _
    rw [rr_n (f := u) (v := z) (show 1 + i ≠ 210 + i by omega), rr_n (f := u) (v := z) (show 31 + i ≠ 210 + i by omega), rr_n (f := u) (v := z) (show 36 + i ≠ 210 + i by omega), rr_eq (f := u) (v := z) (show 210 + i = 210 + i from rfl)]
    rfl
  have e2 := (k2 (upd u (210 + i) z) g (fun j hj1 hj2 => rwC_cong (if_neg (by omega)) (if_neg (by omega)) (if_neg (by omega)) (if_neg (by omega)) rfl rfl rfl)).1 rfl
  rw [e1] at e2
  rw [e2] at hP hD
  refine kk H1 locs1 ⟨_, ⟨nr, ns, nm, nn, mr, ms, mm, mb, cr, cs, cm, cb, fr, fs, fm, fb, g, ?_, hI.same (fun k h => if_neg (by omega)) (fun i hi j hj => by rw [hI.2.2.1 i hi j hj]; exact (if_neg (by omega)).symm)⟩, hP, hD, hS, hm.2.2.2⟩
  rw [rHD_cong (u := u) (v := upd u (210 + i) z) (fun k h => if_neg (by omega))]
theorem rs_wish {i j z : Int32} {v : Nat → Int32} (hg : alg (u 0) i = some ()) (hX : CallFix p m c cc nL s args lw_all RX9) (hK : va_K D vwA (cT cA) s) (hH : RHG (RWP cA ra x0 tp size tape fw lo ta ba v_at v_begin v_token v_value v_open v_fault v_place u nb bo) D A H0 H locs) (he : wrW u i j z = some v) (hdg : decode cc pc = .ok (.iastore, 1)) (kk : ∀ (H1 : Heap) (locs1 : List Loc), RHG (RWP cA ra x0 tp size tape fw lo ta ba v_at v_begin v_token v_value v_open v_fault v_place v nb bo) D A H0 H1 locs1 → W p l e R s m args below meth c H1 locs1 cells slots Q (F0 m (pc + 1) ls rest)) : W p l e R s m args below meth c H locs cells slots Q (F0 m pc ls (.int z :: .int j :: .ref (ta (20 + i.toNatClampNeg)) :: rest)) := by
  obtain ⟨w, ⟨nr, ns, nm, nn, mr, ms, mm, mb, cr, cs, cm, cb, fr, fs, fm, fb, g, rfl, hI⟩, hm⟩ := hH
  have h5 := hI.1.2.2.2.2.1
  have hi := alg_lt hg
  have hj3 := wrW_in he
  have ev := wrW_eq he
  rw [hI.1.1, nI_clamp (by omega)] at hi
  generalize i.toNatClampNeg = i at *
  have hj4 : j.toNatClampNeg < 3 := Nat.not_le.mp fun q => hj3 (Or.inr q)
  obtain ⟨q0, q1, k0, k1, k2⟩ := rr_row (cA := cA) (ta := ta) (u := u) (g := g) (rHD cA ra x0 size ta ba v_at v_begin v_token v_value v_open v_fault v_place u nb mr ms mm mb cr cs cm cb fr fs fm fb) (lo ++ fw) hi
  refine va_iast hX.1 hX.2.1 hK hm.1 hm.2.1 hm.2.2.1 q1 29 k1 rfl hj3 hdg (fun H1 locs1 hP hD hS => ?_)
  generalize j.toNatClampNeg = j at *
  subst ev
  have e2 := (k2 (upd u (41 + 3 * i + j) z) (fun a => if a = i then upd (g i) j z else g a) (fun a ha1 ha2 => rwC_cong (if_neg (by omega)) (if_neg (by omega)) (if_neg (by omega)) (if_neg (by omega)) (if_neg ha2) rfl rfl)).2 (by unfold rwX; rw [rr_n (f := u) (v := z) (show 1 + i ≠ 41 + 3 * i + j by omega), rr_n (f := u) (v := z) (show 31 + i ≠ 41 + 3 * i + j by omega), rr_n (f := u) (v := z) (show 36 + i ≠ 41 + 3 * i + j by omega), rr_n (f := u) (v := z) (show 210 + i ≠ 41 + 3 * i + j by omega)])
  have e1 : rwY cA ta (fun a => if a = i then upd (g i) j z else g a) i = (ta (20 + i), .inl (cA 45, 3, .inl (upd (g i) j z))) := by
    show (ta (20 + i), Sum.inl (cA 45, 3, Sum.inl (if i = i then upd (g i) j z else g i))) = _
    rw [if_pos rfl]
  rw [e1] at e2
  rw [e2] at hP hD
  refine kk H1 locs1 ⟨_, ⟨nr, ns, nm, nn, mr, ms, mm, mb, cr, cs, cm, cb, fr, fs, fm, fb, fun a => if a = i then upd (g i) j z else g a, ?_, hI.same (fun k h => if_neg (by omega)) (fun a ha b hb => ?_)⟩, hP, hD, hS, hm.2.2.2⟩
  · rw [rHD_cong (u := u) (v := upd u (41 + 3 * i + j) z) (fun k h => if_neg (by omega))]
  · show (if a = i then upd (g i) j z else g a) b = upd u (41 + 3 * i + j) z (41 + 3 * a + b)
    have h0 := hI.2.2.1 a ha b hb
    by_cases c : a = i
    · subst c
      rw [if_pos rfl]
      by_cases c2 : b = j
      · rw [rr_eq c2, rr_eq (by omega)]
      · rw [rr_n c2, rr_n (by omega), h0]
    · rw [if_neg c, rr_n (by omega), h0]
end RB