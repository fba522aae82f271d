set_option maxRecDepth 100000
/-! two values, side by side -/
def R2 {α β : Type} (F : Option α) (G : Option β) (P : α → β → Prop) : Prop := ∃ x y, F = some x ∧ G = some y ∧ P x y
theorem R2.ret {α β : Type} {x : α} {y : β} {P : α → β → Prop} (h : P x y) : R2 (some x) (some y) P := ⟨x, y, rfl, rfl, h⟩
theorem R2.lt {α β : Type} {c : Prop} [Decidable c] {A B : Option α} {G : Option β} {P : α → β → Prop} (h : c) (h2 : R2 A G P) : R2 (if c then A else B) G P := by rw [if_pos h]; exact h2
theorem R2.lf {α β : Type} {c : Prop} [Decidable c] {A B : Option α} {G : Option β} {P : α → β → Prop} (h : ¬ c) (h2 : R2 B G P) : R2 (if c then A else B) G P := by rw [if_neg h]; exact h2
theorem R2.rt {α β : Type} {c : Prop} [Decidable c] {A B : Option β} {G : Option α} {P : α → β → Prop} (h : c) (h2 : R2 G A P) : R2 G (if c then A else B) P := by rw [if_pos h]; exact h2
theorem R2.rf {α β : Type} {c : Prop} [Decidable c] {A B : Option β} {G : Option α} {P : α → β → Prop} (h : ¬ c) (h2 : R2 G B P) : R2 G (if c then A else B) P := by rw [if_neg h]; exact h2
theorem R2.l0 {γ β : Type} {o : Option Unit} {k : Option γ} {G : Option β} {P : γ → β → Prop} (h : o = some ()) (h2 : R2 k G P) : R2 (bd0 o k) G P := by rw [h]; exact h2
theorem R2.mono {α β : Type} {F : Option α} {G : Option β} {P Q : α → β → Prop} (h : R2 F G P) (h2 : ∀ x y, P x y → Q x y) : R2 F G Q := by
  obtain ⟨x, y, e1, e2, h3⟩ := h
  exact ⟨x, y, e1, e2, h2 x y h3⟩
theorem R2.l1 {a1 γ β : Type} {o : Option (a1)} {k : a1 → Option γ} {G : Option β} {P : γ → β → Prop} {z : a1} (h : o = some z) (h2 : R2 (k z) G P) : R2 (bd1 o k) G P := by rw [h]; exact h2
theorem R2.r1 {a1 γ β : Type} {o : Option (a1)} {k : a1 → Option γ} {G : Option β} {P : β → γ → Prop} {z : a1} (h : o = some z) (h2 : R2 G (k z) P) : R2 G (bd1 o k) P := by rw [h]; exact h2
theorem R2.l2 {a1 a2 γ β : Type} {o : Option (a1 × a2)} {k : a1 → a2 → Option γ} {G : Option β} {P : γ → β → Prop} {z : a1 × a2} (h : o = some z) (h2 : R2 (k z.1 z.2) G P) : R2 (bd2 o k) G P := by rw [h]; exact h2
theorem R2.r2 {a1 a2 γ β : Type} {o : Option (a1 × a2)} {k : a1 → a2 → Option γ} {G : Option β} {P : β → γ → Prop} {z : a1 × a2} (h : o = some z) (h2 : R2 G (k z.1 z.2) P) : R2 G (bd2 o k) P := by rw [h]; exact h2
theorem R2.l3 {a1 a2 a3 γ β : Type} {o : Option (a1 × a2 × a3)} {k : a1 → a2 → a3 → Option γ} {G : Option β} {P : γ → β → Prop} {z : a1 × a2 × a3} (h : o = some z) (h2 : R2 (k z.1 z.2.1 z.2.2) G P) : R2 (bd3 o k) G P := by rw [h]; exact h2
theorem R2.r3 {a1 a2 a3 γ β : Type} {o : Option (a1 × a2 × a3)} {k : a1 → a2 → a3 → Option γ} {G : Option β} {P : β → γ → Prop} {z : a1 × a2 × a3} (h : o = some z) (h2 : R2 G (k z.1 z.2.1 z.2.2) P) : R2 G (bd3 o k) P := by rw [h]; exact h2
theorem R2.l4 {a1 a2 a3 a4 γ β : Type} {o : Option (a1 × a2 × a3 × a4)} {k : a1 → a2 → a3 → a4 → Option γ} {G : Option β} {P : γ → β → Prop} {z : a1 × a2 × a3 × a4} (h : o = some z) (h2 : R2 (k z.1 z.2.1 z.2.2.1 z.2.2.2) G P) : R2 (bd4 o k) G P := by rw [h]; exact h2
theorem R2.r4 {a1 a2 a3 a4 γ β : Type} {o : Option (a1 × a2 × a3 × a4)} {k : a1 → a2 → a3 → a4 → Option γ} {G : Option β} {P : β → γ → Prop} {z : a1 × a2 × a3 × a4} (h : o = some z) (h2 : R2 G (k z.1 z.2.1 z.2.2.1 z.2.2.2) P) : R2 G (bd4 o k) P := by rw [h]; exact h2
theorem R2.l5 {a1 a2 a3 a4 a5 γ β : Type} {o : Option (a1 × a2 × a3 × a4 × a5)} {k : a1 → a2 → a3 → a4 → a5 → Option γ} {G : Option β} {P : γ → β → Prop} {z : a1 × a2 × a3 × a4 × a5} (h : o = some z) (h2 : R2 (k z.1 z.2.1 z.2.2.1 z.2.2.2.1 z.2.2.2.2) G P) : R2 (bd5 o k) G P := by rw [h]; exact h2
theorem R2.r5 {a1 a2 a3 a4 a5 γ β : Type} {o : Option (a1 × a2 × a3 × a4 × a5)} {k : a1 → a2 → a3 → a4 → a5 → Option γ} {G : Option β} {P : β → γ → Prop} {z : a1 × a2 × a3 × a4 × a5} (h : o = some z) (h2 : R2 G (k z.1 z.2.1 z.2.2.1 z.2.2.2.1 z.2.2.2.2) P) : R2 G (bd5 o k) P := by rw [h]; exact h2
theorem R2.l6 {a1 a2 a3 a4 a5 a6 γ β : Type} {o : Option (a1 × a2 × a3 × a4 × a5 × a6)} {k : a1 → a2 → a3 → a4 → a5 → a6 → Option γ} {G : Option β} {P : γ → β → Prop} {z : a1 × a2 × a3 × a4 × a5 × a6} (h : o = some z) (h2 : R2 (k z.1 z.2.1 z.2.2.1 z.2.2.2.1 z.2.2.2.2.1 z.2.2.2.2.2) G P) : R2 (bd6 o k) G P := by rw [h]; exact h2
theorem R2.r6 {a1 a2 a3 a4 a5 a6 γ β : Type} {o : Option (a1 × a2 × a3 × a4 × a5 × a6)} {k : a1 → a2 → a3 → a4 → a5 → a6 → Option γ} {G : Option β} {P : β → γ → Prop} {z : a1 × a2 × a3 × a4 × a5 × a6} (h : o = some z) (h2 : R2 G (k z.1 z.2.1 z.2.2.1 z.2.2.2.1 z.2.2.2.2.1 z.2.2.2.2.2) P) : R2 G (bd6 o k) P := by rw [h]; exact h2
theorem R2.l7 {a1 a2 a3 a4 a5 a6 a7 γ β : Type} {o : Option (a1 × a2 × a3 × a4 × a5 × a6 × a7)} {k : a1 → a2 → a3 → a4 → a5 → a6 → a7 → Option γ} {G : Option β} {P : γ → β → Prop} {z : a1 × a2 × a3 × a4 × a5 × a6 × a7} (h : o = some z) (h2 : R2 (k z.1 z.2.1 z.2.2.1 z.2.2.2.1 z.2.2.2.2.1 z.2.2.2.2.2.1 z.2.2.2.2.2.2) G P) : R2 (bd7 o k) G P := by rw [h]; exact h2
theorem R2.r7 {a1 a2 a3 a4 a5 a6 a7 γ β : Type} {o : Option (a1 × a2 × a3 × a4 × a5 × a6 × a7)} {k : a1 → a2 → a3 → a4 → a5 → a6 → a7 → Option γ} {G : Option β} {P : β → γ → Prop} {z : a1 × a2 × a3 × a4 × a5 × a6 × a7} (h : o = some z) (h2 : R2 G (k z.1 z.2.1 z.2.2.1 z.2.2.2.1 z.2.2.2.2.1 z.2.2.2.2.2.1 z.2.2.2.2.2.2) P) : R2 G (bd7 o k) P := by rw [h]; exact h2
theorem R2.l8 {a1 a2 a3 a4 a5 a6 a7 a8 γ β : Type} {o : Option (a1 × a2 × a3 × a4 × a5 × a6 × a7 × a8)} {k : a1 → a2 → a3 → a4 → a5 → a6 → a7 → a8 → Option γ} {G : Option β} {P : γ → β → Prop} {z : a1 × a2 × a3 × a4 × a5 × a6 × a7 × a8} (h : o = some z) (h2 : R2 (k z.1 z.2.1 z.2.2.1 z.2.2.2.1 z.2.2.2.2.1 z.2.2.2.2.2.1 z.2.2.2.2.2.2.1 z.2.2.2.2.2.2.2) G P) : R2 (bd8 o k) G P := by rw [h]; exact h2
theorem R2.r8 {a1 a2 a3 a4 a5 a6 a7 a8 γ β : Type} {o : Option (a1 × a2 × a3 × a4 × a5 × a6 × a7 × a8)} {k : a1 → a2 → a3 → a4 → a5 → a6 → a7 → a8 → Option γ} {G : Option β} {P : β → γ → Prop} {z : a1 × a2 × a3 × a4 × a5 × a6 × a7 × a8} (h : o = some z) (h2 : R2 G (k z.1 z.2.1 z.2.2.1 z.2.2.2.1 z.2.2.2.2.1 z.2.2.2.2.2.1 z.2.2.2.2.2.2.1 z.2.2.2.2.2.2.2) P) : R2 G (bd8 o k) P := by rw [h]; exact h2
theorem R2.l9 {a1 a2 a3 a4 a5 a6 a7 a8 a9 γ β : Type} {o : Option (a1 × a2 × a3 × a4 × a5 × a6 × a7 × a8 × a9)} {k : a1 → a2 → a3 → a4 → a5 → a6 → a7 → a8 → a9 → Option γ} {G : Option β} {P : γ → β → Prop} {z : a1 × a2 × a3 × a4 × a5 × a6 × a7 × a8 × a9} (h : o = some z) (h2 : R2 (k z.1 z.2.1 z.2.2.1 z.2.2.2.1 z.2.2.2.2.1 z.2.2.2.2.2.1 z.2.2.2.2.2.2.1 z.2.2.2.2.2.2.2.1 z.2.2.2.2.2.2.2.2) G P) : R2 (bd9 o k) G P := by rw [h]; exact h2
theorem R2.r9 {a1 a2 a3 a4 a5 a6 a7 a8 a9 γ β : Type} {o : Option (a1 × a2 × a3 × a4 × a5 × a6 × a7 × a8 × a9)} {k : a1 → a2 → a3 → a4 → a5 → a6 → a7 → a8 → a9 → Option γ} {G : Option β} {P : β → γ → Prop} {z : a1 × a2 × a3 × a4 × a5 × a6 × a7 × a8 × a9} (h : o = some z) (h2 : R2 G (k z.1 z.2.1 z.2.2.1 z.2.2.2.1 z.2.2.2.2.1 z.2.2.2.2.2.1 z.2.2.2.2.2.2.1 z.2.2.2.2.2.2.2.1 z.2.2.2.2.2.2.2.2) P) : R2 G (bd9 o k) P := by rw [h]; exact h2
theorem R2.l10 {a1 a2 a3 a4 a5 a6 a7 a8 a9 a10 γ β : Type} {o : Option (a1 × a2 × a3 × a4 × a5 × a6 × a7 × a8 × a9 × a10)} {k : a1 → a2 → a3 → a4 → a5 → a6 → a7 → a8 → a9 → a10 → Option γ} {G : Option β} {P : γ → β → Prop} {z : a1 × a2 × a3 × a4 × a5 × a6 × a7 × a8 × a9 × a10} (h : o = some z) (h2 : R2 (k z.1 z.2.1 z.2.2.1 z.2.2.2.1 z.2.2.2.2.1 z.2.2.2.2.2.1 z.2.2.2.2.2.2.1 z.2.2.2.2.2.2.2.1 z.2.2.2.2.2.2.2.2.1 z.2.2.2.2.2.2.2.2.2) G P) : R2 (bd10 o k) G P := by rw [h]; exact h2
theorem R2.r10 {a1 a2 a3 a4 a5 a6 a7 a8 a9 a10 γ β : Type} {o : Option (a1 × a2 × a3 × a4 × a5 × a6 × a7 × a8 × a9 × a10)} {k : a1 → a2 → a3 → a4 → a5 → a6 → a7 → a8 → a9 → a10 → Option γ} {G : Option β} {P : β → γ → Prop} {z : a1 × a2 × a3 × a4 × a5 × a6 × a7 × a8 × a9 × a10} (h : o = some z) (h2 : R2 G (k z.1 z.2.1 z.2.2.1 z.2.2.2.1 z.2.2.2.2.1 z.2.2.2.2.2.1 z.2.2.2.2.2.2.1 z.2.2.2.2.2.2.2.1 z.2.2.2.2.2.2.2.2.1 z.2.2.2.2.2.2.2.2.2) P) : R2 G (bd10 o k) P := by rw [h]; exact h2
theorem bd1_t {a1 γ : Type} {k : a1 → Option γ} {z : a1} : bd1 (some z) k = k z := rfl
theorem bd2_t {a1 a2 γ : Type} {k : a1 → a2 → Option γ} {z : a1 × a2} : bd2 (some z) k = k z.1 z.2 := rfl
theorem bd3_t {a1 a2 a3 γ : Type} {k : a1 → a2 → a3 → Option γ} {z : a1 × a2 × a3} : bd3 (some z) k = k z.1 z.2.1 z.2.2 := rfl
theorem bd4_t {a1 a2 a3 a4 γ : Type} {k : a1 → a2 → a3 → a4 → Option γ} {z : a1 × a2 × a3 × a4} : bd4 (some z) k = k z.1 z.2.1 z.2.2.1 z.2.2.2 := rfl
theorem bd5_t {a1 a2 a3 a4 a5 γ : Type} {k : a1 → a2 → a3 → a4 → a5 → Option γ} {z : a1 × a2 × a3 × a4 × a5} : bd5 (some z) k = k z.1 z.2.1 z.2.2.1 z.2.2.2.1 z.2.2.2.2 := rfl
theorem bd6_t {a1 a2 a3 a4 a5 a6 γ : Type} {k : a1 → a2 → a3 → a4 → a5 → a6 → Option γ} {z : a1 × a2 × a3 × a4 × a5 × a6} : bd6 (some z) k = k z.1 z.2.1 z.2.2.1 z.2.2.2.1 z.2.2.2.2.1 z.2.2.2.2.2 := rfl
theorem bd7_t {a1 a2 a3 a4 a5 a6 a7 γ : Type} {k : a1 → a2 → a3 → a4 → a5 → a6 → a7 → Option γ} {z : a1 × a2 × a3 × a4 × a5 × a6 × a7} : bd7 (some z) k = k z.1 z.2.1 z.2.2.1 z.2.2.2.1 z.2.2.2.2.1 z.2.2.2.2.2.1 z.2.2.2.2.2.2 := rfl
theorem bd8_t {a1 a2 a3 a4 a5 a6 a7 a8 γ : Type} {k : a1 → a2 → a3 → a4 → a5 → a6 → a7 → a8 → Option γ} {z : a1 × a2 × a3 × a4 × a5 × a6 × a7 × a8} : bd8 (some z) k = k z.1 z.2.1 z.2.2.1 z.2.2.2.1 z.2.2.2.2.1 z.2.2.2.2.2.1 z.2.2.2.2.2.2.1 z.2.2.2.2.2.2.2 := rfl
theorem bd9_t {a1 a2 a3 a4 a5 a6 a7 a8 a9 γ : Type} {k : a1 → a2 → a3 → a4 → a5 → a6 → a7 → a8 → a9 → Option γ} {z : a1 × a2 × a3 × a4 × a5 × a6 × a7 × a8 × a9} : bd9 (some z) k = k z.1 z.2.1 z.2.2.1 z.2.2.2.1 z.2.2.2.2.1 z.2.2.2.2.2.1 z.2.2.2.2.2.2.1 z.2.2.2.2.2.2.2.1 z.2.2.2.2.2.2.2.2 := rfl
theorem bd10_t {a1 a2 a3 a4 a5 a6 a7 a8 a9 a10 γ : Type} {k : a1 → a2 → a3 → a4 → a5 → a6 → a7 → a8 → a9 → a10 → Option γ} {z : a1 × a2 × a3 × a4 × a5 × a6 × a7 × a8 × a9 × a10} : bd10 (some z) k = k z.1 z.2.1 z.2.2.1 z.2.2.2.1 z.2.2.2.2.1 z.2.2.2.2.2.1 z.2.2.2.2.2.2.1 z.2.2.2.2.2.2.2.1 z.2.2.2.2.2.2.2.2.1 z.2.2.2.2.2.2.2.2.2 := rfl
abbrev S6 : Type := Int32 × Int32 × Int32 × Int32 × Int32 × Int32
/-- both readers at the same word, no fault yet -/
def OK6 (n : Nat) (a0 : Nat → Int32) (s z : S6) (a b j : Nat) : Prop := ∃ x y w, s = (nI b, nI a, tkT j, x, 0, nM) ∧ z = (nI a, nI b, nI j, y, 0, w) ∧ TKp n a0 a b j x y
/-- both with the same fault -/
def BD6 (s z : S6) : Prop := ∃ f, (1 ≤ f ∧ f ≤ 5) ∧ s.2.2.2.2.1 = nI f ∧ z.2.2.2.2.1 = nI f ∧ s.2.2.2.2.2 = z.2.2.2.2.2
/-- one of the two; m bytes are behind -/
def RL (n : Nat) (a0 : Nat → Int32) (m : Nat) (s z : S6) : Prop := (∃ a b j, m ≤ a ∧ OK6 n a0 s z a b j) ∨ BD6 s z
theorem RL.mono {n : Nat} {a0 : Nat → Int32} {m m' : Nat} {s z : S6} (h : RL n a0 m s z) (hm : m' ≤ m) : RL n a0 m' s z := by
  rcases h with ⟨a, b, j, h1, h2⟩ | h
  · exact Or.inl ⟨a, b, j, Nat.le_trans hm h1, h2⟩
  · exact Or.inr h
theorem OK6.rl {n : Nat} {a0 : Nat → Int32} {m a b j : Nat} {s z : S6} (h : OK6 n a0 s z a b j) (hm : m ≤ a) : RL n a0 m s z := Or.inl ⟨a, b, j, hm, h⟩
theorem b2f : b2i false = 0 := rfl
theorem b2t : ¬ b2i true = 0 := by decide
theorem nz_f {f : Nat} (h : 1 ≤ f ∧ f ≤ 5) : ¬ nI f = 0 := by rw [show (0 : Int32) = nI 0 from rfl, eq_f (by omega) (by omega) (by omega)]; exact id
theorem RL.bad {n : Nat} {a0 : Nat → Int32} {m : Nat} {s z : S6} (h : RL n a0 m s z) (hf : ¬ s.2.2.2.2.1 = 0) : BD6 s z := by
  rcases h with ⟨a, b, j, h1, x, y, w, rfl, rfl, h2⟩ | h
  · exact absurd rfl hf
  · exact h
theorem RL.ok {n : Nat} {a0 : Nat → Int32} {m : Nat} {s z : S6} (h : RL n a0 m s z) (hf : s.2.2.2.2.1 = 0) : ∃ a b j, m ≤ a ∧ OK6 n a0 s z a b j := by
  rcases h with h | ⟨f, h1, h2, h3⟩
  · exact h
  · exact absurd (h2.symm.trans hf) (nz_f h1)
section P77
variable {n : Nat} {a0 a8 : Nat → Int32} {m : Nat} {s z : S6}
theorem wr_ok {a j p : Nat} {q : Int32} (hj : j < 31) : FX9_wrong (nI a) (tkT j) 0 q (nI p) = some (nI (if j = 30 then 1 else p), nI a) := by
  unfold FX9_wrong FX9_wrong_j22
  rw [if_pos rfl]
  by_cases c : j = 30
  · rw [if_pos (((tk_eq j hj).2.2.2.2.2.2).mpr c), if_pos c]
    rfl
  · rw [if_neg (fun h => c (((tk_eq j hj).2.2.2.2.2.2).mp h)), if_neg c]
theorem fl_ok {a j p : Nat} {q : Int32} (hj : j < 31) : FX8_fails (nI a) (nI j) 0 q (nI p) = some (nI (if j = 30 then 1 else p), nI a) := by
  unfold FX8_fails FX8_fails_j23
  rw [if_pos rfl]
  by_cases c : j = 30
  · rw [if_pos (by rw [c]; rfl), if_pos c]
    rfl
  · rw [if_neg (by rw [show (30 : Int32) = nI 30 from rfl, eq_f c (by omega) (by omega)]; exact id), if_neg c]
theorem wr_bad {f : Nat} (hf : 1 ≤ f ∧ f ≤ 5) {a t q p : Int32} : FX9_wrong a t (nI f) q p = some (nI f, q) := by
  unfold FX9_wrong
  rw [if_neg (nz_f hf)]
theorem fl_bad {f : Nat} (hf : 1 ≤ f ∧ f ≤ 5) {a t q p : Int32} : FX8_fails a t (nI f) q p = some (nI f, q) := by
  unfold FX8_fails
  rw [if_neg (nz_f hf)]
theorem fk {j p : Nat} (h1 : 1 ≤ p) (h5 : p ≤ 5) : 1 ≤ (if j = 30 then 1 else p) ∧ (if j = 30 then 1 else p) ≤ 5 := by split <;> omega
theorem L_wrong (h : RL n a0 m s z) {p : Nat} {pp : Int32} (hp : nI p = pp) (h1 : 1 ≤ p) (h5 : p ≤ 5) : ∃ u v : Int32 × Int32, FX9_wrong s.2.1 s.2.2.1 s.2.2.2.2.1 s.2.2.2.2.2 pp = some u ∧ FX8_fails z.1 z.2.2.1 z.2.2.2.2.1 z.2.2.2.2.2 pp = some v ∧ ∀ x1 x2 x3 x4 y1 y2 y3 y4, BD6 (x1, x2, x3, x4, u.1, u.2) (y1, y2, y3, y4, v.1, v.2) := by
  subst hp
  rcases h with ⟨a, b, j, hm, x, y, w, rfl, rfl, hk⟩ | ⟨f, hf, e1, e2, e3⟩
  · exact ⟨_, _, wr_ok hk.1.2.2.2.1, fl_ok hk.1.2.2.2.1, fun _ _ _ _ _ _ _ _ => ⟨_, fk h1 h5, rfl, rfl, rfl⟩⟩
  · rw [e1, e2]
    exact ⟨_, _, wr_bad hf, fl_bad hf, fun _ _ _ _ _ _ _ _ => ⟨f, hf, rfl, rfl, e3⟩⟩
/-- the next word: what the fault and its place are is kept -/
def kept6 (s s' : S6) : Prop := s'.2.2.2.2.1 = s.2.2.2.2.1 ∧ s'.2.2.2.2.2 = s.2.2.2.2.2
theorem L_next (hT : TapeR a0 a8) (hn : n ≤ 400) {a b j : Nat} (h : OK6 n a0 s z a b j) : ∃ (s' z' : S6) (a' b' j' : Nat), FX9_next (nI n) a0 s.1 s.2.2.2.1 = some (s'.1, s'.2.1, s'.2.2.1, s'.2.2.2.1) ∧ FX8_next a8 z.2.1 (nI n) z.2.2.2.1 = some (z'.1, z'.2.1, z'.2.2.1, z'.2.2.2.1) ∧ kept6 s s' ∧ kept6 z z' ∧ b ≤ a' ∧ OK6 n a0 s' z' a' b' j' := by
  obtain ⟨x, y, w, rfl, rfl, hk⟩ := h
  obtain ⟨a', b', j', x', y', h1, h2, h3, h4⟩ := next_law hT hn hk.1.2.1 x y
  exact ⟨(nI b', nI a', tkT j', x', 0, nM), (nI a', nI b', nI j', y', 0, w), a', b', j', h2, h3, ⟨rfl, rfl⟩, ⟨rfl, rfl⟩, h1, x', y', w, rfl, rfl, h4⟩
theorem is8 {j k : Nat} (hj : j < 31) (hk : k < 31) : FX8_is (nI j) 0 (nI k) = some (decide (j = k)) := by
  unfold FX8_is
  rw [if_pos rfl]
  by_cases c : j = k
  · rw [if_pos (congrArg nI c), decide_eq_true c]
  · rw [if_neg (by rw [eq_f c (by omega) (by omega)]; exact id), decide_eq_false c]
theorem is8_bad {f : Nat} (hf : 1 ≤ f ∧ f ≤ 5) {a k : Int32} : FX8_is a (nI f) k = some false := by
  unfold FX8_is
  rw [if_neg (nz_f hf)]
theorem is9_bad {f : Nat} (hf : 1 ≤ f ∧ f ≤ 5) {q : Nat} {kb : Nat → Int32} {a b t : Int32} : FX9_is (nI n) a0 q kb a b t (nI f) = some false := by
  unfold FX9_is
  rw [if_neg (nz_f hf)]
theorem L_is {k q : Nat} {kb : Nat → Int32} {kk : Int32} (hq : kl k = q) (hb : kbT k = kb) (hkk : nI k = kk) (hk : k < 24) (h : RL n a0 m s z) : ∃ c, FX9_is (nI n) a0 q kb s.1 s.2.1 s.2.2.1 s.2.2.2.2.1 = some c ∧ FX8_is z.2.2.1 z.2.2.2.2.1 kk = some c ∧ (c = true → ∃ a b, m ≤ a ∧ OK6 n a0 s z a b k) ∧ (c = false → ∀ a b j, OK6 n a0 s z a b j → j ≠ k) := by
  subst hq hb hkk
  rcases h with ⟨a, b, j, hm, x, y, w, rfl, rfl, hK⟩ | ⟨f, hf, e1, e2, e3⟩
  · refine ⟨_, hK.2.2 k hk, is8 hK.1.2.2.2.1 (by omega), fun h => ?_, fun h a' b' j' h2 => ?_⟩
    · have := of_decide_eq_true h
      subst this
      exact ⟨a, b, hm, x, y, w, rfl, rfl, hK⟩
    · obtain ⟨x', y', w', e1, e2, h3⟩ := h2
      have hj : nI j = nI j' := congrArg (fun (q : S6) => q.2.2.1) e2
      have : j = j' := by
        by_cases c : j = j'
        · exact c
        · have h4 := h3.1.2.2.2.1
          have h5 := hK.1.2.2.2.1
          rw [eq_f c (by omega) (by omega)] at hj
          exact hj.elim
      rw [← this]
      exact of_decide_eq_false h
  · rw [e1, e2]
    refine ⟨false, is9_bad hf, is8_bad hf, fun h => (Bool.false_ne_true h).elim, fun _ a b j h2 => ?_⟩
    obtain ⟨x, y, w, rfl, rfl, h3⟩ := h2
    exact absurd e1.symm (nz_f hf)
theorem L_takes (hT : TapeR a0 a8) (hn : n ≤ 400) {k q : Nat} {kb : Nat → Int32} {kk : Int32} (hq : kl k = q) (hb : kbT k = kb) (hkk : nI k = kk) (hk : k < 24) (h : RL n a0 m s z) : ∃ (c : Bool) (s' z' : S6), FX9_takes (nI n) a0 q kb s.1 s.2.1 s.2.2.1 s.2.2.2.1 s.2.2.2.2.1 = some (c, s'.1, s'.2.1, s'.2.2.1, s'.2.2.2.1) ∧ FX8_eats a8 z.1 z.2.1 (nI n) z.2.2.1 z.2.2.2.1 z.2.2.2.2.1 kk = some (c, z'.1, z'.2.1, z'.2.2.1, z'.2.2.2.1) ∧ kept6 s s' ∧ kept6 z z' ∧ RL n a0 (if c = true then m + 2 else m) s' z' ∧ (c = true → ∃ a b j, m + 2 ≤ a ∧ OK6 n a0 s' z' a b j) ∧ (c = false → s' = s ∧ z' = z ∧ ∀ a b j, OK6 n a0 s z a b j → j ≠ k) := by
  obtain ⟨c, e9, e8, h1, h0⟩ := L_is hq hb hkk hk h
  unfold FX9_takes FX8_eats
  rw [e9, e8, bd1_s, bd1_s]
  cases c with
  | false => exact ⟨false, s, z, rfl, rfl, ⟨rfl, rfl⟩, ⟨rfl, rfl⟩, h, fun h => (Bool.false_ne_true h).elim, fun h => ⟨rfl, rfl, h0 h⟩⟩
  | true =>
    obtain ⟨a, b, hm, hO⟩ := h1 rfl
    obtain ⟨s', z', a', b', j', e1, e2, k1, k2, h2, h3⟩ := L_next hT hn hO
    have h4 : a + 2 ≤ b := by
      obtain ⟨x, y, w, -, -, hK⟩ := hO
      exact hK.1.2.2.2.2.2 hk
    rw [if_neg (by decide), if_neg (by decide), e1, e2]
    exact ⟨true, s', z', rfl, rfl, k1, k2, h3.rl (by show m + 2 ≤ a'; omega), fun _ => ⟨a', b', j', by omega, h3⟩, fun h => (Bool.false_ne_true h.symm).elim⟩
theorem L_need (hT : TapeR a0 a8) (hn : n ≤ 400) {k q : Nat} {kb : Nat → Int32} {kk : Int32} (hq : kl k = q) (hb : kbT k = kb) (hkk : nI k = kk) (hk : k < 24) (h : RL n a0 m s z) : ∃ s' z' : S6, FX9_need (nI n) a0 q kb s.1 s.2.1 s.2.2.1 s.2.2.2.1 s.2.2.2.2.1 s.2.2.2.2.2 = some s' ∧ FX8_needs a8 z.1 z.2.1 (nI n) z.2.2.1 z.2.2.2.1 z.2.2.2.2.1 z.2.2.2.2.2 kk = some z' ∧ RL n a0 (m + 2) s' z' ∧ (s'.2.2.2.2.1 = 0 → s.2.2.2.2.1 = 0) := by
  obtain ⟨c, s', z', e9, e8, k1, k2, h1, h2, h3⟩ := L_takes hT hn hq hb hkk hk h
  unfold FX9_need FX8_needs
  rw [e9, e8, bd5_s, bd5_s, ← k1.1, ← k1.2, ← k2.1, ← k2.2]
  cases c with
  | false =>
    rw [if_pos (by decide), if_pos (by decide)]
    obtain ⟨q, r, e1, e2, h4⟩ := L_wrong h1 (p := 2) (pp := 2) rfl (by omega) (by omega)
    rw [e1, e2]
    refine ⟨(s'.1, s'.2.1, s'.2.2.1, s'.2.2.2.1, q.1, q.2), (z'.1, z'.2.1, z'.2.2.1, z'.2.2.2.1, r.1, r.2), rfl, rfl, Or.inr (h4 _ _ _ _ _ _ _ _), fun h => ?_⟩
    obtain ⟨f, hf, e3, -⟩ := h4 0 0 0 0 0 0 0 0
    exact absurd (e3.symm.trans h) (nz_f hf)
  | true =>
    rw [if_neg (by decide), if_neg (by decide)]
    exact ⟨_, _, rfl, rfl, h1, fun h => h⟩
theorem tk_no {q : Nat} {kb : Nat → Int32} {b a t x f : Int32} (h : FX9_is (nI n) a0 q kb b a t f = some false) : FX9_takes (nI n) a0 q kb b a t x f = some (false, b, a, t, x) := by
  unfold FX9_takes
  rw [h, bd1_s, if_pos (by decide)]
theorem tk_yes {q : Nat} {kb : Nat → Int32} {b a t x f : Int32} (h : FX9_is (nI n) a0 q kb b a t f = some true) : FX9_takes (nI n) a0 q kb b a t x f = bd4 (FX9_next (nI n) a0 b x) fun x1 x2 x3 x4 => some (true, x1, x2, x3, x4) := by
  unfold FX9_takes
  rw [h, bd1_s, if_neg (by decide)]
theorem ea_no {a b sz k y w kk : Int32} (h : FX8_is k w kk = some false) : FX8_eats a8 a b sz k y w kk = some (false, a, b, k, y) := by
  unfold FX8_eats
  rw [h, bd1_s, if_pos (by decide)]
theorem ea_yes {a b sz k y w kk : Int32} (h : FX8_is k w kk = some true) : FX8_eats a8 a b sz k y w kk = bd4 (FX8_next a8 b sz y) fun x1 x2 x3 x4 => some (true, x1, x2, x3, x4) := by
  unfold FX8_eats
  rw [h, bd1_s, if_neg (by decide)]
/-! numbers -/
theorem seen_bad {f : Nat} (hf : 1 ≤ f ∧ f ≤ 5) {b t x q lo hi : Int32} : FX9_seen b t x (nI f) q lo hi = some (false, nI f, q) := by
  unfold FX9_seen FX9_seen_j20 FX9_seen_j47
  rw [if_neg (nz_f hf), if_neg (nz_f hf), if_neg (nz_f hf)]
theorem seen_in {b q lo hi : Int32} {v : Nat} {l h : Int} (hl : lo.toInt = l) (hh : hi.toInt = h) (hv : v < 1000) (h1 : l ≤ (v : Int)) (h2 : (v : Int) ≤ h) : FX9_seen b (tkT 25) (nI v) 0 q lo hi = some (true, 0, q) := by
  unfold FX9_seen FX9_seen_j20 FX9_seen_j47
  rw [if_pos rfl, if_pos (by decide), if_pos rfl, inL (a := l) (b := h) (by rw [w64, hl]) (by rw [w64, hh]), toN (by omega), decide_eq_true ⟨h1, h2⟩, bd1_s, if_neg (by decide), if_pos rfl]
theorem seen_out {a : Nat} {q lo hi : Int32} {v : Nat} {l h : Int} (hl : lo.toInt = l) (hh : hi.toInt = h) (hv : v < 1000) (h1 : ¬ (l ≤ (v : Int) ∧ (v : Int) ≤ h)) : FX9_seen (nI a) (tkT 25) (nI v) 0 q lo hi = some (false, nI 3, nI a) := by
  unfold FX9_seen FX9_seen_j20 FX9_seen_j47
  rw [if_pos rfl, if_pos (by decide), if_pos rfl, inL (a := l) (b := h) (by rw [w64, hl]) (by rw [w64, hh]), toN (by omega), decide_eq_false h1, bd1_s, if_pos (by decide), show (3 : Int32) = nI 3 from rfl, wr_ok (j := 25) (by omega), if_neg (by omega), bd2_s, if_neg (nz_f ⟨by omega, by omega⟩)]
theorem seen_no {a j : Nat} {q x lo hi : Int32} (hj : j < 31) (h25 : j ≠ 25) : FX9_seen (nI a) (tkT j) x 0 q lo hi = some (false, nI (if j = 30 then 1 else 2), nI a) := by
  unfold FX9_seen FX9_seen_j20 FX9_seen_j47
  rw [if_pos rfl, if_neg (fun h => h25 (((tk_eq j hj).2.1).mp h)), show (2 : Int32) = nI 2 from rfl, wr_ok hj, bd2_s, if_neg (nz_f (fk (by omega) (by omega))), if_neg (nz_f (fk (by omega) (by omega)))]
theorem reads_bad {f : Nat} (hf : 1 ≤ f ∧ f ≤ 5) {a b sz k y w lo hi : Int32} : FX8_reads a8 a b sz k y (nI f) w lo hi = some (y, a, b, k, y, nI f, w) := by
  unfold FX8_reads FX8_reads_j37
  rw [is8_bad hf, bd1_s, if_pos (by decide), fl_bad hf, bd2_s, if_neg (nz_f hf)]
theorem reads_in {a b sz w lo hi : Int32} {v : Nat} {l h : Int} (hl : lo.toInt = l) (hh : hi.toInt = h) (hv : v < 1000) (h1 : l ≤ (v : Int)) (h2 : (v : Int) ≤ h) : FX8_reads a8 a b sz (nI 25) (nI v) 0 w lo hi = bd4 (FX8_next a8 b sz (nI v)) fun x1 x2 x3 x4 => some (nI v, x1, x2, x3, x4, 0, w) := by
  unfold FX8_reads FX8_reads_j37
  rw [show (25 : Int32) = nI 25 from rfl, is8 (by omega) (by omega), bd1_s, if_neg (by decide), wiL (a := l) (b := h) (by rw [w64, hl]) (by rw [w64, hh]), toN (by omega), decide_eq_true ⟨h1, h2⟩, bd1_s, if_neg (by decide), if_pos rfl]
theorem reads_out {a : Nat} {b sz w lo hi : Int32} {v : Nat} {l h : Int} (hl : lo.toInt = l) (hh : hi.toInt = h) (hv : v < 1000) (h1 : ¬ (l ≤ (v : Int) ∧ (v : Int) ≤ h)) : FX8_reads a8 (nI a) b sz (nI 25) (nI v) 0 w lo hi = some (nI v, nI a, b, nI 25, nI v, nI 3, nI a) := by
  unfold FX8_reads FX8_reads_j37
  rw [show (25 : Int32) = nI 25 from rfl, is8 (by omega) (by omega), bd1_s, if_neg (by decide), wiL (a := l) (b := h) (by rw [w64, hl]) (by rw [w64, hh]), toN (by omega), decide_eq_false h1, bd1_s, if_pos (by decide), show (3 : Int32) = nI 3 from rfl, fl_ok (j := 25) (by omega), if_neg (by omega), bd2_s, if_neg (nz_f ⟨by omega, by omega⟩)]
theorem reads_no {a j : Nat} {b sz y w lo hi : Int32} (hj : j < 31) (h25 : j ≠ 25) : FX8_reads a8 (nI a) b sz (nI j) y 0 w lo hi = some (y, nI a, b, nI j, y, nI (if j = 30 then 1 else 2), nI a) := by
  unfold FX8_reads FX8_reads_j37
  rw [show (25 : Int32) = nI 25 from rfl, is8 hj (by omega), decide_eq_false h25, bd1_s, if_pos (by decide), show (2 : Int32) = nI 2 from rfl, fl_ok hj, bd2_s, if_neg (nz_f (fk (by omega) (by omega)))]
theorem L_number (hT : TapeR a0 a8) (hn : n ≤ 400) {lo hi : Int32} {l h : Int} (hl : lo.toInt = l) (hh : hi.toInt = h) (hR : RL n a0 m s z) : ∃ (x y : Int32) (s' z' : S6), FX9_number (nI n) a0 s.1 s.2.1 s.2.2.1 s.2.2.2.1 s.2.2.2.2.1 s.2.2.2.2.2 lo hi = some (x, s') ∧ FX8_reads a8 z.1 z.2.1 (nI n) z.2.2.1 z.2.2.2.1 z.2.2.2.2.1 z.2.2.2.2.2 lo hi = some (y, z') ∧ RL n a0 (m + 1) s' z' ∧ (s'.2.2.2.2.1 = 0 → s.2.2.2.2.1 = 0 ∧ x = s.2.2.2.1 ∧ ∃ v : Nat, x = nI v ∧ y = nI v ∧ l ≤ (v : Int) ∧ (v : Int) ≤ h ∧ v < 1000) := by
  unfold FX9_number
  rcases hR with ⟨a, b, j, hm, x, y, w, rfl, rfl, hK⟩ | ⟨f, hf, e1, e2, e3⟩
  · dsimp only
    by_cases c : j = 25
    · subst c
      obtain ⟨v, hv, rfl, rfl⟩ := hK.2.1 rfl
      by_cases c2 : l ≤ (v : Int) ∧ (v : Int) ≤ h
      · obtain ⟨a', b', j', x', y', h1, h2, h3, h4⟩ := next_law hT hn hK.1.2.1 (nI v) (nI v)
        have hab := hK.1.2.2.2.2.1 (by omega)
        rw [seen_in hl hh hv c2.1 c2.2, reads_in hl hh hv c2.1 c2.2, h3, bd3_s, if_neg (by decide), h2]
        exact ⟨nI v, nI v, _, _, rfl, rfl, Or.inl ⟨a', b', j', by omega, x', y', w, rfl, rfl, h4⟩, fun _ => ⟨rfl, rfl, v, rfl, rfl, c2.1, c2.2, hv⟩⟩
      · rw [seen_out hl hh hv c2, reads_out hl hh hv c2, bd3_s, if_pos (by decide)]
        exact ⟨_, _, _, _, rfl, rfl, Or.inr ⟨3, ⟨by omega, by omega⟩, rfl, rfl, rfl⟩, fun h => absurd h (nz_f ⟨by omega, by omega⟩)⟩
    · rw [seen_no hK.1.2.2.2.1 c, reads_no hK.1.2.2.2.1 c, bd3_s, if_pos (by decide)]
      exact ⟨_, _, _, _, rfl, rfl, Or.inr ⟨_, fk (p := 2) (by omega) (by omega), rfl, rfl, rfl⟩, fun h => absurd h (nz_f (fk (by omega) (by omega)))⟩
  · rw [e1, e2, seen_bad hf, reads_bad hf, bd3_s, if_pos (by decide)]
    exact ⟨_, _, _, _, rfl, rfl, Or.inr ⟨f, hf, rfl, rfl, e3⟩, fun h => absurd h (nz_f hf)⟩
/-! the end of a line -/
theorem L_over (hT : TapeR a0 a8) (hn : n ≤ 400) (hR : RL n a0 m s z) : ∃ s' z' : S6, FX9_over (nI n) a0 s.1 s.2.1 s.2.2.1 s.2.2.2.1 s.2.2.2.2.1 s.2.2.2.2.2 = some s' ∧ FX8_needs a8 z.1 z.2.1 (nI n) z.2.2.1 z.2.2.2.1 z.2.2.2.2.1 z.2.2.2.2.2 26 = some z' ∧ RL n a0 (m + 1) s' z' ∧ (s'.2.2.2.2.1 = 0 → s.2.2.2.2.1 = 0) := by
  unfold FX9_over FX9_over_j21 FX8_needs FX8_eats
  rcases hR with ⟨a, b, j, hm, x, y, w, rfl, rfl, hK⟩ | ⟨f, hf, e1, e2, e3⟩
  · dsimp only
    rw [show (26 : Int32) = nI 26 from rfl, is8 hK.1.2.2.2.1 (by omega), bd1_s, if_pos rfl]
    by_cases c : j = 26
    · subst c
      obtain ⟨a', b', j', x', y', h1, h2, h3, h4⟩ := next_law hT hn hK.1.2.1 x y
      have hab := hK.1.2.2.2.2.1 (by omega)
      rw [if_pos (by decide), if_pos rfl, h2, if_neg (by decide), h3]
      exact ⟨_, _, rfl, rfl, Or.inl ⟨a', b', j', by omega, x', y', w, rfl, rfl, h4⟩, fun h => h⟩
    · rw [if_neg (fun h => c (((tk_eq j hK.1.2.2.2.1).2.2.1).mp h)), show (2 : Int32) = nI 2 from rfl, wr_ok hK.1.2.2.2.1, bd2_s, if_neg (nz_f (fk (by omega) (by omega))), decide_eq_false c, if_pos b2f, bd5_s, if_pos b2f, fl_ok hK.1.2.2.2.1]
      exact ⟨_, _, rfl, rfl, Or.inr ⟨_, fk (p := 2) (by omega) (by omega), rfl, rfl, rfl⟩, fun _ => rfl⟩
  · rw [e1, e2, if_neg (nz_f hf), if_neg (nz_f hf), is8_bad hf, bd1_s, if_pos (by decide), bd5_s, if_pos (by decide), fl_bad hf]
    exact ⟨_, _, rfl, rfl, Or.inr ⟨f, hf, rfl, rfl, e3⟩, fun h => absurd h (nz_f hf)⟩
/-! the first word of a line, and whether there is room -/
theorem sp_full {a b j : Nat} {x q : Int32} (hj : j < 31) : FX9_space (nI n) a0 (nI b) (nI a) (tkT j) x 0 q 1 = some (nI b, nI a, tkT j, x, nI (if j = 30 then 1 else 4), nI a) := by
  unfold FX9_space FX9_space_j9
  rw [if_neg (by decide), show (4 : Int32) = nI 4 from rfl, wr_ok hj, bd2_s, if_neg (nz_f (fk (by omega) (by omega)))]
theorem sp_go {b a t x q : Int32} : FX9_space (nI n) a0 b a t x 0 q 0 = bd4 (FX9_next (nI n) a0 b x) fun x1 x2 x3 x4 => some (x1, x2, x3, x4, 0, q) := by
  unfold FX9_space FX9_space_j9
  rw [if_pos rfl, if_pos rfl]
end P77
