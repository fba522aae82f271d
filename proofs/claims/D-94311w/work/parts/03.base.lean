set_option maxRecDepth 100000
def bd0 {γ : Type} (o : Option Unit) (k : Option γ) : Option γ := o.bind fun _ => k
theorem bd0e {γ : Type} {o : Option Unit} {k : Option γ} {r : γ} (h : bd0 o k = some r) : o = some () ∧ k = some r := by
  cases o with
  | none => cases h
  | some x => exact ⟨rfl, h⟩
theorem bd0_s {γ : Type} {k : Option γ} : bd0 (some ()) k = k := rfl
def un0 {γ : Type} (f : Unit → γ) : Unit → γ := f
theorem un0e {γ : Type} {f : Unit → γ} {x : Unit} {r : γ} (h : un0 f x = r) : f () = r := h
theorem bd0L {γ : Type} {o : Option Unit} {k : Option γ} {r : γ} (h : bd0 o k = some r) : ∃ x, o = some x ∧ ∀ a, x = a → un0 (fun _ => k) a = some r := by
  obtain ⟨h1, h2⟩ := bd0e h
  exact ⟨(), h1, fun _ _ => h2⟩
def bd1 {a1 γ : Type} (o : Option a1) (k : a1 → Option γ) : Option γ := o.bind k
theorem bd1e {a1 γ : Type} {o : Option a1} {k : a1 → Option γ} {r : γ} (h : bd1 o k = some r) : ∃ x1, o = some x1 ∧ k x1 = some r := by
  cases o with
  | none => cases h
  | some x => exact ⟨x, rfl, h⟩
theorem bd1_s {a1 γ : Type} {x1 : a1} {k : a1 → Option γ} : bd1 (some x1) k = k x1 := rfl
def un1 {a1 γ : Type} (f : a1 → γ) : a1 → γ := f
theorem un1e {a1 γ : Type} {f : a1 → γ} {x1 : a1} {r : γ} (h : un1 f x1 = r) : f x1 = r := h
theorem un1_s {a1 γ : Type} {f : a1 → γ} {x1 : a1} : un1 f x1 = f x1 := rfl
theorem bd1L {a1 γ : Type} {o : Option a1} {k : a1 → Option γ} {r : γ} (h : bd1 o k = some r) : ∃ x, o = some x ∧ ∀ a, x = a → un1 k a = some r := by
  obtain ⟨x, h1, h2⟩ := bd1e h
  exact ⟨x, h1, fun _ e => by rw [← e]; exact h2⟩
theorem re2 {a1 a2 : Type} {x1 : a1} {x2 : a2} {y1 : a1} {y2 : a2} (h : some (x1, x2) = some (y1, y2)) : x1 = y1 ∧ x2 = y2 := by
  have h := Option.some.inj h
  simp only [Prod.mk.injEq] at h
  exact h
def un2 {a1 a2 γ : Type} (f : a1 → a2 → γ) : a1 × a2 → γ := fun x => f x.1 x.2
theorem un2e {a1 a2 γ : Type} {f : a1 → a2 → γ} {x1 : a1} {x2 : a2} {r : γ} (h : un2 f (x1, x2) = r) : f x1 x2 = r := h
theorem un2_s {a1 a2 γ : Type} {f : a1 → a2 → γ} {x1 : a1} {x2 : a2} : un2 f (x1, x2) = f x1 x2 := rfl
def bd2 {a1 a2 γ : Type} (o : Option (a1 × a2)) (k : a1 → a2 → Option γ) : Option γ := o.bind fun x => k x.1 x.2
theorem bd2e {a1 a2 γ : Type} {o : Option (a1 × a2)} {k : a1 → a2 → Option γ} {r : γ} (h : bd2 o k = some r) : ∃ x1 x2, o = some (x1, x2) ∧ k x1 x2 = some r := by
  cases o with
  | none => cases h
  | some x => exact ⟨x.1, x.2, rfl, h⟩
theorem bd2_s {a1 a2 γ : Type} {x1 : a1} {x2 : a2} {k : a1 → a2 → Option γ} : bd2 (some (x1, x2)) k = k x1 x2 := rfl
theorem bd2L {a1 a2 γ : Type} {o : Option (a1 × a2)} {k : a1 → a2 → Option γ} {r : γ} (h : bd2 o k = some r) : ∃ x, o = some x ∧ ∀ a, x = a → un2 k a = some r := by
  cases o with
  | none => cases h
  | some x => exact ⟨x, rfl, fun _ e => by rw [← e]; exact h⟩
theorem re3 {a1 a2 a3 : Type} {x1 : a1} {x2 : a2} {x3 : a3} {y1 : a1} {y2 : a2} {y3 : a3} (h : some (x1, x2, x3) = some (y1, y2, y3)) : x1 = y1 ∧ x2 = y2 ∧ x3 = y3 := by
  have h := Option.some.inj h
  simp only [Prod.mk.injEq] at h
  exact h
def un3 {a1 a2 a3 γ : Type} (f : a1 → a2 → a3 → γ) : a1 × a2 × a3 → γ := fun x => f x.1 x.2.1 x.2.2
theorem un3e {a1 a2 a3 γ : Type} {f : a1 → a2 → a3 → γ} {x1 : a1} {x2 : a2} {x3 : a3} {r : γ} (h : un3 f (x1, x2, x3) = r) : f x1 x2 x3 = r := h
theorem un3_s {a1 a2 a3 γ : Type} {f : a1 → a2 → a3 → γ} {x1 : a1} {x2 : a2} {x3 : a3} : un3 f (x1, x2, x3) = f x1 x2 x3 := rfl
def bd3 {a1 a2 a3 γ : Type} (o : Option (a1 × a2 × a3)) (k : a1 → a2 → a3 → Option γ) : Option γ := o.bind fun x => k x.1 x.2.1 x.2.2
theorem bd3e {a1 a2 a3 γ : Type} {o : Option (a1 × a2 × a3)} {k : a1 → a2 → a3 → Option γ} {r : γ} (h : bd3 o k = some r) : ∃ x1 x2 x3, o = some (x1, x2, x3) ∧ k x1 x2 x3 = some r := by
  cases o with
  | none => cases h
  | some x => exact ⟨x.1, x.2.1, x.2.2, rfl, h⟩
theorem bd3_s {a1 a2 a3 γ : Type} {x1 : a1} {x2 : a2} {x3 : a3} {k : a1 → a2 → a3 → Option γ} : bd3 (some (x1, x2, x3)) k = k x1 x2 x3 := rfl
theorem bd3L {a1 a2 a3 γ : Type} {o : Option (a1 × a2 × a3)} {k : a1 → a2 → a3 → Option γ} {r : γ} (h : bd3 o k = some r) : ∃ x, o = some x ∧ ∀ a, x = a → un3 k a = some r := by
  cases o with
  | none => cases h
  | some x => exact ⟨x, rfl, fun _ e => by rw [← e]; exact h⟩
theorem re4 {a1 a2 a3 a4 : Type} {x1 : a1} {x2 : a2} {x3 : a3} {x4 : a4} {y1 : a1} {y2 : a2} {y3 : a3} {y4 : a4} (h : some (x1, x2, x3, x4) = some (y1, y2, y3, y4)) : x1 = y1 ∧ x2 = y2 ∧ x3 = y3 ∧ x4 = y4 := by
  have h := Option.some.inj h
  simp only [Prod.mk.injEq] at h
  exact h
def un4 {a1 a2 a3 a4 γ : Type} (f : a1 → a2 → a3 → a4 → γ) : a1 × a2 × a3 × a4 → γ := fun x => f x.1 x.2.1 x.2.2.1 x.2.2.2
theorem un4e {a1 a2 a3 a4 γ : Type} {f : a1 → a2 → a3 → a4 → γ} {x1 : a1} {x2 : a2} {x3 : a3} {x4 : a4} {r : γ} (h : un4 f (x1, x2, x3, x4) = r) : f x1 x2 x3 x4 = r := h
theorem un4_s {a1 a2 a3 a4 γ : Type} {f : a1 → a2 → a3 → a4 → γ} {x1 : a1} {x2 : a2} {x3 : a3} {x4 : a4} : un4 f (x1, x2, x3, x4) = f x1 x2 x3 x4 := rfl
def bd4 {a1 a2 a3 a4 γ : Type} (o : Option (a1 × a2 × a3 × a4)) (k : a1 → a2 → a3 → a4 → Option γ) : Option γ := o.bind fun x => k x.1 x.2.1 x.2.2.1 x.2.2.2
theorem bd4e {a1 a2 a3 a4 γ : Type} {o : Option (a1 × a2 × a3 × a4)} {k : a1 → a2 → a3 → a4 → Option γ} {r : γ} (h : bd4 o k = some r) : ∃ x1 x2 x3 x4, o = some (x1, x2, x3, x4) ∧ k x1 x2 x3 x4 = some r := by
  cases o with
  | none => cases h
  | some x => exact ⟨x.1, x.2.1, x.2.2.1, x.2.2.2, rfl, h⟩
theorem bd4_s {a1 a2 a3 a4 γ : Type} {x1 : a1} {x2 : a2} {x3 : a3} {x4 : a4} {k : a1 → a2 → a3 → a4 → Option γ} : bd4 (some (x1, x2, x3, x4)) k = k x1 x2 x3 x4 := rfl
theorem bd4L {a1 a2 a3 a4 γ : Type} {o : Option (a1 × a2 × a3 × a4)} {k : a1 → a2 → a3 → a4 → Option γ} {r : γ} (h : bd4 o k = some r) : ∃ x, o = some x ∧ ∀ a, x = a → un4 k a = some r := by
  cases o with
  | none => cases h
  | some x => exact ⟨x, rfl, fun _ e => by rw [← e]; exact h⟩
theorem re5 {a1 a2 a3 a4 a5 : Type} {x1 : a1} {x2 : a2} {x3 : a3} {x4 : a4} {x5 : a5} {y1 : a1} {y2 : a2} {y3 : a3} {y4 : a4} {y5 : a5} (h : some (x1, x2, x3, x4, x5) = some (y1, y2, y3, y4, y5)) : x1 = y1 ∧ x2 = y2 ∧ x3 = y3 ∧ x4 = y4 ∧ x5 = y5 := by
  have h := Option.some.inj h
  simp only [Prod.mk.injEq] at h
  exact h
def un5 {a1 a2 a3 a4 a5 γ : Type} (f : a1 → a2 → a3 → a4 → a5 → γ) : a1 × a2 × a3 × a4 × a5 → γ := fun x => f x.1 x.2.1 x.2.2.1 x.2.2.2.1 x.2.2.2.2
theorem un5e {a1 a2 a3 a4 a5 γ : Type} {f : a1 → a2 → a3 → a4 → a5 → γ} {x1 : a1} {x2 : a2} {x3 : a3} {x4 : a4} {x5 : a5} {r : γ} (h : un5 f (x1, x2, x3, x4, x5) = r) : f x1 x2 x3 x4 x5 = r := h
theorem un5_s {a1 a2 a3 a4 a5 γ : Type} {f : a1 → a2 → a3 → a4 → a5 → γ} {x1 : a1} {x2 : a2} {x3 : a3} {x4 : a4} {x5 : a5} : un5 f (x1, x2, x3, x4, x5) = f x1 x2 x3 x4 x5 := rfl
def bd5 {a1 a2 a3 a4 a5 γ : Type} (o : Option (a1 × a2 × a3 × a4 × a5)) (k : a1 → a2 → a3 → a4 → a5 → Option γ) : Option γ := o.bind fun x => k x.1 x.2.1 x.2.2.1 x.2.2.2.1 x.2.2.2.2
theorem bd5e {a1 a2 a3 a4 a5 γ : Type} {o : Option (a1 × a2 × a3 × a4 × a5)} {k : a1 → a2 → a3 → a4 → a5 → Option γ} {r : γ} (h : bd5 o k = some r) : ∃ x1 x2 x3 x4 x5, o = some (x1, x2, x3, x4, x5) ∧ k x1 x2 x3 x4 x5 = some r := by
  cases o with
  | none => cases h
  | some x => exact ⟨x.1, x.2.1, x.2.2.1, x.2.2.2.1, x.2.2.2.2, rfl, h⟩
theorem bd5_s {a1 a2 a3 a4 a5 γ : Type} {x1 : a1} {x2 : a2} {x3 : a3} {x4 : a4} {x5 : a5} {k : a1 → a2 → a3 → a4 → a5 → Option γ} : bd5 (some (x1, x2, x3, x4, x5)) k = k x1 x2 x3 x4 x5 := rfl
theorem bd5L {a1 a2 a3 a4 a5 γ : Type} {o : Option (a1 × a2 × a3 × a4 × a5)} {k : a1 → a2 → a3 → a4 → a5 → Option γ} {r : γ} (h : bd5 o k = some r) : ∃ x, o = some x ∧ ∀ a, x = a → un5 k a = some r := by
  cases o with
  | none => cases h
  | some x => exact ⟨x, rfl, fun _ e => by rw [← e]; exact h⟩
theorem re6 {a1 a2 a3 a4 a5 a6 : Type} {x1 : a1} {x2 : a2} {x3 : a3} {x4 : a4} {x5 : a5} {x6 : a6} {y1 : a1} {y2 : a2} {y3 : a3} {y4 : a4} {y5 : a5} {y6 : a6} (h : some (x1, x2, x3, x4, x5, x6) = some (y1, y2, y3, y4, y5, y6)) : x1 = y1 ∧ x2 = y2 ∧ x3 = y3 ∧ x4 = y4 ∧ x5 = y5 ∧ x6 = y6 := by
  have h := Option.some.inj h
  simp only [Prod.mk.injEq] at h
  exact h
def un6 {a1 a2 a3 a4 a5 a6 γ : Type} (f : a1 → a2 → a3 → a4 → a5 → a6 → γ) : a1 × a2 × a3 × a4 × a5 × a6 → γ := fun x => f x.1 x.2.1 x.2.2.1 x.2.2.2.1 x.2.2.2.2.1 x.2.2.2.2.2
theorem un6e {a1 a2 a3 a4 a5 a6 γ : Type} {f : a1 → a2 → a3 → a4 → a5 → a6 → γ} {x1 : a1} {x2 : a2} {x3 : a3} {x4 : a4} {x5 : a5} {x6 : a6} {r : γ} (h : un6 f (x1, x2, x3, x4, x5, x6) = r) : f x1 x2 x3 x4 x5 x6 = r := h
theorem un6_s {a1 a2 a3 a4 a5 a6 γ : Type} {f : a1 → a2 → a3 → a4 → a5 → a6 → γ} {x1 : a1} {x2 : a2} {x3 : a3} {x4 : a4} {x5 : a5} {x6 : a6} : un6 f (x1, x2, x3, x4, x5, x6) = f x1 x2 x3 x4 x5 x6 := rfl
def bd6 {a1 a2 a3 a4 a5 a6 γ : Type} (o : Option (a1 × a2 × a3 × a4 × a5 × a6)) (k : a1 → a2 → a3 → a4 → a5 → a6 → Option γ) : Option γ := o.bind fun x => k x.1 x.2.1 x.2.2.1 x.2.2.2.1 x.2.2.2.2.1 x.2.2.2.2.2
theorem bd6e {a1 a2 a3 a4 a5 a6 γ : Type} {o : Option (a1 × a2 × a3 × a4 × a5 × a6)} {k : a1 → a2 → a3 → a4 → a5 → a6 → Option γ} {r : γ} (h : bd6 o k = some r) : ∃ x1 x2 x3 x4 x5 x6, o = some (x1, x2, x3, x4, x5, x6) ∧ k x1 x2 x3 x4 x5 x6 = some r := by
  cases o with
  | none => cases h
  | some x => exact ⟨x.1, x.2.1, x.2.2.1, x.2.2.2.1, x.2.2.2.2.1, x.2.2.2.2.2, rfl, h⟩
theorem bd6_s {a1 a2 a3 a4 a5 a6 γ : Type} {x1 : a1} {x2 : a2} {x3 : a3} {x4 : a4} {x5 : a5} {x6 : a6} {k : a1 → a2 → a3 → a4 → a5 → a6 → Option γ} : bd6 (some (x1, x2, x3, x4, x5, x6)) k = k x1 x2 x3 x4 x5 x6 := rfl
theorem bd6L {a1 a2 a3 a4 a5 a6 γ : Type} {o : Option (a1 × a2 × a3 × a4 × a5 × a6)} {k : a1 → a2 → a3 → a4 → a5 → a6 → Option γ} {r : γ} (h : bd6 o k = some r) : ∃ x, o = some x ∧ ∀ a, x = a → un6 k a = some r := by
  cases o with
  | none => cases h
  | some x => exact ⟨x, rfl, fun _ e => by rw [← e]; exact h⟩
theorem re7 {a1 a2 a3 a4 a5 a6 a7 : Type} {x1 : a1} {x2 : a2} {x3 : a3} {x4 : a4} {x5 : a5} {x6 : a6} {x7 : a7} {y1 : a1} {y2 : a2} {y3 : a3} {y4 : a4} {y5 : a5} {y6 : a6} {y7 : a7} (h : some (x1, x2, x3, x4, x5, x6, x7) = some (y1, y2, y3, y4, y5, y6, y7)) : x1 = y1 ∧ x2 = y2 ∧ x3 = y3 ∧ x4 = y4 ∧ x5 = y5 ∧ x6 = y6 ∧ x7 = y7 := by
  have h := Option.some.inj h
  simp only [Prod.mk.injEq] at h
  exact h
def un7 {a1 a2 a3 a4 a5 a6 a7 γ : Type} (f : a1 → a2 → a3 → a4 → a5 → a6 → a7 → γ) : a1 × a2 × a3 × a4 × a5 × a6 × a7 → γ := fun x => f x.1 x.2.1 x.2.2.1 x.2.2.2.1 x.2.2.2.2.1 x.2.2.2.2.2.1 x.2.2.2.2.2.2
theorem un7e {a1 a2 a3 a4 a5 a6 a7 γ : Type} {f : a1 → a2 → a3 → a4 → a5 → a6 → a7 → γ} {x1 : a1} {x2 : a2} {x3 : a3} {x4 : a4} {x5 : a5} {x6 : a6} {x7 : a7} {r : γ} (h : un7 f (x1, x2, x3, x4, x5, x6, x7) = r) : f x1 x2 x3 x4 x5 x6 x7 = r := h
theorem un7_s {a1 a2 a3 a4 a5 a6 a7 γ : Type} {f : a1 → a2 → a3 → a4 → a5 → a6 → a7 → γ} {x1 : a1} {x2 : a2} {x3 : a3} {x4 : a4} {x5 : a5} {x6 : a6} {x7 : a7} : un7 f (x1, x2, x3, x4, x5, x6, x7) = f x1 x2 x3 x4 x5 x6 x7 := rfl
def bd7 {a1 a2 a3 a4 a5 a6 a7 γ : Type} (o : Option (a1 × a2 × a3 × a4 × a5 × a6 × a7)) (k : a1 → a2 → a3 → a4 → a5 → a6 → a7 → Option γ) : Option γ := o.bind fun x => k x.1 x.2.1 x.2.2.1 x.2.2.2.1 x.2.2.2.2.1 x.2.2.2.2.2.1 x.2.2.2.2.2.2
theorem bd7e {a1 a2 a3 a4 a5 a6 a7 γ : Type} {o : Option (a1 × a2 × a3 × a4 × a5 × a6 × a7)} {k : a1 → a2 → a3 → a4 → a5 → a6 → a7 → Option γ} {r : γ} (h : bd7 o k = some r) : ∃ x1 x2 x3 x4 x5 x6 x7, o = some (x1, x2, x3, x4, x5, x6, x7) ∧ k x1 x2 x3 x4 x5 x6 x7 = some r := by
  cases o with
  | none => cases h
  | some x => exact ⟨x.1, x.2.1, x.2.2.1, x.2.2.2.1, x.2.2.2.2.1, x.2.2.2.2.2.1, x.2.2.2.2.2.2, rfl, h⟩
theorem bd7_s {a1 a2 a3 a4 a5 a6 a7 γ : Type} {x1 : a1} {x2 : a2} {x3 : a3} {x4 : a4} {x5 : a5} {x6 : a6} {x7 : a7} {k : a1 → a2 → a3 → a4 → a5 → a6 → a7 → Option γ} : bd7 (some (x1, x2, x3, x4, x5, x6, x7)) k = k x1 x2 x3 x4 x5 x6 x7 := rfl
theorem bd7L {a1 a2 a3 a4 a5 a6 a7 γ : Type} {o : Option (a1 × a2 × a3 × a4 × a5 × a6 × a7)} {k : a1 → a2 → a3 → a4 → a5 → a6 → a7 → Option γ} {r : γ} (h : bd7 o k = some r) : ∃ x, o = some x ∧ ∀ a, x = a → un7 k a = some r := by
  cases o with
  | none => cases h
  | some x => exact ⟨x, rfl, fun _ e => by rw [← e]; exact h⟩
theorem re8 {a1 a2 a3 a4 a5 a6 a7 a8 : Type} {x1 : a1} {x2 : a2} {x3 : a3} {x4 : a4} {x5 : a5} {x6 : a6} {x7 : a7} {x8 : a8} {y1 : a1} {y2 : a2} {y3 : a3} {y4 : a4} {y5 : a5} {y6 : a6} {y7 : a7} {y8 : a8} (h : some (x1, x2, x3, x4, x5, x6, x7, x8) = some (y1, y2, y3, y4, y5, y6, y7, y8)) : x1 = y1 ∧ x2 = y2 ∧ x3 = y3 ∧ x4 = y4 ∧ x5 = y5 ∧ x6 = y6 ∧ x7 = y7 ∧ x8 = y8 := by
  have h := Option.some.inj h
  simp only [Prod.mk.injEq] at h
  exact h
def un8 {a1 a2 a3 a4 a5 a6 a7 a8 γ : Type} (f : a1 → a2 → a3 → a4 → a5 → a6 → a7 → a8 → γ) : a1 × a2 × a3 × a4 × a5 × a6 × a7 × a8 → γ := fun x => f x.1 x.2.1 x.2.2.1 x.2.2.2.1 x.2.2.2.2.1 x.2.2.2.2.2.1 x.2.2.2.2.2.2.1 x.2.2.2.2.2.2.2
theorem un8e {a1 a2 a3 a4 a5 a6 a7 a8 γ : Type} {f : a1 → a2 → a3 → a4 → a5 → a6 → a7 → a8 → γ} {x1 : a1} {x2 : a2} {x3 : a3} {x4 : a4} {x5 : a5} {x6 : a6} {x7 : a7} {x8 : a8} {r : γ} (h : un8 f (x1, x2, x3, x4, x5, x6, x7, x8) = r) : f x1 x2 x3 x4 x5 x6 x7 x8 = r := h
theorem un8_s {a1 a2 a3 a4 a5 a6 a7 a8 γ : Type} {f : a1 → a2 → a3 → a4 → a5 → a6 → a7 → a8 → γ} {x1 : a1} {x2 : a2} {x3 : a3} {x4 : a4} {x5 : a5} {x6 : a6} {x7 : a7} {x8 : a8} : un8 f (x1, x2, x3, x4, x5, x6, x7, x8) = f x1 x2 x3 x4 x5 x6 x7 x8 := rfl
def bd8 {a1 a2 a3 a4 a5 a6 a7 a8 γ : Type} (o : Option (a1 × a2 × a3 × a4 × a5 × a6 × a7 × a8)) (k : a1 → a2 → a3 → a4 → a5 → a6 → a7 → a8 → Option γ) : Option γ := o.bind fun x => k x.1 x.2.1 x.2.2.1 x.2.2.2.1 x.2.2.2.2.1 x.2.2.2.2.2.1 x.2.2.2.2.2.2.1 x.2.2.2.2.2.2.2
theorem bd8e {a1 a2 a3 a4 a5 a6 a7 a8 γ : Type} {o : Option (a1 × a2 × a3 × a4 × a5 × a6 × a7 × a8)} {k : a1 → a2 → a3 → a4 → a5 → a6 → a7 → a8 → Option γ} {r : γ} (h : bd8 o k = some r) : ∃ x1 x2 x3 x4 x5 x6 x7 x8, o = some (x1, x2, x3, x4, x5, x6, x7, x8) ∧ k x1 x2 x3 x4 x5 x6 x7 x8 = some r := by
  cases o with
  | none => cases h
  | some x => exact ⟨x.1, x.2.1, x.2.2.1, x.2.2.2.1, x.2.2.2.2.1, x.2.2.2.2.2.1, x.2.2.2.2.2.2.1, x.2.2.2.2.2.2.2, rfl, h⟩
theorem bd8_s {a1 a2 a3 a4 a5 a6 a7 a8 γ : Type} {x1 : a1} {x2 : a2} {x3 : a3} {x4 : a4} {x5 : a5} {x6 : a6} {x7 : a7} {x8 : a8} {k : a1 → a2 → a3 → a4 → a5 → a6 → a7 → a8 → Option γ} : bd8 (some (x1, x2, x3, x4, x5, x6, x7, x8)) k = k x1 x2 x3 x4 x5 x6 x7 x8 := rfl
theorem bd8L {a1 a2 a3 a4 a5 a6 a7 a8 γ : Type} {o : Option (a1 × a2 × a3 × a4 × a5 × a6 × a7 × a8)} {k : a1 → a2 → a3 → a4 → a5 → a6 → a7 → a8 → Option γ} {r : γ} (h : bd8 o k = some r) : ∃ x, o = some x ∧ ∀ a, x = a → un8 k a = some r := by
  cases o with
  | none => cases h
  | some x => exact ⟨x, rfl, fun _ e => by rw [← e]; exact h⟩
theorem re9 {a1 a2 a3 a4 a5 a6 a7 a8 a9 : Type} {x1 : a1} {x2 : a2} {x3 : a3} {x4 : a4} {x5 : a5} {x6 : a6} {x7 : a7} {x8 : a8} {x9 : a9} {y1 : a1} {y2 : a2} {y3 : a3} {y4 : a4} {y5 : a5} {y6 : a6} {y7 : a7} {y8 : a8} {y9 : a9} (h : some (x1, x2, x3, x4, x5, x6, x7, x8, x9) = some (y1, y2, y3, y4, y5, y6, y7, y8, y9)) : x1 = y1 ∧ x2 = y2 ∧ x3 = y3 ∧ x4 = y4 ∧ x5 = y5 ∧ x6 = y6 ∧ x7 = y7 ∧ x8 = y8 ∧ x9 = y9 := by
  have h := Option.some.inj h
  simp only [Prod.mk.injEq] at h
  exact h
def un9 {a1 a2 a3 a4 a5 a6 a7 a8 a9 γ : Type} (f : a1 → a2 → a3 → a4 → a5 → a6 → a7 → a8 → a9 → γ) : a1 × a2 × a3 × a4 × a5 × a6 × a7 × a8 × a9 → γ := fun x => f x.1 x.2.1 x.2.2.1 x.2.2.2.1 x.2.2.2.2.1 x.2.2.2.2.2.1 x.2.2.2.2.2.2.1 x.2.2.2.2.2.2.2.1 x.2.2.2.2.2.2.2.2
theorem un9e {a1 a2 a3 a4 a5 a6 a7 a8 a9 γ : Type} {f : a1 → a2 → a3 → a4 → a5 → a6 → a7 → a8 → a9 → γ} {x1 : a1} {x2 : a2} {x3 : a3} {x4 : a4} {x5 : a5} {x6 : a6} {x7 : a7} {x8 : a8} {x9 : a9} {r : γ} (h : un9 f (x1, x2, x3, x4, x5, x6, x7, x8, x9) = r) : f x1 x2 x3 x4 x5 x6 x7 x8 x9 = r := h
theorem un9_s {a1 a2 a3 a4 a5 a6 a7 a8 a9 γ : Type} {f : a1 → a2 → a3 → a4 → a5 → a6 → a7 → a8 → a9 → γ} {x1 : a1} {x2 : a2} {x3 : a3} {x4 : a4} {x5 : a5} {x6 : a6} {x7 : a7} {x8 : a8} {x9 : a9} : un9 f (x1, x2, x3, x4, x5, x6, x7, x8, x9) = f x1 x2 x3 x4 x5 x6 x7 x8 x9 := rfl
def bd9 {a1 a2 a3 a4 a5 a6 a7 a8 a9 γ : Type} (o : Option (a1 × a2 × a3 × a4 × a5 × a6 × a7 × a8 × a9)) (k : a1 → a2 → a3 → a4 → a5 → a6 → a7 → a8 → a9 → Option γ) : Option γ := o.bind fun x => k x.1 x.2.1 x.2.2.1 x.2.2.2.1 x.2.2.2.2.1 x.2.2.2.2.2.1 x.2.2.2.2.2.2.1 x.2.2.2.2.2.2.2.1 x.2.2.2.2.2.2.2.2
theorem bd9e {a1 a2 a3 a4 a5 a6 a7 a8 a9 γ : Type} {o : Option (a1 × a2 × a3 × a4 × a5 × a6 × a7 × a8 × a9)} {k : a1 → a2 → a3 → a4 → a5 → a6 → a7 → a8 → a9 → Option γ} {r : γ} (h : bd9 o k = some r) : ∃ x1 x2 x3 x4 x5 x6 x7 x8 x9, o = some (x1, x2, x3, x4, x5, x6, x7, x8, x9) ∧ k x1 x2 x3 x4 x5 x6 x7 x8 x9 = some r := by
  cases o with
  | none => cases h
  | some x => exact ⟨x.1, x.2.1, x.2.2.1, x.2.2.2.1, x.2.2.2.2.1, x.2.2.2.2.2.1, x.2.2.2.2.2.2.1, x.2.2.2.2.2.2.2.1, x.2.2.2.2.2.2.2.2, rfl, h⟩
theorem bd9_s {a1 a2 a3 a4 a5 a6 a7 a8 a9 γ : Type} {x1 : a1} {x2 : a2} {x3 : a3} {x4 : a4} {x5 : a5} {x6 : a6} {x7 : a7} {x8 : a8} {x9 : a9} {k : a1 → a2 → a3 → a4 → a5 → a6 → a7 → a8 → a9 → Option γ} : bd9 (some (x1, x2, x3, x4, x5, x6, x7, x8, x9)) k = k x1 x2 x3 x4 x5 x6 x7 x8 x9 := rfl
theorem bd9L {a1 a2 a3 a4 a5 a6 a7 a8 a9 γ : Type} {o : Option (a1 × a2 × a3 × a4 × a5 × a6 × a7 × a8 × a9)} {k : a1 → a2 → a3 → a4 → a5 → a6 → a7 → a8 → a9 → Option γ} {r : γ} (h : bd9 o k = some r) : ∃ x, o = some x ∧ ∀ a, x = a → un9 k a = some r := by
  cases o with
  | none => cases h
  | some x => exact ⟨x, rfl, fun _ e => by rw [← e]; exact h⟩
theorem re10 {a1 a2 a3 a4 a5 a6 a7 a8 a9 a10 : Type} {x1 : a1} {x2 : a2} {x3 : a3} {x4 : a4} {x5 : a5} {x6 : a6} {x7 : a7} {x8 : a8} {x9 : a9} {x10 : a10} {y1 : a1} {y2 : a2} {y3 : a3} {y4 : a4} {y5 : a5} {y6 : a6} {y7 : a7} {y8 : a8} {y9 : a9} {y10 : a10} (h : some (x1, x2, x3, x4, x5, x6, x7, x8, x9, x10) = some (y1, y2, y3, y4, y5, y6, y7, y8, y9, y10)) : x1 = y1 ∧ x2 = y2 ∧ x3 = y3 ∧ x4 = y4 ∧ x5 = y5 ∧ x6 = y6 ∧ x7 = y7 ∧ x8 = y8 ∧ x9 = y9 ∧ x10 = y10 := by
  have h := Option.some.inj h
  simp only [Prod.mk.injEq] at h
  exact h
def un10 {a1 a2 a3 a4 a5 a6 a7 a8 a9 a10 γ : Type} (f : a1 → a2 → a3 → a4 → a5 → a6 → a7 → a8 → a9 → a10 → γ) : a1 × a2 × a3 × a4 × a5 × a6 × a7 × a8 × a9 × a10 → γ := fun x => f x.1 x.2.1 x.2.2.1 x.2.2.2.1 x.2.2.2.2.1 x.2.2.2.2.2.1 x.2.2.2.2.2.2.1 x.2.2.2.2.2.2.2.1 x.2.2.2.2.2.2.2.2.1 x.2.2.2.2.2.2.2.2.2
theorem un10e {a1 a2 a3 a4 a5 a6 a7 a8 a9 a10 γ : Type} {f : a1 → a2 → a3 → a4 → a5 → a6 → a7 → a8 → a9 → a10 → γ} {x1 : a1} {x2 : a2} {x3 : a3} {x4 : a4} {x5 : a5} {x6 : a6} {x7 : a7} {x8 : a8} {x9 : a9} {x10 : a10} {r : γ} (h : un10 f (x1, x2, x3, x4, x5, x6, x7, x8, x9, x10) = r) : f x1 x2 x3 x4 x5 x6 x7 x8 x9 x10 = r := h
theorem un10_s {a1 a2 a3 a4 a5 a6 a7 a8 a9 a10 γ : Type} {f : a1 → a2 → a3 → a4 → a5 → a6 → a7 → a8 → a9 → a10 → γ} {x1 : a1} {x2 : a2} {x3 : a3} {x4 : a4} {x5 : a5} {x6 : a6} {x7 : a7} {x8 : a8} {x9 : a9} {x10 : a10} : un10 f (x1, x2, x3, x4, x5, x6, x7, x8, x9, x10) = f x1 x2 x3 x4 x5 x6 x7 x8 x9 x10 := rfl
def bd10 {a1 a2 a3 a4 a5 a6 a7 a8 a9 a10 γ : Type} (o : Option (a1 × a2 × a3 × a4 × a5 × a6 × a7 × a8 × a9 × a10)) (k : a1 → a2 → a3 → a4 → a5 → a6 → a7 → a8 → a9 → a10 → Option γ) : Option γ := o.bind fun x => k x.1 x.2.1 x.2.2.1 x.2.2.2.1 x.2.2.2.2.1 x.2.2.2.2.2.1 x.2.2.2.2.2.2.1 x.2.2.2.2.2.2.2.1 x.2.2.2.2.2.2.2.2.1 x.2.2.2.2.2.2.2.2.2
theorem bd10e {a1 a2 a3 a4 a5 a6 a7 a8 a9 a10 γ : Type} {o : Option (a1 × a2 × a3 × a4 × a5 × a6 × a7 × a8 × a9 × a10)} {k : a1 → a2 → a3 → a4 → a5 → a6 → a7 → a8 → a9 → a10 → Option γ} {r : γ} (h : bd10 o k = some r) : ∃ x1 x2 x3 x4 x5 x6 x7 x8 x9 x10, o = some (x1, x2, x3, x4, x5, x6, x7, x8, x9, x10) ∧ k x1 x2 x3 x4 x5 x6 x7 x8 x9 x10 = some r := by
  cases o with
  | none => cases h
  | some x => exact ⟨x.1, x.2.1, x.2.2.1, x.2.2.2.1, x.2.2.2.2.1, x.2.2.2.2.2.1, x.2.2.2.2.2.2.1, x.2.2.2.2.2.2.2.1, x.2.2.2.2.2.2.2.2.1, x.2.2.2.2.2.2.2.2.2, rfl, h⟩
theorem bd10_s {a1 a2 a3 a4 a5 a6 a7 a8 a9 a10 γ : Type} {x1 : a1} {x2 : a2} {x3 : a3} {x4 : a4} {x5 : a5} {x6 : a6} {x7 : a7} {x8 : a8} {x9 : a9} {x10 : a10} {k : a1 → a2 → a3 → a4 → a5 → a6 → a7 → a8 → a9 → a10 → Option γ} : bd10 (some (x1, x2, x3, x4, x5, x6, x7, x8, x9, x10)) k = k x1 x2 x3 x4 x5 x6 x7 x8 x9 x10 := rfl
theorem bd10L {a1 a2 a3 a4 a5 a6 a7 a8 a9 a10 γ : Type} {o : Option (a1 × a2 × a3 × a4 × a5 × a6 × a7 × a8 × a9 × a10)} {k : a1 → a2 → a3 → a4 → a5 → a6 → a7 → a8 → a9 → a10 → Option γ} {r : γ} (h : bd10 o k = some r) : ∃ x, o = some x ∧ ∀ a, x = a → un10 k a = some r := by
  cases o with
  | none => cases h
  | some x => exact ⟨x, rfl, fun _ e => by rw [← e]; exact h⟩
theorem re11 {a1 a2 a3 a4 a5 a6 a7 a8 a9 a10 a11 : Type} {x1 : a1} {x2 : a2} {x3 : a3} {x4 : a4} {x5 : a5} {x6 : a6} {x7 : a7} {x8 : a8} {x9 : a9} {x10 : a10} {x11 : a11} {y1 : a1} {y2 : a2} {y3 : a3} {y4 : a4} {y5 : a5} {y6 : a6} {y7 : a7} {y8 : a8} {y9 : a9} {y10 : a10} {y11 : a11} (h : some (x1, x2, x3, x4, x5, x6, x7, x8, x9, x10, x11) = some (y1, y2, y3, y4, y5, y6, y7, y8, y9, y10, y11)) : x1 = y1 ∧ x2 = y2 ∧ x3 = y3 ∧ x4 = y4 ∧ x5 = y5 ∧ x6 = y6 ∧ x7 = y7 ∧ x8 = y8 ∧ x9 = y9 ∧ x10 = y10 ∧ x11 = y11 := by
  have h := Option.some.inj h
  simp only [Prod.mk.injEq] at h
  exact h
def un11 {a1 a2 a3 a4 a5 a6 a7 a8 a9 a10 a11 γ : Type} (f : a1 → a2 → a3 → a4 → a5 → a6 → a7 → a8 → a9 → a10 → a11 → γ) : a1 × a2 × a3 × a4 × a5 × a6 × a7 × a8 × a9 × a10 × a11 → γ := fun x => f x.1 x.2.1 x.2.2.1 x.2.2.2.1 x.2.2.2.2.1 x.2.2.2.2.2.1 x.2.2.2.2.2.2.1 x.2.2.2.2.2.2.2.1 x.2.2.2.2.2.2.2.2.1 x.2.2.2.2.2.2.2.2.2.1 x.2.2.2.2.2.2.2.2.2.2
theorem un11e {a1 a2 a3 a4 a5 a6 a7 a8 a9 a10 a11 γ : Type} {f : a1 → a2 → a3 → a4 → a5 → a6 → a7 → a8 → a9 → a10 → a11 → γ} {x1 : a1} {x2 : a2} {x3 : a3} {x4 : a4} {x5 : a5} {x6 : a6} {x7 : a7} {x8 : a8} {x9 : a9} {x10 : a10} {x11 : a11} {r : γ} (h : un11 f (x1, x2, x3, x4, x5, x6, x7, x8, x9, x10, x11) = r) : f x1 x2 x3 x4 x5 x6 x7 x8 x9 x10 x11 = r := h
theorem un11_s {a1 a2 a3 a4 a5 a6 a7 a8 a9 a10 a11 γ : Type} {f : a1 → a2 → a3 → a4 → a5 → a6 → a7 → a8 → a9 → a10 → a11 → γ} {x1 : a1} {x2 : a2} {x3 : a3} {x4 : a4} {x5 : a5} {x6 : a6} {x7 : a7} {x8 : a8} {x9 : a9} {x10 : a10} {x11 : a11} : un11 f (x1, x2, x3, x4, x5, x6, x7, x8, x9, x10, x11) = f x1 x2 x3 x4 x5 x6 x7 x8 x9 x10 x11 := rfl
def bd11 {a1 a2 a3 a4 a5 a6 a7 a8 a9 a10 a11 γ : Type} (o : Option (a1 × a2 × a3 × a4 × a5 × a6 × a7 × a8 × a9 × a10 × a11)) (k : a1 → a2 → a3 → a4 → a5 → a6 → a7 → a8 → a9 → a10 → a11 → Option γ) : Option γ := o.bind fun x => k x.1 x.2.1 x.2.2.1 x.2.2.2.1 x.2.2.2.2.1 x.2.2.2.2.2.1 x.2.2.2.2.2.2.1 x.2.2.2.2.2.2.2.1 x.2.2.2.2.2.2.2.2.1 x.2.2.2.2.2.2.2.2.2.1 x.2.2.2.2.2.2.2.2.2.2
theorem bd11e {a1 a2 a3 a4 a5 a6 a7 a8 a9 a10 a11 γ : Type} {o : Option (a1 × a2 × a3 × a4 × a5 × a6 × a7 × a8 × a9 × a10 × a11)} {k : a1 → a2 → a3 → a4 → a5 → a6 → a7 → a8 → a9 → a10 → a11 → Option γ} {r : γ} (h : bd11 o k = some r) : ∃ x1 x2 x3 x4 x5 x6 x7 x8 x9 x10 x11, o = some (x1, x2, x3, x4, x5, x6, x7, x8, x9, x10, x11) ∧ k x1 x2 x3 x4 x5 x6 x7 x8 x9 x10 x11 = some r := by
  cases o with
  | none => cases h
  | some x => exact ⟨x.1, x.2.1, x.2.2.1, x.2.2.2.1, x.2.2.2.2.1, x.2.2.2.2.2.1, x.2.2.2.2.2.2.1, x.2.2.2.2.2.2.2.1, x.2.2.2.2.2.2.2.2.1, x.2.2.2.2.2.2.2.2.2.1, x.2.2.2.2.2.2.2.2.2.2, rfl, h⟩
theorem bd11_s {a1 a2 a3 a4 a5 a6 a7 a8 a9 a10 a11 γ : Type} {x1 : a1} {x2 : a2} {x3 : a3} {x4 : a4} {x5 : a5} {x6 : a6} {x7 : a7} {x8 : a8} {x9 : a9} {x10 : a10} {x11 : a11} {k : a1 → a2 → a3 → a4 → a5 → a6 → a7 → a8 → a9 → a10 → a11 → Option γ} : bd11 (some (x1, x2, x3, x4, x5, x6, x7, x8, x9, x10, x11)) k = k x1 x2 x3 x4 x5 x6 x7 x8 x9 x10 x11 := rfl
theorem bd11L {a1 a2 a3 a4 a5 a6 a7 a8 a9 a10 a11 γ : Type} {o : Option (a1 × a2 × a3 × a4 × a5 × a6 × a7 × a8 × a9 × a10 × a11)} {k : a1 → a2 → a3 → a4 → a5 → a6 → a7 → a8 → a9 → a10 → a11 → Option γ} {r : γ} (h : bd11 o k = some r) : ∃ x, o = some x ∧ ∀ a, x = a → un11 k a = some r := by
  cases o with
  | none => cases h
  | some x => exact ⟨x, rfl, fun _ e => by rw [← e]; exact h⟩
theorem re12 {a1 a2 a3 a4 a5 a6 a7 a8 a9 a10 a11 a12 : Type} {x1 : a1} {x2 : a2} {x3 : a3} {x4 : a4} {x5 : a5} {x6 : a6} {x7 : a7} {x8 : a8} {x9 : a9} {x10 : a10} {x11 : a11} {x12 : a12} {y1 : a1} {y2 : a2} {y3 : a3} {y4 : a4} {y5 : a5} {y6 : a6} {y7 : a7} {y8 : a8} {y9 : a9} {y10 : a10} {y11 : a11} {y12 : a12} (h : some (x1, x2, x3, x4, x5, x6, x7, x8, x9, x10, x11, x12) = some (y1, y2, y3, y4, y5, y6, y7, y8, y9, y10, y11, y12)) : x1 = y1 ∧ x2 = y2 ∧ x3 = y3 ∧ x4 = y4 ∧ x5 = y5 ∧ x6 = y6 ∧ x7 = y7 ∧ x8 = y8 ∧ x9 = y9 ∧ x10 = y10 ∧ x11 = y11 ∧ x12 = y12 := by
  have h := Option.some.inj h
  simp only [Prod.mk.injEq] at h
  exact h
def un12 {a1 a2 a3 a4 a5 a6 a7 a8 a9 a10 a11 a12 γ : Type} (f : a1 → a2 → a3 → a4 → a5 → a6 → a7 → a8 → a9 → a10 → a11 → a12 → γ) : a1 × a2 × a3 × a4 × a5 × a6 × a7 × a8 × a9 × a10 × a11 × a12 → γ := fun x => f x.1 x.2.1 x.2.2.1 x.2.2.2.1 x.2.2.2.2.1 x.2.2.2.2.2.1 x.2.2.2.2.2.2.1 x.2.2.2.2.2.2.2.1 x.2.2.2.2.2.2.2.2.1 x.2.2.2.2.2.2.2.2.2.1 x.2.2.2.2.2.2.2.2.2.2.1 x.2.2.2.2.2.2.2.2.2.2.2
theorem un12e {a1 a2 a3 a4 a5 a6 a7 a8 a9 a10 a11 a12 γ : Type} {f : a1 → a2 → a3 → a4 → a5 → a6 → a7 → a8 → a9 → a10 → a11 → a12 → γ} {x1 : a1} {x2 : a2} {x3 : a3} {x4 : a4} {x5 : a5} {x6 : a6} {x7 : a7} {x8 : a8} {x9 : a9} {x10 : a10} {x11 : a11} {x12 : a12} {r : γ} (h : un12 f (x1, x2, x3, x4, x5, x6, x7, x8, x9, x10, x11, x12) = r) : f x1 x2 x3 x4 x5 x6 x7 x8 x9 x10 x11 x12 = r := h
theorem un12_s {a1 a2 a3 a4 a5 a6 a7 a8 a9 a10 a11 a12 γ : Type} {f : a1 → a2 → a3 → a4 → a5 → a6 → a7 → a8 → a9 → a10 → a11 → a12 → γ} {x1 : a1} {x2 : a2} {x3 : a3} {x4 : a4} {x5 : a5} {x6 : a6} {x7 : a7} {x8 : a8} {x9 : a9} {x10 : a10} {x11 : a11} {x12 : a12} : un12 f (x1, x2, x3, x4, x5, x6, x7, x8, x9, x10, x11, x12) = f x1 x2 x3 x4 x5 x6 x7 x8 x9 x10 x11 x12 := rfl
def bd12 {a1 a2 a3 a4 a5 a6 a7 a8 a9 a10 a11 a12 γ : Type} (o : Option (a1 × a2 × a3 × a4 × a5 × a6 × a7 × a8 × a9 × a10 × a11 × a12)) (k : a1 → a2 → a3 → a4 → a5 → a6 → a7 → a8 → a9 → a10 → a11 → a12 → Option γ) : Option γ := o.bind fun x => k x.1 x.2.1 x.2.2.1 x.2.2.2.1 x.2.2.2.2.1 x.2.2.2.2.2.1 x.2.2.2.2.2.2.1 x.2.2.2.2.2.2.2.1 x.2.2.2.2.2.2.2.2.1 x.2.2.2.2.2.2.2.2.2.1 x.2.2.2.2.2.2.2.2.2.2.1 x.2.2.2.2.2.2.2.2.2.2.2
theorem bd12e {a1 a2 a3 a4 a5 a6 a7 a8 a9 a10 a11 a12 γ : Type} {o : Option (a1 × a2 × a3 × a4 × a5 × a6 × a7 × a8 × a9 × a10 × a11 × a12)} {k : a1 → a2 → a3 → a4 → a5 → a6 → a7 → a8 → a9 → a10 → a11 → a12 → Option γ} {r : γ} (h : bd12 o k = some r) : ∃ x1 x2 x3 x4 x5 x6 x7 x8 x9 x10 x11 x12, o = some (x1, x2, x3, x4, x5, x6, x7, x8, x9, x10, x11, x12) ∧ k x1 x2 x3 x4 x5 x6 x7 x8 x9 x10 x11 x12 = some r := by
  cases o with
  | none => cases h
  | some x => exact ⟨x.1, x.2.1, x.2.2.1, x.2.2.2.1, x.2.2.2.2.1, x.2.2.2.2.2.1, x.2.2.2.2.2.2.1, x.2.2.2.2.2.2.2.1, x.2.2.2.2.2.2.2.2.1, x.2.2.2.2.2.2.2.2.2.1, x.2.2.2.2.2.2.2.2.2.2.1, x.2.2.2.2.2.2.2.2.2.2.2, rfl, h⟩
theorem bd12_s {a1 a2 a3 a4 a5 a6 a7 a8 a9 a10 a11 a12 γ : Type} {x1 : a1} {x2 : a2} {x3 : a3} {x4 : a4} {x5 : a5} {x6 : a6} {x7 : a7} {x8 : a8} {x9 : a9} {x10 : a10} {x11 : a11} {x12 : a12} {k : a1 → a2 → a3 → a4 → a5 → a6 → a7 → a8 → a9 → a10 → a11 → a12 → Option γ} : bd12 (some (x1, x2, x3, x4, x5, x6, x7, x8, x9, x10, x11, x12)) k = k x1 x2 x3 x4 x5 x6 x7 x8 x9 x10 x11 x12 := rfl
theorem bd12L {a1 a2 a3 a4 a5 a6 a7 a8 a9 a10 a11 a12 γ : Type} {o : Option (a1 × a2 × a3 × a4 × a5 × a6 × a7 × a8 × a9 × a10 × a11 × a12)} {k : a1 → a2 → a3 → a4 → a5 → a6 → a7 → a8 → a9 → a10 → a11 → a12 → Option γ} {r : γ} (h : bd12 o k = some r) : ∃ x, o = some x ∧ ∀ a, x = a → un12 k a = some r := by
  cases o with
  | none => cases h
  | some x => exact ⟨x, rfl, fun _ e => by rw [← e]; exact h⟩
theorem re13 {a1 a2 a3 a4 a5 a6 a7 a8 a9 a10 a11 a12 a13 : Type} {x1 : a1} {x2 : a2} {x3 : a3} {x4 : a4} {x5 : a5} {x6 : a6} {x7 : a7} {x8 : a8} {x9 : a9} {x10 : a10} {x11 : a11} {x12 : a12} {x13 : a13} {y1 : a1} {y2 : a2} {y3 : a3} {y4 : a4} {y5 : a5} {y6 : a6} {y7 : a7} {y8 : a8} {y9 : a9} {y10 : a10} {y11 : a11} {y12 : a12} {y13 : a13} (h : some (x1, x2, x3, x4, x5, x6, x7, x8, x9, x10, x11, x12, x13) = some (y1, y2, y3, y4, y5, y6, y7, y8, y9, y10, y11, y12, y13)) : x1 = y1 ∧ x2 = y2 ∧ x3 = y3 ∧ x4 = y4 ∧ x5 = y5 ∧ x6 = y6 ∧ x7 = y7 ∧ x8 = y8 ∧ x9 = y9 ∧ x10 = y10 ∧ x11 = y11 ∧ x12 = y12 ∧ x13 = y13 := by
  have h := Option.some.inj h
  simp only [Prod.mk.injEq] at h
  exact h
def un13 {a1 a2 a3 a4 a5 a6 a7 a8 a9 a10 a11 a12 a13 γ : Type} (f : a1 → a2 → a3 → a4 → a5 → a6 → a7 → a8 → a9 → a10 → a11 → a12 → a13 → γ) : a1 × a2 × a3 × a4 × a5 × a6 × a7 × a8 × a9 × a10 × a11 × a12 × a13 → γ := fun x => f x.1 x.2.1 x.2.2.1 x.2.2.2.1 x.2.2.2.2.1 x.2.2.2.2.2.1 x.2.2.2.2.2.2.1 x.2.2.2.2.2.2.2.1 x.2.2.2.2.2.2.2.2.1 x.2.2.2.2.2.2.2.2.2.1 x.2.2.2.2.2.2.2.2.2.2.1 x.2.2.2.2.2.2.2.2.2.2.2.1 x.2.2.2.2.2.2.2.2.2.2.2.2
theorem un13e {a1 a2 a3 a4 a5 a6 a7 a8 a9 a10 a11 a12 a13 γ : Type} {f : a1 → a2 → a3 → a4 → a5 → a6 → a7 → a8 → a9 → a10 → a11 → a12 → a13 → γ} {x1 : a1} {x2 : a2} {x3 : a3} {x4 : a4} {x5 : a5} {x6 : a6} {x7 : a7} {x8 : a8} {x9 : a9} {x10 : a10} {x11 : a11} {x12 : a12} {x13 : a13} {r : γ} (h : un13 f (x1, x2, x3, x4, x5, x6, x7, x8, x9, x10, x11, x12, x13) = r) : f x1 x2 x3 x4 x5 x6 x7 x8 x9 x10 x11 x12 x13 = r := h
theorem un13_s {a1 a2 a3 a4 a5 a6 a7 a8 a9 a10 a11 a12 a13 γ : Type} {f : a1 → a2 → a3 → a4 → a5 → a6 → a7 → a8 → a9 → a10 → a11 → a12 → a13 → γ} {x1 : a1} {x2 : a2} {x3 : a3} {x4 : a4} {x5 : a5} {x6 : a6} {x7 : a7} {x8 : a8} {x9 : a9} {x10 : a10} {x11 : a11} {x12 : a12} {x13 : a13} : un13 f (x1, x2, x3, x4, x5, x6, x7, x8, x9, x10, x11, x12, x13) = f x1 x2 x3 x4 x5 x6 x7 x8 x9 x10 x11 x12 x13 := rfl
def bd13 {a1 a2 a3 a4 a5 a6 a7 a8 a9 a10 a11 a12 a13 γ : Type} (o : Option (a1 × a2 × a3 × a4 × a5 × a6 × a7 × a8 × a9 × a10 × a11 × a12 × a13)) (k : a1 → a2 → a3 → a4 → a5 → a6 → a7 → a8 → a9 → a10 → a11 → a12 → a13 → Option γ) : Option γ := o.bind fun x => k x.1 x.2.1 x.2.2.1 x.2.2.2.1 x.2.2.2.2.1 x.2.2.2.2.2.1 x.2.2.2.2.2.2.1 x.2.2.2.2.2.2.2.1 x.2.2.2.2.2.2.2.2.1 x.2.2.2.2.2.2.2.2.2.1 x.2.2.2.2.2.2.2.2.2.2.1 x.2.2.2.2.2.2.2.2.2.2.2.1 x.2.2.2.2.2.2.2.2.2.2.2.2
theorem bd13e {a1 a2 a3 a4 a5 a6 a7 a8 a9 a10 a11 a12 a13 γ : Type} {o : Option (a1 × a2 × a3 × a4 × a5 × a6 × a7 × a8 × a9 × a10 × a11 × a12 × a13)} {k : a1 → a2 → a3 → a4 → a5 → a6 → a7 → a8 → a9 → a10 → a11 → a12 → a13 → Option γ} {r : γ} (h : bd13 o k = some r) : ∃ x1 x2 x3 x4 x5 x6 x7 x8 x9 x10 x11 x12 x13, o = some (x1, x2, x3, x4, x5, x6, x7, x8, x9, x10, x11, x12, x13) ∧ k x1 x2 x3 x4 x5 x6 x7 x8 x9 x10 x11 x12 x13 = some r := by
  cases o with
  | none => cases h
  | some x => exact ⟨x.1, x.2.1, x.2.2.1, x.2.2.2.1, x.2.2.2.2.1, x.2.2.2.2.2.1, x.2.2.2.2.2.2.1, x.2.2.2.2.2.2.2.1, x.2.2.2.2.2.2.2.2.1, x.2.2.2.2.2.2.2.2.2.1, x.2.2.2.2.2.2.2.2.2.2.1, x.2.2.2.2.2.2.2.2.2.2.2.1, x.2.2.2.2.2.2.2.2.2.2.2.2, rfl, h⟩
theorem bd13_s {a1 a2 a3 a4 a5 a6 a7 a8 a9 a10 a11 a12 a13 γ : Type} {x1 : a1} {x2 : a2} {x3 : a3} {x4 : a4} {x5 : a5} {x6 : a6} {x7 : a7} {x8 : a8} {x9 : a9} {x10 : a10} {x11 : a11} {x12 : a12} {x13 : a13} {k : a1 → a2 → a3 → a4 → a5 → a6 → a7 → a8 → a9 → a10 → a11 → a12 → a13 → Option γ} : bd13 (some (x1, x2, x3, x4, x5, x6, x7, x8, x9, x10, x11, x12, x13)) k = k x1 x2 x3 x4 x5 x6 x7 x8 x9 x10 x11 x12 x13 := rfl
theorem bd13L {a1 a2 a3 a4 a5 a6 a7 a8 a9 a10 a11 a12 a13 γ : Type} {o : Option (a1 × a2 × a3 × a4 × a5 × a6 × a7 × a8 × a9 × a10 × a11 × a12 × a13)} {k : a1 → a2 → a3 → a4 → a5 → a6 → a7 → a8 → a9 → a10 → a11 → a12 → a13 → Option γ} {r : γ} (h : bd13 o k = some r) : ∃ x, o = some x ∧ ∀ a, x = a → un13 k a = some r := by
  cases o with
  | none => cases h
  | some x => exact ⟨x, rfl, fun _ e => by rw [← e]; exact h⟩
theorem re14 {a1 a2 a3 a4 a5 a6 a7 a8 a9 a10 a11 a12 a13 a14 : Type} {x1 : a1} {x2 : a2} {x3 : a3} {x4 : a4} {x5 : a5} {x6 : a6} {x7 : a7} {x8 : a8} {x9 : a9} {x10 : a10} {x11 : a11} {x12 : a12} {x13 : a13} {x14 : a14} {y1 : a1} {y2 : a2} {y3 : a3} {y4 : a4} {y5 : a5} {y6 : a6} {y7 : a7} {y8 : a8} {y9 : a9} {y10 : a10} {y11 : a11} {y12 : a12} {y13 : a13} {y14 : a14} (h : some (x1, x2, x3, x4, x5, x6, x7, x8, x9, x10, x11, x12, x13, x14) = some (y1, y2, y3, y4, y5, y6, y7, y8, y9, y10, y11, y12, y13, y14)) : x1 = y1 ∧ x2 = y2 ∧ x3 = y3 ∧ x4 = y4 ∧ x5 = y5 ∧ x6 = y6 ∧ x7 = y7 ∧ x8 = y8 ∧ x9 = y9 ∧ x10 = y10 ∧ x11 = y11 ∧ x12 = y12 ∧ x13 = y13 ∧ x14 = y14 := by
  have h := Option.some.inj h
  simp only [Prod.mk.injEq] at h
  exact h
def un14 {a1 a2 a3 a4 a5 a6 a7 a8 a9 a10 a11 a12 a13 a14 γ : Type} (f : a1 → a2 → a3 → a4 → a5 → a6 → a7 → a8 → a9 → a10 → a11 → a12 → a13 → a14 → γ) : a1 × a2 × a3 × a4 × a5 × a6 × a7 × a8 × a9 × a10 × a11 × a12 × a13 × a14 → γ := fun x => f x.1 x.2.1 x.2.2.1 x.2.2.2.1 x.2.2.2.2.1 x.2.2.2.2.2.1 x.2.2.2.2.2.2.1 x.2.2.2.2.2.2.2.1 x.2.2.2.2.2.2.2.2.1 x.2.2.2.2.2.2.2.2.2.1 x.2.2.2.2.2.2.2.2.2.2.1 x.2.2.2.2.2.2.2.2.2.2.2.1 x.2.2.2.2.2.2.2.2.2.2.2.2.1 x.2.2.2.2.2.2.2.2.2.2.2.2.2
theorem un14e {a1 a2 a3 a4 a5 a6 a7 a8 a9 a10 a11 a12 a13 a14 γ : Type} {f : a1 → a2 → a3 → a4 → a5 → a6 → a7 → a8 → a9 → a10 → a11 → a12 → a13 → a14 → γ} {x1 : a1} {x2 : a2} {x3 : a3} {x4 : a4} {x5 : a5} {x6 : a6} {x7 : a7} {x8 : a8} {x9 : a9} {x10 : a10} {x11 : a11} {x12 : a12} {x13 : a13} {x14 : a14} {r : γ} (h : un14 f (x1, x2, x3, x4, x5, x6, x7, x8, x9, x10, x11, x12, x13, x14) = r) : f x1 x2 x3 x4 x5 x6 x7 x8 x9 x10 x11 x12 x13 x14 = r := h
theorem un14_s {a1 a2 a3 a4 a5 a6 a7 a8 a9 a10 a11 a12 a13 a14 γ : Type} {f : a1 → a2 → a3 → a4 → a5 → a6 → a7 → a8 → a9 → a10 → a11 → a12 → a13 → a14 → γ} {x1 : a1} {x2 : a2} {x3 : a3} {x4 : a4} {x5 : a5} {x6 : a6} {x7 : a7} {x8 : a8} {x9 : a9} {x10 : a10} {x11 : a11} {x12 : a12} {x13 : a13} {x14 : a14} : un14 f (x1, x2, x3, x4, x5, x6, x7, x8, x9, x10, x11, x12, x13, x14) = f x1 x2 x3 x4 x5 x6 x7 x8 x9 x10 x11 x12 x13 x14 := rfl
def bd14 {a1 a2 a3 a4 a5 a6 a7 a8 a9 a10 a11 a12 a13 a14 γ : Type} (o : Option (a1 × a2 × a3 × a4 × a5 × a6 × a7 × a8 × a9 × a10 × a11 × a12 × a13 × a14)) (k : a1 → a2 → a3 → a4 → a5 → a6 → a7 → a8 → a9 → a10 → a11 → a12 → a13 → a14 → Option γ) : Option γ := o.bind fun x => k x.1 x.2.1 x.2.2.1 x.2.2.2.1 x.2.2.2.2.1 x.2.2.2.2.2.1 x.2.2.2.2.2.2.1 x.2.2.2.2.2.2.2.1 x.2.2.2.2.2.2.2.2.1 x.2.2.2.2.2.2.2.2.2.1 x.2.2.2.2.2.2.2.2.2.2.1 x.2.2.2.2.2.2.2.2.2.2.2.1 x.2.2.2.2.2.2.2.2.2.2.2.2.1 x.2.2.2.2.2.2.2.2.2.2.2.2.2
theorem bd14e {a1 a2 a3 a4 a5 a6 a7 a8 a9 a10 a11 a12 a13 a14 γ : Type} {o : Option (a1 × a2 × a3 × a4 × a5 × a6 × a7 × a8 × a9 × a10 × a11 × a12 × a13 × a14)} {k : a1 → a2 → a3 → a4 → a5 → a6 → a7 → a8 → a9 → a10 → a11 → a12 → a13 → a14 → Option γ} {r : γ} (h : bd14 o k = some r) : ∃ x1 x2 x3 x4 x5 x6 x7 x8 x9 x10 x11 x12 x13 x14, o = some (x1, x2, x3, x4, x5, x6, x7, x8, x9, x10, x11, x12, x13, x14) ∧ k x1 x2 x3 x4 x5 x6 x7 x8 x9 x10 x11 x12 x13 x14 = some r := by
  cases o with
  | none => cases h
  | some x => exact ⟨x.1, x.2.1, x.2.2.1, x.2.2.2.1, x.2.2.2.2.1, x.2.2.2.2.2.1, x.2.2.2.2.2.2.1, x.2.2.2.2.2.2.2.1, x.2.2.2.2.2.2.2.2.1, x.2.2.2.2.2.2.2.2.2.1, x.2.2.2.2.2.2.2.2.2.2.1, x.2.2.2.2.2.2.2.2.2.2.2.1, x.2.2.2.2.2.2.2.2.2.2.2.2.1, x.2.2.2.2.2.2.2.2.2.2.2.2.2, rfl, h⟩
theorem bd14_s {a1 a2 a3 a4 a5 a6 a7 a8 a9 a10 a11 a12 a13 a14 γ : Type} {x1 : a1} {x2 : a2} {x3 : a3} {x4 : a4} {x5 : a5} {x6 : a6} {x7 : a7} {x8 : a8} {x9 : a9} {x10 : a10} {x11 : a11} {x12 : a12} {x13 : a13} {x14 : a14} {k : a1 → a2 → a3 → a4 → a5 → a6 → a7 → a8 → a9 → a10 → a11 → a12 → a13 → a14 → Option γ} : bd14 (some (x1, x2, x3, x4, x5, x6, x7, x8, x9, x10, x11, x12, x13, x14)) k = k x1 x2 x3 x4 x5 x6 x7 x8 x9 x10 x11 x12 x13 x14 := rfl
theorem bd14L {a1 a2 a3 a4 a5 a6 a7 a8 a9 a10 a11 a12 a13 a14 γ : Type} {o : Option (a1 × a2 × a3 × a4 × a5 × a6 × a7 × a8 × a9 × a10 × a11 × a12 × a13 × a14)} {k : a1 → a2 → a3 → a4 → a5 → a6 → a7 → a8 → a9 → a10 → a11 → a12 → a13 → a14 → Option γ} {r : γ} (h : bd14 o k = some r) : ∃ x, o = some x ∧ ∀ a, x = a → un14 k a = some r := by
  cases o with
  | none => cases h
  | some x => exact ⟨x, rfl, fun _ e => by rw [← e]; exact h⟩
theorem re15 {a1 a2 a3 a4 a5 a6 a7 a8 a9 a10 a11 a12 a13 a14 a15 : Type} {x1 : a1} {x2 : a2} {x3 : a3} {x4 : a4} {x5 : a5} {x6 : a6} {x7 : a7} {x8 : a8} {x9 : a9} {x10 : a10} {x11 : a11} {x12 : a12} {x13 : a13} {x14 : a14} {x15 : a15} {y1 : a1} {y2 : a2} {y3 : a3} {y4 : a4} {y5 : a5} {y6 : a6} {y7 : a7} {y8 : a8} {y9 : a9} {y10 : a10} {y11 : a11} {y12 : a12} {y13 : a13} {y14 : a14} {y15 : a15} (h : some (x1, x2, x3, x4, x5, x6, x7, x8, x9, x10, x11, x12, x13, x14, x15) = some (y1, y2, y3, y4, y5, y6, y7, y8, y9, y10, y11, y12, y13, y14, y15)) : x1 = y1 ∧ x2 = y2 ∧ x3 = y3 ∧ x4 = y4 ∧ x5 = y5 ∧ x6 = y6 ∧ x7 = y7 ∧ x8 = y8 ∧ x9 = y9 ∧ x10 = y10 ∧ x11 = y11 ∧ x12 = y12 ∧ x13 = y13 ∧ x14 = y14 ∧ x15 = y15 := by
  have h := Option.some.inj h
  simp only [Prod.mk.injEq] at h
  exact h
def un15 {a1 a2 a3 a4 a5 a6 a7 a8 a9 a10 a11 a12 a13 a14 a15 γ : Type} (f : a1 → a2 → a3 → a4 → a5 → a6 → a7 → a8 → a9 → a10 → a11 → a12 → a13 → a14 → a15 → γ) : a1 × a2 × a3 × a4 × a5 × a6 × a7 × a8 × a9 × a10 × a11 × a12 × a13 × a14 × a15 → γ := fun x => f x.1 x.2.1 x.2.2.1 x.2.2.2.1 x.2.2.2.2.1 x.2.2.2.2.2.1 x.2.2.2.2.2.2.1 x.2.2.2.2.2.2.2.1 x.2.2.2.2.2.2.2.2.1 x.2.2.2.2.2.2.2.2.2.1 x.2.2.2.2.2.2.2.2.2.2.1 x.2.2.2.2.2.2.2.2.2.2.2.1 x.2.2.2.2.2.2.2.2.2.2.2.2.1 x.2.2.2.2.2.2.2.2.2.2.2.2.2.1 x.2.2.2.2.2.2.2.2.2.2.2.2.2.2
theorem un15e {a1 a2 a3 a4 a5 a6 a7 a8 a9 a10 a11 a12 a13 a14 a15 γ : Type} {f : a1 → a2 → a3 → a4 → a5 → a6 → a7 → a8 → a9 → a10 → a11 → a12 → a13 → a14 → a15 → γ} {x1 : a1} {x2 : a2} {x3 : a3} {x4 : a4} {x5 : a5} {x6 : a6} {x7 : a7} {x8 : a8} {x9 : a9} {x10 : a10} {x11 : a11} {x12 : a12} {x13 : a13} {x14 : a14} {x15 : a15} {r : γ} (h : un15 f (x1, x2, x3, x4, x5, x6, x7, x8, x9, x10, x11, x12, x13, x14, x15) = r) : f x1 x2 x3 x4 x5 x6 x7 x8 x9 x10 x11 x12 x13 x14 x15 = r := h
theorem un15_s {a1 a2 a3 a4 a5 a6 a7 a8 a9 a10 a11 a12 a13 a14 a15 γ : Type} {f : a1 → a2 → a3 → a4 → a5 → a6 → a7 → a8 → a9 → a10 → a11 → a12 → a13 → a14 → a15 → γ} {x1 : a1} {x2 : a2} {x3 : a3} {x4 : a4} {x5 : a5} {x6 : a6} {x7 : a7} {x8 : a8} {x9 : a9} {x10 : a10} {x11 : a11} {x12 : a12} {x13 : a13} {x14 : a14} {x15 : a15} : un15 f (x1, x2, x3, x4, x5, x6, x7, x8, x9, x10, x11, x12, x13, x14, x15) = f x1 x2 x3 x4 x5 x6 x7 x8 x9 x10 x11 x12 x13 x14 x15 := rfl
def bd15 {a1 a2 a3 a4 a5 a6 a7 a8 a9 a10 a11 a12 a13 a14 a15 γ : Type} (o : Option (a1 × a2 × a3 × a4 × a5 × a6 × a7 × a8 × a9 × a10 × a11 × a12 × a13 × a14 × a15)) (k : a1 → a2 → a3 → a4 → a5 → a6 → a7 → a8 → a9 → a10 → a11 → a12 → a13 → a14 → a15 → Option γ) : Option γ := o.bind fun x => k x.1 x.2.1 x.2.2.1 x.2.2.2.1 x.2.2.2.2.1 x.2.2.2.2.2.1 x.2.2.2.2.2.2.1 x.2.2.2.2.2.2.2.1 x.2.2.2.2.2.2.2.2.1 x.2.2.2.2.2.2.2.2.2.1 x.2.2.2.2.2.2.2.2.2.2.1 x.2.2.2.2.2.2.2.2.2.2.2.1 x.2.2.2.2.2.2.2.2.2.2.2.2.1 x.2.2.2.2.2.2.2.2.2.2.2.2.2.1 x.2.2.2.2.2.2.2.2.2.2.2.2.2.2
theorem bd15e {a1 a2 a3 a4 a5 a6 a7 a8 a9 a10 a11 a12 a13 a14 a15 γ : Type} {o : Option (a1 × a2 × a3 × a4 × a5 × a6 × a7 × a8 × a9 × a10 × a11 × a12 × a13 × a14 × a15)} {k : a1 → a2 → a3 → a4 → a5 → a6 → a7 → a8 → a9 → a10 → a11 → a12 → a13 → a14 → a15 → Option γ} {r : γ} (h : bd15 o k = some r) : ∃ x1 x2 x3 x4 x5 x6 x7 x8 x9 x10 x11 x12 x13 x14 x15, o = some (x1, x2, x3, x4, x5, x6, x7, x8, x9, x10, x11, x12, x13, x14, x15) ∧ k x1 x2 x3 x4 x5 x6 x7 x8 x9 x10 x11 x12 x13 x14 x15 = some r := by
  cases o with
  | none => cases h
  | some x => exact ⟨x.1, x.2.1, x.2.2.1, x.2.2.2.1, x.2.2.2.2.1, x.2.2.2.2.2.1, x.2.2.2.2.2.2.1, x.2.2.2.2.2.2.2.1, x.2.2.2.2.2.2.2.2.1, x.2.2.2.2.2.2.2.2.2.1, x.2.2.2.2.2.2.2.2.2.2.1, x.2.2.2.2.2.2.2.2.2.2.2.1, x.2.2.2.2.2.2.2.2.2.2.2.2.1, x.2.2.2.2.2.2.2.2.2.2.2.2.2.1, x.2.2.2.2.2.2.2.2.2.2.2.2.2.2, rfl, h⟩
theorem bd15_s {a1 a2 a3 a4 a5 a6 a7 a8 a9 a10 a11 a12 a13 a14 a15 γ : Type} {x1 : a1} {x2 : a2} {x3 : a3} {x4 : a4} {x5 : a5} {x6 : a6} {x7 : a7} {x8 : a8} {x9 : a9} {x10 : a10} {x11 : a11} {x12 : a12} {x13 : a13} {x14 : a14} {x15 : a15} {k : a1 → a2 → a3 → a4 → a5 → a6 → a7 → a8 → a9 → a10 → a11 → a12 → a13 → a14 → a15 → Option γ} : bd15 (some (x1, x2, x3, x4, x5, x6, x7, x8, x9, x10, x11, x12, x13, x14, x15)) k = k x1 x2 x3 x4 x5 x6 x7 x8 x9 x10 x11 x12 x13 x14 x15 := rfl
theorem bd15L {a1 a2 a3 a4 a5 a6 a7 a8 a9 a10 a11 a12 a13 a14 a15 γ : Type} {o : Option (a1 × a2 × a3 × a4 × a5 × a6 × a7 × a8 × a9 × a10 × a11 × a12 × a13 × a14 × a15)} {k : a1 → a2 → a3 → a4 → a5 → a6 → a7 → a8 → a9 → a10 → a11 → a12 → a13 → a14 → a15 → Option γ} {r : γ} (h : bd15 o k = some r) : ∃ x, o = some x ∧ ∀ a, x = a → un15 k a = some r := by
  cases o with
  | none => cases h
  | some x => exact ⟨x, rfl, fun _ e => by rw [← e]; exact h⟩
theorem re16 {a1 a2 a3 a4 a5 a6 a7 a8 a9 a10 a11 a12 a13 a14 a15 a16 : Type} {x1 : a1} {x2 : a2} {x3 : a3} {x4 : a4} {x5 : a5} {x6 : a6} {x7 : a7} {x8 : a8} {x9 : a9} {x10 : a10} {x11 : a11} {x12 : a12} {x13 : a13} {x14 : a14} {x15 : a15} {x16 : a16} {y1 : a1} {y2 : a2} {y3 : a3} {y4 : a4} {y5 : a5} {y6 : a6} {y7 : a7} {y8 : a8} {y9 : a9} {y10 : a10} {y11 : a11} {y12 : a12} {y13 : a13} {y14 : a14} {y15 : a15} {y16 : a16} (h : some (x1, x2, x3, x4, x5, x6, x7, x8, x9, x10, x11, x12, x13, x14, x15, x16) = some (y1, y2, y3, y4, y5, y6, y7, y8, y9, y10, y11, y12, y13, y14, y15, y16)) : x1 = y1 ∧ x2 = y2 ∧ x3 = y3 ∧ x4 = y4 ∧ x5 = y5 ∧ x6 = y6 ∧ x7 = y7 ∧ x8 = y8 ∧ x9 = y9 ∧ x10 = y10 ∧ x11 = y11 ∧ x12 = y12 ∧ x13 = y13 ∧ x14 = y14 ∧ x15 = y15 ∧ x16 = y16 := by
  have h := Option.some.inj h
  simp only [Prod.mk.injEq] at h
  exact h
def un16 {a1 a2 a3 a4 a5 a6 a7 a8 a9 a10 a11 a12 a13 a14 a15 a16 γ : Type} (f : a1 → a2 → a3 → a4 → a5 → a6 → a7 → a8 → a9 → a10 → a11 → a12 → a13 → a14 → a15 → a16 → γ) : a1 × a2 × a3 × a4 × a5 × a6 × a7 × a8 × a9 × a10 × a11 × a12 × a13 × a14 × a15 × a16 → γ := fun x => f x.1 x.2.1 x.2.2.1 x.2.2.2.1 x.2.2.2.2.1 x.2.2.2.2.2.1 x.2.2.2.2.2.2.1 x.2.2.2.2.2.2.2.1 x.2.2.2.2.2.2.2.2.1 x.2.2.2.2.2.2.2.2.2.1 x.2.2.2.2.2.2.2.2.2.2.1 x.2.2.2.2.2.2.2.2.2.2.2.1 x.2.2.2.2.2.2.2.2.2.2.2.2.1 x.2.2.2.2.2.2.2.2.2.2.2.2.2.1 x.2.2.2.2.2.2.2.2.2.2.2.2.2.2.1 x.2.2.2.2.2.2.2.2.2.2.2.2.2.2.2
theorem un16e {a1 a2 a3 a4 a5 a6 a7 a8 a9 a10 a11 a12 a13 a14 a15 a16 γ : Type} {f : a1 → a2 → a3 → a4 → a5 → a6 → a7 → a8 → a9 → a10 → a11 → a12 → a13 → a14 → a15 → a16 → γ} {x1 : a1} {x2 : a2} {x3 : a3} {x4 : a4} {x5 : a5} {x6 : a6} {x7 : a7} {x8 : a8} {x9 : a9} {x10 : a10} {x11 : a11} {x12 : a12} {x13 : a13} {x14 : a14} {x15 : a15} {x16 : a16} {r : γ} (h : un16 f (x1, x2, x3, x4, x5, x6, x7, x8, x9, x10, x11, x12, x13, x14, x15, x16) = r) : f x1 x2 x3 x4 x5 x6 x7 x8 x9 x10 x11 x12 x13 x14 x15 x16 = r := h
theorem un16_s {a1 a2 a3 a4 a5 a6 a7 a8 a9 a10 a11 a12 a13 a14 a15 a16 γ : Type} {f : a1 → a2 → a3 → a4 → a5 → a6 → a7 → a8 → a9 → a10 → a11 → a12 → a13 → a14 → a15 → a16 → γ} {x1 : a1} {x2 : a2} {x3 : a3} {x4 : a4} {x5 : a5} {x6 : a6} {x7 : a7} {x8 : a8} {x9 : a9} {x10 : a10} {x11 : a11} {x12 : a12} {x13 : a13} {x14 : a14} {x15 : a15} {x16 : a16} : un16 f (x1, x2, x3, x4, x5, x6, x7, x8, x9, x10, x11, x12, x13, x14, x15, x16) = f x1 x2 x3 x4 x5 x6 x7 x8 x9 x10 x11 x12 x13 x14 x15 x16 := rfl
def bd16 {a1 a2 a3 a4 a5 a6 a7 a8 a9 a10 a11 a12 a13 a14 a15 a16 γ : Type} (o : Option (a1 × a2 × a3 × a4 × a5 × a6 × a7 × a8 × a9 × a10 × a11 × a12 × a13 × a14 × a15 × a16)) (k : a1 → a2 → a3 → a4 → a5 → a6 → a7 → a8 → a9 → a10 → a11 → a12 → a13 → a14 → a15 → a16 → Option γ) : Option γ := o.bind fun x => k x.1 x.2.1 x.2.2.1 x.2.2.2.1 x.2.2.2.2.1 x.2.2.2.2.2.1 x.2.2.2.2.2.2.1 x.2.2.2.2.2.2.2.1 x.2.2.2.2.2.2.2.2.1 x.2.2.2.2.2.2.2.2.2.1 x.2.2.2.2.2.2.2.2.2.2.1 x.2.2.2.2.2.2.2.2.2.2.2.1 x.2.2.2.2.2.2.2.2.2.2.2.2.1 x.2.2.2.2.2.2.2.2.2.2.2.2.2.1 x.2.2.2.2.2.2.2.2.2.2.2.2.2.2.1 x.2.2.2.2.2.2.2.2.2.2.2.2.2.2.2
theorem bd16e {a1 a2 a3 a4 a5 a6 a7 a8 a9 a10 a11 a12 a13 a14 a15 a16 γ : Type} {o : Option (a1 × a2 × a3 × a4 × a5 × a6 × a7 × a8 × a9 × a10 × a11 × a12 × a13 × a14 × a15 × a16)} {k : a1 → a2 → a3 → a4 → a5 → a6 → a7 → a8 → a9 → a10 → a11 → a12 → a13 → a14 → a15 → a16 → Option γ} {r : γ} (h : bd16 o k = some r) : ∃ x1 x2 x3 x4 x5 x6 x7 x8 x9 x10 x11 x12 x13 x14 x15 x16, o = some (x1, x2, x3, x4, x5, x6, x7, x8, x9, x10, x11, x12, x13, x14, x15, x16) ∧ k x1 x2 x3 x4 x5 x6 x7 x8 x9 x10 x11 x12 x13 x14 x15 x16 = some r := by
  cases o with
  | none => cases h
  | some x => exact ⟨x.1, x.2.1, x.2.2.1, x.2.2.2.1, x.2.2.2.2.1, x.2.2.2.2.2.1, x.2.2.2.2.2.2.1, x.2.2.2.2.2.2.2.1, x.2.2.2.2.2.2.2.2.1, x.2.2.2.2.2.2.2.2.2.1, x.2.2.2.2.2.2.2.2.2.2.1, x.2.2.2.2.2.2.2.2.2.2.2.1, x.2.2.2.2.2.2.2.2.2.2.2.2.1, x.2.2.2.2.2.2.2.2.2.2.2.2.2.1, x.2.2.2.2.2.2.2.2.2.2.2.2.2.2.1, x.2.2.2.2.2.2.2.2.2.2.2.2.2.2.2, rfl, h⟩
theorem bd16_s {a1 a2 a3 a4 a5 a6 a7 a8 a9 a10 a11 a12 a13 a14 a15 a16 γ : Type} {x1 : a1} {x2 : a2} {x3 : a3} {x4 : a4} {x5 : a5} {x6 : a6} {x7 : a7} {x8 : a8} {x9 : a9} {x10 : a10} {x11 : a11} {x12 : a12} {x13 : a13} {x14 : a14} {x15 : a15} {x16 : a16} {k : a1 → a2 → a3 → a4 → a5 → a6 → a7 → a8 → a9 → a10 → a11 → a12 → a13 → a14 → a15 → a16 → Option γ} : bd16 (some (x1, x2, x3, x4, x5, x6, x7, x8, x9, x10, x11, x12, x13, x14, x15, x16)) k = k x1 x2 x3 x4 x5 x6 x7 x8 x9 x10 x11 x12 x13 x14 x15 x16 := rfl
theorem bd16L {a1 a2 a3 a4 a5 a6 a7 a8 a9 a10 a11 a12 a13 a14 a15 a16 γ : Type} {o : Option (a1 × a2 × a3 × a4 × a5 × a6 × a7 × a8 × a9 × a10 × a11 × a12 × a13 × a14 × a15 × a16)} {k : a1 → a2 → a3 → a4 → a5 → a6 → a7 → a8 → a9 → a10 → a11 → a12 → a13 → a14 → a15 → a16 → Option γ} {r : γ} (h : bd16 o k = some r) : ∃ x, o = some x ∧ ∀ a, x = a → un16 k a = some r := by
  cases o with
  | none => cases h
  | some x => exact ⟨x, rfl, fun _ e => by rw [← e]; exact h⟩
theorem re17 {a1 a2 a3 a4 a5 a6 a7 a8 a9 a10 a11 a12 a13 a14 a15 a16 a17 : Type} {x1 : a1} {x2 : a2} {x3 : a3} {x4 : a4} {x5 : a5} {x6 : a6} {x7 : a7} {x8 : a8} {x9 : a9} {x10 : a10} {x11 : a11} {x12 : a12} {x13 : a13} {x14 : a14} {x15 : a15} {x16 : a16} {x17 : a17} {y1 : a1} {y2 : a2} {y3 : a3} {y4 : a4} {y5 : a5} {y6 : a6} {y7 : a7} {y8 : a8} {y9 : a9} {y10 : a10} {y11 : a11} {y12 : a12} {y13 : a13} {y14 : a14} {y15 : a15} {y16 : a16} {y17 : a17} (h : some (x1, x2, x3, x4, x5, x6, x7, x8, x9, x10, x11, x12, x13, x14, x15, x16, x17) = some (y1, y2, y3, y4, y5, y6, y7, y8, y9, y10, y11, y12, y13, y14, y15, y16, y17)) : x1 = y1 ∧ x2 = y2 ∧ x3 = y3 ∧ x4 = y4 ∧ x5 = y5 ∧ x6 = y6 ∧ x7 = y7 ∧ x8 = y8 ∧ x9 = y9 ∧ x10 = y10 ∧ x11 = y11 ∧ x12 = y12 ∧ x13 = y13 ∧ x14 = y14 ∧ x15 = y15 ∧ x16 = y16 ∧ x17 = y17 := by
  have h := Option.some.inj h
  simp only [Prod.mk.injEq] at h
  exact h
def un17 {a1 a2 a3 a4 a5 a6 a7 a8 a9 a10 a11 a12 a13 a14 a15 a16 a17 γ : Type} (f : a1 → a2 → a3 → a4 → a5 → a6 → a7 → a8 → a9 → a10 → a11 → a12 → a13 → a14 → a15 → a16 → a17 → γ) : a1 × a2 × a3 × a4 × a5 × a6 × a7 × a8 × a9 × a10 × a11 × a12 × a13 × a14 × a15 × a16 × a17 → γ := fun x => f x.1 x.2.1 x.2.2.1 x.2.2.2.1 x.2.2.2.2.1 x.2.2.2.2.2.1 x.2.2.2.2.2.2.1 x.2.2.2.2.2.2.2.1 x.2.2.2.2.2.2.2.2.1 x.2.2.2.2.2.2.2.2.2.1 x.2.2.2.2.2.2.2.2.2.2.1 x.2.2.2.2.2.2.2.2.2.2.2.1 x.2.2.2.2.2.2.2.2.2.2.2.2.1 x.2.2.2.2.2.2.2.2.2.2.2.2.2.1 x.2.2.2.2.2.2.2.2.2.2.2.2.2.2.1 x.2.2.2.2.2.2.2.2.2.2.2.2.2.2.2.1 x.2.2.2.2.2.2.2.2.2.2.2.2.2.2.2.2
theorem un17e {a1 a2 a3 a4 a5 a6 a7 a8 a9 a10 a11 a12 a13 a14 a15 a16 a17 γ : Type} {f : a1 → a2 → a3 → a4 → a5 → a6 → a7 → a8 → a9 → a10 → a11 → a12 → a13 → a14 → a15 → a16 → a17 → γ} {x1 : a1} {x2 : a2} {x3 : a3} {x4 : a4} {x5 : a5} {x6 : a6} {x7 : a7} {x8 : a8} {x9 : a9} {x10 : a10} {x11 : a11} {x12 : a12} {x13 : a13} {x14 : a14} {x15 : a15} {x16 : a16} {x17 : a17} {r : γ} (h : un17 f (x1, x2, x3, x4, x5, x6, x7, x8, x9, x10, x11, x12, x13, x14, x15, x16, x17) = r) : f x1 x2 x3 x4 x5 x6 x7 x8 x9 x10 x11 x12 x13 x14 x15 x16 x17 = r := h
theorem un17_s {a1 a2 a3 a4 a5 a6 a7 a8 a9 a10 a11 a12 a13 a14 a15 a16 a17 γ : Type} {f : a1 → a2 → a3 → a4 → a5 → a6 → a7 → a8 → a9 → a10 → a11 → a12 → a13 → a14 → a15 → a16 → a17 → γ} {x1 : a1} {x2 : a2} {x3 : a3} {x4 : a4} {x5 : a5} {x6 : a6} {x7 : a7} {x8 : a8} {x9 : a9} {x10 : a10} {x11 : a11} {x12 : a12} {x13 : a13} {x14 : a14} {x15 : a15} {x16 : a16} {x17 : a17} : un17 f (x1, x2, x3, x4, x5, x6, x7, x8, x9, x10, x11, x12, x13, x14, x15, x16, x17) = f x1 x2 x3 x4 x5 x6 x7 x8 x9 x10 x11 x12 x13 x14 x15 x16 x17 := rfl
def bd17 {a1 a2 a3 a4 a5 a6 a7 a8 a9 a10 a11 a12 a13 a14 a15 a16 a17 γ : Type} (o : Option (a1 × a2 × a3 × a4 × a5 × a6 × a7 × a8 × a9 × a10 × a11 × a12 × a13 × a14 × a15 × a16 × a17)) (k : a1 → a2 → a3 → a4 → a5 → a6 → a7 → a8 → a9 → a10 → a11 → a12 → a13 → a14 → a15 → a16 → a17 → Option γ) : Option γ := o.bind fun x => k x.1 x.2.1 x.2.2.1 x.2.2.2.1 x.2.2.2.2.1 x.2.2.2.2.2.1 x.2.2.2.2.2.2.1 x.2.2.2.2.2.2.2.1 x.2.2.2.2.2.2.2.2.1 x.2.2.2.2.2.2.2.2.2.1 x.2.2.2.2.2.2.2.2.2.2.1 x.2.2.2.2.2.2.2.2.2.2.2.1 x.2.2.2.2.2.2.2.2.2.2.2.2.1 x.2.2.2.2.2.2.2.2.2.2.2.2.2.1 x.2.2.2.2.2.2.2.2.2.2.2.2.2.2.1 x.2.2.2.2.2.2.2.2.2.2.2.2.2.2.2.1 x.2.2.2.2.2.2.2.2.2.2.2.2.2.2.2.2
theorem bd17e {a1 a2 a3 a4 a5 a6 a7 a8 a9 a10 a11 a12 a13 a14 a15 a16 a17 γ : Type} {o : Option (a1 × a2 × a3 × a4 × a5 × a6 × a7 × a8 × a9 × a10 × a11 × a12 × a13 × a14 × a15 × a16 × a17)} {k : a1 → a2 → a3 → a4 → a5 → a6 → a7 → a8 → a9 → a10 → a11 → a12 → a13 → a14 → a15 → a16 → a17 → Option γ} {r : γ} (h : bd17 o k = some r) : ∃ x1 x2 x3 x4 x5 x6 x7 x8 x9 x10 x11 x12 x13 x14 x15 x16 x17, o = some (x1, x2, x3, x4, x5, x6, x7, x8, x9, x10, x11, x12, x13, x14, x15, x16, x17) ∧ k x1 x2 x3 x4 x5 x6 x7 x8 x9 x10 x11 x12 x13 x14 x15 x16 x17 = some r := by
  cases o with
  | none => cases h
  | some x => exact ⟨x.1, x.2.1, x.2.2.1, x.2.2.2.1, x.2.2.2.2.1, x.2.2.2.2.2.1, x.2.2.2.2.2.2.1, x.2.2.2.2.2.2.2.1, x.2.2.2.2.2.2.2.2.1, x.2.2.2.2.2.2.2.2.2.1, x.2.2.2.2.2.2.2.2.2.2.1, x.2.2.2.2.2.2.2.2.2.2.2.1, x.2.2.2.2.2.2.2.2.2.2.2.2.1, x.2.2.2.2.2.2.2.2.2.2.2.2.2.1, x.2.2.2.2.2.2.2.2.2.2.2.2.2.2.1, x.2.2.2.2.2.2.2.2.2.2.2.2.2.2.2.1, x.2.2.2.2.2.2.2.2.2.2.2.2.2.2.2.2, rfl, h⟩
theorem bd17_s {a1 a2 a3 a4 a5 a6 a7 a8 a9 a10 a11 a12 a13 a14 a15 a16 a17 γ : Type} {x1 : a1} {x2 : a2} {x3 : a3} {x4 : a4} {x5 : a5} {x6 : a6} {x7 : a7} {x8 : a8} {x9 : a9} {x10 : a10} {x11 : a11} {x12 : a12} {x13 : a13} {x14 : a14} {x15 : a15} {x16 : a16} {x17 : a17} {k : a1 → a2 → a3 → a4 → a5 → a6 → a7 → a8 → a9 → a10 → a11 → a12 → a13 → a14 → a15 → a16 → a17 → Option γ} : bd17 (some (x1, x2, x3, x4, x5, x6, x7, x8, x9, x10, x11, x12, x13, x14, x15, x16, x17)) k = k x1 x2 x3 x4 x5 x6 x7 x8 x9 x10 x11 x12 x13 x14 x15 x16 x17 := rfl
theorem bd17L {a1 a2 a3 a4 a5 a6 a7 a8 a9 a10 a11 a12 a13 a14 a15 a16 a17 γ : Type} {o : Option (a1 × a2 × a3 × a4 × a5 × a6 × a7 × a8 × a9 × a10 × a11 × a12 × a13 × a14 × a15 × a16 × a17)} {k : a1 → a2 → a3 → a4 → a5 → a6 → a7 → a8 → a9 → a10 → a11 → a12 → a13 → a14 → a15 → a16 → a17 → Option γ} {r : γ} (h : bd17 o k = some r) : ∃ x, o = some x ∧ ∀ a, x = a → un17 k a = some r := by
  cases o with
  | none => cases h
  | some x => exact ⟨x, rfl, fun _ e => by rw [← e]; exact h⟩
theorem re18 {a1 a2 a3 a4 a5 a6 a7 a8 a9 a10 a11 a12 a13 a14 a15 a16 a17 a18 : Type} {x1 : a1} {x2 : a2} {x3 : a3} {x4 : a4} {x5 : a5} {x6 : a6} {x7 : a7} {x8 : a8} {x9 : a9} {x10 : a10} {x11 : a11} {x12 : a12} {x13 : a13} {x14 : a14} {x15 : a15} {x16 : a16} {x17 : a17} {x18 : a18} {y1 : a1} {y2 : a2} {y3 : a3} {y4 : a4} {y5 : a5} {y6 : a6} {y7 : a7} {y8 : a8} {y9 : a9} {y10 : a10} {y11 : a11} {y12 : a12} {y13 : a13} {y14 : a14} {y15 : a15} {y16 : a16} {y17 : a17} {y18 : a18} (h : some (x1, x2, x3, x4, x5, x6, x7, x8, x9, x10, x11, x12, x13, x14, x15, x16, x17, x18) = some (y1, y2, y3, y4, y5, y6, y7, y8, y9, y10, y11, y12, y13, y14, y15, y16, y17, y18)) : x1 = y1 ∧ x2 = y2 ∧ x3 = y3 ∧ x4 = y4 ∧ x5 = y5 ∧ x6 = y6 ∧ x7 = y7 ∧ x8 = y8 ∧ x9 = y9 ∧ x10 = y10 ∧ x11 = y11 ∧ x12 = y12 ∧ x13 = y13 ∧ x14 = y14 ∧ x15 = y15 ∧ x16 = y16 ∧ x17 = y17 ∧ x18 = y18 := by
  have h := Option.some.inj h
  simp only [Prod.mk.injEq] at h
  exact h
def un18 {a1 a2 a3 a4 a5 a6 a7 a8 a9 a10 a11 a12 a13 a14 a15 a16 a17 a18 γ : Type} (f : a1 → a2 → a3 → a4 → a5 → a6 → a7 → a8 → a9 → a10 → a11 → a12 → a13 → a14 → a15 → a16 → a17 → a18 → γ) : a1 × a2 × a3 × a4 × a5 × a6 × a7 × a8 × a9 × a10 × a11 × a12 × a13 × a14 × a15 × a16 × a17 × a18 → γ := fun x => f x.1 x.2.1 x.2.2.1 x.2.2.2.1 x.2.2.2.2.1 x.2.2.2.2.2.1 x.2.2.2.2.2.2.1 x.2.2.2.2.2.2.2.1 x.2.2.2.2.2.2.2.2.1 x.2.2.2.2.2.2.2.2.2.1 x.2.2.2.2.2.2.2.2.2.2.1 x.2.2.2.2.2.2.2.2.2.2.2.1 x.2.2.2.2.2.2.2.2.2.2.2.2.1 x.2.2.2.2.2.2.2.2.2.2.2.2.2.1 x.2.2.2.2.2.2.2.2.2.2.2.2.2.2.1 x.2.2.2.2.2.2.2.2.2.2.2.2.2.2.2.1 x.2.2.2.2.2.2.2.2.2.2.2.2.2.2.2.2.1 x.2.2.2.2.2.2.2.2.2.2.2.2.2.2.2.2.2
theorem un18e {a1 a2 a3 a4 a5 a6 a7 a8 a9 a10 a11 a12 a13 a14 a15 a16 a17 a18 γ : Type} {f : a1 → a2 → a3 → a4 → a5 → a6 → a7 → a8 → a9 → a10 → a11 → a12 → a13 → a14 → a15 → a16 → a17 → a18 → γ} {x1 : a1} {x2 : a2} {x3 : a3} {x4 : a4} {x5 : a5} {x6 : a6} {x7 : a7} {x8 : a8} {x9 : a9} {x10 : a10} {x11 : a11} {x12 : a12} {x13 : a13} {x14 : a14} {x15 : a15} {x16 : a16} {x17 : a17} {x18 : a18} {r : γ} (h : un18 f (x1, x2, x3, x4, x5, x6, x7, x8, x9, x10, x11, x12, x13, x14, x15, x16, x17, x18) = r) : f x1 x2 x3 x4 x5 x6 x7 x8 x9 x10 x11 x12 x13 x14 x15 x16 x17 x18 = r := h
theorem un18_s {a1 a2 a3 a4 a5 a6 a7 a8 a9 a10 a11 a12 a13 a14 a15 a16 a17 a18 γ : Type} {f : a1 → a2 → a3 → a4 → a5 → a6 → a7 → a8 → a9 → a10 → a11 → a12 → a13 → a14 → a15 → a16 → a17 → a18 → γ} {x1 : a1} {x2 : a2} {x3 : a3} {x4 : a4} {x5 : a5} {x6 : a6} {x7 : a7} {x8 : a8} {x9 : a9} {x10 : a10} {x11 : a11} {x12 : a12} {x13 : a13} {x14 : a14} {x15 : a15} {x16 : a16} {x17 : a17} {x18 : a18} : un18 f (x1, x2, x3, x4, x5, x6, x7, x8, x9, x10, x11, x12, x13, x14, x15, x16, x17, x18) = f x1 x2 x3 x4 x5 x6 x7 x8 x9 x10 x11 x12 x13 x14 x15 x16 x17 x18 := rfl
def bd18 {a1 a2 a3 a4 a5 a6 a7 a8 a9 a10 a11 a12 a13 a14 a15 a16 a17 a18 γ : Type} (o : Option (a1 × a2 × a3 × a4 × a5 × a6 × a7 × a8 × a9 × a10 × a11 × a12 × a13 × a14 × a15 × a16 × a17 × a18)) (k : a1 → a2 → a3 → a4 → a5 → a6 → a7 → a8 → a9 → a10 → a11 → a12 → a13 → a14 → a15 → a16 → a17 → a18 → Option γ) : Option γ := o.bind fun x => k x.1 x.2.1 x.2.2.1 x.2.2.2.1 x.2.2.2.2.1 x.2.2.2.2.2.1 x.2.2.2.2.2.2.1 x.2.2.2.2.2.2.2.1 x.2.2.2.2.2.2.2.2.1 x.2.2.2.2.2.2.2.2.2.1 x.2.2.2.2.2.2.2.2.2.2.1 x.2.2.2.2.2.2.2.2.2.2.2.1 x.2.2.2.2.2.2.2.2.2.2.2.2.1 x.2.2.2.2.2.2.2.2.2.2.2.2.2.1 x.2.2.2.2.2.2.2.2.2.2.2.2.2.2.1 x.2.2.2.2.2.2.2.2.2.2.2.2.2.2.2.1 x.2.2.2.2.2.2.2.2.2.2.2.2.2.2.2.2.1 x.2.2.2.2.2.2.2.2.2.2.2.2.2.2.2.2.2
theorem bd18e {a1 a2 a3 a4 a5 a6 a7 a8 a9 a10 a11 a12 a13 a14 a15 a16 a17 a18 γ : Type} {o : Option (a1 × a2 × a3 × a4 × a5 × a6 × a7 × a8 × a9 × a10 × a11 × a12 × a13 × a14 × a15 × a16 × a17 × a18)} {k : a1 → a2 → a3 → a4 → a5 → a6 → a7 → a8 → a9 → a10 → a11 → a12 → a13 → a14 → a15 → a16 → a17 → a18 → Option γ} {r : γ} (h : bd18 o k = some r) : ∃ x1 x2 x3 x4 x5 x6 x7 x8 x9 x10 x11 x12 x13 x14 x15 x16 x17 x18, o = some (x1, x2, x3, x4, x5, x6, x7, x8, x9, x10, x11, x12, x13, x14, x15, x16, x17, x18) ∧ k x1 x2 x3 x4 x5 x6 x7 x8 x9 x10 x11 x12 x13 x14 x15 x16 x17 x18 = some r := by
  cases o with
  | none => cases h
  | some x => exact ⟨x.1, x.2.1, x.2.2.1, x.2.2.2.1, x.2.2.2.2.1, x.2.2.2.2.2.1, x.2.2.2.2.2.2.1, x.2.2.2.2.2.2.2.1, x.2.2.2.2.2.2.2.2.1, x.2.2.2.2.2.2.2.2.2.1, x.2.2.2.2.2.2.2.2.2.2.1, x.2.2.2.2.2.2.2.2.2.2.2.1, x.2.2.2.2.2.2.2.2.2.2.2.2.1, x.2.2.2.2.2.2.2.2.2.2.2.2.2.1, x.2.2.2.2.2.2.2.2.2.2.2.2.2.2.1, x.2.2.2.2.2.2.2.2.2.2.2.2.2.2.2.1, x.2.2.2.2.2.2.2.2.2.2.2.2.2.2.2.2.1, x.2.2.2.2.2.2.2.2.2.2.2.2.2.2.2.2.2, rfl, h⟩
theorem bd18_s {a1 a2 a3 a4 a5 a6 a7 a8 a9 a10 a11 a12 a13 a14 a15 a16 a17 a18 γ : Type} {x1 : a1} {x2 : a2} {x3 : a3} {x4 : a4} {x5 : a5} {x6 : a6} {x7 : a7} {x8 : a8} {x9 : a9} {x10 : a10} {x11 : a11} {x12 : a12} {x13 : a13} {x14 : a14} {x15 : a15} {x16 : a16} {x17 : a17} {x18 : a18} {k : a1 → a2 → a3 → a4 → a5 → a6 → a7 → a8 → a9 → a10 → a11 → a12 → a13 → a14 → a15 → a16 → a17 → a18 → Option γ} : bd18 (some (x1, x2, x3, x4, x5, x6, x7, x8, x9, x10, x11, x12, x13, x14, x15, x16, x17, x18)) k = k x1 x2 x3 x4 x5 x6 x7 x8 x9 x10 x11 x12 x13 x14 x15 x16 x17 x18 := rfl
theorem bd18L {a1 a2 a3 a4 a5 a6 a7 a8 a9 a10 a11 a12 a13 a14 a15 a16 a17 a18 γ : Type} {o : Option (a1 × a2 × a3 × a4 × a5 × a6 × a7 × a8 × a9 × a10 × a11 × a12 × a13 × a14 × a15 × a16 × a17 × a18)} {k : a1 → a2 → a3 → a4 → a5 → a6 → a7 → a8 → a9 → a10 → a11 → a12 → a13 → a14 → a15 → a16 → a17 → a18 → Option γ} {r : γ} (h : bd18 o k = some r) : ∃ x, o = some x ∧ ∀ a, x = a → un18 k a = some r := by
  cases o with
  | none => cases h
  | some x => exact ⟨x, rfl, fun _ e => by rw [← e]; exact h⟩
theorem re19 {a1 a2 a3 a4 a5 a6 a7 a8 a9 a10 a11 a12 a13 a14 a15 a16 a17 a18 a19 : Type} {x1 : a1} {x2 : a2} {x3 : a3} {x4 : a4} {x5 : a5} {x6 : a6} {x7 : a7} {x8 : a8} {x9 : a9} {x10 : a10} {x11 : a11} {x12 : a12} {x13 : a13} {x14 : a14} {x15 : a15} {x16 : a16} {x17 : a17} {x18 : a18} {x19 : a19} {y1 : a1} {y2 : a2} {y3 : a3} {y4 : a4} {y5 : a5} {y6 : a6} {y7 : a7} {y8 : a8} {y9 : a9} {y10 : a10} {y11 : a11} {y12 : a12} {y13 : a13} {y14 : a14} {y15 : a15} {y16 : a16} {y17 : a17} {y18 : a18} {y19 : a19} (h : some (x1, x2, x3, x4, x5, x6, x7, x8, x9, x10, x11, x12, x13, x14, x15, x16, x17, x18, x19) = some (y1, y2, y3, y4, y5, y6, y7, y8, y9, y10, y11, y12, y13, y14, y15, y16, y17, y18, y19)) : x1 = y1 ∧ x2 = y2 ∧ x3 = y3 ∧ x4 = y4 ∧ x5 = y5 ∧ x6 = y6 ∧ x7 = y7 ∧ x8 = y8 ∧ x9 = y9 ∧ x10 = y10 ∧ x11 = y11 ∧ x12 = y12 ∧ x13 = y13 ∧ x14 = y14 ∧ x15 = y15 ∧ x16 = y16 ∧ x17 = y17 ∧ x18 = y18 ∧ x19 = y19 := by
  have h := Option.some.inj h
  simp only [Prod.mk.injEq] at h
  exact h
def un19 {a1 a2 a3 a4 a5 a6 a7 a8 a9 a10 a11 a12 a13 a14 a15 a16 a17 a18 a19 γ : Type} (f : a1 → a2 → a3 → a4 → a5 → a6 → a7 → a8 → a9 → a10 → a11 → a12 → a13 → a14 → a15 → a16 → a17 → a18 → a19 → γ) : a1 × a2 × a3 × a4 × a5 × a6 × a7 × a8 × a9 × a10 × a11 × a12 × a13 × a14 × a15 × a16 × a17 × a18 × a19 → γ := fun x => f x.1 x.2.1 x.2.2.1 x.2.2.2.1 x.2.2.2.2.1 x.2.2.2.2.2.1 x.2.2.2.2.2.2.1 x.2.2.2.2.2.2.2.1 x.2.2.2.2.2.2.2.2.1 x.2.2.2.2.2.2.2.2.2.1 x.2.2.2.2.2.2.2.2.2.2.1 x.2.2.2.2.2.2.2.2.2.2.2.1 x.2.2.2.2.2.2.2.2.2.2.2.2.1 x.2.2.2.2.2.2.2.2.2.2.2.2.2.1 x.2.2.2.2.2.2.2.2.2.2.2.2.2.2.1 x.2.2.2.2.2.2.2.2.2.2.2.2.2.2.2.1 x.2.2.2.2.2.2.2.2.2.2.2.2.2.2.2.2.1 x.2.2.2.2.2.2.2.2.2.2.2.2.2.2.2.2.2.1 x.2.2.2.2.2.2.2.2.2.2.2.2.2.2.2.2.2.2
theorem un19e {a1 a2 a3 a4 a5 a6 a7 a8 a9 a10 a11 a12 a13 a14 a15 a16 a17 a18 a19 γ : Type} {f : a1 → a2 → a3 → a4 → a5 → a6 → a7 → a8 → a9 → a10 → a11 → a12 → a13 → a14 → a15 → a16 → a17 → a18 → a19 → γ} {x1 : a1} {x2 : a2} {x3 : a3} {x4 : a4} {x5 : a5} {x6 : a6} {x7 : a7} {x8 : a8} {x9 : a9} {x10 : a10} {x11 : a11} {x12 : a12} {x13 : a13} {x14 : a14} {x15 : a15} {x16 : a16} {x17 : a17} {x18 : a18} {x19 : a19} {r : γ} (h : un19 f (x1, x2, x3, x4, x5, x6, x7, x8, x9, x10, x11, x12, x13, x14, x15, x16, x17, x18, x19) = r) : f x1 x2 x3 x4 x5 x6 x7 x8 x9 x10 x11 x12 x13 x14 x15 x16 x17 x18 x19 = r := h
theorem un19_s {a1 a2 a3 a4 a5 a6 a7 a8 a9 a10 a11 a12 a13 a14 a15 a16 a17 a18 a19 γ : Type} {f : a1 → a2 → a3 → a4 → a5 → a6 → a7 → a8 → a9 → a10 → a11 → a12 → a13 → a14 → a15 → a16 → a17 → a18 → a19 → γ} {x1 : a1} {x2 : a2} {x3 : a3} {x4 : a4} {x5 : a5} {x6 : a6} {x7 : a7} {x8 : a8} {x9 : a9} {x10 : a10} {x11 : a11} {x12 : a12} {x13 : a13} {x14 : a14} {x15 : a15} {x16 : a16} {x17 : a17} {x18 : a18} {x19 : a19} : un19 f (x1, x2, x3, x4, x5, x6, x7, x8, x9, x10, x11, x12, x13, x14, x15, x16, x17, x18, x19) = f x1 x2 x3 x4 x5 x6 x7 x8 x9 x10 x11 x12 x13 x14 x15 x16 x17 x18 x19 := rfl
def bd19 {a1 a2 a3 a4 a5 a6 a7 a8 a9 a10 a11 a12 a13 a14 a15 a16 a17 a18 a19 γ : Type} (o : Option (a1 × a2 × a3 × a4 × a5 × a6 × a7 × a8 × a9 × a10 × a11 × a12 × a13 × a14 × a15 × a16 × a17 × a18 × a19)) (k : a1 → a2 → a3 → a4 → a5 → a6 → a7 → a8 → a9 → a10 → a11 → a12 → a13 → a14 → a15 → a16 → a17 → a18 → a19 → Option γ) : Option γ := o.bind fun x => k x.1 x.2.1 x.2.2.1 x.2.2.2.1 x.2.2.2.2.1 x.2.2.2.2.2.1 x.2.2.2.2.2.2.1 x.2.2.2.2.2.2.2.1 x.2.2.2.2.2.2.2.2.1 x.2.2.2.2.2.2.2.2.2.1 x.2.2.2.2.2.2.2.2.2.2.1 x.2.2.2.2.2.2.2.2.2.2.2.1 x.2.2.2.2.2.2.2.2.2.2.2.2.1 x.2.2.2.2.2.2.2.2.2.2.2.2.2.1 x.2.2.2.2.2.2.2.2.2.2.2.2.2.2.1 x.2.2.2.2.2.2.2.2.2.2.2.2.2.2.2.1 x.2.2.2.2.2.2.2.2.2.2.2.2.2.2.2.2.1 x.2.2.2.2.2.2.2.2.2.2.2.2.2.2.2.2.2.1 x.2.2.2.2.2.2.2.2.2.2.2.2.2.2.2.2.2.2
theorem bd19e {a1 a2 a3 a4 a5 a6 a7 a8 a9 a10 a11 a12 a13 a14 a15 a16 a17 a18 a19 γ : Type} {o : Option (a1 × a2 × a3 × a4 × a5 × a6 × a7 × a8 × a9 × a10 × a11 × a12 × a13 × a14 × a15 × a16 × a17 × a18 × a19)} {k : a1 → a2 → a3 → a4 → a5 → a6 → a7 → a8 → a9 → a10 → a11 → a12 → a13 → a14 → a15 → a16 → a17 → a18 → a19 → Option γ} {r : γ} (h : bd19 o k = some r) : ∃ x1 x2 x3 x4 x5 x6 x7 x8 x9 x10 x11 x12 x13 x14 x15 x16 x17 x18 x19, o = some (x1, x2, x3, x4, x5, x6, x7, x8, x9, x10, x11, x12, x13, x14, x15, x16, x17, x18, x19) ∧ k x1 x2 x3 x4 x5 x6 x7 x8 x9 x10 x11 x12 x13 x14 x15 x16 x17 x18 x19 = some r := by
  cases o with
  | none => cases h
  | some x => exact ⟨x.1, x.2.1, x.2.2.1, x.2.2.2.1, x.2.2.2.2.1, x.2.2.2.2.2.1, x.2.2.2.2.2.2.1, x.2.2.2.2.2.2.2.1, x.2.2.2.2.2.2.2.2.1, x.2.2.2.2.2.2.2.2.2.1, x.2.2.2.2.2.2.2.2.2.2.1, x.2.2.2.2.2.2.2.2.2.2.2.1, x.2.2.2.2.2.2.2.2.2.2.2.2.1, x.2.2.2.2.2.2.2.2.2.2.2.2.2.1, x.2.2.2.2.2.2.2.2.2.2.2.2.2.2.1, x.2.2.2.2.2.2.2.2.2.2.2.2.2.2.2.1, x.2.2.2.2.2.2.2.2.2.2.2.2.2.2.2.2.1, x.2.2.2.2.2.2.2.2.2.2.2.2.2.2.2.2.2.1, x.2.2.2.2.2.2.2.2.2.2.2.2.2.2.2.2.2.2, rfl, h⟩
theorem bd19_s {a1 a2 a3 a4 a5 a6 a7 a8 a9 a10 a11 a12 a13 a14 a15 a16 a17 a18 a19 γ : Type} {x1 : a1} {x2 : a2} {x3 : a3} {x4 : a4} {x5 : a5} {x6 : a6} {x7 : a7} {x8 : a8} {x9 : a9} {x10 : a10} {x11 : a11} {x12 : a12} {x13 : a13} {x14 : a14} {x15 : a15} {x16 : a16} {x17 : a17} {x18 : a18} {x19 : a19} {k : a1 → a2 → a3 → a4 → a5 → a6 → a7 → a8 → a9 → a10 → a11 → a12 → a13 → a14 → a15 → a16 → a17 → a18 → a19 → Option γ} : bd19 (some (x1, x2, x3, x4, x5, x6, x7, x8, x9, x10, x11, x12, x13, x14, x15, x16, x17, x18, x19)) k = k x1 x2 x3 x4 x5 x6 x7 x8 x9 x10 x11 x12 x13 x14 x15 x16 x17 x18 x19 := rfl
theorem bd19L {a1 a2 a3 a4 a5 a6 a7 a8 a9 a10 a11 a12 a13 a14 a15 a16 a17 a18 a19 γ : Type} {o : Option (a1 × a2 × a3 × a4 × a5 × a6 × a7 × a8 × a9 × a10 × a11 × a12 × a13 × a14 × a15 × a16 × a17 × a18 × a19)} {k : a1 → a2 → a3 → a4 → a5 → a6 → a7 → a8 → a9 → a10 → a11 → a12 → a13 → a14 → a15 → a16 → a17 → a18 → a19 → Option γ} {r : γ} (h : bd19 o k = some r) : ∃ x, o = some x ∧ ∀ a, x = a → un19 k a = some r := by
  cases o with
  | none => cases h
  | some x => exact ⟨x, rfl, fun _ e => by rw [← e]; exact h⟩
theorem re20 {a1 a2 a3 a4 a5 a6 a7 a8 a9 a10 a11 a12 a13 a14 a15 a16 a17 a18 a19 a20 : Type} {x1 : a1} {x2 : a2} {x3 : a3} {x4 : a4} {x5 : a5} {x6 : a6} {x7 : a7} {x8 : a8} {x9 : a9} {x10 : a10} {x11 : a11} {x12 : a12} {x13 : a13} {x14 : a14} {x15 : a15} {x16 : a16} {x17 : a17} {x18 : a18} {x19 : a19} {x20 : a20} {y1 : a1} {y2 : a2} {y3 : a3} {y4 : a4} {y5 : a5} {y6 : a6} {y7 : a7} {y8 : a8} {y9 : a9} {y10 : a10} {y11 : a11} {y12 : a12} {y13 : a13} {y14 : a14} {y15 : a15} {y16 : a16} {y17 : a17} {y18 : a18} {y19 : a19} {y20 : a20} (h : some (x1, x2, x3, x4, x5, x6, x7, x8, x9, x10, x11, x12, x13, x14, x15, x16, x17, x18, x19, x20) = some (y1, y2, y3, y4, y5, y6, y7, y8, y9, y10, y11, y12, y13, y14, y15, y16, y17, y18, y19, y20)) : x1 = y1 ∧ x2 = y2 ∧ x3 = y3 ∧ x4 = y4 ∧ x5 = y5 ∧ x6 = y6 ∧ x7 = y7 ∧ x8 = y8 ∧ x9 = y9 ∧ x10 = y10 ∧ x11 = y11 ∧ x12 = y12 ∧ x13 = y13 ∧ x14 = y14 ∧ x15 = y15 ∧ x16 = y16 ∧ x17 = y17 ∧ x18 = y18 ∧ x19 = y19 ∧ x20 = y20 := by
  have h := Option.some.inj h
  simp only [Prod.mk.injEq] at h
  exact h
def un20 {a1 a2 a3 a4 a5 a6 a7 a8 a9 a10 a11 a12 a13 a14 a15 a16 a17 a18 a19 a20 γ : Type} (f : a1 → a2 → a3 → a4 → a5 → a6 → a7 → a8 → a9 → a10 → a11 → a12 → a13 → a14 → a15 → a16 → a17 → a18 → a19 → a20 → γ) : a1 × a2 × a3 × a4 × a5 × a6 × a7 × a8 × a9 × a10 × a11 × a12 × a13 × a14 × a15 × a16 × a17 × a18 × a19 × a20 → γ := fun x => f x.1 x.2.1 x.2.2.1 x.2.2.2.1 x.2.2.2.2.1 x.2.2.2.2.2.1 x.2.2.2.2.2.2.1 x.2.2.2.2.2.2.2.1 x.2.2.2.2.2.2.2.2.1 x.2.2.2.2.2.2.2.2.2.1 x.2.2.2.2.2.2.2.2.2.2.1 x.2.2.2.2.2.2.2.2.2.2.2.1 x.2.2.2.2.2.2.2.2.2.2.2.2.1 x.2.2.2.2.2.2.2.2.2.2.2.2.2.1 x.2.2.2.2.2.2.2.2.2.2.2.2.2.2.1 x.2.2.2.2.2.2.2.2.2.2.2.2.2.2.2.1 x.2.2.2.2.2.2.2.2.2.2.2.2.2.2.2.2.1 x.2.2.2.2.2.2.2.2.2.2.2.2.2.2.2.2.2.1 x.2.2.2.2.2.2.2.2.2.2.2.2.2.2.2.2.2.2.1 x.2.2.2.2.2.2.2.2.2.2.2.2.2.2.2.2.2.2.2
theorem un20e {a1 a2 a3 a4 a5 a6 a7 a8 a9 a10 a11 a12 a13 a14 a15 a16 a17 a18 a19 a20 γ : Type} {f : a1 → a2 → a3 → a4 → a5 → a6 → a7 → a8 → a9 → a10 → a11 → a12 → a13 → a14 → a15 → a16 → a17 → a18 → a19 → a20 → γ} {x1 : a1} {x2 : a2} {x3 : a3} {x4 : a4} {x5 : a5} {x6 : a6} {x7 : a7} {x8 : a8} {x9 : a9} {x10 : a10} {x11 : a11} {x12 : a12} {x13 : a13} {x14 : a14} {x15 : a15} {x16 : a16} {x17 : a17} {x18 : a18} {x19 : a19} {x20 : a20} {r : γ} (h : un20 f (x1, x2, x3, x4, x5, x6, x7, x8, x9, x10, x11, x12, x13, x14, x15, x16, x17, x18, x19, x20) = r) : f x1 x2 x3 x4 x5 x6 x7 x8 x9 x10 x11 x12 x13 x14 x15 x16 x17 x18 x19 x20 = r := h
theorem un20_s {a1 a2 a3 a4 a5 a6 a7 a8 a9 a10 a11 a12 a13 a14 a15 a16 a17 a18 a19 a20 γ : Type} {f : a1 → a2 → a3 → a4 → a5 → a6 → a7 → a8 → a9 → a10 → a11 → a12 → a13 → a14 → a15 → a16 → a17 → a18 → a19 → a20 → γ} {x1 : a1} {x2 : a2} {x3 : a3} {x4 : a4} {x5 : a5} {x6 : a6} {x7 : a7} {x8 : a8} {x9 : a9} {x10 : a10} {x11 : a11} {x12 : a12} {x13 : a13} {x14 : a14} {x15 : a15} {x16 : a16} {x17 : a17} {x18 : a18} {x19 : a19} {x20 : a20} : un20 f (x1, x2, x3, x4, x5, x6, x7, x8, x9, x10, x11, x12, x13, x14, x15, x16, x17, x18, x19, x20) = f x1 x2 x3 x4 x5 x6 x7 x8 x9 x10 x11 x12 x13 x14 x15 x16 x17 x18 x19 x20 := rfl
def bd20 {a1 a2 a3 a4 a5 a6 a7 a8 a9 a10 a11 a12 a13 a14 a15 a16 a17 a18 a19 a20 γ : Type} (o : Option (a1 × a2 × a3 × a4 × a5 × a6 × a7 × a8 × a9 × a10 × a11 × a12 × a13 × a14 × a15 × a16 × a17 × a18 × a19 × a20)) (k : a1 → a2 → a3 → a4 → a5 → a6 → a7 → a8 → a9 → a10 → a11 → a12 → a13 → a14 → a15 → a16 → a17 → a18 → a19 → a20 → Option γ) : Option γ := o.bind fun x => k x.1 x.2.1 x.2.2.1 x.2.2.2.1 x.2.2.2.2.1 x.2.2.2.2.2.1 x.2.2.2.2.2.2.1 x.2.2.2.2.2.2.2.1 x.2.2.2.2.2.2.2.2.1 x.2.2.2.2.2.2.2.2.2.1 x.2.2.2.2.2.2.2.2.2.2.1 x.2.2.2.2.2.2.2.2.2.2.2.1 x.2.2.2.2.2.2.2.2.2.2.2.2.1 x.2.2.2.2.2.2.2.2.2.2.2.2.2.1 x.2.2.2.2.2.2.2.2.2.2.2.2.2.2.1 x.2.2.2.2.2.2.2.2.2.2.2.2.2.2.2.1 x.2.2.2.2.2.2.2.2.2.2.2.2.2.2.2.2.1 x.2.2.2.2.2.2.2.2.2.2.2.2.2.2.2.2.2.1 x.2.2.2.2.2.2.2.2.2.2.2.2.2.2.2.2.2.2.1 x.2.2.2.2.2.2.2.2.2.2.2.2.2.2.2.2.2.2.2
theorem bd20e {a1 a2 a3 a4 a5 a6 a7 a8 a9 a10 a11 a12 a13 a14 a15 a16 a17 a18 a19 a20 γ : Type} {o : Option (a1 × a2 × a3 × a4 × a5 × a6 × a7 × a8 × a9 × a10 × a11 × a12 × a13 × a14 × a15 × a16 × a17 × a18 × a19 × a20)} {k : a1 → a2 → a3 → a4 → a5 → a6 → a7 → a8 → a9 → a10 → a11 → a12 → a13 → a14 → a15 → a16 → a17 → a18 → a19 → a20 → Option γ} {r : γ} (h : bd20 o k = some r) : ∃ x1 x2 x3 x4 x5 x6 x7 x8 x9 x10 x11 x12 x13 x14 x15 x16 x17 x18 x19 x20, o = some (x1, x2, x3, x4, x5, x6, x7, x8, x9, x10, x11, x12, x13, x14, x15, x16, x17, x18, x19, x20) ∧ k x1 x2 x3 x4 x5 x6 x7 x8 x9 x10 x11 x12 x13 x14 x15 x16 x17 x18 x19 x20 = some r := by
  cases o with
  | none => cases h
  | some x => exact ⟨x.1, x.2.1, x.2.2.1, x.2.2.2.1, x.2.2.2.2.1, x.2.2.2.2.2.1, x.2.2.2.2.2.2.1, x.2.2.2.2.2.2.2.1, x.2.2.2.2.2.2.2.2.1, x.2.2.2.2.2.2.2.2.2.1, x.2.2.2.2.2.2.2.2.2.2.1, x.2.2.2.2.2.2.2.2.2.2.2.1, x.2.2.2.2.2.2.2.2.2.2.2.2.1, x.2.2.2.2.2.2.2.2.2.2.2.2.2.1, x.2.2.2.2.2.2.2.2.2.2.2.2.2.2.1, x.2.2.2.2.2.2.2.2.2.2.2.2.2.2.2.1, x.2.2.2.2.2.2.2.2.2.2.2.2.2.2.2.2.1, x.2.2.2.2.2.2.2.2.2.2.2.2.2.2.2.2.2.1, x.2.2.2.2.2.2.2.2.2.2.2.2.2.2.2.2.2.2.1, x.2.2.2.2.2.2.2.2.2.2.2.2.2.2.2.2.2.2.2, rfl, h⟩
theorem bd20_s {a1 a2 a3 a4 a5 a6 a7 a8 a9 a10 a11 a12 a13 a14 a15 a16 a17 a18 a19 a20 γ : Type} {x1 : a1} {x2 : a2} {x3 : a3} {x4 : a4} {x5 : a5} {x6 : a6} {x7 : a7} {x8 : a8} {x9 : a9} {x10 : a10} {x11 : a11} {x12 : a12} {x13 : a13} {x14 : a14} {x15 : a15} {x16 : a16} {x17 : a17} {x18 : a18} {x19 : a19} {x20 : a20} {k : a1 → a2 → a3 → a4 → a5 → a6 → a7 → a8 → a9 → a10 → a11 → a12 → a13 → a14 → a15 → a16 → a17 → a18 → a19 → a20 → Option γ} : bd20 (some (x1, x2, x3, x4, x5, x6, x7, x8, x9, x10, x11, x12, x13, x14, x15, x16, x17, x18, x19, x20)) k = k x1 x2 x3 x4 x5 x6 x7 x8 x9 x10 x11 x12 x13 x14 x15 x16 x17 x18 x19 x20 := rfl
theorem bd20L {a1 a2 a3 a4 a5 a6 a7 a8 a9 a10 a11 a12 a13 a14 a15 a16 a17 a18 a19 a20 γ : Type} {o : Option (a1 × a2 × a3 × a4 × a5 × a6 × a7 × a8 × a9 × a10 × a11 × a12 × a13 × a14 × a15 × a16 × a17 × a18 × a19 × a20)} {k : a1 → a2 → a3 → a4 → a5 → a6 → a7 → a8 → a9 → a10 → a11 → a12 → a13 → a14 → a15 → a16 → a17 → a18 → a19 → a20 → Option γ} {r : γ} (h : bd20 o k = some r) : ∃ x, o = some x ∧ ∀ a, x = a → un20 k a = some r := by
  cases o with
  | none => cases h
  | some x => exact ⟨x, rfl, fun _ e => by rw [← e]; exact h⟩
theorem re21 {a1 a2 a3 a4 a5 a6 a7 a8 a9 a10 a11 a12 a13 a14 a15 a16 a17 a18 a19 a20 a21 : Type} {x1 : a1} {x2 : a2} {x3 : a3} {x4 : a4} {x5 : a5} {x6 : a6} {x7 : a7} {x8 : a8} {x9 : a9} {x10 : a10} {x11 : a11} {x12 : a12} {x13 : a13} {x14 : a14} {x15 : a15} {x16 : a16} {x17 : a17} {x18 : a18} {x19 : a19} {x20 : a20} {x21 : a21} {y1 : a1} {y2 : a2} {y3 : a3} {y4 : a4} {y5 : a5} {y6 : a6} {y7 : a7} {y8 : a8} {y9 : a9} {y10 : a10} {y11 : a11} {y12 : a12} {y13 : a13} {y14 : a14} {y15 : a15} {y16 : a16} {y17 : a17} {y18 : a18} {y19 : a19} {y20 : a20} {y21 : a21} (h : some (x1, x2, x3, x4, x5, x6, x7, x8, x9, x10, x11, x12, x13, x14, x15, x16, x17, x18, x19, x20, x21) = some (y1, y2, y3, y4, y5, y6, y7, y8, y9, y10, y11, y12, y13, y14, y15, y16, y17, y18, y19, y20, y21)) : x1 = y1 ∧ x2 = y2 ∧ x3 = y3 ∧ x4 = y4 ∧ x5 = y5 ∧ x6 = y6 ∧ x7 = y7 ∧ x8 = y8 ∧ x9 = y9 ∧ x10 = y10 ∧ x11 = y11 ∧ x12 = y12 ∧ x13 = y13 ∧ x14 = y14 ∧ x15 = y15 ∧ x16 = y16 ∧ x17 = y17 ∧ x18 = y18 ∧ x19 = y19 ∧ x20 = y20 ∧ x21 = y21 := by
  have h := Option.some.inj h
  simp only [Prod.mk.injEq] at h
  exact h
def un21 {a1 a2 a3 a4 a5 a6 a7 a8 a9 a10 a11 a12 a13 a14 a15 a16 a17 a18 a19 a20 a21 γ : Type} (f : a1 → a2 → a3 → a4 → a5 → a6 → a7 → a8 → a9 → a10 → a11 → a12 → a13 → a14 → a15 → a16 → a17 → a18 → a19 → a20 → a21 → γ) : a1 × a2 × a3 × a4 × a5 × a6 × a7 × a8 × a9 × a10 × a11 × a12 × a13 × a14 × a15 × a16 × a17 × a18 × a19 × a20 × a21 → γ := fun x => f x.1 x.2.1 x.2.2.1 x.2.2.2.1 x.2.2.2.2.1 x.2.2.2.2.2.1 x.2.2.2.2.2.2.1 x.2.2.2.2.2.2.2.1 x.2.2.2.2.2.2.2.2.1 x.2.2.2.2.2.2.2.2.2.1 x.2.2.2.2.2.2.2.2.2.2.1 x.2.2.2.2.2.2.2.2.2.2.2.1 x.2.2.2.2.2.2.2.2.2.2.2.2.1 x.2.2.2.2.2.2.2.2.2.2.2.2.2.1 x.2.2.2.2.2.2.2.2.2.2.2.2.2.2.1 x.2.2.2.2.2.2.2.2.2.2.2.2.2.2.2.1 x.2.2.2.2.2.2.2.2.2.2.2.2.2.2.2.2.1 x.2.2.2.2.2.2.2.2.2.2.2.2.2.2.2.2.2.1 x.2.2.2.2.2.2.2.2.2.2.2.2.2.2.2.2.2.2.1 x.2.2.2.2.2.2.2.2.2.2.2.2.2.2.2.2.2.2.2.1 x.2.2.2.2.2.2.2.2.2.2.2.2.2.2.2.2.2.2.2.2
theorem un21e {a1 a2 a3 a4 a5 a6 a7 a8 a9 a10 a11 a12 a13 a14 a15 a16 a17 a18 a19 a20 a21 γ : Type} {f : a1 → a2 → a3 → a4 → a5 → a6 → a7 → a8 → a9 → a10 → a11 → a12 → a13 → a14 → a15 → a16 → a17 → a18 → a19 → a20 → a21 → γ} {x1 : a1} {x2 : a2} {x3 : a3} {x4 : a4} {x5 : a5} {x6 : a6} {x7 : a7} {x8 : a8} {x9 : a9} {x10 : a10} {x11 : a11} {x12 : a12} {x13 : a13} {x14 : a14} {x15 : a15} {x16 : a16} {x17 : a17} {x18 : a18} {x19 : a19} {x20 : a20} {x21 : a21} {r : γ} (h : un21 f (x1, x2, x3, x4, x5, x6, x7, x8, x9, x10, x11, x12, x13, x14, x15, x16, x17, x18, x19, x20, x21) = r) : f x1 x2 x3 x4 x5 x6 x7 x8 x9 x10 x11 x12 x13 x14 x15 x16 x17 x18 x19 x20 x21 = r := h
theorem un21_s {a1 a2 a3 a4 a5 a6 a7 a8 a9 a10 a11 a12 a13 a14 a15 a16 a17 a18 a19 a20 a21 γ : Type} {f : a1 → a2 → a3 → a4 → a5 → a6 → a7 → a8 → a9 → a10 → a11 → a12 → a13 → a14 → a15 → a16 → a17 → a18 → a19 → a20 → a21 → γ} {x1 : a1} {x2 : a2} {x3 : a3} {x4 : a4} {x5 : a5} {x6 : a6} {x7 : a7} {x8 : a8} {x9 : a9} {x10 : a10} {x11 : a11} {x12 : a12} {x13 : a13} {x14 : a14} {x15 : a15} {x16 : a16} {x17 : a17} {x18 : a18} {x19 : a19} {x20 : a20} {x21 : a21} : un21 f (x1, x2, x3, x4, x5, x6, x7, x8, x9, x10, x11, x12, x13, x14, x15, x16, x17, x18, x19, x20, x21) = f x1 x2 x3 x4 x5 x6 x7 x8 x9 x10 x11 x12 x13 x14 x15 x16 x17 x18 x19 x20 x21 := rfl
def bd21 {a1 a2 a3 a4 a5 a6 a7 a8 a9 a10 a11 a12 a13 a14 a15 a16 a17 a18 a19 a20 a21 γ : Type} (o : Option (a1 × a2 × a3 × a4 × a5 × a6 × a7 × a8 × a9 × a10 × a11 × a12 × a13 × a14 × a15 × a16 × a17 × a18 × a19 × a20 × a21)) (k : a1 → a2 → a3 → a4 → a5 → a6 → a7 → a8 → a9 → a10 → a11 → a12 → a13 → a14 → a15 → a16 → a17 → a18 → a19 → a20 → a21 → Option γ) : Option γ := o.bind fun x => k x.1 x.2.1 x.2.2.1 x.2.2.2.1 x.2.2.2.2.1 x.2.2.2.2.2.1 x.2.2.2.2.2.2.1 x.2.2.2.2.2.2.2.1 x.2.2.2.2.2.2.2.2.1 x.2.2.2.2.2.2.2.2.2.1 x.2.2.2.2.2.2.2.2.2.2.1 x.2.2.2.2.2.2.2.2.2.2.2.1 x.2.2.2.2.2.2.2.2.2.2.2.2.1 x.2.2.2.2.2.2.2.2.2.2.2.2.2.1 x.2.2.2.2.2.2.2.2.2.2.2.2.2.2.1 x.2.2.2.2.2.2.2.2.2.2.2.2.2.2.2.1 x.2.2.2.2.2.2.2.2.2.2.2.2.2.2.2.2.1 x.2.2.2.2.2.2.2.2.2.2.2.2.2.2.2.2.2.1 x.2.2.2.2.2.2.2.2.2.2.2.2.2.2.2.2.2.2.1 x.2.2.2.2.2.2.2.2.2.2.2.2.2.2.2.2.2.2.2.1 x.2.2.2.2.2.2.2.2.2.2.2.2.2.2.2.2.2.2.2.2
theorem bd21e {a1 a2 a3 a4 a5 a6 a7 a8 a9 a10 a11 a12 a13 a14 a15 a16 a17 a18 a19 a20 a21 γ : Type} {o : Option (a1 × a2 × a3 × a4 × a5 × a6 × a7 × a8 × a9 × a10 × a11 × a12 × a13 × a14 × a15 × a16 × a17 × a18 × a19 × a20 × a21)} {k : a1 → a2 → a3 → a4 → a5 → a6 → a7 → a8 → a9 → a10 → a11 → a12 → a13 → a14 → a15 → a16 → a17 → a18 → a19 → a20 → a21 → Option γ} {r : γ} (h : bd21 o k = some r) : ∃ x1 x2 x3 x4 x5 x6 x7 x8 x9 x10 x11 x12 x13 x14 x15 x16 x17 x18 x19 x20 x21, o = some (x1, x2, x3, x4, x5, x6, x7, x8, x9, x10, x11, x12, x13, x14, x15, x16, x17, x18, x19, x20, x21) ∧ k x1 x2 x3 x4 x5 x6 x7 x8 x9 x10 x11 x12 x13 x14 x15 x16 x17 x18 x19 x20 x21 = some r := by
  cases o with
  | none => cases h
  | some x => exact ⟨x.1, x.2.1, x.2.2.1, x.2.2.2.1, x.2.2.2.2.1, x.2.2.2.2.2.1, x.2.2.2.2.2.2.1, x.2.2.2.2.2.2.2.1, x.2.2.2.2.2.2.2.2.1, x.2.2.2.2.2.2.2.2.2.1, x.2.2.2.2.2.2.2.2.2.2.1, x.2.2.2.2.2.2.2.2.2.2.2.1, x.2.2.2.2.2.2.2.2.2.2.2.2.1, x.2.2.2.2.2.2.2.2.2.2.2.2.2.1, x.2.2.2.2.2.2.2.2.2.2.2.2.2.2.1, x.2.2.2.2.2.2.2.2.2.2.2.2.2.2.2.1, x.2.2.2.2.2.2.2.2.2.2.2.2.2.2.2.2.1, x.2.2.2.2.2.2.2.2.2.2.2.2.2.2.2.2.2.1, x.2.2.2.2.2.2.2.2.2.2.2.2.2.2.2.2.2.2.1, x.2.2.2.2.2.2.2.2.2.2.2.2.2.2.2.2.2.2.2.1, x.2.2.2.2.2.2.2.2.2.2.2.2.2.2.2.2.2.2.2.2, rfl, h⟩
theorem bd21_s {a1 a2 a3 a4 a5 a6 a7 a8 a9 a10 a11 a12 a13 a14 a15 a16 a17 a18 a19 a20 a21 γ : Type} {x1 : a1} {x2 : a2} {x3 : a3} {x4 : a4} {x5 : a5} {x6 : a6} {x7 : a7} {x8 : a8} {x9 : a9} {x10 : a10} {x11 : a11} {x12 : a12} {x13 : a13} {x14 : a14} {x15 : a15} {x16 : a16} {x17 : a17} {x18 : a18} {x19 : a19} {x20 : a20} {x21 : a21} {k : a1 → a2 → a3 → a4 → a5 → a6 → a7 → a8 → a9 → a10 → a11 → a12 → a13 → a14 → a15 → a16 → a17 → a18 → a19 → a20 → a21 → Option γ} : bd21 (some (x1, x2, x3, x4, x5, x6, x7, x8, x9, x10, x11, x12, x13, x14, x15, x16, x17, x18, x19, x20, x21)) k = k x1 x2 x3 x4 x5 x6 x7 x8 x9 x10 x11 x12 x13 x14 x15 x16 x17 x18 x19 x20 x21 := rfl
theorem bd21L {a1 a2 a3 a4 a5 a6 a7 a8 a9 a10 a11 a12 a13 a14 a15 a16 a17 a18 a19 a20 a21 γ : Type} {o : Option (a1 × a2 × a3 × a4 × a5 × a6 × a7 × a8 × a9 × a10 × a11 × a12 × a13 × a14 × a15 × a16 × a17 × a18 × a19 × a20 × a21)} {k : a1 → a2 → a3 → a4 → a5 → a6 → a7 → a8 → a9 → a10 → a11 → a12 → a13 → a14 → a15 → a16 → a17 → a18 → a19 → a20 → a21 → Option γ} {r : γ} (h : bd21 o k = some r) : ∃ x, o = some x ∧ ∀ a, x = a → un21 k a = some r := by
  cases o with
  | none => cases h
  | some x => exact ⟨x, rfl, fun _ e => by rw [← e]; exact h⟩
theorem re22 {a1 a2 a3 a4 a5 a6 a7 a8 a9 a10 a11 a12 a13 a14 a15 a16 a17 a18 a19 a20 a21 a22 : Type} {x1 : a1} {x2 : a2} {x3 : a3} {x4 : a4} {x5 : a5} {x6 : a6} {x7 : a7} {x8 : a8} {x9 : a9} {x10 : a10} {x11 : a11} {x12 : a12} {x13 : a13} {x14 : a14} {x15 : a15} {x16 : a16} {x17 : a17} {x18 : a18} {x19 : a19} {x20 : a20} {x21 : a21} {x22 : a22} {y1 : a1} {y2 : a2} {y3 : a3} {y4 : a4} {y5 : a5} {y6 : a6} {y7 : a7} {y8 : a8} {y9 : a9} {y10 : a10} {y11 : a11} {y12 : a12} {y13 : a13} {y14 : a14} {y15 : a15} {y16 : a16} {y17 : a17} {y18 : a18} {y19 : a19} {y20 : a20} {y21 : a21} {y22 : a22} (h : some (x1, x2, x3, x4, x5, x6, x7, x8, x9, x10, x11, x12, x13, x14, x15, x16, x17, x18, x19, x20, x21, x22) = some (y1, y2, y3, y4, y5, y6, y7, y8, y9, y10, y11, y12, y13, y14, y15, y16, y17, y18, y19, y20, y21, y22)) : x1 = y1 ∧ x2 = y2 ∧ x3 = y3 ∧ x4 = y4 ∧ x5 = y5 ∧ x6 = y6 ∧ x7 = y7 ∧ x8 = y8 ∧ x9 = y9 ∧ x10 = y10 ∧ x11 = y11 ∧ x12 = y12 ∧ x13 = y13 ∧ x14 = y14 ∧ x15 = y15 ∧ x16 = y16 ∧ x17 = y17 ∧ x18 = y18 ∧ x19 = y19 ∧ x20 = y20 ∧ x21 = y21 ∧ x22 = y22 := by
  have h := Option.some.inj h
  simp only [Prod.mk.injEq] at h
  exact h
def un22 {a1 a2 a3 a4 a5 a6 a7 a8 a9 a10 a11 a12 a13 a14 a15 a16 a17 a18 a19 a20 a21 a22 γ : Type} (f : a1 → a2 → a3 → a4 → a5 → a6 → a7 → a8 → a9 → a10 → a11 → a12 → a13 → a14 → a15 → a16 → a17 → a18 → a19 → a20 → a21 → a22 → γ) : a1 × a2 × a3 × a4 × a5 × a6 × a7 × a8 × a9 × a10 × a11 × a12 × a13 × a14 × a15 × a16 × a17 × a18 × a19 × a20 × a21 × a22 → γ := fun x => f x.1 x.2.1 x.2.2.1 x.2.2.2.1 x.2.2.2.2.1 x.2.2.2.2.2.1 x.2.2.2.2.2.2.1 x.2.2.2.2.2.2.2.1 x.2.2.2.2.2.2.2.2.1 x.2.2.2.2.2.2.2.2.2.1 x.2.2.2.2.2.2.2.2.2.2.1 x.2.2.2.2.2.2.2.2.2.2.2.1 x.2.2.2.2.2.2.2.2.2.2.2.2.1 x.2.2.2.2.2.2.2.2.2.2.2.2.2.1 x.2.2.2.2.2.2.2.2.2.2.2.2.2.2.1 x.2.2.2.2.2.2.2.2.2.2.2.2.2.2.2.1 x.2.2.2.2.2.2.2.2.2.2.2.2.2.2.2.2.1 x.2.2.2.2.2.2.2.2.2.2.2.2.2.2.2.2.2.1 x.2.2.2.2.2.2.2.2.2.2.2.2.2.2.2.2.2.2.1 x.2.2.2.2.2.2.2.2.2.2.2.2.2.2.2.2.2.2.2.1 x.2.2.2.2.2.2.2.2.2.2.2.2.2.2.2.2.2.2.2.2.1 x.2.2.2.2.2.2.2.2.2.2.2.2.2.2.2.2.2.2.2.2.2
theorem un22e {a1 a2 a3 a4 a5 a6 a7 a8 a9 a10 a11 a12 a13 a14 a15 a16 a17 a18 a19 a20 a21 a22 γ : Type} {f : a1 → a2 → a3 → a4 → a5 → a6 → a7 → a8 → a9 → a10 → a11 → a12 → a13 → a14 → a15 → a16 → a17 → a18 → a19 → a20 → a21 → a22 → γ} {x1 : a1} {x2 : a2} {x3 : a3} {x4 : a4} {x5 : a5} {x6 : a6} {x7 : a7} {x8 : a8} {x9 : a9} {x10 : a10} {x11 : a11} {x12 : a12} {x13 : a13} {x14 : a14} {x15 : a15} {x16 : a16} {x17 : a17} {x18 : a18} {x19 : a19} {x20 : a20} {x21 : a21} {x22 : a22} {r : γ} (h : un22 f (x1, x2, x3, x4, x5, x6, x7, x8, x9, x10, x11, x12, x13, x14, x15, x16, x17, x18, x19, x20, x21, x22) = r) : f x1 x2 x3 x4 x5 x6 x7 x8 x9 x10 x11 x12 x13 x14 x15 x16 x17 x18 x19 x20 x21 x22 = r := h
theorem un22_s {a1 a2 a3 a4 a5 a6 a7 a8 a9 a10 a11 a12 a13 a14 a15 a16 a17 a18 a19 a20 a21 a22 γ : Type} {f : a1 → a2 → a3 → a4 → a5 → a6 → a7 → a8 → a9 → a10 → a11 → a12 → a13 → a14 → a15 → a16 → a17 → a18 → a19 → a20 → a21 → a22 → γ} {x1 : a1} {x2 : a2} {x3 : a3} {x4 : a4} {x5 : a5} {x6 : a6} {x7 : a7} {x8 : a8} {x9 : a9} {x10 : a10} {x11 : a11} {x12 : a12} {x13 : a13} {x14 : a14} {x15 : a15} {x16 : a16} {x17 : a17} {x18 : a18} {x19 : a19} {x20 : a20} {x21 : a21} {x22 : a22} : un22 f (x1, x2, x3, x4, x5, x6, x7, x8, x9, x10, x11, x12, x13, x14, x15, x16, x17, x18, x19, x20, x21, x22) = f x1 x2 x3 x4 x5 x6 x7 x8 x9 x10 x11 x12 x13 x14 x15 x16 x17 x18 x19 x20 x21 x22 := rfl
def bd22 {a1 a2 a3 a4 a5 a6 a7 a8 a9 a10 a11 a12 a13 a14 a15 a16 a17 a18 a19 a20 a21 a22 γ : Type} (o : Option (a1 × a2 × a3 × a4 × a5 × a6 × a7 × a8 × a9 × a10 × a11 × a12 × a13 × a14 × a15 × a16 × a17 × a18 × a19 × a20 × a21 × a22)) (k : a1 → a2 → a3 → a4 → a5 → a6 → a7 → a8 → a9 → a10 → a11 → a12 → a13 → a14 → a15 → a16 → a17 → a18 → a19 → a20 → a21 → a22 → Option γ) : Option γ := o.bind fun x => k x.1 x.2.1 x.2.2.1 x.2.2.2.1 x.2.2.2.2.1 x.2.2.2.2.2.1 x.2.2.2.2.2.2.1 x.2.2.2.2.2.2.2.1 x.2.2.2.2.2.2.2.2.1 x.2.2.2.2.2.2.2.2.2.1 x.2.2.2.2.2.2.2.2.2.2.1 x.2.2.2.2.2.2.2.2.2.2.2.1 x.2.2.2.2.2.2.2.2.2.2.2.2.1 x.2.2.2.2.2.2.2.2.2.2.2.2.2.1 x.2.2.2.2.2.2.2.2.2.2.2.2.2.2.1 x.2.2.2.2.2.2.2.2.2.2.2.2.2.2.2.1 x.2.2.2.2.2.2.2.2.2.2.2.2.2.2.2.2.1 x.2.2.2.2.2.2.2.2.2.2.2.2.2.2.2.2.2.1 x.2.2.2.2.2.2.2.2.2.2.2.2.2.2.2.2.2.2.1 x.2.2.2.2.2.2.2.2.2.2.2.2.2.2.2.2.2.2.2.1 x.2.2.2.2.2.2.2.2.2.2.2.2.2.2.2.2.2.2.2.2.1 x.2.2.2.2.2.2.2.2.2.2.2.2.2.2.2.2.2.2.2.2.2
theorem bd22e {a1 a2 a3 a4 a5 a6 a7 a8 a9 a10 a11 a12 a13 a14 a15 a16 a17 a18 a19 a20 a21 a22 γ : Type} {o : Option (a1 × a2 × a3 × a4 × a5 × a6 × a7 × a8 × a9 × a10 × a11 × a12 × a13 × a14 × a15 × a16 × a17 × a18 × a19 × a20 × a21 × a22)} {k : a1 → a2 → a3 → a4 → a5 → a6 → a7 → a8 → a9 → a10 → a11 → a12 → a13 → a14 → a15 → a16 → a17 → a18 → a19 → a20 → a21 → a22 → Option γ} {r : γ} (h : bd22 o k = some r) : ∃ x1 x2 x3 x4 x5 x6 x7 x8 x9 x10 x11 x12 x13 x14 x15 x16 x17 x18 x19 x20 x21 x22, o = some (x1, x2, x3, x4, x5, x6, x7, x8, x9, x10, x11, x12, x13, x14, x15, x16, x17, x18, x19, x20, x21, x22) ∧ k x1 x2 x3 x4 x5 x6 x7 x8 x9 x10 x11 x12 x13 x14 x15 x16 x17 x18 x19 x20 x21 x22 = some r := by
  cases o with
  | none => cases h
  | some x => exact ⟨x.1, x.2.1, x.2.2.1, x.2.2.2.1, x.2.2.2.2.1, x.2.2.2.2.2.1, x.2.2.2.2.2.2.1, x.2.2.2.2.2.2.2.1, x.2.2.2.2.2.2.2.2.1, x.2.2.2.2.2.2.2.2.2.1, x.2.2.2.2.2.2.2.2.2.2.1, x.2.2.2.2.2.2.2.2.2.2.2.1, x.2.2.2.2.2.2.2.2.2.2.2.2.1, x.2.2.2.2.2.2.2.2.2.2.2.2.2.1, x.2.2.2.2.2.2.2.2.2.2.2.2.2.2.1, x.2.2.2.2.2.2.2.2.2.2.2.2.2.2.2.1, x.2.2.2.2.2.2.2.2.2.2.2.2.2.2.2.2.1, x.2.2.2.2.2.2.2.2.2.2.2.2.2.2.2.2.2.1, x.2.2.2.2.2.2.2.2.2.2.2.2.2.2.2.2.2.2.1, x.2.2.2.2.2.2.2.2.2.2.2.2.2.2.2.2.2.2.2.1, x.2.2.2.2.2.2.2.2.2.2.2.2.2.2.2.2.2.2.2.2.1, x.2.2.2.2.2.2.2.2.2.2.2.2.2.2.2.2.2.2.2.2.2, rfl, h⟩
theorem bd22_s {a1 a2 a3 a4 a5 a6 a7 a8 a9 a10 a11 a12 a13 a14 a15 a16 a17 a18 a19 a20 a21 a22 γ : Type} {x1 : a1} {x2 : a2} {x3 : a3} {x4 : a4} {x5 : a5} {x6 : a6} {x7 : a7} {x8 : a8} {x9 : a9} {x10 : a10} {x11 : a11} {x12 : a12} {x13 : a13} {x14 : a14} {x15 : a15} {x16 : a16} {x17 : a17} {x18 : a18} {x19 : a19} {x20 : a20} {x21 : a21} {x22 : a22} {k : a1 → a2 → a3 → a4 → a5 → a6 → a7 → a8 → a9 → a10 → a11 → a12 → a13 → a14 → a15 → a16 → a17 → a18 → a19 → a20 → a21 → a22 → Option γ} : bd22 (some (x1, x2, x3, x4, x5, x6, x7, x8, x9, x10, x11, x12, x13, x14, x15, x16, x17, x18, x19, x20, x21, x22)) k = k x1 x2 x3 x4 x5 x6 x7 x8 x9 x10 x11 x12 x13 x14 x15 x16 x17 x18 x19 x20 x21 x22 := rfl
theorem bd22L {a1 a2 a3 a4 a5 a6 a7 a8 a9 a10 a11 a12 a13 a14 a15 a16 a17 a18 a19 a20 a21 a22 γ : Type} {o : Option (a1 × a2 × a3 × a4 × a5 × a6 × a7 × a8 × a9 × a10 × a11 × a12 × a13 × a14 × a15 × a16 × a17 × a18 × a19 × a20 × a21 × a22)} {k : a1 → a2 → a3 → a4 → a5 → a6 → a7 → a8 → a9 → a10 → a11 → a12 → a13 → a14 → a15 → a16 → a17 → a18 → a19 → a20 → a21 → a22 → Option γ} {r : γ} (h : bd22 o k = some r) : ∃ x, o = some x ∧ ∀ a, x = a → un22 k a = some r := by
  cases o with
  | none => cases h
  | some x => exact ⟨x, rfl, fun _ e => by rw [← e]; exact h⟩
theorem re23 {a1 a2 a3 a4 a5 a6 a7 a8 a9 a10 a11 a12 a13 a14 a15 a16 a17 a18 a19 a20 a21 a22 a23 : Type} {x1 : a1} {x2 : a2} {x3 : a3} {x4 : a4} {x5 : a5} {x6 : a6} {x7 : a7} {x8 : a8} {x9 : a9} {x10 : a10} {x11 : a11} {x12 : a12} {x13 : a13} {x14 : a14} {x15 : a15} {x16 : a16} {x17 : a17} {x18 : a18} {x19 : a19} {x20 : a20} {x21 : a21} {x22 : a22} {x23 : a23} {y1 : a1} {y2 : a2} {y3 : a3} {y4 : a4} {y5 : a5} {y6 : a6} {y7 : a7} {y8 : a8} {y9 : a9} {y10 : a10} {y11 : a11} {y12 : a12} {y13 : a13} {y14 : a14} {y15 : a15} {y16 : a16} {y17 : a17} {y18 : a18} {y19 : a19} {y20 : a20} {y21 : a21} {y22 : a22} {y23 : a23} (h : some (x1, x2, x3, x4, x5, x6, x7, x8, x9, x10, x11, x12, x13, x14, x15, x16, x17, x18, x19, x20, x21, x22, x23) = some (y1, y2, y3, y4, y5, y6, y7, y8, y9, y10, y11, y12, y13, y14, y15, y16, y17, y18, y19, y20, y21, y22, y23)) : x1 = y1 ∧ x2 = y2 ∧ x3 = y3 ∧ x4 = y4 ∧ x5 = y5 ∧ x6 = y6 ∧ x7 = y7 ∧ x8 = y8 ∧ x9 = y9 ∧ x10 = y10 ∧ x11 = y11 ∧ x12 = y12 ∧ x13 = y13 ∧ x14 = y14 ∧ x15 = y15 ∧ x16 = y16 ∧ x17 = y17 ∧ x18 = y18 ∧ x19 = y19 ∧ x20 = y20 ∧ x21 = y21 ∧ x22 = y22 ∧ x23 = y23 := by
  have h := Option.some.inj h
  simp only [Prod.mk.injEq] at h
  exact h
def un23 {a1 a2 a3 a4 a5 a6 a7 a8 a9 a10 a11 a12 a13 a14 a15 a16 a17 a18 a19 a20 a21 a22 a23 γ : Type} (f : a1 → a2 → a3 → a4 → a5 → a6 → a7 → a8 → a9 → a10 → a11 → a12 → a13 → a14 → a15 → a16 → a17 → a18 → a19 → a20 → a21 → a22 → a23 → γ) : a1 × a2 × a3 × a4 × a5 × a6 × a7 × a8 × a9 × a10 × a11 × a12 × a13 × a14 × a15 × a16 × a17 × a18 × a19 × a20 × a21 × a22 × a23 → γ := fun x => f x.1 x.2.1 x.2.2.1 x.2.2.2.1 x.2.2.2.2.1 x.2.2.2.2.2.1 x.2.2.2.2.2.2.1 x.2.2.2.2.2.2.2.1 x.2.2.2.2.2.2.2.2.1 x.2.2.2.2.2.2.2.2.2.1 x.2.2.2.2.2.2.2.2.2.2.1 x.2.2.2.2.2.2.2.2.2.2.2.1 x.2.2.2.2.2.2.2.2.2.2.2.2.1 x.2.2.2.2.2.2.2.2.2.2.2.2.2.1 x.2.2.2.2.2.2.2.2.2.2.2.2.2.2.1 x.2.2.2.2.2.2.2.2.2.2.2.2.2.2.2.1 x.2.2.2.2.2.2.2.2.2.2.2.2.2.2.2.2.1 x.2.2.2.2.2.2.2.2.2.2.2.2.2.2.2.2.2.1 x.2.2.2.2.2.2.2.2.2.2.2.2.2.2.2.2.2.2.1 x.2.2.2.2.2.2.2.2.2.2.2.2.2.2.2.2.2.2.2.1 x.2.2.2.2.2.2.2.2.2.2.2.2.2.2.2.2.2.2.2.2.1 x.2.2.2.2.2.2.2.2.2.2.2.2.2.2.2.2.2.2.2.2.2.1 x.2.2.2.2.2.2.2.2.2.2.2.2.2.2.2.2.2.2.2.2.2.2
theorem un23e {a1 a2 a3 a4 a5 a6 a7 a8 a9 a10 a11 a12 a13 a14 a15 a16 a17 a18 a19 a20 a21 a22 a23 γ : Type} {f : a1 → a2 → a3 → a4 → a5 → a6 → a7 → a8 → a9 → a10 → a11 → a12 → a13 → a14 → a15 → a16 → a17 → a18 → a19 → a20 → a21 → a22 → a23 → γ} {x1 : a1} {x2 : a2} {x3 : a3} {x4 : a4} {x5 : a5} {x6 : a6} {x7 : a7} {x8 : a8} {x9 : a9} {x10 : a10} {x11 : a11} {x12 : a12} {x13 : a13} {x14 : a14} {x15 : a15} {x16 : a16} {x17 : a17} {x18 : a18} {x19 : a19} {x20 : a20} {x21 : a21} {x22 : a22} {x23 : a23} {r : γ} (h : un23 f (x1, x2, x3, x4, x5, x6, x7, x8, x9, x10, x11, x12, x13, x14, x15, x16, x17, x18, x19, x20, x21, x22, x23) = r) : f x1 x2 x3 x4 x5 x6 x7 x8 x9 x10 x11 x12 x13 x14 x15 x16 x17 x18 x19 x20 x21 x22 x23 = r := h
theorem un23_s {a1 a2 a3 a4 a5 a6 a7 a8 a9 a10 a11 a12 a13 a14 a15 a16 a17 a18 a19 a20 a21 a22 a23 γ : Type} {f : a1 → a2 → a3 → a4 → a5 → a6 → a7 → a8 → a9 → a10 → a11 → a12 → a13 → a14 → a15 → a16 → a17 → a18 → a19 → a20 → a21 → a22 → a23 → γ} {x1 : a1} {x2 : a2} {x3 : a3} {x4 : a4} {x5 : a5} {x6 : a6} {x7 : a7} {x8 : a8} {x9 : a9} {x10 : a10} {x11 : a11} {x12 : a12} {x13 : a13} {x14 : a14} {x15 : a15} {x16 : a16} {x17 : a17} {x18 : a18} {x19 : a19} {x20 : a20} {x21 : a21} {x22 : a22} {x23 : a23} : un23 f (x1, x2, x3, x4, x5, x6, x7, x8, x9, x10, x11, x12, x13, x14, x15, x16, x17, x18, x19, x20, x21, x22, x23) = f x1 x2 x3 x4 x5 x6 x7 x8 x9 x10 x11 x12 x13 x14 x15 x16 x17 x18 x19 x20 x21 x22 x23 := rfl
def bd23 {a1 a2 a3 a4 a5 a6 a7 a8 a9 a10 a11 a12 a13 a14 a15 a16 a17 a18 a19 a20 a21 a22 a23 γ : Type} (o : Option (a1 × a2 × a3 × a4 × a5 × a6 × a7 × a8 × a9 × a10 × a11 × a12 × a13 × a14 × a15 × a16 × a17 × a18 × a19 × a20 × a21 × a22 × a23)) (k : a1 → a2 → a3 → a4 → a5 → a6 → a7 → a8 → a9 → a10 → a11 → a12 → a13 → a14 → a15 → a16 → a17 → a18 → a19 → a20 → a21 → a22 → a23 → Option γ) : Option γ := o.bind fun x => k x.1 x.2.1 x.2.2.1 x.2.2.2.1 x.2.2.2.2.1 x.2.2.2.2.2.1 x.2.2.2.2.2.2.1 x.2.2.2.2.2.2.2.1 x.2.2.2.2.2.2.2.2.1 x.2.2.2.2.2.2.2.2.2.1 x.2.2.2.2.2.2.2.2.2.2.1 x.2.2.2.2.2.2.2.2.2.2.2.1 x.2.2.2.2.2.2.2.2.2.2.2.2.1 x.2.2.2.2.2.2.2.2.2.2.2.2.2.1 x.2.2.2.2.2.2.2.2.2.2.2.2.2.2.1 x.2.2.2.2.2.2.2.2.2.2.2.2.2.2.2.1 x.2.2.2.2.2.2.2.2.2.2.2.2.2.2.2.2.1 x.2.2.2.2.2.2.2.2.2.2.2.2.2.2.2.2.2.1 x.2.2.2.2.2.2.2.2.2.2.2.2.2.2.2.2.2.2.1 x.2.2.2.2.2.2.2.2.2.2.2.2.2.2.2.2.2.2.2.1 x.2.2.2.2.2.2.2.2.2.2.2.2.2.2.2.2.2.2.2.2.1 x.2.2.2.2.2.2.2.2.2.2.2.2.2.2.2.2.2.2.2.2.2.1 x.2.2.2.2.2.2.2.2.2.2.2.2.2.2.2.2.2.2.2.2.2.2
theorem bd23e {a1 a2 a3 a4 a5 a6 a7 a8 a9 a10 a11 a12 a13 a14 a15 a16 a17 a18 a19 a20 a21 a22 a23 γ : Type} {o : Option (a1 × a2 × a3 × a4 × a5 × a6 × a7 × a8 × a9 × a10 × a11 × a12 × a13 × a14 × a15 × a16 × a17 × a18 × a19 × a20 × a21 × a22 × a23)} {k : a1 → a2 → a3 → a4 → a5 → a6 → a7 → a8 → a9 → a10 → a11 → a12 → a13 → a14 → a15 → a16 → a17 → a18 → a19 → a20 → a21 → a22 → a23 → Option γ} {r : γ} (h : bd23 o k = some r) : ∃ x1 x2 x3 x4 x5 x6 x7 x8 x9 x10 x11 x12 x13 x14 x15 x16 x17 x18 x19 x20 x21 x22 x23, o = some (x1, x2, x3, x4, x5, x6, x7, x8, x9, x10, x11, x12, x13, x14, x15, x16, x17, x18, x19, x20, x21, x22, x23) ∧ k x1 x2 x3 x4 x5 x6 x7 x8 x9 x10 x11 x12 x13 x14 x15 x16 x17 x18 x19 x20 x21 x22 x23 = some r := by
  cases o with
  | none => cases h
  | some x => exact ⟨x.1, x.2.1, x.2.2.1, x.2.2.2.1, x.2.2.2.2.1, x.2.2.2.2.2.1, x.2.2.2.2.2.2.1, x.2.2.2.2.2.2.2.1, x.2.2.2.2.2.2.2.2.1, x.2.2.2.2.2.2.2.2.2.1, x.2.2.2.2.2.2.2.2.2.2.1, x.2.2.2.2.2.2.2.2.2.2.2.1, x.2.2.2.2.2.2.2.2.2.2.2.2.1, x.2.2.2.2.2.2.2.2.2.2.2.2.2.1, x.2.2.2.2.2.2.2.2.2.2.2.2.2.2.1, x.2.2.2.2.2.2.2.2.2.2.2.2.2.2.2.1, x.2.2.2.2.2.2.2.2.2.2.2.2.2.2.2.2.1, x.2.2.2.2.2.2.2.2.2.2.2.2.2.2.2.2.2.1, x.2.2.2.2.2.2.2.2.2.2.2.2.2.2.2.2.2.2.1, x.2.2.2.2.2.2.2.2.2.2.2.2.2.2.2.2.2.2.2.1, x.2.2.2.2.2.2.2.2.2.2.2.2.2.2.2.2.2.2.2.2.1, x.2.2.2.2.2.2.2.2.2.2.2.2.2.2.2.2.2.2.2.2.2.1, x.2.2.2.2.2.2.2.2.2.2.2.2.2.2.2.2.2.2.2.2.2.2, rfl, h⟩
theorem bd23_s {a1 a2 a3 a4 a5 a6 a7 a8 a9 a10 a11 a12 a13 a14 a15 a16 a17 a18 a19 a20 a21 a22 a23 γ : Type} {x1 : a1} {x2 : a2} {x3 : a3} {x4 : a4} {x5 : a5} {x6 : a6} {x7 : a7} {x8 : a8} {x9 : a9} {x10 : a10} {x11 : a11} {x12 : a12} {x13 : a13} {x14 : a14} {x15 : a15} {x16 : a16} {x17 : a17} {x18 : a18} {x19 : a19} {x20 : a20} {x21 : a21} {x22 : a22} {x23 : a23} {k : a1 → a2 → a3 → a4 → a5 → a6 → a7 → a8 → a9 → a10 → a11 → a12 → a13 → a14 → a15 → a16 → a17 → a18 → a19 → a20 → a21 → a22 → a23 → Option γ} : bd23 (some (x1, x2, x3, x4, x5, x6, x7, x8, x9, x10, x11, x12, x13, x14, x15, x16, x17, x18, x19, x20, x21, x22, x23)) k = k x1 x2 x3 x4 x5 x6 x7 x8 x9 x10 x11 x12 x13 x14 x15 x16 x17 x18 x19 x20 x21 x22 x23 := rfl
theorem bd23L {a1 a2 a3 a4 a5 a6 a7 a8 a9 a10 a11 a12 a13 a14 a15 a16 a17 a18 a19 a20 a21 a22 a23 γ : Type} {o : Option (a1 × a2 × a3 × a4 × a5 × a6 × a7 × a8 × a9 × a10 × a11 × a12 × a13 × a14 × a15 × a16 × a17 × a18 × a19 × a20 × a21 × a22 × a23)} {k : a1 → a2 → a3 → a4 → a5 → a6 → a7 → a8 → a9 → a10 → a11 → a12 → a13 → a14 → a15 → a16 → a17 → a18 → a19 → a20 → a21 → a22 → a23 → Option γ} {r : γ} (h : bd23 o k = some r) : ∃ x, o = some x ∧ ∀ a, x = a → un23 k a = some r := by
  cases o with
  | none => cases h
  | some x => exact ⟨x, rfl, fun _ e => by rw [← e]; exact h⟩
theorem re24 {a1 a2 a3 a4 a5 a6 a7 a8 a9 a10 a11 a12 a13 a14 a15 a16 a17 a18 a19 a20 a21 a22 a23 a24 : Type} {x1 : a1} {x2 : a2} {x3 : a3} {x4 : a4} {x5 : a5} {x6 : a6} {x7 : a7} {x8 : a8} {x9 : a9} {x10 : a10} {x11 : a11} {x12 : a12} {x13 : a13} {x14 : a14} {x15 : a15} {x16 : a16} {x17 : a17} {x18 : a18} {x19 : a19} {x20 : a20} {x21 : a21} {x22 : a22} {x23 : a23} {x24 : a24} {y1 : a1} {y2 : a2} {y3 : a3} {y4 : a4} {y5 : a5} {y6 : a6} {y7 : a7} {y8 : a8} {y9 : a9} {y10 : a10} {y11 : a11} {y12 : a12} {y13 : a13} {y14 : a14} {y15 : a15} {y16 : a16} {y17 : a17} {y18 : a18} {y19 : a19} {y20 : a20} {y21 : a21} {y22 : a22} {y23 : a23} {y24 : a24} (h : some (x1, x2, x3, x4, x5, x6, x7, x8, x9, x10, x11, x12, x13, x14, x15, x16, x17, x18, x19, x20, x21, x22, x23, x24) = some (y1, y2, y3, y4, y5, y6, y7, y8, y9, y10, y11, y12, y13, y14, y15, y16, y17, y18, y19, y20, y21, y22, y23, y24)) : x1 = y1 ∧ x2 = y2 ∧ x3 = y3 ∧ x4 = y4 ∧ x5 = y5 ∧ x6 = y6 ∧ x7 = y7 ∧ x8 = y8 ∧ x9 = y9 ∧ x10 = y10 ∧ x11 = y11 ∧ x12 = y12 ∧ x13 = y13 ∧ x14 = y14 ∧ x15 = y15 ∧ x16 = y16 ∧ x17 = y17 ∧ x18 = y18 ∧ x19 = y19 ∧ x20 = y20 ∧ x21 = y21 ∧ x22 = y22 ∧ x23 = y23 ∧ x24 = y24 := by
  have h := Option.some.inj h
  simp only [Prod.mk.injEq] at h
  exact h
def un24 {a1 a2 a3 a4 a5 a6 a7 a8 a9 a10 a11 a12 a13 a14 a15 a16 a17 a18 a19 a20 a21 a22 a23 a24 γ : Type} (f : a1 → a2 → a3 → a4 → a5 → a6 → a7 → a8 → a9 → a10 → a11 → a12 → a13 → a14 → a15 → a16 → a17 → a18 → a19 → a20 → a21 → a22 → a23 → a24 → γ) : a1 × a2 × a3 × a4 × a5 × a6 × a7 × a8 × a9 × a10 × a11 × a12 × a13 × a14 × a15 × a16 × a17 × a18 × a19 × a20 × a21 × a22 × a23 × a24 → γ := fun x => f x.1 x.2.1 x.2.2.1 x.2.2.2.1 x.2.2.2.2.1 x.2.2.2.2.2.1 x.2.2.2.2.2.2.1 x.2.2.2.2.2.2.2.1 x.2.2.2.2.2.2.2.2.1 x.2.2.2.2.2.2.2.2.2.1 x.2.2.2.2.2.2.2.2.2.2.1 x.2.2.2.2.2.2.2.2.2.2.2.1 x.2.2.2.2.2.2.2.2.2.2.2.2.1 x.2.2.2.2.2.2.2.2.2.2.2.2.2.1 x.2.2.2.2.2.2.2.2.2.2.2.2.2.2.1 x.2.2.2.2.2.2.2.2.2.2.2.2.2.2.2.1 x.2.2.2.2.2.2.2.2.2.2.2.2.2.2.2.2.1 x.2.2.2.2.2.2.2.2.2.2.2.2.2.2.2.2.2.1 x.2.2.2.2.2.2.2.2.2.2.2.2.2.2.2.2.2.2.1 x.2.2.2.2.2.2.2.2.2.2.2.2.2.2.2.2.2.2.2.1 x.2.2.2.2.2.2.2.2.2.2.2.2.2.2.2.2.2.2.2.2.1 x.2.2.2.2.2.2.2.2.2.2.2.2.2.2.2.2.2.2.2.2.2.1 x.2.2.2.2.2.2.2.2.2.2.2.2.2.2.2.2.2.2.2.2.2.2.1 x.2.2.2.2.2.2.2.2.2.2.2.2.2.2.2.2.2.2.2.2.2.2.2
theorem un24e {a1 a2 a3 a4 a5 a6 a7 a8 a9 a10 a11 a12 a13 a14 a15 a16 a17 a18 a19 a20 a21 a22 a23 a24 γ : Type} {f : a1 → a2 → a3 → a4 → a5 → a6 → a7 → a8 → a9 → a10 → a11 → a12 → a13 → a14 → a15 → a16 → a17 → a18 → a19 → a20 → a21 → a22 → a23 → a24 → γ} {x1 : a1} {x2 : a2} {x3 : a3} {x4 : a4} {x5 : a5} {x6 : a6} {x7 : a7} {x8 : a8} {x9 : a9} {x10 : a10} {x11 : a11} {x12 : a12} {x13 : a13} {x14 : a14} {x15 : a15} {x16 : a16} {x17 : a17} {x18 : a18} {x19 : a19} {x20 : a20} {x21 : a21} {x22 : a22} {x23 : a23} {x24 : a24} {r : γ} (h : un24 f (x1, x2, x3, x4, x5, x6, x7, x8, x9, x10, x11, x12, x13, x14, x15, x16, x17, x18, x19, x20, x21, x22, x23, x24) = r) : f x1 x2 x3 x4 x5 x6 x7 x8 x9 x10 x11 x12 x13 x14 x15 x16 x17 x18 x19 x20 x21 x22 x23 x24 = r := h
theorem un24_s {a1 a2 a3 a4 a5 a6 a7 a8 a9 a10 a11 a12 a13 a14 a15 a16 a17 a18 a19 a20 a21 a22 a23 a24 γ : Type} {f : a1 → a2 → a3 → a4 → a5 → a6 → a7 → a8 → a9 → a10 → a11 → a12 → a13 → a14 → a15 → a16 → a17 → a18 → a19 → a20 → a21 → a22 → a23 → a24 → γ} {x1 : a1} {x2 : a2} {x3 : a3} {x4 : a4} {x5 : a5} {x6 : a6} {x7 : a7} {x8 : a8} {x9 : a9} {x10 : a10} {x11 : a11} {x12 : a12} {x13 : a13} {x14 : a14} {x15 : a15} {x16 : a16} {x17 : a17} {x18 : a18} {x19 : a19} {x20 : a20} {x21 : a21} {x22 : a22} {x23 : a23} {x24 : a24} : un24 f (x1, x2, x3, x4, x5, x6, x7, x8, x9, x10, x11, x12, x13, x14, x15, x16, x17, x18, x19, x20, x21, x22, x23, x24) = f x1 x2 x3 x4 x5 x6 x7 x8 x9 x10 x11 x12 x13 x14 x15 x16 x17 x18 x19 x20 x21 x22 x23 x24 := rfl
def bd24 {a1 a2 a3 a4 a5 a6 a7 a8 a9 a10 a11 a12 a13 a14 a15 a16 a17 a18 a19 a20 a21 a22 a23 a24 γ : Type} (o : Option (a1 × a2 × a3 × a4 × a5 × a6 × a7 × a8 × a9 × a10 × a11 × a12 × a13 × a14 × a15 × a16 × a17 × a18 × a19 × a20 × a21 × a22 × a23 × a24)) (k : a1 → a2 → a3 → a4 → a5 → a6 → a7 → a8 → a9 → a10 → a11 → a12 → a13 → a14 → a15 → a16 → a17 → a18 → a19 → a20 → a21 → a22 → a23 → a24 → Option γ) : Option γ := o.bind fun x => k x.1 x.2.1 x.2.2.1 x.2.2.2.1 x.2.2.2.2.1 x.2.2.2.2.2.1 x.2.2.2.2.2.2.1 x.2.2.2.2.2.2.2.1 x.2.2.2.2.2.2.2.2.1 x.2.2.2.2.2.2.2.2.2.1 x.2.2.2.2.2.2.2.2.2.2.1 x.2.2.2.2.2.2.2.2.2.2.2.1 x.2.2.2.2.2.2.2.2.2.2.2.2.1 x.2.2.2.2.2.2.2.2.2.2.2.2.2.1 x.2.2.2.2.2.2.2.2.2.2.2.2.2.2.1 x.2.2.2.2.2.2.2.2.2.2.2.2.2.2.2.1 x.2.2.2.2.2.2.2.2.2.2.2.2.2.2.2.2.1 x.2.2.2.2.2.2.2.2.2.2.2.2.2.2.2.2.2.1 x.2.2.2.2.2.2.2.2.2.2.2.2.2.2.2.2.2.2.1 x.2.2.2.2.2.2.2.2.2.2.2.2.2.2.2.2.2.2.2.1 x.2.2.2.2.2.2.2.2.2.2.2.2.2.2.2.2.2.2.2.2.1 x.2.2.2.2.2.2.2.2.2.2.2.2.2.2.2.2.2.2.2.2.2.1 x.2.2.2.2.2.2.2.2.2.2.2.2.2.2.2.2.2.2.2.2.2.2.1 x.2.2.2.2.2.2.2.2.2.2.2.2.2.2.2.2.2.2.2.2.2.2.2
theorem bd24e {a1 a2 a3 a4 a5 a6 a7 a8 a9 a10 a11 a12 a13 a14 a15 a16 a17 a18 a19 a20 a21 a22 a23 a24 γ : Type} {o : Option (a1 × a2 × a3 × a4 × a5 × a6 × a7 × a8 × a9 × a10 × a11 × a12 × a13 × a14 × a15 × a16 × a17 × a18 × a19 × a20 × a21 × a22 × a23 × a24)} {k : a1 → a2 → a3 → a4 → a5 → a6 → a7 → a8 → a9 → a10 → a11 → a12 → a13 → a14 → a15 → a16 → a17 → a18 → a19 → a20 → a21 → a22 → a23 → a24 → Option γ} {r : γ} (h : bd24 o k = some r) : ∃ x1 x2 x3 x4 x5 x6 x7 x8 x9 x10 x11 x12 x13 x14 x15 x16 x17 x18 x19 x20 x21 x22 x23 x24, o = some (x1, x2, x3, x4, x5, x6, x7, x8, x9, x10, x11, x12, x13, x14, x15, x16, x17, x18, x19, x20, x21, x22, x23, x24) ∧ k x1 x2 x3 x4 x5 x6 x7 x8 x9 x10 x11 x12 x13 x14 x15 x16 x17 x18 x19 x20 x21 x22 x23 x24 = some r := by
  cases o with
  | none => cases h
  | some x => exact ⟨x.1, x.2.1, x.2.2.1, x.2.2.2.1, x.2.2.2.2.1, x.2.2.2.2.2.1, x.2.2.2.2.2.2.1, x.2.2.2.2.2.2.2.1, x.2.2.2.2.2.2.2.2.1, x.2.2.2.2.2.2.2.2.2.1, x.2.2.2.2.2.2.2.2.2.2.1, x.2.2.2.2.2.2.2.2.2.2.2.1, x.2.2.2.2.2.2.2.2.2.2.2.2.1, x.2.2.2.2.2.2.2.2.2.2.2.2.2.1, x.2.2.2.2.2.2.2.2.2.2.2.2.2.2.1, x.2.2.2.2.2.2.2.2.2.2.2.2.2.2.2.1, x.2.2.2.2.2.2.2.2.2.2.2.2.2.2.2.2.1, x.2.2.2.2.2.2.2.2.2.2.2.2.2.2.2.2.2.1, x.2.2.2.2.2.2.2.2.2.2.2.2.2.2.2.2.2.2.1, x.2.2.2.2.2.2.2.2.2.2.2.2.2.2.2.2.2.2.2.1, x.2.2.2.2.2.2.2.2.2.2.2.2.2.2.2.2.2.2.2.2.1, x.2.2.2.2.2.2.2.2.2.2.2.2.2.2.2.2.2.2.2.2.2.1, x.2.2.2.2.2.2.2.2.2.2.2.2.2.2.2.2.2.2.2.2.2.2.1, x.2.2.2.2.2.2.2.2.2.2.2.2.2.2.2.2.2.2.2.2.2.2.2, rfl, h⟩
theorem bd24_s {a1 a2 a3 a4 a5 a6 a7 a8 a9 a10 a11 a12 a13 a14 a15 a16 a17 a18 a19 a20 a21 a22 a23 a24 γ : Type} {x1 : a1} {x2 : a2} {x3 : a3} {x4 : a4} {x5 : a5} {x6 : a6} {x7 : a7} {x8 : a8} {x9 : a9} {x10 : a10} {x11 : a11} {x12 : a12} {x13 : a13} {x14 : a14} {x15 : a15} {x16 : a16} {x17 : a17} {x18 : a18} {x19 : a19} {x20 : a20} {x21 : a21} {x22 : a22} {x23 : a23} {x24 : a24} {k : a1 → a2 → a3 → a4 → a5 → a6 → a7 → a8 → a9 → a10 → a11 → a12 → a13 → a14 → a15 → a16 → a17 → a18 → a19 → a20 → a21 → a22 → a23 → a24 → Option γ} : bd24 (some (x1, x2, x3, x4, x5, x6, x7, x8, x9, x10, x11, x12, x13, x14, x15, x16, x17, x18, x19, x20, x21, x22, x23, x24)) k = k x1 x2 x3 x4 x5 x6 x7 x8 x9 x10 x11 x12 x13 x14 x15 x16 x17 x18 x19 x20 x21 x22 x23 x24 := rfl
theorem bd24L {a1 a2 a3 a4 a5 a6 a7 a8 a9 a10 a11 a12 a13 a14 a15 a16 a17 a18 a19 a20 a21 a22 a23 a24 γ : Type} {o : Option (a1 × a2 × a3 × a4 × a5 × a6 × a7 × a8 × a9 × a10 × a11 × a12 × a13 × a14 × a15 × a16 × a17 × a18 × a19 × a20 × a21 × a22 × a23 × a24)} {k : a1 → a2 → a3 → a4 → a5 → a6 → a7 → a8 → a9 → a10 → a11 → a12 → a13 → a14 → a15 → a16 → a17 → a18 → a19 → a20 → a21 → a22 → a23 → a24 → Option γ} {r : γ} (h : bd24 o k = some r) : ∃ x, o = some x ∧ ∀ a, x = a → un24 k a = some r := by
  cases o with
  | none => cases h
  | some x => exact ⟨x, rfl, fun _ e => by rw [← e]; exact h⟩
def bdS2 {a1 a2 γ : Type} (o : Option (a1 ⊕ a2)) (f1 : a1 → Option γ) (f2 : a2 → Option γ) : Option γ := match o with
  | none => none
  | some (.inl z) => f1 z
  | some (.inr z) => f2 z
theorem bdS2e {a1 a2 γ : Type} {o : Option (a1 ⊕ a2)} {f1 : a1 → Option γ} {f2 : a2 → Option γ} {r : γ} (h : bdS2 o f1 f2 = some r) : ∃ x, o = some x ∧ (∀ z, x = (.inl z) → f1 z = some r) ∧ (∀ z, x = (.inr z) → f2 z = some r) := by
  cases o with
  | none => cases h
  | some x =>
    rcases x with z | z
    · exact ⟨_, rfl, fun z e => (by cases e; exact h), fun z e => (by cases e)⟩
    · exact ⟨_, rfl, fun z e => (by cases e), fun z e => (by cases e; exact h)⟩
theorem bdS2_0 {a1 a2 γ : Type} {f1 : a1 → Option γ} {f2 : a2 → Option γ} {z : a1} : bdS2 (some (.inl z)) f1 f2 = f1 z := rfl
theorem bdS2_1 {a1 a2 γ : Type} {f1 : a1 → Option γ} {f2 : a2 → Option γ} {z : a2} : bdS2 (some (.inr z)) f1 f2 = f2 z := rfl
def bdS3 {a1 a2 a3 γ : Type} (o : Option (a1 ⊕ (a2 ⊕ a3))) (f1 : a1 → Option γ) (f2 : a2 → Option γ) (f3 : a3 → Option γ) : Option γ := match o with
  | none => none
  | some (.inl z) => f1 z
  | some (.inr (.inl z)) => f2 z
  | some (.inr (.inr z)) => f3 z
theorem bdS3e {a1 a2 a3 γ : Type} {o : Option (a1 ⊕ (a2 ⊕ a3))} {f1 : a1 → Option γ} {f2 : a2 → Option γ} {f3 : a3 → Option γ} {r : γ} (h : bdS3 o f1 f2 f3 = some r) : ∃ x, o = some x ∧ (∀ z, x = (.inl z) → f1 z = some r) ∧ (∀ z, x = (.inr (.inl z)) → f2 z = some r) ∧ (∀ z, x = (.inr (.inr z)) → f3 z = some r) := by
  cases o with
  | none => cases h
  | some x =>
    rcases x with z | z | z
    · exact ⟨_, rfl, fun z e => (by cases e; exact h), fun z e => (by cases e), fun z e => (by cases e)⟩
    · exact ⟨_, rfl, fun z e => (by cases e), fun z e => (by cases e; exact h), fun z e => (by cases e)⟩
    · exact ⟨_, rfl, fun z e => (by cases e), fun z e => (by cases e), fun z e => (by cases e; exact h)⟩
theorem bdS3_0 {a1 a2 a3 γ : Type} {f1 : a1 → Option γ} {f2 : a2 → Option γ} {f3 : a3 → Option γ} {z : a1} : bdS3 (some (.inl z)) f1 f2 f3 = f1 z := rfl
theorem bdS3_1 {a1 a2 a3 γ : Type} {f1 : a1 → Option γ} {f2 : a2 → Option γ} {f3 : a3 → Option γ} {z : a2} : bdS3 (some (.inr (.inl z))) f1 f2 f3 = f2 z := rfl
theorem bdS3_2 {a1 a2 a3 γ : Type} {f1 : a1 → Option γ} {f2 : a2 → Option γ} {f3 : a3 → Option γ} {z : a3} : bdS3 (some (.inr (.inr z))) f1 f2 f3 = f3 z := rfl
def bdS4 {a1 a2 a3 a4 γ : Type} (o : Option (a1 ⊕ (a2 ⊕ (a3 ⊕ a4)))) (f1 : a1 → Option γ) (f2 : a2 → Option γ) (f3 : a3 → Option γ) (f4 : a4 → Option γ) : Option γ := match o with
  | none => none
  | some (.inl z) => f1 z
  | some (.inr (.inl z)) => f2 z
  | some (.inr (.inr (.inl z))) => f3 z
  | some (.inr (.inr (.inr z))) => f4 z
theorem bdS4e {a1 a2 a3 a4 γ : Type} {o : Option (a1 ⊕ (a2 ⊕ (a3 ⊕ a4)))} {f1 : a1 → Option γ} {f2 : a2 → Option γ} {f3 : a3 → Option γ} {f4 : a4 → Option γ} {r : γ} (h : bdS4 o f1 f2 f3 f4 = some r) : ∃ x, o = some x ∧ (∀ z, x = (.inl z) → f1 z = some r) ∧ (∀ z, x = (.inr (.inl z)) → f2 z = some r) ∧ (∀ z, x = (.inr (.inr (.inl z))) → f3 z = some r) ∧ (∀ z, x = (.inr (.inr (.inr z))) → f4 z = some r) := by
  cases o with
  | none => cases h
  | some x =>
    rcases x with z | z | z | z
    · exact ⟨_, rfl, fun z e => (by cases e; exact h), fun z e => (by cases e), fun z e => (by cases e), fun z e => (by cases e)⟩
    · exact ⟨_, rfl, fun z e => (by cases e), fun z e => (by cases e; exact h), fun z e => (by cases e), fun z e => (by cases e)⟩
    · exact ⟨_, rfl, fun z e => (by cases e), fun z e => (by cases e), fun z e => (by cases e; exact h), fun z e => (by cases e)⟩
    · exact ⟨_, rfl, fun z e => (by cases e), fun z e => (by cases e), fun z e => (by cases e), fun z e => (by cases e; exact h)⟩
theorem bdS4_0 {a1 a2 a3 a4 γ : Type} {f1 : a1 → Option γ} {f2 : a2 → Option γ} {f3 : a3 → Option γ} {f4 : a4 → Option γ} {z : a1} : bdS4 (some (.inl z)) f1 f2 f3 f4 = f1 z := rfl
theorem bdS4_1 {a1 a2 a3 a4 γ : Type} {f1 : a1 → Option γ} {f2 : a2 → Option γ} {f3 : a3 → Option γ} {f4 : a4 → Option γ} {z : a2} : bdS4 (some (.inr (.inl z))) f1 f2 f3 f4 = f2 z := rfl
theorem bdS4_2 {a1 a2 a3 a4 γ : Type} {f1 : a1 → Option γ} {f2 : a2 → Option γ} {f3 : a3 → Option γ} {f4 : a4 → Option γ} {z : a3} : bdS4 (some (.inr (.inr (.inl z)))) f1 f2 f3 f4 = f3 z := rfl
theorem bdS4_3 {a1 a2 a3 a4 γ : Type} {f1 : a1 → Option γ} {f2 : a2 → Option γ} {f3 : a3 → Option γ} {f4 : a4 → Option γ} {z : a4} : bdS4 (some (.inr (.inr (.inr z)))) f1 f2 f3 f4 = f4 z := rfl
def bdS5 {a1 a2 a3 a4 a5 γ : Type} (o : Option (a1 ⊕ (a2 ⊕ (a3 ⊕ (a4 ⊕ a5))))) (f1 : a1 → Option γ) (f2 : a2 → Option γ) (f3 : a3 → Option γ) (f4 : a4 → Option γ) (f5 : a5 → Option γ) : Option γ := match o with
  | none => none
  | some (.inl z) => f1 z
  | some (.inr (.inl z)) => f2 z
  | some (.inr (.inr (.inl z))) => f3 z
  | some (.inr (.inr (.inr (.inl z)))) => f4 z
  | some (.inr (.inr (.inr (.inr z)))) => f5 z
theorem bdS5e {a1 a2 a3 a4 a5 γ : Type} {o : Option (a1 ⊕ (a2 ⊕ (a3 ⊕ (a4 ⊕ a5))))} {f1 : a1 → Option γ} {f2 : a2 → Option γ} {f3 : a3 → Option γ} {f4 : a4 → Option γ} {f5 : a5 → Option γ} {r : γ} (h : bdS5 o f1 f2 f3 f4 f5 = some r) : ∃ x, o = some x ∧ (∀ z, x = (.inl z) → f1 z = some r) ∧ (∀ z, x = (.inr (.inl z)) → f2 z = some r) ∧ (∀ z, x = (.inr (.inr (.inl z))) → f3 z = some r) ∧ (∀ z, x = (.inr (.inr (.inr (.inl z)))) → f4 z = some r) ∧ (∀ z, x = (.inr (.inr (.inr (.inr z)))) → f5 z = some r) := by
  cases o with
  | none => cases h
  | some x =>
    rcases x with z | z | z | z | z
    · exact ⟨_, rfl, fun z e => (by cases e; exact h), fun z e => (by cases e), fun z e => (by cases e), fun z e => (by cases e), fun z e => (by cases e)⟩
    · exact ⟨_, rfl, fun z e => (by cases e), fun z e => (by cases e; exact h), fun z e => (by cases e), fun z e => (by cases e), fun z e => (by cases e)⟩
    · exact ⟨_, rfl, fun z e => (by cases e), fun z e => (by cases e), fun z e => (by cases e; exact h), fun z e => (by cases e), fun z e => (by cases e)⟩
    · exact ⟨_, rfl, fun z e => (by cases e), fun z e => (by cases e), fun z e => (by cases e), fun z e => (by cases e; exact h), fun z e => (by cases e)⟩
    · exact ⟨_, rfl, fun z e => (by cases e), fun z e => (by cases e), fun z e => (by cases e), fun z e => (by cases e), fun z e => (by cases e; exact h)⟩
theorem bdS5_0 {a1 a2 a3 a4 a5 γ : Type} {f1 : a1 → Option γ} {f2 : a2 → Option γ} {f3 : a3 → Option γ} {f4 : a4 → Option γ} {f5 : a5 → Option γ} {z : a1} : bdS5 (some (.inl z)) f1 f2 f3 f4 f5 = f1 z := rfl
theorem bdS5_1 {a1 a2 a3 a4 a5 γ : Type} {f1 : a1 → Option γ} {f2 : a2 → Option γ} {f3 : a3 → Option γ} {f4 : a4 → Option γ} {f5 : a5 → Option γ} {z : a2} : bdS5 (some (.inr (.inl z))) f1 f2 f3 f4 f5 = f2 z := rfl
theorem bdS5_2 {a1 a2 a3 a4 a5 γ : Type} {f1 : a1 → Option γ} {f2 : a2 → Option γ} {f3 : a3 → Option γ} {f4 : a4 → Option γ} {f5 : a5 → Option γ} {z : a3} : bdS5 (some (.inr (.inr (.inl z)))) f1 f2 f3 f4 f5 = f3 z := rfl
theorem bdS5_3 {a1 a2 a3 a4 a5 γ : Type} {f1 : a1 → Option γ} {f2 : a2 → Option γ} {f3 : a3 → Option γ} {f4 : a4 → Option γ} {f5 : a5 → Option γ} {z : a4} : bdS5 (some (.inr (.inr (.inr (.inl z))))) f1 f2 f3 f4 f5 = f4 z := rfl
theorem bdS5_4 {a1 a2 a3 a4 a5 γ : Type} {f1 : a1 → Option γ} {f2 : a2 → Option γ} {f3 : a3 → Option γ} {f4 : a4 → Option γ} {f5 : a5 → Option γ} {z : a5} : bdS5 (some (.inr (.inr (.inr (.inr z))))) f1 f2 f3 f4 f5 = f5 z := rfl
def bdS6 {a1 a2 a3 a4 a5 a6 γ : Type} (o : Option (a1 ⊕ (a2 ⊕ (a3 ⊕ (a4 ⊕ (a5 ⊕ a6)))))) (f1 : a1 → Option γ) (f2 : a2 → Option γ) (f3 : a3 → Option γ) (f4 : a4 → Option γ) (f5 : a5 → Option γ) (f6 : a6 → Option γ) : Option γ := match o with
  | none => none
  | some (.inl z) => f1 z
  | some (.inr (.inl z)) => f2 z
  | some (.inr (.inr (.inl z))) => f3 z
  | some (.inr (.inr (.inr (.inl z)))) => f4 z
  | some (.inr (.inr (.inr (.inr (.inl z))))) => f5 z
  | some (.inr (.inr (.inr (.inr (.inr z))))) => f6 z
theorem bdS6e {a1 a2 a3 a4 a5 a6 γ : Type} {o : Option (a1 ⊕ (a2 ⊕ (a3 ⊕ (a4 ⊕ (a5 ⊕ a6)))))} {f1 : a1 → Option γ} {f2 : a2 → Option γ} {f3 : a3 → Option γ} {f4 : a4 → Option γ} {f5 : a5 → Option γ} {f6 : a6 → Option γ} {r : γ} (h : bdS6 o f1 f2 f3 f4 f5 f6 = some r) : ∃ x, o = some x ∧ (∀ z, x = (.inl z) → f1 z = some r) ∧ (∀ z, x = (.inr (.inl z)) → f2 z = some r) ∧ (∀ z, x = (.inr (.inr (.inl z))) → f3 z = some r) ∧ (∀ z, x = (.inr (.inr (.inr (.inl z)))) → f4 z = some r) ∧ (∀ z, x = (.inr (.inr (.inr (.inr (.inl z))))) → f5 z = some r) ∧ (∀ z, x = (.inr (.inr (.inr (.inr (.inr z))))) → f6 z = some r) := by
  cases o with
  | none => cases h
  | some x =>
    rcases x with z | z | z | z | z | z
    · exact ⟨_, rfl, fun z e => (by cases e; exact h), fun z e => (by cases e), fun z e => (by cases e), fun z e => (by cases e), fun z e => (by cases e), fun z e => (by cases e)⟩
    · exact ⟨_, rfl, fun z e => (by cases e), fun z e => (by cases e; exact h), fun z e => (by cases e), fun z e => (by cases e), fun z e => (by cases e), fun z e => (by cases e)⟩
    · exact ⟨_, rfl, fun z e => (by cases e), fun z e => (by cases e), fun z e => (by cases e; exact h), fun z e => (by cases e), fun z e => (by cases e), fun z e => (by cases e)⟩
    · exact ⟨_, rfl, fun z e => (by cases e), fun z e => (by cases e), fun z e => (by cases e), fun z e => (by cases e; exact h), fun z e => (by cases e), fun z e => (by cases e)⟩
    · exact ⟨_, rfl, fun z e => (by cases e), fun z e => (by cases e), fun z e => (by cases e), fun z e => (by cases e), fun z e => (by cases e; exact h), fun z e => (by cases e)⟩
    · exact ⟨_, rfl, fun z e => (by cases e), fun z e => (by cases e), fun z e => (by cases e), fun z e => (by cases e), fun z e => (by cases e), fun z e => (by cases e; exact h)⟩
theorem bdS6_0 {a1 a2 a3 a4 a5 a6 γ : Type} {f1 : a1 → Option γ} {f2 : a2 → Option γ} {f3 : a3 → Option γ} {f4 : a4 → Option γ} {f5 : a5 → Option γ} {f6 : a6 → Option γ} {z : a1} : bdS6 (some (.inl z)) f1 f2 f3 f4 f5 f6 = f1 z := rfl
theorem bdS6_1 {a1 a2 a3 a4 a5 a6 γ : Type} {f1 : a1 → Option γ} {f2 : a2 → Option γ} {f3 : a3 → Option γ} {f4 : a4 → Option γ} {f5 : a5 → Option γ} {f6 : a6 → Option γ} {z : a2} : bdS6 (some (.inr (.inl z))) f1 f2 f3 f4 f5 f6 = f2 z := rfl
theorem bdS6_2 {a1 a2 a3 a4 a5 a6 γ : Type} {f1 : a1 → Option γ} {f2 : a2 → Option γ} {f3 : a3 → Option γ} {f4 : a4 → Option γ} {f5 : a5 → Option γ} {f6 : a6 → Option γ} {z : a3} : bdS6 (some (.inr (.inr (.inl z)))) f1 f2 f3 f4 f5 f6 = f3 z := rfl
theorem bdS6_3 {a1 a2 a3 a4 a5 a6 γ : Type} {f1 : a1 → Option γ} {f2 : a2 → Option γ} {f3 : a3 → Option γ} {f4 : a4 → Option γ} {f5 : a5 → Option γ} {f6 : a6 → Option γ} {z : a4} : bdS6 (some (.inr (.inr (.inr (.inl z))))) f1 f2 f3 f4 f5 f6 = f4 z := rfl
theorem bdS6_4 {a1 a2 a3 a4 a5 a6 γ : Type} {f1 : a1 → Option γ} {f2 : a2 → Option γ} {f3 : a3 → Option γ} {f4 : a4 → Option γ} {f5 : a5 → Option γ} {f6 : a6 → Option γ} {z : a5} : bdS6 (some (.inr (.inr (.inr (.inr (.inl z)))))) f1 f2 f3 f4 f5 f6 = f5 z := rfl
theorem bdS6_5 {a1 a2 a3 a4 a5 a6 γ : Type} {f1 : a1 → Option γ} {f2 : a2 → Option γ} {f3 : a3 → Option γ} {f4 : a4 → Option γ} {f5 : a5 → Option γ} {f6 : a6 → Option γ} {z : a6} : bdS6 (some (.inr (.inr (.inr (.inr (.inr z)))))) f1 f2 f3 f4 f5 f6 = f6 z := rfl
def bdS7 {a1 a2 a3 a4 a5 a6 a7 γ : Type} (o : Option (a1 ⊕ (a2 ⊕ (a3 ⊕ (a4 ⊕ (a5 ⊕ (a6 ⊕ a7))))))) (f1 : a1 → Option γ) (f2 : a2 → Option γ) (f3 : a3 → Option γ) (f4 : a4 → Option γ) (f5 : a5 → Option γ) (f6 : a6 → Option γ) (f7 : a7 → Option γ) : Option γ := match o with
  | none => none
  | some (.inl z) => f1 z
  | some (.inr (.inl z)) => f2 z
  | some (.inr (.inr (.inl z))) => f3 z
  | some (.inr (.inr (.inr (.inl z)))) => f4 z
  | some (.inr (.inr (.inr (.inr (.inl z))))) => f5 z
  | some (.inr (.inr (.inr (.inr (.inr (.inl z)))))) => f6 z
  | some (.inr (.inr (.inr (.inr (.inr (.inr z)))))) => f7 z
theorem bdS7e {a1 a2 a3 a4 a5 a6 a7 γ : Type} {o : Option (a1 ⊕ (a2 ⊕ (a3 ⊕ (a4 ⊕ (a5 ⊕ (a6 ⊕ a7))))))} {f1 : a1 → Option γ} {f2 : a2 → Option γ} {f3 : a3 → Option γ} {f4 : a4 → Option γ} {f5 : a5 → Option γ} {f6 : a6 → Option γ} {f7 : a7 → Option γ} {r : γ} (h : bdS7 o f1 f2 f3 f4 f5 f6 f7 = some r) : ∃ x, o = some x ∧ (∀ z, x = (.inl z) → f1 z = some r) ∧ (∀ z, x = (.inr (.inl z)) → f2 z = some r) ∧ (∀ z, x = (.inr (.inr (.inl z))) → f3 z = some r) ∧ (∀ z, x = (.inr (.inr (.inr (.inl z)))) → f4 z = some r) ∧ (∀ z, x = (.inr (.inr (.inr (.inr (.inl z))))) → f5 z = some r) ∧ (∀ z, x = (.inr (.inr (.inr (.inr (.inr (.inl z)))))) → f6 z = some r) ∧ (∀ z, x = (.inr (.inr (.inr (.inr (.inr (.inr z)))))) → f7 z = some r) := by
  cases o with
  | none => cases h
  | some x =>
    rcases x with z | z | z | z | z | z | z
    · exact ⟨_, rfl, fun z e => (by cases e; exact h), fun z e => (by cases e), fun z e => (by cases e), fun z e => (by cases e), fun z e => (by cases e), fun z e => (by cases e), fun z e => (by cases e)⟩
    · exact ⟨_, rfl, fun z e => (by cases e), fun z e => (by cases e; exact h), fun z e => (by cases e), fun z e => (by cases e), fun z e => (by cases e), fun z e => (by cases e), fun z e => (by cases e)⟩
    · exact ⟨_, rfl, fun z e => (by cases e), fun z e => (by cases e), fun z e => (by cases e; exact h), fun z e => (by cases e), fun z e => (by cases e), fun z e => (by cases e), fun z e => (by cases e)⟩
    · exact ⟨_, rfl, fun z e => (by cases e), fun z e => (by cases e), fun z e => (by cases e), fun z e => (by cases e; exact h), fun z e => (by cases e), fun z e => (by cases e), fun z e => (by cases e)⟩
    · exact ⟨_, rfl, fun z e => (by cases e), fun z e => (by cases e), fun z e => (by cases e), fun z e => (by cases e), fun z e => (by cases e; exact h), fun z e => (by cases e), fun z e => (by cases e)⟩
    · exact ⟨_, rfl, fun z e => (by cases e), fun z e => (by cases e), fun z e => (by cases e), fun z e => (by cases e), fun z e => (by cases e), fun z e => (by cases e; exact h), fun z e => (by cases e)⟩
    · exact ⟨_, rfl, fun z e => (by cases e), fun z e => (by cases e), fun z e => (by cases e), fun z e => (by cases e), fun z e => (by cases e), fun z e => (by cases e), fun z e => (by cases e; exact h)⟩
theorem bdS7_0 {a1 a2 a3 a4 a5 a6 a7 γ : Type} {f1 : a1 → Option γ} {f2 : a2 → Option γ} {f3 : a3 → Option γ} {f4 : a4 → Option γ} {f5 : a5 → Option γ} {f6 : a6 → Option γ} {f7 : a7 → Option γ} {z : a1} : bdS7 (some (.inl z)) f1 f2 f3 f4 f5 f6 f7 = f1 z := rfl
theorem bdS7_1 {a1 a2 a3 a4 a5 a6 a7 γ : Type} {f1 : a1 → Option γ} {f2 : a2 → Option γ} {f3 : a3 → Option γ} {f4 : a4 → Option γ} {f5 : a5 → Option γ} {f6 : a6 → Option γ} {f7 : a7 → Option γ} {z : a2} : bdS7 (some (.inr (.inl z))) f1 f2 f3 f4 f5 f6 f7 = f2 z := rfl
theorem bdS7_2 {a1 a2 a3 a4 a5 a6 a7 γ : Type} {f1 : a1 → Option γ} {f2 : a2 → Option γ} {f3 : a3 → Option γ} {f4 : a4 → Option γ} {f5 : a5 → Option γ} {f6 : a6 → Option γ} {f7 : a7 → Option γ} {z : a3} : bdS7 (some (.inr (.inr (.inl z)))) f1 f2 f3 f4 f5 f6 f7 = f3 z := rfl
theorem bdS7_3 {a1 a2 a3 a4 a5 a6 a7 γ : Type} {f1 : a1 → Option γ} {f2 : a2 → Option γ} {f3 : a3 → Option γ} {f4 : a4 → Option γ} {f5 : a5 → Option γ} {f6 : a6 → Option γ} {f7 : a7 → Option γ} {z : a4} : bdS7 (some (.inr (.inr (.inr (.inl z))))) f1 f2 f3 f4 f5 f6 f7 = f4 z := rfl
theorem bdS7_4 {a1 a2 a3 a4 a5 a6 a7 γ : Type} {f1 : a1 → Option γ} {f2 : a2 → Option γ} {f3 : a3 → Option γ} {f4 : a4 → Option γ} {f5 : a5 → Option γ} {f6 : a6 → Option γ} {f7 : a7 → Option γ} {z : a5} : bdS7 (some (.inr (.inr (.inr (.inr (.inl z)))))) f1 f2 f3 f4 f5 f6 f7 = f5 z := rfl
theorem bdS7_5 {a1 a2 a3 a4 a5 a6 a7 γ : Type} {f1 : a1 → Option γ} {f2 : a2 → Option γ} {f3 : a3 → Option γ} {f4 : a4 → Option γ} {f5 : a5 → Option γ} {f6 : a6 → Option γ} {f7 : a7 → Option γ} {z : a6} : bdS7 (some (.inr (.inr (.inr (.inr (.inr (.inl z))))))) f1 f2 f3 f4 f5 f6 f7 = f6 z := rfl
theorem bdS7_6 {a1 a2 a3 a4 a5 a6 a7 γ : Type} {f1 : a1 → Option γ} {f2 : a2 → Option γ} {f3 : a3 → Option γ} {f4 : a4 → Option γ} {f5 : a5 → Option γ} {f6 : a6 → Option γ} {f7 : a7 → Option γ} {z : a7} : bdS7 (some (.inr (.inr (.inr (.inr (.inr (.inr z))))))) f1 f2 f3 f4 f5 f6 f7 = f7 z := rfl
def bdS8 {a1 a2 a3 a4 a5 a6 a7 a8 γ : Type} (o : Option (a1 ⊕ (a2 ⊕ (a3 ⊕ (a4 ⊕ (a5 ⊕ (a6 ⊕ (a7 ⊕ a8)))))))) (f1 : a1 → Option γ) (f2 : a2 → Option γ) (f3 : a3 → Option γ) (f4 : a4 → Option γ) (f5 : a5 → Option γ) (f6 : a6 → Option γ) (f7 : a7 → Option γ) (f8 : a8 → Option γ) : Option γ := match o with
  | none => none
  | some (.inl z) => f1 z
  | some (.inr (.inl z)) => f2 z
  | some (.inr (.inr (.inl z))) => f3 z
  | some (.inr (.inr (.inr (.inl z)))) => f4 z
  | some (.inr (.inr (.inr (.inr (.inl z))))) => f5 z
  | some (.inr (.inr (.inr (.inr (.inr (.inl z)))))) => f6 z
  | some (.inr (.inr (.inr (.inr (.inr (.inr (.inl z))))))) => f7 z
  | some (.inr (.inr (.inr (.inr (.inr (.inr (.inr z))))))) => f8 z
theorem bdS8e {a1 a2 a3 a4 a5 a6 a7 a8 γ : Type} {o : Option (a1 ⊕ (a2 ⊕ (a3 ⊕ (a4 ⊕ (a5 ⊕ (a6 ⊕ (a7 ⊕ a8)))))))} {f1 : a1 → Option γ} {f2 : a2 → Option γ} {f3 : a3 → Option γ} {f4 : a4 → Option γ} {f5 : a5 → Option γ} {f6 : a6 → Option γ} {f7 : a7 → Option γ} {f8 : a8 → Option γ} {r : γ} (h : bdS8 o f1 f2 f3 f4 f5 f6 f7 f8 = some r) : ∃ x, o = some x ∧ (∀ z, x = (.inl z) → f1 z = some r) ∧ (∀ z, x = (.inr (.inl z)) → f2 z = some r) ∧ (∀ z, x = (.inr (.inr (.inl z))) → f3 z = some r) ∧ (∀ z, x = (.inr (.inr (.inr (.inl z)))) → f4 z = some r) ∧ (∀ z, x = (.inr (.inr (.inr (.inr (.inl z))))) → f5 z = some r) ∧ (∀ z, x = (.inr (.inr (.inr (.inr (.inr (.inl z)))))) → f6 z = some r) ∧ (∀ z, x = (.inr (.inr (.inr (.inr (.inr (.inr (.inl z))))))) → f7 z = some r) ∧ (∀ z, x = (.inr (.inr (.inr (.inr (.inr (.inr (.inr z))))))) → f8 z = some r) := by
  cases o with
  | none => cases h
  | some x =>
    rcases x with z | z | z | z | z | z | z | z
    · exact ⟨_, rfl, fun z e => (by cases e; exact h), fun z e => (by cases e), fun z e => (by cases e), fun z e => (by cases e), fun z e => (by cases e), fun z e => (by cases e), fun z e => (by cases e), fun z e => (by cases e)⟩
    · exact ⟨_, rfl, fun z e => (by cases e), fun z e => (by cases e; exact h), fun z e => (by cases e), fun z e => (by cases e), fun z e => (by cases e), fun z e => (by cases e), fun z e => (by cases e), fun z e => (by cases e)⟩
    · exact ⟨_, rfl, fun z e => (by cases e), fun z e => (by cases e), fun z e => (by cases e; exact h), fun z e => (by cases e), fun z e => (by cases e), fun z e => (by cases e), fun z e => (by cases e), fun z e => (by cases e)⟩
    · exact ⟨_, rfl, fun z e => (by cases e), fun z e => (by cases e), fun z e => (by cases e), fun z e => (by cases e; exact h), fun z e => (by cases e), fun z e => (by cases e), fun z e => (by cases e), fun z e => (by cases e)⟩
    · exact ⟨_, rfl, fun z e => (by cases e), fun z e => (by cases e), fun z e => (by cases e), fun z e => (by cases e), fun z e => (by cases e; exact h), fun z e => (by cases e), fun z e => (by cases e), fun z e => (by cases e)⟩
    · exact ⟨_, rfl, fun z e => (by cases e), fun z e => (by cases e), fun z e => (by cases e), fun z e => (by cases e), fun z e => (by cases e), fun z e => (by cases e; exact h), fun z e => (by cases e), fun z e => (by cases e)⟩
    · exact ⟨_, rfl, fun z e => (by cases e), fun z e => (by cases e), fun z e => (by cases e), fun z e => (by cases e), fun z e => (by cases e), fun z e => (by cases e), fun z e => (by cases e; exact h), fun z e => (by cases e)⟩
    · exact ⟨_, rfl, fun z e => (by cases e), fun z e => (by cases e), fun z e => (by cases e), fun z e => (by cases e), fun z e => (by cases e), fun z e => (by cases e), fun z e => (by cases e), fun z e => (by cases e; exact h)⟩
theorem bdS8_0 {a1 a2 a3 a4 a5 a6 a7 a8 γ : Type} {f1 : a1 → Option γ} {f2 : a2 → Option γ} {f3 : a3 → Option γ} {f4 : a4 → Option γ} {f5 : a5 → Option γ} {f6 : a6 → Option γ} {f7 : a7 → Option γ} {f8 : a8 → Option γ} {z : a1} : bdS8 (some (.inl z)) f1 f2 f3 f4 f5 f6 f7 f8 = f1 z := rfl
theorem bdS8_1 {a1 a2 a3 a4 a5 a6 a7 a8 γ : Type} {f1 : a1 → Option γ} {f2 : a2 → Option γ} {f3 : a3 → Option γ} {f4 : a4 → Option γ} {f5 : a5 → Option γ} {f6 : a6 → Option γ} {f7 : a7 → Option γ} {f8 : a8 → Option γ} {z : a2} : bdS8 (some (.inr (.inl z))) f1 f2 f3 f4 f5 f6 f7 f8 = f2 z := rfl
theorem bdS8_2 {a1 a2 a3 a4 a5 a6 a7 a8 γ : Type} {f1 : a1 → Option γ} {f2 : a2 → Option γ} {f3 : a3 → Option γ} {f4 : a4 → Option γ} {f5 : a5 → Option γ} {f6 : a6 → Option γ} {f7 : a7 → Option γ} {f8 : a8 → Option γ} {z : a3} : bdS8 (some (.inr (.inr (.inl z)))) f1 f2 f3 f4 f5 f6 f7 f8 = f3 z := rfl
theorem bdS8_3 {a1 a2 a3 a4 a5 a6 a7 a8 γ : Type} {f1 : a1 → Option γ} {f2 : a2 → Option γ} {f3 : a3 → Option γ} {f4 : a4 → Option γ} {f5 : a5 → Option γ} {f6 : a6 → Option γ} {f7 : a7 → Option γ} {f8 : a8 → Option γ} {z : a4} : bdS8 (some (.inr (.inr (.inr (.inl z))))) f1 f2 f3 f4 f5 f6 f7 f8 = f4 z := rfl
theorem bdS8_4 {a1 a2 a3 a4 a5 a6 a7 a8 γ : Type} {f1 : a1 → Option γ} {f2 : a2 → Option γ} {f3 : a3 → Option γ} {f4 : a4 → Option γ} {f5 : a5 → Option γ} {f6 : a6 → Option γ} {f7 : a7 → Option γ} {f8 : a8 → Option γ} {z : a5} : bdS8 (some (.inr (.inr (.inr (.inr (.inl z)))))) f1 f2 f3 f4 f5 f6 f7 f8 = f5 z := rfl
theorem bdS8_5 {a1 a2 a3 a4 a5 a6 a7 a8 γ : Type} {f1 : a1 → Option γ} {f2 : a2 → Option γ} {f3 : a3 → Option γ} {f4 : a4 → Option γ} {f5 : a5 → Option γ} {f6 : a6 → Option γ} {f7 : a7 → Option γ} {f8 : a8 → Option γ} {z : a6} : bdS8 (some (.inr (.inr (.inr (.inr (.inr (.inl z))))))) f1 f2 f3 f4 f5 f6 f7 f8 = f6 z := rfl
theorem bdS8_6 {a1 a2 a3 a4 a5 a6 a7 a8 γ : Type} {f1 : a1 → Option γ} {f2 : a2 → Option γ} {f3 : a3 → Option γ} {f4 : a4 → Option γ} {f5 : a5 → Option γ} {f6 : a6 → Option γ} {f7 : a7 → Option γ} {f8 : a8 → Option γ} {z : a7} : bdS8 (some (.inr (.inr (.inr (.inr (.inr (.inr (.inl z)))))))) f1 f2 f3 f4 f5 f6 f7 f8 = f7 z := rfl
theorem bdS8_7 {a1 a2 a3 a4 a5 a6 a7 a8 γ : Type} {f1 : a1 → Option γ} {f2 : a2 → Option γ} {f3 : a3 → Option γ} {f4 : a4 → Option γ} {f5 : a5 → Option γ} {f6 : a6 → Option γ} {f7 : a7 → Option γ} {f8 : a8 → Option γ} {z : a8} : bdS8 (some (.inr (.inr (.inr (.inr (.inr (.inr (.inr z)))))))) f1 f2 f3 f4 f5 f6 f7 f8 = f8 z := rfl
/-! loops -/
def loopN {σ ρ : Type} (B : σ → Option (σ ⊕ ρ)) : Nat → σ → Option ρ
  | 0, _ => none
  | n + 1, s => match B s with
    | none => none
    | some (.inl t) => loopN B n t
    | some (.inr r) => some r
def stepN {σ ρ : Type} (B : σ → Option (σ ⊕ ρ)) (n : Nat) (y : σ ⊕ ρ) (x : ρ) : Prop := match y with
  | .inl t => loopN B n t = some x
  | .inr r => x = r
theorem loopN_zero {σ ρ : Type} {B : σ → Option (σ ⊕ ρ)} {s : σ} {x : ρ} : ¬ loopN B 0 s = some x := fun h => by cases h
theorem loopN_succ {σ ρ : Type} {B : σ → Option (σ ⊕ ρ)} {n : Nat} {s : σ} {x : ρ} (h : loopN B (n + 1) s = some x) : ∃ y, B s = some y ∧ stepN B n y x := by
  simp only [loopN] at h
  cases hb : B s with
  | none => rw [hb] at h; cases h
  | some y =>
    rw [hb] at h
    cases y with
    | inl t => exact ⟨_, rfl, h⟩
    | inr r => exact ⟨_, rfl, (Option.some.inj h).symm⟩
theorem loopN_mono {σ ρ : Type} {B : σ → Option (σ ⊕ ρ)} : ∀ (n m : Nat) (s : σ) (x : ρ), loopN B n s = some x → n ≤ m → loopN B m s = some x := by
  intro n
  induction n with
  | zero => intro m s x h; exact absurd h loopN_zero
  | succ n ih =>
    intro m s x h hm
    obtain ⟨y, hb, hy⟩ := loopN_succ h
    obtain ⟨m, rfl⟩ : ∃ k, m = k + 1 := ⟨m - 1, by omega⟩
    simp only [loopN, hb]
    cases y with
    | inl t => exact ih m t x hy (by omega)
    | inr r => exact congrArg some (show x = r from hy).symm
noncomputable def loopC {σ ρ : Type} (B : σ → Option (σ ⊕ ρ)) (s : σ) : Option ρ := @dite _ (∃ x n, loopN B n s = some x) (Classical.propDecidable _) (fun h => some h.choose) (fun _ => none)
theorem loopC_some {σ ρ : Type} {B : σ → Option (σ ⊕ ρ)} {s : σ} {x : ρ} (h : loopC B s = some x) : ∃ n, loopN B n s = some x := by
  unfold loopC at h
  split at h
  · rename_i hx
    cases h
    exact hx.choose_spec
  · cases h
theorem loopC_of {σ ρ : Type} {B : σ → Option (σ ⊕ ρ)} {s : σ} {x : ρ} {n : Nat} (h : loopN B n s = some x) : loopC B s = some x := by
  unfold loopC
  split
  · rename_i hx
    obtain ⟨k, hk⟩ := hx.choose_spec
    have h1 := loopN_mono _ (max n k) _ _ h (Nat.le_max_left _ _)
    have h2 := loopN_mono _ (max n k) _ _ hk (Nat.le_max_right _ _)
    rw [h1] at h2
    exact h2.symm
  · rename_i hx
    exact absurd ⟨x, n, h⟩ hx
/-- a round more -/
theorem loopC_inl {σ ρ : Type} {B : σ → Option (σ ⊕ ρ)} {s t : σ} (h : B s = some (.inl t)) : loopC B s = loopC B t := by
  cases ht : loopC B t with
  | some x =>
    obtain ⟨n, hn⟩ := loopC_some ht
    exact loopC_of (n := n + 1) (by simp only [loopN, h]; exact hn)
  | none =>
    cases hs : loopC B s with
    | none => rfl
    | some x =>
      obtain ⟨n, hn⟩ := loopC_some hs
      cases n with
      | zero => exact absurd hn loopN_zero
      | succ n =>
        simp only [loopN, h] at hn
        rw [loopC_of hn] at ht
        cases ht
theorem loopC_inr {σ ρ : Type} {B : σ → Option (σ ⊕ ρ)} {s : σ} {r : ρ} (h : B s = some (.inr r)) : loopC B s = some r := loopC_of (n := 1) (by simp only [loopN, h])
/-- a loop by an invariant and a measure that falls -/
theorem loop_rule {σ ρ : Type} {B : σ → Option (σ ⊕ ρ)} (I : σ → Prop) (μ : σ → Nat) (P : ρ → Prop)
    (hs : ∀ s, I s → (∃ t, B s = some (.inl t) ∧ I t ∧ μ t < μ s) ∨ ∃ r, B s = some (.inr r) ∧ P r) : ∀ s, I s → ∃ r, loopC B s = some r ∧ P r := by
  have key : ∀ (n : Nat) (s : σ), μ s < n → I s → ∃ r, loopC B s = some r ∧ P r := by
    intro n
    induction n with
    | zero => intro s h; omega
    | succ n ih =>
      intro s h hI
      rcases hs s hI with ⟨t, h1, h2, h3⟩ | ⟨r, h1, h2⟩
      · rw [loopC_inl h1]
        exact ih t (by omega) h2
      · exact ⟨r, loopC_inr h1, h2⟩
  exact fun s hI => key (μ s + 1) s (by omega) hI
theorem itp {α : Type} {c : Prop} [h : Decidable c] {A B : Option α} {r : α} (hc : c) (e : (if c then A else B) = some r) : A = some r := by rw [if_pos hc] at e; exact e
theorem itn {α : Type} {c : Prop} [h : Decidable c] {A B : Option α} {r : α} (hc : ¬ c) (e : (if c then A else B) = some r) : B = some r := by rw [if_neg hc] at e; exact e
/-! reads and writes of arrays -/
def rd {α : Type} (n : Nat) (f : Nat → α) (i : Int32) : Option α := if i < 0 ∨ n ≤ i.toNatClampNeg then none else some (f i.toNatClampNeg)
def wrI (n : Nat) (f : Nat → Int32) (i : Int32) (v : Int32) : Option (Nat → Int32) := if i < 0 ∨ n ≤ i.toNatClampNeg then none else some (upd f i.toNatClampNeg v)
def wrL (n : Nat) (f : Nat → Int64) (i : Int32) (v : Int64) : Option (Nat → Int64) := if i < 0 ∨ n ≤ i.toNatClampNeg then none else some (vp_updL f i.toNatClampNeg v)
theorem rd_in {α : Type} {n : Nat} {f : Nat → α} {i : Int32} {v : α} (h : rd n f i = some v) : vp_in i n := by
  unfold rd at h
  split at h
  · cases h
  · assumption
theorem rd_eq {α : Type} {n : Nat} {f : Nat → α} {i : Int32} {v : α} (h : rd n f i = some v) : f i.toNatClampNeg = v := by
  unfold rd at h
  split at h
  · cases h
  · exact Option.some.inj h
theorem wrI_in {n : Nat} {f g : Nat → Int32} {i v : Int32} (h : wrI n f i v = some g) : vp_in i n := by
  unfold wrI at h
  split at h
  · cases h
  · assumption
theorem wrI_eq {n : Nat} {f g : Nat → Int32} {i v : Int32} (h : wrI n f i v = some g) : upd f i.toNatClampNeg v = g := by
  unfold wrI at h
  split at h
  · cases h
  · exact Option.some.inj h
theorem wrL_in {n : Nat} {f g : Nat → Int64} {i : Int32} {v : Int64} (h : wrL n f i v = some g) : vp_in i n := by
  unfold wrL at h
  split at h
  · cases h
  · assumption
theorem wrL_eq {n : Nat} {f g : Nat → Int64} {i : Int32} {v : Int64} (h : wrL n f i v = some g) : vp_updL f i.toNatClampNeg v = g := by
  unfold wrL at h
  split at h
  · cases h
  · exact Option.some.inj h
def nzI (y : Int32) : Option Unit := if y = 0 then none else some ()
theorem nz_of {y : Int32} (h : nzI y = some ()) : ¬ y = 0 := by
  unfold nzI at h
  split at h
  · cases h
  · assumption
def b2i (b : Bool) : Int32 := if b then 1 else 0
def ushI (x y : Int32) : Int32 := (x.toUInt32 >>> (y.toUInt32 &&& Int32.toUInt32 31)).toInt32
def shlL (x : Int64) (y : Int32) : Int64 := x <<< (y.toInt64 &&& 63)
def shrL (x : Int64) (y : Int32) : Int64 := x >>> (y.toInt64 &&& 63)
def ushL (x : Int64) (y : Int32) : Int64 := (x.toUInt64 >>> (y.toInt64.toUInt64 &&& Int64.toUInt64 63)).toInt64
def cvB (x : Int32) : Int32 := x.toInt8.toInt32
def cvS (x : Int32) : Int32 := x.toInt16.toInt32
def cvC (x : Int32) : Int32 := (x.toUInt32 % 65536).toInt32
theorem syc {a b x : Int32} (h : a = b) : x + a = x + b := by rw [h]

/-! the frame of a walk -/
def MH (D : va_G) (cl : List vw_C) (A : Nat → Prop) (H0 : Heap) (w : va_W) (H : Heap) (locs : List Loc) : Prop := va_P D cl w H ∧ va_D A w ∧ va_S A H0 H locs ∧ ∀ q, H0.size ≤ q → A q
abbrev EvT : Type := (Nat → Prop) → State → Heap → Prop
/-- an environment: what others hold and nobody here writes; it moves along -/
def EvOK (E : EvT) : Prop := (∀ {A B : Nat → Prop} {U : State} {H H1 : Heap}, E A U H → (∀ q, q < H.size → ¬ A q → H1[q]? = H[q]?) → (∀ q, B q → A q) → E B U H1) ∧ (∀ {A : Nat → Prop} {s U : State} {H : Heap}, s.WarmedH U.vm → E A s H → E A U H) ∧ (∀ {A : Nat → Prop} {u U : State} {H : Heap}, U.vm = u.vm → E A u H → E A U H)
def mPre (D : va_G) (cl : List vw_C) (tys : List (ClassId × FieldType)) (E : EvT) (w : va_W) (sz : Nat) (U : State) : Prop := U.heap.size = sz ∧ va_P D cl w U.heap ∧ va_K D cl tys U ∧ va_D (fun _ => True) w ∧ E (va_A w sz) U U.heap
def mQc (D : va_G) (cl : List vw_C) (w : va_W) (A : Nat → Prop) (vo : Option Value) : Array Value → State → Outcome → State → Prop := fun _ st oc t => (oc = .returned vo ∧ va_P D cl w t.heap ∧ va_D A w) ∧ va_F A st t
def MM (l : Launch) (y : MethodName) (ws : List Cond) (rm : Room) (D : va_G) (cl : List vw_C) (tys : List (ClassId × FieldType)) (E : EvT) (As : List Value) (w w' : va_W) (vo : Option Value) : Prop := ∀ sz : Nat, Met l y ws rm (va_Pc As (mPre D cl tys E w sz)) (mQc D cl w' (va_A w sz) vo) rm.cells rm.slots (va_A w sz)
theorem mPre_blind {As : List Value} {D : va_G} {cl : List vw_C} {tys : List (ClassId × FieldType)} {E : EvT} (hEv : EvOK E) {w : va_W} {sz : Nat} : FrameBlind (va_Pc As (mPre D cl tys E w sz)) := fun a U g mk q => by
  obtain ⟨q0, q1, qP, qK, qD, qE⟩ := q
  exact ⟨q0, q1, qP, va_K.moved (u := U) (U := U.calling g mk a) (Vm.Alike.refl U.vm) qK, qD, hEv.2.2 (u := U) (U := U.calling g mk a) rfl qE⟩
theorem MM.ofI {l : Launch} {y : MethodName} {cc : ByteArray} {maxL : Nat} {rm : Room} {D : va_G} {cl : List vw_C} {tys : List (ClassId × FieldType)} {E : EvT} {As : List Value} {w w' : va_W} {r : Int32} (hy : plainName y.cls = true) (hsz : (lg_sl As).length ≤ maxL)
    (body : ∀ {p : Program} {e : Env} {s : State} {m : MethodId} {args : Array Value} {below : List Frame} {meth : Method} {c : Code} {Q : State → Prop} {A : Nat → Prop}, CallFix p m c cc maxL s args lw_all y.cls → va_K D cl tys s → E A s s.heap →
      (∀ (H : Heap) (locs : List Loc) (pc : Nat) (ls : Array Slot), MH D cl A s.heap w' H locs → decode cc pc = .ok (.ireturn, 1) → W p l e rm s m args below meth c H locs rm.cells rm.slots Q (F0 m pc ls [.int r])) →
      ∀ (H : Heap) (locs : List Loc) (ls : Array Slot), MH D cl A s.heap w H locs → lv_has ls maxL (lv_args 0 As) → W p l e rm s m args below meth c H locs 0 0 Q (F0 m 0 ls [])) : MM l y (ws_ y cc maxL (some .int)) rm D cl tys E As w w' (some (.int r)) := by
  intro sz
  refine Met.ofW (cc := cc) (maxL := maxL) (ret := some .int) hy rfl ?_
  intro p e s m args below meth c s₁ B hml hv
  obtain ⟨rfl, hz, hP, hK, hD0, hE⟩ := hv
  have hts := atoms_spec (ws := ws_ y cc maxL (some .int)) B.pre
  have hts : ∀ w ∈ lw_all, w.before _ s = true := fun w h => hts w (List.mem_cons_of_mem _ h)
  have hown : s.vm.findClass y.cls = some m.cls := findClass_of_methodNamed B.named
  subst hz
  have hD := hD0.self (sz := s.heap.size)
  have hl := lv_entry As hsz
  have hlo := B.notSynchronized
  rw [lg_entry_eq]
  exact body (A := va_A w s.heap.size) ⟨B.exec, B.bytes, hml, hown, hts⟩ hK hE (fun H locs pc ls hH hdg => W.iret B.exec B.bytes B.returns (fun t ht hW => ⟨⟨rfl, by rw [ht]; exact hH.1, hH.2.1⟩, hH.2.2.1.F ht⟩) hH.2.2.1.2.2 hdg hlo) s.heap [] _ ⟨hP, hD, va_S.rf, fun q h => Or.inr h⟩ hl
theorem b2i_nar (b : Bool) : narrow .boolean (.int (b2i b)) = .int (b2i b) := by cases b <;> decide
theorem MM.ofZ {l : Launch} {y : MethodName} {cc : ByteArray} {maxL : Nat} {rm : Room} {D : va_G} {cl : List vw_C} {tys : List (ClassId × FieldType)} {E : EvT} {As : List Value} {w w' : va_W} {r : Bool} (hy : plainName y.cls = true) (hsz : (lg_sl As).length ≤ maxL)
    (body : ∀ {p : Program} {e : Env} {s : State} {m : MethodId} {args : Array Value} {below : List Frame} {meth : Method} {c : Code} {Q : State → Prop} {A : Nat → Prop}, CallFix p m c cc maxL s args lw_all y.cls → va_K D cl tys s → E A s s.heap →
      (∀ (H : Heap) (locs : List Loc) (pc : Nat) (ls : Array Slot), MH D cl A s.heap w' H locs → decode cc pc = .ok (.ireturn, 1) → W p l e rm s m args below meth c H locs rm.cells rm.slots Q (F0 m pc ls [.int (b2i r)])) →
      ∀ (H : Heap) (locs : List Loc) (ls : Array Slot), MH D cl A s.heap w H locs → lv_has ls maxL (lv_args 0 As) → W p l e rm s m args below meth c H locs 0 0 Q (F0 m 0 ls [])) : MM l y (ws_ y cc maxL (some .boolean)) rm D cl tys E As w w' (some (.int (b2i r))) := by
  intro sz
  refine Met.ofW (cc := cc) (maxL := maxL) (ret := some .boolean) hy rfl ?_
  intro p e s m args below meth c s₁ B hml hv
  obtain ⟨rfl, hz, hP, hK, hD0, hE⟩ := hv
  have hts := atoms_spec (ws := ws_ y cc maxL (some .boolean)) B.pre
  have hts : ∀ w ∈ lw_all, w.before _ s = true := fun w h => hts w (List.mem_cons_of_mem _ h)
  have hown : s.vm.findClass y.cls = some m.cls := findClass_of_methodNamed B.named
  subst hz
  have hD := hD0.self (sz := s.heap.size)
  have hl := lv_entry As hsz
  have hlo := B.notSynchronized
  rw [lg_entry_eq]
  exact body (A := va_A w s.heap.size) ⟨B.exec, B.bytes, hml, hown, hts⟩ hK hE (fun H locs pc ls hH hdg => W.zret B.exec B.bytes B.returns (b2i_nar r) (fun t ht hW => ⟨⟨rfl, by rw [ht]; exact hH.1, hH.2.1⟩, hH.2.2.1.F ht⟩) hH.2.2.1.2.2 hdg hlo) s.heap [] _ ⟨hP, hD, va_S.rf, fun q h => Or.inr h⟩ hl
theorem MM.ofL {l : Launch} {y : MethodName} {cc : ByteArray} {maxL : Nat} {rm : Room} {D : va_G} {cl : List vw_C} {tys : List (ClassId × FieldType)} {E : EvT} {As : List Value} {w w' : va_W} {r : Int64} (hy : plainName y.cls = true) (hsz : (lg_sl As).length ≤ maxL)
    (body : ∀ {p : Program} {e : Env} {s : State} {m : MethodId} {args : Array Value} {below : List Frame} {meth : Method} {c : Code} {Q : State → Prop} {A : Nat → Prop}, CallFix p m c cc maxL s args lw_all y.cls → va_K D cl tys s → E A s s.heap →
      (∀ (H : Heap) (locs : List Loc) (pc : Nat) (ls : Array Slot), MH D cl A s.heap w' H locs → decode cc pc = .ok (.lreturn, 1) → W p l e rm s m args below meth c H locs rm.cells rm.slots Q (F0 m pc ls [.long r])) →
      ∀ (H : Heap) (locs : List Loc) (ls : Array Slot), MH D cl A s.heap w H locs → lv_has ls maxL (lv_args 0 As) → W p l e rm s m args below meth c H locs 0 0 Q (F0 m 0 ls [])) : MM l y (ws_ y cc maxL (some .long)) rm D cl tys E As w w' (some (.long r)) := by
  intro sz
  refine Met.ofW (cc := cc) (maxL := maxL) (ret := some .long) hy rfl ?_
  intro p e s m args below meth c s₁ B hml hv
  obtain ⟨rfl, hz, hP, hK, hD0, hE⟩ := hv
  have hts := atoms_spec (ws := ws_ y cc maxL (some .long)) B.pre
  have hts : ∀ w ∈ lw_all, w.before _ s = true := fun w h => hts w (List.mem_cons_of_mem _ h)
  have hown : s.vm.findClass y.cls = some m.cls := findClass_of_methodNamed B.named
  subst hz
  have hD := hD0.self (sz := s.heap.size)
  have hl := lv_entry As hsz
  have hlo := B.notSynchronized
  rw [lg_entry_eq]
  exact body (A := va_A w s.heap.size) ⟨B.exec, B.bytes, hml, hown, hts⟩ hK hE (fun H locs pc ls hH hdg => W.lret B.exec B.bytes B.returns (fun t ht hW => ⟨⟨rfl, by rw [ht]; exact hH.1, hH.2.1⟩, hH.2.2.1.F ht⟩) hH.2.2.1.2.2 hdg hlo) s.heap [] _ ⟨hP, hD, va_S.rf, fun q h => Or.inr h⟩ hl
theorem MM.ofV {l : Launch} {y : MethodName} {cc : ByteArray} {maxL : Nat} {rm : Room} {D : va_G} {cl : List vw_C} {tys : List (ClassId × FieldType)} {E : EvT} {As : List Value} {w w' : va_W} (hy : plainName y.cls = true) (hsz : (lg_sl As).length ≤ maxL)
    (body : ∀ {p : Program} {e : Env} {s : State} {m : MethodId} {args : Array Value} {below : List Frame} {meth : Method} {c : Code} {Q : State → Prop} {A : Nat → Prop}, CallFix p m c cc maxL s args lw_all y.cls → va_K D cl tys s → E A s s.heap →
      (∀ (H : Heap) (locs : List Loc) (pc : Nat) (ls : Array Slot), MH D cl A s.heap w' H locs → decode cc pc = .ok (.return_, 1) → W p l e rm s m args below meth c H locs rm.cells rm.slots Q (F0 m pc ls [])) →
      ∀ (H : Heap) (locs : List Loc) (ls : Array Slot), MH D cl A s.heap w H locs → lv_has ls maxL (lv_args 0 As) → W p l e rm s m args below meth c H locs 0 0 Q (F0 m 0 ls [])) : MM l y (ws_ y cc maxL none) rm D cl tys E As w w' none := by
  intro sz
  refine Met.ofW (cc := cc) (maxL := maxL) (ret := none) hy rfl ?_
  intro p e s m args below meth c s₁ B hml hv
  obtain ⟨rfl, hz, hP, hK, hD0, hE⟩ := hv
  have hts := atoms_spec (ws := ws_ y cc maxL none) B.pre
  have hts : ∀ w ∈ lw_all, w.before _ s = true := fun w h => hts w (List.mem_cons_of_mem _ h)
  have hown : s.vm.findClass y.cls = some m.cls := findClass_of_methodNamed B.named
  subst hz
  have hD := hD0.self (sz := s.heap.size)
  have hl := lv_entry As hsz
  have hlo := B.notSynchronized
  rw [lg_entry_eq]
  exact body (A := va_A w s.heap.size) ⟨B.exec, B.bytes, hml, hown, hts⟩ hK hE (fun H locs pc ls hH hdg => W.vret B.exec B.bytes B.returns (fun t ht hW => ⟨⟨rfl, by rw [ht]; exact hH.1, hH.2.1⟩, hH.2.2.1.F ht⟩) hH.2.2.1.2.2 hdg hlo) s.heap [] _ ⟨hP, hD, va_S.rf, fun q h => Or.inr h⟩ hl
section MB
variable {p : Program} {l : Launch} {e : Env} {R : Room} {s : State} {m : MethodId} {args : Array Value} {below : List Frame} {meth : Method} {c : Code} {H : Heap} {locs : List Loc} {cells slots : Nat} {Q : State → Prop}
variable {D : va_G} {cl : List vw_C} {A : Nat → Prop} {H0 : Heap} {tys : List (ClassId × FieldType)} {w w' : va_W} {pc : Nat} {ls : Array Slot} {rest st0 : List Value}
theorem MH.free (hH : MH D cl A H0 w H locs) : ∀ q, va_A w H.size q → A q := by
  obtain ⟨hP, hD, hS, hA⟩ := hH
  intro q h
  rcases h with ⟨k, e, h⟩ | h
  · exact hD.2 k (q, e) h
  · exact hA q (Nat.le_trans hS.1 h)
theorem MH.ev {E : EvT} (hH : MH D cl A H0 w H locs) (hEv : EvOK E) (hE : E A s H0) : E (va_A w H.size) s H := hEv.1 hE hH.2.2.1.2.1 hH.free
theorem mRun {mc ms : Nat} {a : Array Value} {vo : Option Value} (hr : va_Run p l e R s m args below meth c H locs cells slots mc ms (F0 m pc ls st0) rest (mQc D cl w' (va_A w H.size) vo a) (va_A w H.size)) (hH : MH D cl A H0 w H locs)
    (kk : ∀ (H1 : Heap) (locs1 : List Loc), MH D cl A H0 w' H1 locs1 → W p l e R s m args below meth c H1 locs1 (cells + mc) (slots + ms) Q (F0 m (pc + 3) ls (vo.toList ++ rest))) : W p l e R s m args below meth c H locs cells slots Q (F0 m pc ls st0) := by
  have hf := hH.free
  obtain ⟨hP, hD, hS, hA⟩ := hH
  intro T hT X
  obtain ⟨v, st₀, t, T', L, h0, X', hL, e1, e2, ⟨⟨hv, hP1, hD1⟩, hz, hk⟩, st⟩ := hr T hT X
  cases hv
  rw [h0] at hz hk
  obtain ⟨t2, a1, b1⟩ := kk T'.heap (locs ++ L) ⟨by rw [e1]; exact hP1, hD1.weaken (fun _ _ _ h => hf _ h),
    ⟨Nat.le_trans hS.1 (by rw [e1]; exact hz), fun q h1 h2 => by rw [e1, hk q (Nat.lt_of_lt_of_le h1 hS.1) (fun z => h2 (hf q z))]; exact hS.2.1 q h1 h2, fun q hq => by
      rcases List.mem_append.mp hq with h | h
      · exact hS.2.2 q h
      · exact hf _ (hL q h)⟩, hA⟩ T' rfl X'
  exact ⟨t2, st t2 a1, b1⟩
variable {y : MethodName} {bytes cc : ByteArray} {maxL nL n index : Nat} {ret : Option FieldType} {rm : Room} {own C : String} {b : Addr} {As : List Value} {vo : Option Value} {lv : List (Nat × Value)} {E : EvT}
theorem mcV (hX : CallFix p m c cc nL s args lw_all own) (hK : va_K D cl tys s) (hEv : EvOK E) (hE : E A s H0) (hH : MH D cl A H0 w H locs) (hM : MM l y (ws_ y bytes maxL ret) rm D cl tys E (.ref b :: As) w w' vo) (hrc : ∃ cellB : Cell, H[b]? = some cellB ∧ cellB.vm.isStatics = false ∧ s.vm.findClass C = some cellB.cls)
    (hG : GoodIn lw_all (wsV own index C y (ws_ y bytes maxL ret))) (hd : y.cls = C ∧ y.cls ≠ "java/lang/invoke/MethodHandle" ∧ y.cls ≠ "java/lang/invoke/VarHandle" ∧ (parseMethodDescriptor y.desc).map (fun d => d.parameters.length) = some n) (hR : rm.frames + 1 ≤ R.frames ∧ 8 + (maxL + 11) + rm.locals ≤ R.locals)
    (hn : As.length = n) (hst : st0 = As.reverse ++ .ref b :: rest) (hl : lv_has ls nL lv) (hW : (rest.map fun v => v.category).sum ≤ 8) (hdg : decode cc pc = .ok (.invokevirtual index, 3)) (hf : cells + rm.cells ≤ R.cells ∧ slots + rm.slots ≤ R.slots)
    (kk : ∀ (H1 : Heap) (locs1 : List Loc), MH D cl A H0 w' H1 locs1 → W p l e R s m args below meth c H1 locs1 (cells + rm.cells) (slots + rm.slots) Q (F0 m (pc + 3) ls (vo.toList ++ rest))) : W p l e R s m args below meth c H locs cells slots Q (F0 m pc ls st0) :=
  mRun (va_runV hX (hM H.size) (cwV n hX.2.2.2.2 hG rfl rfl rfl hd hR) ⟨mPre_blind hEv, hrc, fun U hU hW => ⟨rfl, by rw [hU], by rw [hU]; exact hH.1, va_K.moved hW.alike hK, hH.2.1.weaken (fun _ _ _ _ => trivial), by rw [hU]; exact hEv.2.1 hW (hH.ev hEv hE)⟩⟩ rfl hn hl.1 hst (lv_room hW) hdg hf) hH kk
theorem mcS (hX : CallFix p m c cc nL s args lw_all own) (hK : va_K D cl tys s) (hEv : EvOK E) (hE : E A s H0) (hH : MH D cl A H0 w H locs) (hM : MM l y (ws_ y bytes maxL ret) rm D cl tys E As w w' vo)
    (hG : GoodIn lw_all (va_wsS own index y (ws_ y bytes maxL ret))) (hd : y.cls ≠ "java/lang/invoke/MethodHandle" ∧ y.cls ≠ "java/lang/invoke/VarHandle" ∧ (parseMethodDescriptor y.desc).map (fun d => d.parameters.length) = some n) (hR : rm.frames + 1 ≤ R.frames ∧ 8 + (maxL + 11) + rm.locals ≤ R.locals)
    (hn : As.length = n) (hst : st0 = As.reverse ++ rest) (hl : lv_has ls nL lv) (hW : (rest.map fun v => v.category).sum ≤ 8) (hdg : decode cc pc = .ok (.invokestatic index, 3)) (hf : cells + rm.cells ≤ R.cells ∧ slots + rm.slots ≤ R.slots)
    (kk : ∀ (H1 : Heap) (locs1 : List Loc), MH D cl A H0 w' H1 locs1 → W p l e R s m args below meth c H1 locs1 (cells + rm.cells) (slots + rm.slots) Q (F0 m (pc + 3) ls (vo.toList ++ rest))) : W p l e R s m args below meth c H locs cells slots Q (F0 m pc ls st0) :=
  mRun (va_runS hX (hM H.size) (va_cwS n hX.2.2.2.2 hG rfl rfl rfl hd hR) ⟨mPre_blind hEv, fun U hU hW => ⟨rfl, by rw [hU], by rw [hU]; exact hH.1, va_K.moved hW.alike hK, hH.2.1.weaken (fun _ _ _ _ => trivial), by rw [hU]; exact hEv.2.1 hW (hH.ev hEv hE)⟩⟩ rfl hn hl.1 hst (lv_room hW) hdg hf) hH kk
end MB
abbrev vwA : List vw_C := [(RX0, TX0, 23), (RX1, TX1, 6), (RX2, TX2, 8), (RX3, TX3, 6), (RX4, TX4, 6), (RX5, TX5, 6), (RX6, TX6, 4), (RX7, TX7, 1), (RX8, TX8, 46), (RX9, TX9, 11), (RX10, TX10, 5), (RX11, TX11, 4), (RX13, TX13, 2), (RX14, TX14, 2), (RX16, TX16, 1), (RX17, TX17, 2), (RX18, TX18, 3), (RJ2, TJ2, 3)]

