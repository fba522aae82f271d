set_option maxRecDepth 100000
section P50
variable {all t on at' many : Nat → Int32} {T O O' M : Nat → Nat} {V : Nat → BvT} {mv as1 : Nat}
/-- a code in which one stone has another place -/
theorem to_P {P P' : Nat → Nat} (hA : ∀ j, j < 8 → P j < 16) (hB : ∀ j, j < 8 → P' j < 16) (hm : mv < 256) {i p : Nat} (hi8 : i < 8) (hp : p < 16) (h : ∀ j, j < 8 → P' j = if j = i then p else P j) : FX0_to (lN (pk P 8 + mv * 16 ^ 8)) (nI i) (nI p) = some (lN (pk P' 8 + (mv ||| 2 ^ i) * 16 ^ 8)) := by
  have e1 : shlL 15 (nI (4 * i)) = lN (15 * 2 ^ (4 * i)) := shlL_n 15 (by omega)
  have e2 : shlL 1 (nI (32 + i)) = lN (1 * 2 ^ (32 + i)) := shlL_n 1 (by omega)
  have e3 : shlL (nI p).toInt64 (nI (4 * i)) = lN (p * 2 ^ (4 * i)) := by rw [i2l (by omega)]; exact shlL_n p (by omega)
  unfold FX0_to
  rw [show (4 : Int32) = nI 4 from rfl, show (32 : Int32) = nI 32 from rfl, n_mul, n_add, e1, e2, e3, x1L, fb_andL, fb_orL, fb_orL]
  congr 2
  rw [Nat.one_mul]
  refine tb_ext fun q s hs => ?_
  have tp : ∀ q s, s < 4 → (p * 2 ^ (4 * i)).testBit (4 * q + s) = if q = i then p.testBit s else false := by
    intro q s hs
    rw [Nat.testBit_mul_two_pow]
    by_cases c : q = i
    · rw [if_pos c, c, decide_eq_true (by omega), Bool.true_and, show 4 * i + s - 4 * i = s by omega]
    · rw [if_neg c]
      by_cases d : 4 * i ≤ 4 * q + s
      · rw [decide_eq_true d, Bool.true_and]
        exact Nat.testBit_lt_two_pow (Nat.lt_of_lt_of_le hp (show (16 : Nat) ≤ 2 ^ (4 * q + s - 4 * i) from Nat.pow_le_pow_right (n := 2) (i := 4) (by decide) (by omega)))
      · rw [decide_eq_false d, Bool.false_and]
  rw [Nat.testBit_or, Nat.testBit_or, Nat.testBit_and, Nat.testBit_xor, dk_bit hA q s hs, dk_bit hB q s hs, t15 i q s hs, tp q s hs, Nat.testBit_two_pow, allB]
  by_cases c : q < 8
  · rw [if_pos c, if_pos c, h q c, decide_eq_false (show ¬ 32 + i = 4 * q + s by omega), decide_eq_true (show 4 * q + s < 64 by omega), Bool.or_false]
    by_cases c2 : q = i
    · rw [if_pos c2, if_pos c2, decide_eq_true c2]
      cases (P q).testBit s <;> rfl
    · rw [if_neg c2, if_neg c2, decide_eq_false c2]
      cases (P q).testBit s <;> rfl
  · rw [if_neg c, if_neg c, decide_eq_false (show ¬ q = i by omega), if_neg (show ¬ q = i by omega), Nat.testBit_or, Nat.testBit_two_pow, Bool.or_false]
    have e4 : decide (32 + i = 4 * q + s) = decide (i = 4 * (q - 8) + s) := by
      by_cases d : 32 + i = 4 * q + s
      · rw [decide_eq_true d, decide_eq_true (by omega)]
      · rw [decide_eq_false d, decide_eq_false (by omega)]
    rw [e4]
    by_cases c3 : 4 * q + s < 64
    · rw [decide_eq_true c3, Bool.false_xor, Bool.and_true]
    · have : mv.testBit (4 * (q - 8) + s) = false := Nat.testBit_lt_two_pow (Nat.lt_of_lt_of_le hm (show (256 : Nat) ≤ 2 ^ (4 * (q - 8) + s) from Nat.pow_le_pow_right (n := 2) (i := 8) (by decide) (by omega)))
      rw [this, Bool.false_and]
theorem toCar (hW : WT T) {s : St} (hs : VS T s) {a b : Nat} (ha : a < T 0) (hb : b < T 0) (hab : a ≠ b) (h1 : s.2.1 a ≠ 0) (h2 : s.2.1 b ≠ T (1 + b)) : FX0_to (lN (cdS s)) (nI (s.1 (3 * a + (s.2.1 a - 1)) - 1)) (nI (3 * b + s.2.1 b)) = some (lN (enc (caO s.1 s.2.1 a b) (s.2.2 ||| 2 ^ (s.1 (3 * a + (s.2.1 a - 1)) - 1)))) := by
  have hw := hW.b
  obtain ⟨s1, s2, s3⟩ := hs.1.st hW (show a < 5 by omega) (show s.2.1 a - 1 < s.2.1 a by omega)
  have w3 := hW.hi (show b < 5 by omega)
  have wl : s.2.1 b ≤ T (1 + b) := hs.1.2.2.1 b (by omega)
  exact to_P (P := pl s.1) (P' := pl (caO s.1 s.2.1 a b)) (fun j _ => by have := pl_le s.1 j; omega) (fun j _ => by have := pl_le (caO s.1 s.2.1 a b) j; omega) hs.2 (by omega) (by omega) (fun j hj => by
    rw [pl_ca hW hs.1 ha hb hab h1 h2]
    by_cases c : j + 1 = s.1 (3 * a + (s.2.1 a - 1))
    · rw [if_pos c, if_pos (by omega)]
    · rw [if_neg c, if_neg (by omega)])
theorem toEx (hW : WT T) {s : St} (hs : VS T s) {a b : Nat} (ha : a < T 0) (hb : b < T 0) (hab : a ≠ b) (h1 : s.2.1 a ≠ 0) (h2 : s.2.1 b ≠ 0) : ∃ y, FX0_to (lN (cdS s)) (nI (s.1 (3 * a + (s.2.1 a - 1)) - 1)) (nI (3 * b + (s.2.1 b - 1))) = some y ∧ FX0_to y (nI (s.1 (3 * b + (s.2.1 b - 1)) - 1)) (nI (3 * a + (s.2.1 a - 1))) = some (lN (enc (exO s.1 s.2.1 a b) (s.2.2 ||| (2 ^ (s.1 (3 * b + (s.2.1 b - 1)) - 1) ||| 2 ^ (s.1 (3 * a + (s.2.1 a - 1)) - 1))))) := by
  have hw := hW.b
  obtain ⟨n1, n2, n3⟩ := ex_ne hs.1 hW ha hb hab h1 h2
  obtain ⟨s1, s2, s3⟩ := hs.1.st hW (show a < 5 by omega) (show s.2.1 a - 1 < s.2.1 a by omega)
  obtain ⟨r1, r2, r3⟩ := hs.1.st hW (show b < 5 by omega) (show s.2.1 b - 1 < s.2.1 b by omega)
  have pA : ∀ j, j < 8 → pl s.1 j < 16 := fun j _ => by have := pl_le s.1 j; omega
  have pB : ∀ j, j < 8 → (if j = s.1 (3 * a + (s.2.1 a - 1)) - 1 then 3 * b + (s.2.1 b - 1) else pl s.1 j) < 16 := fun j hj => by
    have := pA j hj
    split <;> omega
  have e1 := to_P (P := pl s.1) (P' := fun j => if j = s.1 (3 * a + (s.2.1 a - 1)) - 1 then 3 * b + (s.2.1 b - 1) else pl s.1 j) (i := s.1 (3 * a + (s.2.1 a - 1)) - 1) (p := 3 * b + (s.2.1 b - 1)) pA pB hs.2 (by omega) (by omega) (fun j _ => rfl)
  refine ⟨_, e1, ?_⟩
  have e2 := to_P (P := fun j => if j = s.1 (3 * a + (s.2.1 a - 1)) - 1 then 3 * b + (s.2.1 b - 1) else pl s.1 j) (P' := pl (exO s.1 s.2.1 a b)) (i := s.1 (3 * b + (s.2.1 b - 1)) - 1) (p := 3 * a + (s.2.1 a - 1)) pB (fun j _ => by have := pl_le (exO s.1 s.2.1 a b) j; omega) (or_lt (i := s.1 (3 * a + (s.2.1 a - 1)) - 1) hs.2 (by omega)) (by omega) (by omega) (fun j hj => by
    rw [pl_ex hW hs.1 ha hb hab h1 h2]
    by_cases c : j + 1 = s.1 (3 * b + (s.2.1 b - 1))
    · rw [if_pos c, if_pos (by omega)]
    · rw [if_neg c, if_neg (show ¬ j = s.1 (3 * b + (s.2.1 b - 1)) - 1 by omega)]
      by_cases c2 : j + 1 = s.1 (3 * a + (s.2.1 a - 1))
      · rw [if_pos c2, if_pos (by omega)]
      · rw [if_neg c2, if_neg (by omega)])
  rw [e2, Nat.or_assoc, Nat.or_comm (2 ^ (s.1 (3 * a + (s.2.1 a - 1)) - 1))]
  rfl
theorem pl_cong' (h : ∀ p, p < 15 → O p = O' p) : ∀ j, pl O j = pl O' j := by
  intro j
  have key : ∀ n, n ≤ 15 → plR O j n = plR O' j n := by
    intro n
    induction n with
    | zero => intro _; rfl
    | succ n ih => intro hn; show (if O n = j + 1 then n else plR O j n) = (if O' n = j + 1 then n else plR O' j n); rw [ih (by omega), h n (by omega)]
  exact key 15 (Nat.le_refl _)
theorem cd_ky (hW : WT T) {s s' : St} (hs : VS T s) (hs' : VS T s') : cdS s = cdS s' ↔ kyS s = kyS s' := by
  have hw := hW.b
  constructor
  · intro h
    obtain ⟨h1, h2⟩ := enc_inj hW hs.1 hs'.1 h
    exact Prod.ext (dk_cong 15 h1) h2
  · intro h
    have h1 : pk s.1 15 = pk s'.1 15 := congrArg (fun z : Nat × Nat => z.1) h
    have h2 : s.2.2 = s'.2.2 := congrArg (fun z : Nat × Nat => z.2) h
    have h3 : ∀ p, p < 15 → s.1 p = s'.1 p := fun p hp => by
      have a1 := dk_dig (P := s.1) 15 0 p (fun j hj => by have := hs.1.1 j hj; omega) hp
      have a2 := dk_dig (P := s'.1) 15 0 p (fun j hj => by have := hs'.1.1 j hj; omega) hp
      rw [← a1, ← a2, h1]
    unfold cdS enc
    rw [h2, dk_cong 8 (fun j _ => pl_cong' h3 j)]
theorem cd_CX {s : St} (hs : VS T s) : cdS s < CX := by
  have := enc_lt s.1 hs.2
  unfold cdS CX
  omega
def AllV (T : Nat → Nat) (n : Nat) (codes : Nat → Nat) : Prop := ∀ j, j < n → ∃ s : St, VS T s ∧ codes j = cdS s
theorem AllV.up {n : Nat} {codes : Nat → Nat} {s : St} (h : AllV T n codes) (hs : VS T s) : AllV T (n + 1) (up codes n (cdS s)) := by
  intro j hj
  by_cases c : j = n
  · exact ⟨s, hs, upn_t c⟩
  · rw [upn_f c]; exact h j (by omega)
/-- the component's table against the search: in step, or over -/
def CA (T : Nat → Nat) (keys row : Nat → Int64) (slots : Nat → Int32) (n f : Nat) (acc : Acc) : Prop := VA T f acc ∧ ((acc.2.2 = false ∧ n = acc.1 ∧ CT keys row slots n (fun j => cdS (acc.2.1 j))) ∨ (acc.2.2 = true ∧ 6000 < f + n ∧ ∃ codes, CT keys row slots n codes ∧ AllV T n codes))
theorem comesC (hW : WT T) {keys row : Nat → Int64} {slots : Nat → Int32} {n f m0 : Nat} {acc : Acc} {s : St} {fl : Bool} (h : CA T keys row slots n f acc) (hn : n < 6002) (hs : VS T s) (hm0 : m0 < 256) (hm : s.2.2 = if fl then 0 else m0) : ∃ keys' row' slots' n', FX0_comes keys row slots (nI n) (lN (enc s.1 m0)) (nI (if fl then 1 else 0)) = some (keys', row', slots', nI n') ∧ CA T keys' row' slots' n' f (addS f acc s) ∧ n' ≤ n + 1 := by
  have e0 : ∀ r, FX0_comes_j16 keys row slots (nI n) (lN (cdS s)) = r → FX0_comes keys row slots (nI n) (lN (enc s.1 m0)) (nI (if fl then 1 else 0)) = r := by
    intro r hr
    unfold FX0_comes
    cases fl with
    | true =>
      rw [if_pos rfl] at hm
      rw [if_neg (by decide), resting_n hm0, bd1_s, ← hr, cdS, hm]
    | false =>
      rw [if_neg Bool.false_ne_true] at hm
      rw [if_pos (by decide), ← hr, cdS, hm]
  obtain ⟨hv, hc⟩ := h
  have hv' := hv.add hs
  rcases hc with ⟨c1, rfl, c3⟩ | ⟨c1, c2, codes, c3, c4⟩
  · obtain ⟨bb, keys', row', slots', n', codes', a1, a2, -, a3⟩ := adds6 c3 hn (cd_CX hs)
    have eq1 : FX0_comes keys row slots (nI acc.1) (lN (enc s.1 m0)) (nI (if fl then 1 else 0)) = some (keys', row', slots', nI n') := e0 _ (by unfold FX0_comes_j16; rw [a1, bd5_s])
    rcases a3 with ⟨rfl, rfl, rfl, j, j1, j2⟩ | ⟨rfl, rfl, rfl, j1⟩
    · have hmm : memS acc.2.1 (kyS s) acc.1 = true := (memS_iff _ _ _).mpr ⟨j, j1, (cd_ky hW (hv.2 j j1) hs).mp j2⟩
      have : addS f acc s = acc := by unfold addS; rw [if_pos hmm]
      rw [this]
      exact ⟨keys', row', slots', _, eq1, ⟨hv, Or.inl ⟨c1, rfl, a2⟩⟩, by omega⟩
    · have hmm : ¬ memS acc.2.1 (kyS s) acc.1 = true := fun z => by
        obtain ⟨j, k1, k2⟩ := (memS_iff _ _ _).mp z
        exact j1 j k1 ((cd_ky hW (hv.2 j k1) hs).mpr k2)
      by_cases c6 : f + acc.1 = 6000
      · have : addS f acc s = (acc.1, acc.2.1, true) := by unfold addS; rw [if_neg hmm, if_pos c6]
        rw [this] at hv' ⊢
        exact ⟨keys', row', slots', _, eq1, ⟨hv', Or.inr ⟨rfl, by omega, _, a2, AllV.up (fun j hj => ⟨_, hv.2 j hj, rfl⟩) hs⟩⟩, by omega⟩
      · have : addS f acc s = (acc.1 + 1, up acc.2.1 acc.1 s, acc.2.2) := by unfold addS; rw [if_neg hmm, if_neg c6]
        rw [this] at hv' ⊢
        refine ⟨keys', row', slots', _, eq1, ⟨hv', Or.inl ⟨c1, rfl, ?_⟩⟩, by omega⟩
        have hk : up (fun j => cdS (acc.2.1 j)) acc.1 (cdS s) = fun j => cdS (up acc.2.1 acc.1 s j) := by
          funext j
          by_cases c : j = acc.1
          · rw [upn_t c, upn_t c]
          · rw [upn_f c, upn_f c]
        rw [hk] at a2
        exact a2
  · obtain ⟨bb, keys', row', slots', n', codes', a1, a2, -, a3⟩ := adds6 c3 hn (cd_CX hs)
    have eq1 : FX0_comes keys row slots (nI n) (lN (enc s.1 m0)) (nI (if fl then 1 else 0)) = some (keys', row', slots', nI n') := e0 _ (by unfold FX0_comes_j16; rw [a1, bd5_s])
    have hsp : (addS f acc s).2.2 = true := by
      unfold addS
      split
      · exact c1
      · split
        · rfl
        · exact c1
    have hn' : n ≤ n' ∧ n' ≤ n + 1 := by
      rcases a3 with ⟨-, rfl, -⟩ | ⟨-, rfl, -⟩ <;> omega
    have hav : AllV T n' codes' := by
      rcases a3 with ⟨-, rfl, rfl, -⟩ | ⟨-, rfl, rfl, -⟩
      · exact c4
      · exact c4.up hs
    exact ⟨keys', row', slots', n', eq1, ⟨hv', Or.inr ⟨hsp, by omega, codes', a2, hav⟩⟩, hn'.2⟩
end P50
