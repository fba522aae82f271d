set_option maxRecDepth 100000
section P55
variable {all t on at' many : Nat → Int32} {T O O' M : Nat → Nat} {V : Nat → BvT} {mv as1 w : Nat}
/-- the begun: the same list on both sides -/
def Beg (T : Nat → Nat) (bK bR : Nat → Int64) (bS : Nat → Int32) (bt bm : Nat → Int32) (bg : Nat → Int64) (mk n : Nat) (B : Nat → St) : Prop :=
  (∀ j, j < n → VS T (B j) ∧ (B j).2.2 = 0) ∧ CT bK bR bS n (fun j => cdS (B j)) ∧ BT bt bm bg mk n (fun j => pk (B j).1 15)
def one1 (s : St) : Acc := (1, fun _ => s, false)
theorem enc_rest {s : St} (hs : VS T s) : FX0_resting (lN (cdS s)) = some (lN (enc s.1 0)) := resting_n hs.2
theorem rest_eq (hW : WT T) {s : St} (hs : VS T s) : (lg_cmp (lN (enc s.1 0)) (lN (cdS s)) = 0) ↔ s.2.2 = 0 := by
  rw [lg_eq]
  have h1 : VS T (s.1, s.2.1, 0) := ⟨hs.1, by show 0 < 256; omega⟩
  have c1 := cd_CX hs
  have c2 := cd_CX h1
  unfold cdS at c1 c2
  dsimp only at c2
  unfold CX at c1 c2
  unfold cdS
  constructor
  · intro h
    have := lN_inj (by omega) (by omega) h
    obtain ⟨-, h3⟩ := enc_inj hW hs.1 hs.1 this
    exact h3.symm
  · intro h
    rw [h]
theorem CT.congr {keys row : Nat → Int64} {slots : Nat → Int32} {n : Nat} {c c' : Nat → Nat} (h : CT keys row slots n c) (e : c = c') : CT keys row slots n c' := e ▸ h
/-- the first state, on the component's side -/
theorem opens0 (hW : WT T) {s : St} (hs : VS T s) {sK sR bK bR : Nat → Int64} {sS bS : Nat → Int32} {n nb : Nat} {cs cb : Nat → Nat} (h1 : CT sK sR sS n cs) (h2 : CT bK bR bS nb cb) : ∃ sK' sR' sS' bK' bR' bS' nb', FX0_opens sK sR sS bK bR bS (nI n) (nI nb) (lN (cdS s)) = some (sK', sR', sS', bK', bR', bS', 0, nI 1, nI nb') ∧ CA T sK' sR' sS' 1 0 (one1 s) ∧ nb' = (if s.2.2 = 0 then 1 else 0) ∧ CT bK' bR' bS' nb' (fun _ => cdS s) := by
  obtain ⟨sK1, e1, f1⟩ := clears6 h1
  obtain ⟨bK1, e2, f2⟩ := clears6 h2
  obtain ⟨b3, sK3, sR3, sS3, n3, c3, e3, f3, -, g3⟩ := adds6 (f1 sR sS (fun _ => cdS s)) (by omega) (cd_CX hs)
  have g3' : b3 = true ∧ n3 = 1 ∧ c3 = fun _ => cdS s := by
    rcases g3 with ⟨-, -, -, j, hj, -⟩ | ⟨q1, q2, q3, -⟩
    · exact absurd hj (Nat.not_lt_zero j)
    · refine ⟨q1, q2, ?_⟩
      rw [q3]
      funext j
      by_cases c : j = 0
      · rw [upn_t c]
      · rw [upn_f c]
  obtain ⟨rfl, rfl, rfl⟩ := g3'
  have hCA : CA T sK3 sR3 sS3 1 0 (one1 s) := ⟨⟨by show 0 + 1 ≤ 6000; omega, fun j _ => hs⟩, Or.inl ⟨rfl, rfl, f3⟩⟩
  have er := enc_rest hs
  by_cases c : s.2.2 = 0
  · obtain ⟨b4, bK4, bR4, bS4, n4, c4, e4, f4, -, g4⟩ := adds6 (f2 bR bS (fun _ => cdS s)) (by omega) (cd_CX hs)
    have g4' : n4 = 1 ∧ c4 = fun _ => cdS s := by
      rcases g4 with ⟨-, -, -, j, hj, -⟩ | ⟨-, q2, q3, -⟩
      · exact absurd hj (Nat.not_lt_zero j)
      · refine ⟨q2, ?_⟩
        rw [q3]
        funext j
        by_cases c : j = 0
        · rw [upn_t c]
        · rw [upn_f c]
    obtain ⟨rfl, rfl⟩ := g4'
    refine ⟨sK3, sR3, sS3, bK4, bR4, bS4, 1, ?_, hCA, by rw [if_pos c], f4⟩
    unfold FX0_opens FX0_opens_j41
    rw [e1, bd2_s, e2, bd2_s, e3, bd5_s, er, bd1_s, if_pos ((rest_eq hW hs).mpr c), e4, bd5_s]
  · refine ⟨sK3, sR3, sS3, bK1, bR, bS, 0, ?_, hCA, by rw [if_neg c], f2 bR bS _⟩
    unfold FX0_opens FX0_opens_j41
    rw [e1, bd2_s, e2, bd2_s, e3, bd5_s, er, bd1_s, if_neg (fun z => c ((rest_eq hW hs).mp z))]
/-- the first state, on the model's side -/
theorem starts8 (hW : WT T) {s : St} (hs : VS T s) (hon : OnAt on many s.1 s.2.1) {lies : Nat → Int64} {mt yt ym bt bm : Nat → Int32} {bg : Nat → Int64} {mk f n bk nb : Nat} {keys : Nat → Nat × Nat} {cb : Nat → Nat} (h1 : MT lies mt yt ym mk f n keys) (h2 : BT bt bm bg bk nb cb) (hmk : mk + 1 < 2147483648) (hbk : bk + 1 < 2147483648) : ∃ lies' mt' yt' ym' bt' bm' bg' nb', FX8_startsYears on (nI s.2.2) lies mt yt ym bt bm (nI mk) (nI bk) bg = some (lies', mt', yt', ym', bt', bm', nI 1, 0, nI (mk + 1), nI (bk + 1), nI nb', bg', 0) ∧ MA T lies' mt' yt' ym' (mk + 1) 0 (one1 s) 0 ∧ nb' = (if s.2.2 = 0 then 1 else 0) ∧ BT bt' bm' bg' (bk + 1) nb' (fun _ => pk s.1 15) := by
  have e0 := packed8 hW hs.1 hon.1
  have m1 : nI mk + 1 = nI (mk + 1) := n_add mk 1
  have m2 : nI bk + 1 = nI (bk + 1) := n_add bk 1
  have h3 : MA T lies mt yt ym (mk + 1) 0 (0, fun _ => s, false) 0 := ⟨⟨by show 0 + 0 ≤ 6000; omega, fun j hj => absurd hj (Nat.not_lt_zero j)⟩, h1.next (by omega), rfl⟩
  obtain ⟨lies', mt', yt', ym', sp', e1, e2, -⟩ := addM h3 hW hs hmk
  have ea : addS 0 (0, fun _ => s, false) s = (1, up (fun _ => s) 0 s, false) := rfl
  have eb : up (fun _ => s) 0 s = fun _ => s := by
    funext j
    by_cases c : j = 0
    · rw [upn_t c]
    · rw [upn_f c]
  rw [ea, eb] at e1 e2
  have hsp : sp' = 0 := e2.2.2
  subst hsp
  have e1' : FX8_takes lies mt yt ym 0 (nI (mk + 1)) 0 (lN (pk s.1 15)) (nI s.2.2) = some (lies', mt', yt', ym', nI 1, 0) := e1
  by_cases c : s.2.2 = 0
  · obtain ⟨b4, bt4, bm4, bg4, n4, c4, e4, f4, g4⟩ := begun8 (h2.next (codes' := fun _ => pk s.1 15)) hbk (by omega) (pk_CX hW hs.1)
    have g4' : n4 = 1 ∧ c4 = fun _ => pk s.1 15 := by
      rcases g4 with ⟨-, -, -, j, hj, -⟩ | ⟨-, q2, q3, -⟩
      · exact absurd hj (Nat.not_lt_zero j)
      · refine ⟨q2, ?_⟩
        rw [q3]
        funext j
        by_cases c : j = 0
        · rw [upn_t c]
        · rw [upn_f c]
    obtain ⟨rfl, rfl⟩ := g4'
    refine ⟨lies', mt', yt', ym', bt4, bm4, bg4, 1, ?_, e2, by rw [if_pos c], f4⟩
    have e4' : FX8_isBegun bt bm (nI (bk + 1)) 0 bg (lN (pk s.1 15)) = some (b4, bt4, bm4, nI 1, bg4) := e4
    unfold FX8_startsYears
    rw [e0, bd1_s, m1, m2, e1', bd6_s, if_pos (by rw [c]; rfl), bd1_s, e4', bd5_s]
  · refine ⟨lies', mt', yt', ym', bt, bm, bg, 0, ?_, e2, by rw [if_neg c], h2.next⟩
    unfold FX8_startsYears
    rw [e0, bd1_s, m1, m2, e1', bd6_s, if_neg (by rw [show (0 : Int32) = nI 0 from rfl, eq_f c (by have := hs.2; omega) (by omega)]; exact id)]
    rfl
end P55
