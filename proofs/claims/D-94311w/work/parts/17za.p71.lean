set_option maxRecDepth 100000
/-! easier: the two loops in step -/
section P71
variable {all0 t ca la : Nat → Int32} {T M : Nat → Nat} {V : Nat → BvT} {p q : Nat} {lies : Int64} {year : Int32}
theorem q_step {nbb : Int32} {pp qq : Int32} {d : Nat} {z z1 : EzR} (h : (bd1 (FX0_isExchange t pp qq) fun x => if b2i x = 0 then some z else FX0_eases t nbb V lies pp qq z) = some z1) : FX0_easierQ t nbb V lies pp (d + 1) qq z = FX0_easierQ t nbb V lies pp d (qq + 1) z1 := by
  obtain ⟨bx, h1, h2⟩ := bd1e h
  show (bd1 (FX0_isExchange t pp qq) fun b => if b2i b = 0 then FX0_easierQ t nbb V lies pp d (qq + 1) z else bd1 (FX0_eases t nbb V lies pp qq z) fun z2 => FX0_easierQ t nbb V lies pp d (qq + 1) z2) = _
  rw [h1, bd1_s]
  by_cases c : b2i bx = 0
  · rw [if_pos c] at h2 ⊢
    cases h2
    rfl
  · rw [if_neg c] at h2 ⊢
    rw [h2, bd1_s]
theorem ez_q (h : Cur T M V all0 t lies ca la year) (hp : p < 15) : ∀ (d q : Nat) (z : EzR) (b o1 o2 : Int32) (all on many : Nat → Int32) (mv : Int32) (pile : Nat → Int32) (l8 : Nat → Int64) (mt yt ym bt bm : Nat → Int32) (fo yf : Int32) (mk bk : Nat) (nb : Int32) (bg : Nat → Int64) (sp : Int32), q + d = 15 → p < q → EZI z b o1 o2 → AllAt all T → TabM l8 mt yt ym bt bm bg mk bk → mk + 6001 * d + 7000 < 2147483648 → bk + 6001 * d + 7000 < 2147483648 →
    ∃ (z' : EzR) (b' o1' o2' : Int32) (all' on' many' : Nat → Int32) (mv' : Int32) (pile' : Nat → Int32) (l8' : Nat → Int64) (mt' yt' ym' bt' bm' : Nat → Int32) (fo' yf' : Int32) (mk' bk' : Nat) (nb' : Int32) (bg' : Nat → Int64) (sp' : Int32), FX0_easierQ t (nI (T 114)) V lies (nI p) d (nI q) z = some z' ∧ loopC (fun (s : Int32 × Int32 × Int32 × Int32 × (Nat → Int32) × (Nat → Int32) × (Nat → Int32) × Int32 × (Nat → Int32) × (Nat → Int64) × (Nat → Int32) × (Nat → Int32) × (Nat → Int32) × (Nat → Int32) × (Nat → Int32) × Int32 × Int32 × Int32 × Int32 × Int32 × (Nat → Int64) × Int32) => FX8_easier_b63 (-1) (nI p) s.1 s.2.1 s.2.2.1 s.2.2.2.1 s.2.2.2.2.1 s.2.2.2.2.2.1 s.2.2.2.2.2.2.1 s.2.2.2.2.2.2.2.1 s.2.2.2.2.2.2.2.2.1 s.2.2.2.2.2.2.2.2.2.1 s.2.2.2.2.2.2.2.2.2.2.1 s.2.2.2.2.2.2.2.2.2.2.2.1 s.2.2.2.2.2.2.2.2.2.2.2.2.1 s.2.2.2.2.2.2.2.2.2.2.2.2.2.1 s.2.2.2.2.2.2.2.2.2.2.2.2.2.2.1 s.2.2.2.2.2.2.2.2.2.2.2.2.2.2.2.1 s.2.2.2.2.2.2.2.2.2.2.2.2.2.2.2.2.1 s.2.2.2.2.2.2.2.2.2.2.2.2.2.2.2.2.2.1 s.2.2.2.2.2.2.2.2.2.2.2.2.2.2.2.2.2.2.1 s.2.2.2.2.2.2.2.2.2.2.2.2.2.2.2.2.2.2.2.1 s.2.2.2.2.2.2.2.2.2.2.2.2.2.2.2.2.2.2.2.2.1 s.2.2.2.2.2.2.2.2.2.2.2.2.2.2.2.2.2.2.2.2.2) (b, o1, o2, nI q, all, on, many, mv, pile, l8, mt, yt, ym, bt, bm, fo, yf, nI mk, nI bk, nb, bg, sp) = some (b', o1', o2', all', on', many', mv', pile', l8', mt', yt', ym', bt', bm', fo', yf', nI mk', nI bk', nb', bg', sp') ∧ EZI z' b' o1' o2' ∧ AllAt all' T ∧ TabM l8' mt' yt' ym' bt' bm' bg' mk' bk' ∧ mk' ≤ mk + 6001 * d ∧ bk' ≤ bk + 6001 * d := by
  intro d
  induction d with
  | zero =>
    intro q z b o1 o2 all on many mv pile l8 mt yt ym bt bm fo yf mk bk nb bg sp hq hpq hz hA hT hmk hbk
    obtain rfl : q = 15 := by omega
    refine ⟨z, b, o1, o2, all, on, many, mv, pile, l8, mt, yt, ym, bt, bm, fo, yf, mk, bk, nb, bg, sp, rfl, loopC_inr ?_, hz, hA, hT, by omega, by omega⟩
    show FX8_easier_b63 (-1) (nI p) b o1 o2 (nI 15) all on many mv pile l8 mt yt ym bt bm fo yf (nI mk) (nI bk) nb bg sp = _
    unfold FX8_easier_b63
    exact if_pos (show (15 : Int32) ≤ nI 15 by decide)
  | succ d ih =>
    intro q z b o1 o2 all on many mv pile l8 mt yt ym bt bm fo yf mk bk nb bg sp hq hpq hz hA hT hmk hbk
    obtain ⟨z1, b1, o3, o4, all1, on1, many1, mv1, pile1, l81, mt1, yt1, ym1, bt1, bm1, fo1, yf1, mk1, bk1, nb1, bg1, sp1, g1, g2, g3, g4, g5, g6, g7⟩ := ezstep h hp (show q < 15 by omega) (by omega) hz hA hT (by omega) (by omega) on many mv pile fo yf nb sp
    obtain ⟨z2, b2, o5, o6, all2, on2, many2, mv2, pile2, l82, mt2, yt2, ym2, bt2, bm2, fo2, yf2, mk2, bk2, nb2, bg2, sp2, k1, k2, k3, k4, k5, k6, k7⟩ := ih (q + 1) z1 b1 o3 o4 all1 on1 many1 mv1 pile1 l81 mt1 yt1 ym1 bt1 bm1 fo1 yf1 mk1 bk1 nb1 bg1 sp1 (by omega) (by omega) g3 g4 g5 (by omega) (by omega)
    refine ⟨z2, b2, o5, o6, all2, on2, many2, mv2, pile2, l82, mt2, yt2, ym2, bt2, bm2, fo2, yf2, mk2, bk2, nb2, bg2, sp2, ?_, (loopC_inl g2).trans k2, k3, k4, k5, by omega, by omega⟩
    rw [q_step g1, show nI q + 1 = nI (q + 1) from n_add q 1]
    exact k1
theorem ez_p (h : Cur T M V all0 t lies ca la year) : ∀ (d p : Nat) (z : EzR) (b o1 o2 : Int32) (all on many : Nat → Int32) (mv : Int32) (pile : Nat → Int32) (l8 : Nat → Int64) (mt yt ym bt bm : Nat → Int32) (fo yf : Int32) (mk bk : Nat) (nb : Int32) (bg : Nat → Int64) (sp : Int32), p + d = 15 → EZI z b o1 o2 → AllAt all T → TabM l8 mt yt ym bt bm bg mk bk → mk + 90015 * d + 7000 < 2147483648 → bk + 90015 * d + 7000 < 2147483648 →
    ∃ (z' : EzR) (b' o1' o2' : Int32) (all' on' many' : Nat → Int32) (mv' : Int32) (pile' : Nat → Int32) (l8' : Nat → Int64) (mt' yt' ym' bt' bm' : Nat → Int32) (fo' yf' : Int32) (mk' bk' : Nat) (nb' : Int32) (bg' : Nat → Int64) (sp' : Int32), FX0_easierP t (nI (T 114)) V lies d (nI p) z = some z' ∧ loopC (fun (s : Int32 × Int32 × Int32 × Int32 × (Nat → Int32) × (Nat → Int32) × (Nat → Int32) × Int32 × (Nat → Int32) × (Nat → Int64) × (Nat → Int32) × (Nat → Int32) × (Nat → Int32) × (Nat → Int32) × (Nat → Int32) × Int32 × Int32 × Int32 × Int32 × Int32 × (Nat → Int64) × Int32) => FX8_easier_b50 (-1) s.1 s.2.1 s.2.2.1 s.2.2.2.1 s.2.2.2.2.1 s.2.2.2.2.2.1 s.2.2.2.2.2.2.1 s.2.2.2.2.2.2.2.1 s.2.2.2.2.2.2.2.2.1 s.2.2.2.2.2.2.2.2.2.1 s.2.2.2.2.2.2.2.2.2.2.1 s.2.2.2.2.2.2.2.2.2.2.2.1 s.2.2.2.2.2.2.2.2.2.2.2.2.1 s.2.2.2.2.2.2.2.2.2.2.2.2.2.1 s.2.2.2.2.2.2.2.2.2.2.2.2.2.2.1 s.2.2.2.2.2.2.2.2.2.2.2.2.2.2.2.1 s.2.2.2.2.2.2.2.2.2.2.2.2.2.2.2.2.1 s.2.2.2.2.2.2.2.2.2.2.2.2.2.2.2.2.2.1 s.2.2.2.2.2.2.2.2.2.2.2.2.2.2.2.2.2.2.1 s.2.2.2.2.2.2.2.2.2.2.2.2.2.2.2.2.2.2.2.1 s.2.2.2.2.2.2.2.2.2.2.2.2.2.2.2.2.2.2.2.2.1 s.2.2.2.2.2.2.2.2.2.2.2.2.2.2.2.2.2.2.2.2.2) (b, o1, o2, nI p, all, on, many, mv, pile, l8, mt, yt, ym, bt, bm, fo, yf, nI mk, nI bk, nb, bg, sp) = some (b', o1', o2', all', on', many', mv', pile', l8', mt', yt', ym', bt', bm', fo', yf', nI mk', nI bk', nb', bg', sp') ∧ EZI z' b' o1' o2' ∧ AllAt all' T ∧ TabM l8' mt' yt' ym' bt' bm' bg' mk' bk' ∧ mk' ≤ mk + 90015 * d ∧ bk' ≤ bk + 90015 * d := by
  intro d
  induction d with
  | zero =>
    intro p z b o1 o2 all on many mv pile l8 mt yt ym bt bm fo yf mk bk nb bg sp hq hz hA hT hmk hbk
    obtain rfl : p = 15 := by omega
    refine ⟨z, b, o1, o2, all, on, many, mv, pile, l8, mt, yt, ym, bt, bm, fo, yf, mk, bk, nb, bg, sp, rfl, loopC_inr ?_, hz, hA, hT, by omega, by omega⟩
    show FX8_easier_b50 (-1) b o1 o2 (nI 15) all on many mv pile l8 mt yt ym bt bm fo yf (nI mk) (nI bk) nb bg sp = _
    unfold FX8_easier_b50
    exact if_pos (show (15 : Int32) ≤ nI 15 by decide)
  | succ d ih =>
    intro p z b o1 o2 all on many mv pile l8 mt yt ym bt bm fo yf mk bk nb bg sp hq hz hA hT hmk hbk
    obtain ⟨z1, b1, o3, o4, all1, on1, many1, mv1, pile1, l81, mt1, yt1, ym1, bt1, bm1, fo1, yf1, mk1, bk1, nb1, bg1, sp1, g1, g2, g3, g4, g5, g6, g7⟩ := ez_q h (show p < 15 by omega) d (p + 1) z b o1 o2 all on many mv pile l8 mt yt ym bt bm fo yf mk bk nb bg sp (by omega) (by omega) hz hA hT (by omega) (by omega)
    obtain ⟨z2, b2, o5, o6, all2, on2, many2, mv2, pile2, l82, mt2, yt2, ym2, bt2, bm2, fo2, yf2, mk2, bk2, nb2, bg2, sp2, k1, k2, k3, k4, k5, k6, k7⟩ := ih (p + 1) z1 b1 o3 o4 all1 on1 many1 mv1 pile1 l81 mt1 yt1 ym1 bt1 bm1 fo1 yf1 mk1 bk1 nb1 bg1 sp1 (by omega) g3 g4 g5 (by omega) (by omega)
    have p1 : nI p + 1 = nI (p + 1) := n_add p 1
    refine ⟨z2, b2, o5, o6, all2, on2, many2, mv2, pile2, l82, mt2, yt2, ym2, bt2, bm2, fo2, yf2, mk2, bk2, nb2, bg2, sp2, ?_, (loopC_inl ?_).trans k2, k3, k4, k5, by omega, by omega⟩
    · show (bd1 (FX0_easierQ t (nI (T 114)) V lies (nI p) d (nI p + 1) z) fun z2 => FX0_easierP t (nI (T 114)) V lies d (nI p + 1) z2) = _
      rw [p1, g1, bd1_s]
      exact k1
    · show FX8_easier_b50 (-1) b o1 o2 (nI p) all on many mv pile l8 mt yt ym bt bm fo yf (nI mk) (nI bk) nb bg sp = _
      unfold FX8_easier_b50
      rw [if_neg (by rw [show (15 : Int32) = nI 15 from rfl, le_f (by omega) (by omega)]; exact id), p1, g2, bd21_s]
end P71
