set_option maxRecDepth 100000
theorem nmod3 {m : Nat} (h : m < 100) : nI m - nI m / 3 * 3 = nI (m % 3) := by
  rw [show (3 : Int32) = nI 3 from rfl, n_div (by omega) (by omega), n_mul, n_sub (by omega) (by omega)]
  congr 1
  omega
theorem or_pow_bits {g i : Nat} (hg : g < 256) (hi : i < 8) (h : g.testBit i = false) : bitsN (g ||| 2 ^ i) = bitsN g + 1 := bits_or g hg i hi h
section P39
variable {all t on at' many ca la pc m1 to1 : Nat → Int32} {T O O' N N' M M' O0 : Nat → Nat} {V : Nat → BvT} {mv as1 a b g : Nat} {p q : Int32} {lies : Int64} {year : Int32}
def FailI (T O0 : Nat → Nat) (V : Nat → BvT) (G : Nat) (F : Nat → Int32) : Prop := ∀ g, g < 256 → F g ≠ 0 → ∀ O N : Nat → Nat, StG T O0 g O N → ¬ Win T O0 V (bitsN G - bitsN g) g O N
theorem goS_in {i : Nat} : (goS T O0 (T 6)).testBit i = true ↔ i < T 6 ∧ awB T O0 i = true := by
  rw [goS_bit, Bool.and_eq_true, decide_eq_true_eq]
theorem ordL0 (ht : TwAt t T) (hW : WT T) (h114 : T 114 ≤ 8) (hmv : mv < 256) (ht1 : ∀ i, i < T 6 → to1 i = nD (mtS' T O0 i)) {G : Nat} (hG : G = goS T O0 (T 6)) : ∀ d D, d < D → ∀ k g (O N at' many order F : Nat → _), k + d = bitsN G → bitsN g = k → g < 256 → (∀ i, g.testBit i = true → G.testBit i = true) → StG T O0 g O N → AtAt at' many O N → FailI T O0 V G F → ∃ b a2 n2 o2 F2 mv2, FX0_orders D at' many to1 order F (nI g) nM (lN (enc O0 mv)) t (nI (T 114)) V (nI G) (nI g) (nI k) = some (b, a2, n2, o2, F2, mv2) ∧ FailI T O0 V G F2 ∧ (∀ k', k' < k → o2 k' = order k') ∧ ((b = true ∧ ∃ o, OrS T O0 V d k g O N o ∧ ∀ k', k ≤ k' → k' < bitsN G → o2 k' = nI (o k')) ∨ (b = false ∧ ¬ Win T O0 V d g O N ∧ mv2 = nI g ∧ AtAt a2 n2 O N)) := by
  have hb := hW.b
  have hGl : G < 256 := hG ▸ goS_lt (T 6) hb.2.1
  have hG8 := bitsN_le G
  intro d
  induction d with
  | zero =>
    intro D hD k g O N at' many order F hk hbg hg hgG hS hat hF
    obtain ⟨D, rfl⟩ : ∃ z, D = z + 1 := ⟨D - 1, by omega⟩
    have e : g = G := bits_eq hg hGl hgG (by omega)
    exact ⟨true, at', many, order, F, nI g, by show FX0_orders_b (FX0_orders D) _ _ _ _ _ _ _ _ _ _ _ _ _ _ = _; unfold FX0_orders_b; rw [if_pos (by rw [e])], hF, fun _ _ => rfl, Or.inl ⟨rfl, fun _ => 0, trivial, fun k' h1 h2 => by omega⟩⟩
  | succ d ih =>
    intro D hD k g O N at' many order F hk hbg hg hgG hSt hat hF
    obtain ⟨D, rfl⟩ : ∃ z, D = z + 1 := ⟨D - 1, by omega⟩
    have hS := hSt.1
    have hne : g ≠ G := fun z => by rw [z] at hbg; omega
    have hne' : ¬ nI g = nI G := by rw [eq_f hne (by omega) (by omega)]; exact id
    have ef : rd 256 F (nI g) = some (F g) := rdn hg (by omega) rfl
    by_cases hfg : F g = 0
    · obtain ⟨r, h1, h2⟩ := up_rule (B := fun (s : Int32 × (Nat → Int32) × (Nat → Int32) × (Nat → Int32) × (Nat → Int32) × Int32) => FX0_orders_b_b21 (FX0_orders D) to1 nM (lN (enc O0 mv)) t (nI (T 114)) V (nI G) (nI g) (nI k) s.1 s.2.1 s.2.2.1 s.2.2.2.1 s.2.2.2.2.1 s.2.2.2.2.2) (fun i (a : (Nat → Int32) × (Nat → Int32) × (Nat → Int32) × (Nat → Int32)) => (nI i, a.1, a.2.1, a.2.2.1, a.2.2.2, nI g)) (fun i a => AtAt a.1 a.2.1 O N ∧ (∀ k', k' < k → a.2.2.1 k' = order k') ∧ FailI T O0 V G a.2.2.2 ∧ ∀ j, j < i → okS T O0 V g O N j = true → ¬ Win T O0 V d (g ||| 2 ^ j) (caO O N (rA O0 j) (rB T O0 j)) (caM N (rA O0 j) (rB T O0 j)))
        (fun r => (∃ x1 x2 x3 ord' F' o, r = .inl (x1, x2, ord', F', x3) ∧ (∀ k', k' < k → ord' k' = order k') ∧ FailI T O0 V G F' ∧ OrS T O0 V (d + 1) k g O N o ∧ ∀ k', k ≤ k' → k' < bitsN G → ord' k' = nI (o k')) ∨ (∃ x1 x2 ord' F', r = .inr (x1, x2, ord', F', nI g) ∧ AtAt x1 x2 O N ∧ (∀ k', k' < k → ord' k' = order k') ∧ FailI T O0 V G F' ∧ ¬ Win T O0 V (d + 1) g O N)) 8 (by
        rintro i ⟨at1, mn1, ord1, F1⟩ hi8 ⟨hat1, hord1, hF1, hno⟩
        dsimp only at hat1 hord1 hF1 hno
        have go : okS T O0 V g O N i = false → FX0_orders_b_b21 (FX0_orders D) to1 nM (lN (enc O0 mv)) t (nI (T 114)) V (nI G) (nI g) (nI k) (nI i) at1 mn1 ord1 F1 (nI g) = FX0_orders_b_j197 (FX0_orders D) (nI i) at1 mn1 ord1 F1 (nI g) → ∃ a' : (Nat → Int32) × (Nat → Int32) × (Nat → Int32) × (Nat → Int32), FX0_orders_b_b21 (FX0_orders D) to1 nM (lN (enc O0 mv)) t (nI (T 114)) V (nI G) (nI g) (nI k) (nI i) at1 mn1 ord1 F1 (nI g) = some (.inl (nI (i + 1), a'.1, a'.2.1, a'.2.2.1, a'.2.2.2, nI g)) ∧ AtAt a'.1 a'.2.1 O N ∧ (∀ k', k' < k → a'.2.2.1 k' = order k') ∧ FailI T O0 V G a'.2.2.2 ∧ ∀ j, j < i + 1 → okS T O0 V g O N j = true → ¬ Win T O0 V d (g ||| 2 ^ j) (caO O N (rA O0 j) (rB T O0 j)) (caM N (rA O0 j) (rB T O0 j)) := by
          intro hok hs
          refine ⟨(at1, mn1, ord1, F1), ?_, hat1, hord1, hF1, fun j hj hj2 => ?_⟩
          · rw [hs]
            unfold FX0_orders_b_j197
            rw [show nI i + 1 = nI (i + 1) from n_add i 1]
          · by_cases c : j = i
            · rw [c, hok] at hj2; exact absurd hj2 Bool.false_ne_true
            · exact hno j (by omega) hj2
        have n8 : ¬ (8 : Int32) ≤ nI i := by rw [show (8 : Int32) = nI 8 from rfl, le_f (by omega) (by omega)]; exact id
        have eG := has4 (m := G) (i := i) (by omega) (by omega)
        have eg := has4 (m := g) (i := i) (by omega) (by omega)
        rw [bit_iff] at eG eg
        cases hGb : G.testBit i with
        | false =>
          rw [hGb, if_neg Bool.false_ne_true] at eG
          refine Or.inl (go ?_ (by unfold FX0_orders_b_b21; rw [if_neg n8, eG, bd1_s, if_pos (by decide)]))
          unfold okS
          rw [hG, goS_bit] at hGb
          rw [hGb]
          simp only [Bool.false_and]
        | true =>
          rw [hGb, if_pos rfl] at eG
          have hGb' := hGb
          rw [hG] at hGb'
          obtain ⟨hi6, ha⟩ := goS_in.mp hGb'
          obtain ⟨w1, w2, w3, w4, w5⟩ := awB_in ha
          cases hgb : g.testBit i with
          | true =>
            rw [hgb, if_pos rfl] at eg
            refine Or.inl (go ?_ (by unfold FX0_orders_b_b21; rw [if_neg n8, eG, bd1_s, if_neg (by decide), eg, bd1_s, if_neg (by decide)]))
            unfold okS; rw [hgb]; simp only [Bool.not_true, Bool.and_false, Bool.false_and]
          | false =>
            rw [hgb, if_neg Bool.false_ne_true] at eg
            have e3 := placeIn_n (O := O0) (mv := mv) (i := i) hi8 hmv
            have e4 : rd 8 to1 (nI i) = some (nI (mtS' T O0 i - 1)) := rdn (by omega) (by omega) (by rw [ht1 i hi6, nD_pos (by omega)])
            have ea : nI (pl O0 i) / 3 = nI (rA O0 i) := by rw [show (3 : Int32) = nI 3 from rfl, n_div (by omega) (by omega)]; rfl
            have eb : nI (mtS' T O0 i - 1) / 3 = nI (rB T O0 i) := by rw [show (3 : Int32) = nI 3 from rfl, n_div (by omega) (by omega)]; rfl
            have ra5 : rA O0 i < 5 := by unfold rA; omega
            have rb5 : rB T O0 i < 5 := by unfold rB; omega
            have m3 := hS.m3 hW ra5
            have n3 := hS.m3 hW rb5
            have c0 : N (rA O0 i) ≠ 0 := by
              have z := hSt.2 i hi8
              rw [hgb, if_neg Bool.false_ne_true] at z
              have z2 := pl_in (O := O) (i := i) (by omega)
              rw [z] at z2
              have z3 := (hS.2.1 (rA O0 i) (pl O0 i % 3) ra5 (by omega)).mp (by
                rw [show 3 * rA O0 i + pl O0 i % 3 = pl O0 i by unfold rA; omega]; omega)
              omega
            have e6' := top4 hat1 hW hS ra5 (by omega)
            obtain ⟨s1, s2, s3⟩ := hS.st hW ra5 (show N (rA O0 i) - 1 < N (rA O0 i) by omega)
            by_cases c1 : O (3 * rA O0 i + (N (rA O0 i) - 1)) = i + 1
            · have c1' : nI (O (3 * rA O0 i + (N (rA O0 i) - 1)) - 1) = nI i := by rw [c1, Nat.add_sub_cancel]
              have e7 := may4 (V := V) (as1 := 0) ht hat1 hW hS h114 hg (by omega) (nI (rA O0 i)) (nI (rB T O0 i))
              rw [nD_zero] at e7
              have hle := maS_le (T := T) (O := O) (M := N) (V := V) (mv := g) (as1 := 0) (p := nI (rA O0 i)) (q := nI (rB T O0 i))
              by_cases c2 : maS T O N V g 0 (nI (rA O0 i)) (nI (rB T O0 i)) = 0
              · have c2' : nI (maS T O N V g 0 (nI (rA O0 i)) (nI (rB T O0 i))) = 0 := by rw [c2]; rfl
                have e8 : rd 5 mn1 (nI (rB T O0 i)) = some (nI (N (rB T O0 i))) := rdn (by omega) (by omega) (hat1.2 _ rb5)
                have e9 := nmod3 (m := mtS' T O0 i - 1) (by omega)
                by_cases c3 : 3 * rB T O0 i + N (rB T O0 i) = mtS' T O0 i - 1
                · have c3' : nI (N (rB T O0 i)) = nI ((mtS' T O0 i - 1) % 3) := by
                    congr 1
                    have z : rB T O0 i = (mtS' T O0 i - 1) / 3 := rfl
                    rw [z] at c3 ⊢
                    omega
                  have hok : okS T O0 V g O N i = true := by
                    unfold okS
                    rw [decide_eq_true hi6, ha, hgb, decide_eq_true c0, decide_eq_true c1, decide_eq_true c2, decide_eq_true c3]
                    rfl
                  obtain ⟨-, -, -, k4, k5, k6, k7, k8, k9, k10, k11⟩ := okS_in hW hok
                  obtain ⟨at3, mn3, e10, hat3⟩ := carries4 (mv := g) hat1 hW hS hg k8 k9 k10 k4 k11 1 (by omega)
                  rw [c1, Nat.add_sub_cancel, if_neg (by omega)] at e10
                  have e10' : FX4_carries at1 mn1 (nI g) (nI (rA O0 i)) (nI (rB T O0 i)) 1 = some (nI i, at3, mn3, nI (g ||| 2 ^ i)) := e10
                  have e11 : wrI 8 ord1 (nI k) (nI i) = some (upd ord1 k (nI i)) := wr_n (by omega) (by omega)
                  have eor : nI g ||| ((1 : Int32) <<< (nI i &&& 31)) = nI (g ||| 2 ^ i) := by simp (disch := omega) only [i_0, i_1, i_2, i_3, i_4, i_5, i_6, i_7, i_8, i_9, i_10, i_11, i_12, i_13, i_14, i_15, i_16, i_17, i_18, i_19, i_20, i_21, i_22, i_23, i_24, i_25, i_26, i_27, i_28, i_29, i_30, i_31, i_32, i_36, i_40, i_41, i_43, i_48, i_50, i_56, i_57, i_59, i_63, i_64, i_69, i_75, i_76, i_77, i_78, i_79, i_80, i_95, i_96, i_97, i_98, i_99, i_100, i_101, i_102, i_103, i_104, i_105, i_108, i_109, i_110, i_111, i_112, i_113, i_114, i_115, i_116, i_117, i_118, i_119, i_121, i_122, i_123, i_131, i_160, i_199, i_220, i_255, i_256, i_400, i_531, i_999, i_1000, i_1593, i_6000, i_6001, i_6002, i_10000, i_16383, i_16384, i_32768, i_100000, i_294912, i_1000000, bd0_s, bdS2_0, bdS2_1, bdS3_0, bdS3_1, bdS3_2, bdS4_0, bdS4_1, bdS4_2, bdS4_3, un0_s, bd1_s, bd2_s, bd3_s, bd4_s, bd5_s, bd6_s, bd7_s, bd8_s, bd9_s, bd10_s, bd11_s, bd12_s, bd13_s, bd14_s, bd15_s, bd16_s, un1_s, un2_s, un3_s, un4_s, un5_s, un6_s, un7_s, n_add, n_mul, n_addM, n_addD, n_Dadd, n_subD, n_sub, n_div, nD_succ, nD_zero, n_negM, cl_n, cl_d, rd_n, rd_d, wr_n, wr_d, al_n, al_d, b2i_t, b2i_f, lt_t, lt_f, le_t, le_f, eq_t, eq_f, dlt_t, dlt_f, ltd_t, ltd_f, ddl_t, ddl_f, dle_t, dle_f, led_t, led_f, deq_t, deq_f, eqd_t, eqd_f, dde_t, dde_f, m_ne, n_neM, m_lt, n_ltM, m_le, n_leM, m_eqD, m_neD, d_eqM, d_neM, up_t, up_f, bit_n, bit_d, rp_n, rp_d, asb1, sh1_n, sh1_d, or_n, ↓reduceIte, ite_self, Nat.add_sub_cancel, Nat.sub_self, Nat.add_zero, Nat.zero_add, Nat.mul_zero, Nat.zero_mul, eq_self, and_true, true_and, or_true, true_or, and_self, or_self, not_true_eq_false, not_false_eq_true]
                  have hSt' := hSt.step hW hok
                  obtain ⟨bb, at4, mn4, ord4, F4, mv4, e12, e13, e14, e15⟩ := ih D (by omega) (k + 1) (g ||| 2 ^ i) _ _ at3 mn3 (upd ord1 k (nI i)) F1 (by omega) (by rw [or_pow_bits hg hi8 hgb, hbg]) (or_lt hg hi8) (fun j hj => by
                    rw [Nat.testBit_or, Nat.testBit_two_pow, Bool.or_eq_true, decide_eq_true_eq] at hj
                    rcases hj with hj | rfl
                    · exact hgG j hj
                    · exact hGb) hSt' hat3 hF1
                  have base : FX0_orders_b_b21 (FX0_orders D) to1 nM (lN (enc O0 mv)) t (nI (T 114)) V (nI G) (nI g) (nI k) (nI i) at1 mn1 ord1 F1 (nI g) = if (b2i bb) = 0 then
                        bd3 (FX4_undoes at4 mn4 mv4 (nI (rA O0 i)) (nI (rB T O0 i)) (nI g)) fun a_tAt_162 a_tMany_163 v_tMoved_164 =>
                        FX0_orders_b_j197 (FX0_orders D) (nI i) a_tAt_162 a_tMany_163 ord4 F4 v_tMoved_164
                      else
                        some (.inr (.inl (at4, mn4, ord4, F4, mv4))) := by
                    unfold FX0_orders_b_b21
                    rw [if_neg n8, eG, bd1_s, if_neg (by decide), eg, bd1_s, if_pos (by decide), e3, bd1_s, e4, bd1_s, ea, e6', bd1_s, if_pos c1', eb, e7, bd1_s, if_pos c2', e8, bd1_s, bd1_s, e9, if_pos c3', e10', bd4_s, e11, bd1_s, eor, show nI k + 1 = nI (k + 1) from n_add k 1, e12, bd6_s]
                  rcases e15 with ⟨rfl, o, ho1, ho2⟩ | ⟨rfl, hnw, rfl, hat4⟩
                  · refine Or.inr ⟨.inl (at4, mn4, ord4, F4, mv4), ?_, Or.inl ⟨at4, mn4, mv4, ord4, F4, up o k i, rfl, fun k' hk' => ?_, e13, ⟨?_, ?_, ?_, ?_⟩, fun k' hk' hk2 => ?_⟩⟩
                    · show FX0_orders_b_b21 (FX0_orders D) to1 nM (lN (enc O0 mv)) t (nI (T 114)) V (nI G) (nI g) (nI k) (nI i) at1 mn1 ord1 F1 (nI g) = _
                      rw [base, if_neg (by decide)]
                    · rw [e14 k' (by omega), up_f (by omega), hord1 k' hk']
                    · rw [upn_t rfl]; exact hi8
                    · rw [upn_t rfl]; exact hok
                    · rw [upn_t rfl]; exact hno
                    · rw [upn_t rfl]
                      exact OrS.cong _ _ _ _ _ o _ (fun j hj => upn_f (by omega)) ho1
                    · by_cases c : k' = k
                      · rw [c, e14 k (by omega), up_t rfl, upn_t rfl]
                      · rw [ho2 k' (by omega) hk2, upn_f c]
                  · obtain ⟨u1, u2⟩ := ca_undo hW hS k8 k9 k10 k4 k11
                    have q1 : caM N (rA O0 i) (rB T O0 i) (rB T O0 i) = N (rB T O0 i) + 1 := upn_t rfl
                    have q2 : caM N (rA O0 i) (rB T O0 i) (rA O0 i) = N (rA O0 i) - 1 := by
                      show up (up N (rA O0 i) (N (rA O0 i) - 1)) (rB T O0 i) (N (rB T O0 i) + 1) (rA O0 i) = _
                      rw [upn_f k10, upn_t rfl]
                    have wa := hS.m3 hW ra5
                    have wh : N (rA O0 i) ≤ T (1 + rA O0 i) := hS.2.2.1 _ ra5
                    obtain ⟨at5, mn5, e16, hat5⟩ := carries4 (mv := g ||| 2 ^ i) hat4 hW hSt'.1 (or_lt hg hi8) k9 k8 (fun z => k10 z.symm) (by rw [q1]; omega) (by rw [q2]; omega) 0 (by omega)
                    have e17 : FX4_undoes at4 mn4 (nI (g ||| 2 ^ i)) (nI (rA O0 i)) (nI (rB T O0 i)) (nI g) = some (at5, mn5, nI g) := by
                      unfold FX4_undoes
                      rw [show (0 : Int32) = nI 0 from rfl, e16, bd4_s]
                    refine Or.inl ⟨(at5, mn5, ord4, F4), ?_, ⟨fun p hp => ?_, fun r hr => ?_⟩, fun k' hk' => ?_, e13, fun j hj hj2 => ?_⟩
                    · show FX0_orders_b_b21 (FX0_orders D) to1 nM (lN (enc O0 mv)) t (nI (T 114)) V (nI G) (nI g) (nI k) (nI i) at1 mn1 ord1 F1 (nI g) = _
                      rw [base, if_pos (by decide), e17, bd3_s]
                      unfold FX0_orders_b_j197
                      rw [show nI i + 1 = nI (i + 1) from n_add i 1]
                    · show at5 p = _
                      rw [hat5.1 p hp, u1 p hp]
                    · show mn5 r = _
                      rw [hat5.2 r hr, u2 r hr]
                    · show ord4 k' = _
                      rw [e14 k' (by omega), up_f (by omega), hord1 k' hk']
                    · by_cases c : j = i
                      · rw [c]; exact hnw
                      · exact hno j (by omega) hj2
                · have c3' : ¬ nI (N (rB T O0 i)) = nI ((mtS' T O0 i - 1) % 3) := by
                    rw [eq_f (fun z => c3 ?_) (by omega) (by omega)]
                    · exact id
                    · have zz : rB T O0 i = (mtS' T O0 i - 1) / 3 := rfl
                      rw [z, zz]
                      omega
                  refine Or.inl (go ?_ (by unfold FX0_orders_b_b21; rw [if_neg n8, eG, bd1_s, if_neg (by decide), eg, bd1_s, if_pos (by decide), e3, bd1_s, e4, bd1_s, ea, e6', bd1_s, if_pos c1', eb, e7, bd1_s, if_pos c2', e8, bd1_s, bd1_s, e9, if_neg c3']))
                  unfold okS; rw [decide_eq_false c3]; simp only [Bool.and_false]
              · have c2' : ¬ nI (maS T O N V g 0 (nI (rA O0 i)) (nI (rB T O0 i))) = 0 := by rw [show (0 : Int32) = nI 0 from rfl, eq_f c2 (by omega) (by omega)]; exact id
                refine Or.inl (go ?_ (by unfold FX0_orders_b_b21; rw [if_neg n8, eG, bd1_s, if_neg (by decide), eg, bd1_s, if_pos (by decide), e3, bd1_s, e4, bd1_s, ea, e6', bd1_s, if_pos c1', eb, e7, bd1_s, if_neg c2']))
                unfold okS; rw [decide_eq_false c2]; simp only [Bool.and_false, Bool.false_and]
            · have c1' : ¬ nI (O (3 * rA O0 i + (N (rA O0 i) - 1)) - 1) = nI i := by rw [eq_f (by omega) (by omega) (by omega)]; exact id
              refine Or.inl (go ?_ (by unfold FX0_orders_b_b21; rw [if_neg n8, eG, bd1_s, if_neg (by decide), eg, bd1_s, if_pos (by decide), e3, bd1_s, e4, bd1_s, ea, e6', bd1_s, if_neg c1']))
              unfold okS; rw [decide_eq_false c1]; simp only [Bool.and_false, Bool.false_and]) (by
        rintro ⟨at1, mn1, ord1, F1⟩ ⟨hat1, hord1, hF1, hno⟩
        dsimp only at hat1 hord1 hF1 hno
        refine ⟨.inr (at1, mn1, ord1, F1, nI g), ?_, Or.inr ⟨at1, mn1, ord1, F1, rfl, hat1, hord1, hF1, ?_⟩⟩
        · show FX0_orders_b_b21 (FX0_orders D) to1 nM (lN (enc O0 mv)) t (nI (T 114)) V (nI G) (nI g) (nI k) (nI 8) at1 mn1 ord1 F1 (nI g) = _
          unfold FX0_orders_b_b21
          rw [if_pos (show (8 : Int32) ≤ nI 8 from Int32.le_refl _)]
        · rintro ⟨i, hi, hok, hw⟩
          exact hno i hi hok hw) 0 (at', many, order, F) (by omega) ⟨hat, fun _ _ => rfl, hF, fun j hj => absurd hj (Nat.not_lt_zero j)⟩
      have h1' : loopC (fun (s : Int32 × (Nat → Int32) × (Nat → Int32) × (Nat → Int32) × (Nat → Int32) × Int32) => FX0_orders_b_b21 (FX0_orders D) to1 nM (lN (enc O0 mv)) t (nI (T 114)) V (nI G) (nI g) (nI k) s.1 s.2.1 s.2.2.1 s.2.2.2.1 s.2.2.2.2.1 s.2.2.2.2.2) ((0 : Int32), at', many, order, F, nI g) = some r := h1
      rcases h2 with ⟨x1, x2, x3, ord', F', o, rfl, ho1, ho2, ho3, ho4⟩ | ⟨x1, x2, ord', F', rfl, ho0, ho1, ho2, ho3⟩
      · refine ⟨true, x1, x2, ord', F', x3, ?_, ho2, ho1, Or.inl ⟨rfl, o, ho3, ho4⟩⟩
        show FX0_orders_b (FX0_orders D) _ _ _ _ _ _ _ _ _ _ _ _ _ _ = _
        unfold FX0_orders_b
        rw [if_neg hne', ef, bd1_s, if_pos hfg, h1', bdS2_0, un5_s]
      · refine ⟨false, x1, x2, ord', upd F' g 1, nI g, ?_, ?_, ho1, Or.inr ⟨rfl, ho3, rfl, ho0⟩⟩
        · show FX0_orders_b (FX0_orders D) _ _ _ _ _ _ _ _ _ _ _ _ _ _ = _
          unfold FX0_orders_b
          rw [if_neg hne', ef, bd1_s, if_pos hfg, h1', bdS2_1, un5_s, wr_n hg (by omega), bd1_s]
          rfl
        · intro g' hg' hz O' N' hSt'
          by_cases c : g' = g
          · subst c
            rw [show bitsN G - bitsN g' = d + 1 by omega]
            exact fun w => ho3 (Win_det hW h114 (d + 1) g' O' N' O N hg hSt' hSt w)
          · rw [up_f c] at hz
            exact ho2 g' hg' hz O' N' hSt'
    · refine ⟨false, at', many, order, F, nI g, ?_, hF, fun _ _ => rfl, Or.inr ⟨rfl, ?_, rfl, hat⟩⟩
      · show FX0_orders_b (FX0_orders D) _ _ _ _ _ _ _ _ _ _ _ _ _ _ = _
        unfold FX0_orders_b
        rw [if_neg hne', ef, bd1_s, if_neg hfg]
      · have := hF g hg hfg O N hSt
        rwa [show bitsN G - bitsN g = d + 1 by omega] at this
theorem goS_ct : ∀ n, n ≤ 8 → bitsN (goS T O n) = fb_ct (awB T O) n := by
  intro n
  induction n with
  | zero => intro _; show bitsN 0 = 0; decide
  | succ n ih =>
    intro h
    rw [fb_ct_succ, goS, ← ih (by omega)]
    have hz : (goS T O n).testBit n = false := by rw [goS_bit, decide_eq_false (Nat.lt_irrefl n), Bool.false_and]
    cases ha : awB T O n with
    | true => rw [if_pos rfl, if_pos rfl]; exact bits_or _ (goS_lt n (by omega)) n (by omega) hz
    | false => rw [if_neg Bool.false_ne_true, if_neg Bool.false_ne_true, Nat.or_zero]; rfl
theorem once_law (h : Cur T M V all t lies ca la year) (on many pile L0 m0 ord8' tAt tMany La pc0 to0 ord0' fails : Nat → Int32) (p : Int32) : ∃ ans x1 x2 x3 x4 x5 x6 x7 x8 x9 x10 x11 y1 y2 y3 y4 y5 y6 y7, FX0_once tAt tMany La pc0 to0 ord0' fails lies t (nI (T 114)) V p = some (ans, x1, x2, x3, x4, x5, x6, x7, x8, x9, nM, x10, x11) ∧ FX8_once all on many pile nM L0 m0 ord8' p = some (ans, y1, y2, y3, y4, y5, y6, y7) := by
  obtain ⟨⟨hW, hS, hm, hy, hB⟩, hA, ht, rfl, hc, hl, rfl⟩ := h
  have hb := hW.b
  obtain ⟨L1, m1, e1, e2⟩ := matches8 hA hW hS L0 m0
  obtain ⟨L2, pc1, to1, n1, el, e3, e4, e5⟩ := finds5 (O := fun p => T (80 + p)) ht hW hm La pc0 to0
  have f7 := going5 (O := fun p => T (80 + p)) (mv := T 95) ht hW hm e4
  have hgl := goS_lt (T := T) (O := fun p => T (80 + p)) (T 6) hb.2.1
  have hct := goS_ct (T := T) (O := fun p => T (80 + p)) (T 6) hb.2.1
  have hle := bitsN_le (goS T (fun p => T (80 + p)) (T 6))
  have e6 := up_eq (B := fun (s : Int32 × Int32) => FX8_once_b13 all m1 s.1 s.2) (fun k (a : Int32) => (a, nI k)) (fun k => nI (fb_ct (awB T (fun p => T (80 + p))) k)) (T 6) (r := nI (fb_ct (awB T (fun p => T (80 + p))) (T 6))) (fun k hk => by
    have g0 := hA.n (k := 6) (by omega) (by omega)
    have g1 := isAway8 hA hW hS e2 (show k < 8 by omega)
    show FX8_once_b13 all m1 (nI _) (nI k) = _
    rw [fb_ct_succ]
    unfold FX8_once_b13 FX8_once_j38
    cases ha : awB T (fun p => T (80 + p)) k with
    | true => rw [ha] at g1; simp (disch := omega) only [i_0, i_1, i_2, i_3, i_4, i_5, i_6, i_7, i_8, i_9, i_10, i_11, i_12, i_13, i_14, i_15, i_16, i_17, i_18, i_19, i_20, i_21, i_22, i_23, i_24, i_25, i_26, i_27, i_28, i_29, i_30, i_31, i_32, i_36, i_40, i_41, i_43, i_48, i_50, i_56, i_57, i_59, i_63, i_64, i_69, i_75, i_76, i_77, i_78, i_79, i_80, i_95, i_96, i_97, i_98, i_99, i_100, i_101, i_102, i_103, i_104, i_105, i_108, i_109, i_110, i_111, i_112, i_113, i_114, i_115, i_116, i_117, i_118, i_119, i_121, i_122, i_123, i_131, i_160, i_199, i_220, i_255, i_256, i_400, i_531, i_999, i_1000, i_1593, i_6000, i_6001, i_6002, i_10000, i_16383, i_16384, i_32768, i_100000, i_294912, i_1000000, bd0_s, bdS2_0, bdS2_1, bdS3_0, bdS3_1, bdS3_2, bdS4_0, bdS4_1, bdS4_2, bdS4_3, un0_s, bd1_s, bd2_s, bd3_s, bd4_s, bd5_s, bd6_s, bd7_s, bd8_s, bd9_s, bd10_s, bd11_s, bd12_s, bd13_s, bd14_s, bd15_s, bd16_s, un1_s, un2_s, un3_s, un4_s, un5_s, un6_s, un7_s, n_add, n_mul, n_addM, n_addD, n_Dadd, n_subD, n_sub, n_div, nD_succ, nD_zero, n_negM, cl_n, cl_d, rd_n, rd_d, wr_n, wr_d, al_n, al_d, b2i_t, b2i_f, lt_t, lt_f, le_t, le_f, eq_t, eq_f, dlt_t, dlt_f, ltd_t, ltd_f, ddl_t, ddl_f, dle_t, dle_f, led_t, led_f, deq_t, deq_f, eqd_t, eqd_f, dde_t, dde_f, m_ne, n_neM, m_lt, n_ltM, m_le, n_leM, m_eqD, m_neD, d_eqM, d_neM, up_t, up_f, bit_n, bit_d, rp_n, rp_d, asb1, sh1_n, sh1_d, or_n, ↓reduceIte, ite_self, Nat.add_sub_cancel, Nat.sub_self, Nat.add_zero, Nat.zero_add, Nat.mul_zero, Nat.zero_mul, eq_self, and_true, true_and, or_true, true_or, and_self, or_self, not_true_eq_false, not_false_eq_true, g0, g1]
    | false => rw [ha] at g1; simp (disch := omega) only [i_0, i_1, i_2, i_3, i_4, i_5, i_6, i_7, i_8, i_9, i_10, i_11, i_12, i_13, i_14, i_15, i_16, i_17, i_18, i_19, i_20, i_21, i_22, i_23, i_24, i_25, i_26, i_27, i_28, i_29, i_30, i_31, i_32, i_36, i_40, i_41, i_43, i_48, i_50, i_56, i_57, i_59, i_63, i_64, i_69, i_75, i_76, i_77, i_78, i_79, i_80, i_95, i_96, i_97, i_98, i_99, i_100, i_101, i_102, i_103, i_104, i_105, i_108, i_109, i_110, i_111, i_112, i_113, i_114, i_115, i_116, i_117, i_118, i_119, i_121, i_122, i_123, i_131, i_160, i_199, i_220, i_255, i_256, i_400, i_531, i_999, i_1000, i_1593, i_6000, i_6001, i_6002, i_10000, i_16383, i_16384, i_32768, i_100000, i_294912, i_1000000, bd0_s, bdS2_0, bdS2_1, bdS3_0, bdS3_1, bdS3_2, bdS4_0, bdS4_1, bdS4_2, bdS4_3, un0_s, bd1_s, bd2_s, bd3_s, bd4_s, bd5_s, bd6_s, bd7_s, bd8_s, bd9_s, bd10_s, bd11_s, bd12_s, bd13_s, bd14_s, bd15_s, bd16_s, un1_s, un2_s, un3_s, un4_s, un5_s, un6_s, un7_s, n_add, n_mul, n_addM, n_addD, n_Dadd, n_subD, n_sub, n_div, nD_succ, nD_zero, n_negM, cl_n, cl_d, rd_n, rd_d, wr_n, wr_d, al_n, al_d, b2i_t, b2i_f, lt_t, lt_f, le_t, le_f, eq_t, eq_f, dlt_t, dlt_f, ltd_t, ltd_f, ddl_t, ddl_f, dle_t, dle_f, led_t, led_f, deq_t, deq_f, eqd_t, eqd_f, dde_t, dde_f, m_ne, n_neM, m_lt, n_ltM, m_le, n_leM, m_eqD, m_neD, d_eqM, d_neM, up_t, up_f, bit_n, bit_d, rp_n, rp_d, asb1, sh1_n, sh1_d, or_n, ↓reduceIte, ite_self, Nat.add_sub_cancel, Nat.sub_self, Nat.add_zero, Nat.zero_add, Nat.mul_zero, Nat.zero_mul, eq_self, and_true, true_and, or_true, true_or, and_self, or_self, not_true_eq_false, not_false_eq_true, g0, g1, Bool.false_eq_true]) (by
    have g0 := hA.n (k := 6) (by omega) (by omega)
    show FX8_once_b13 all m1 (nI _) (nI (T 6)) = _
    unfold FX8_once_b13
    simp (disch := omega) only [i_0, i_1, i_2, i_3, i_4, i_5, i_6, i_7, i_8, i_9, i_10, i_11, i_12, i_13, i_14, i_15, i_16, i_17, i_18, i_19, i_20, i_21, i_22, i_23, i_24, i_25, i_26, i_27, i_28, i_29, i_30, i_31, i_32, i_36, i_40, i_41, i_43, i_48, i_50, i_56, i_57, i_59, i_63, i_64, i_69, i_75, i_76, i_77, i_78, i_79, i_80, i_95, i_96, i_97, i_98, i_99, i_100, i_101, i_102, i_103, i_104, i_105, i_108, i_109, i_110, i_111, i_112, i_113, i_114, i_115, i_116, i_117, i_118, i_119, i_121, i_122, i_123, i_131, i_160, i_199, i_220, i_255, i_256, i_400, i_531, i_999, i_1000, i_1593, i_6000, i_6001, i_6002, i_10000, i_16383, i_16384, i_32768, i_100000, i_294912, i_1000000, bd0_s, bdS2_0, bdS2_1, bdS3_0, bdS3_1, bdS3_2, bdS4_0, bdS4_1, bdS4_2, bdS4_3, un0_s, bd1_s, bd2_s, bd3_s, bd4_s, bd5_s, bd6_s, bd7_s, bd8_s, bd9_s, bd10_s, bd11_s, bd12_s, bd13_s, bd14_s, bd15_s, bd16_s, un1_s, un2_s, un3_s, un4_s, un5_s, un6_s, un7_s, n_add, n_mul, n_addM, n_addD, n_Dadd, n_subD, n_sub, n_div, nD_succ, nD_zero, n_negM, cl_n, cl_d, rd_n, rd_d, wr_n, wr_d, al_n, al_d, b2i_t, b2i_f, lt_t, lt_f, le_t, le_f, eq_t, eq_f, dlt_t, dlt_f, ltd_t, ltd_f, ddl_t, ddl_f, dle_t, dle_f, led_t, led_f, deq_t, deq_f, eqd_t, eqd_f, dde_t, dde_f, m_ne, n_neM, m_lt, n_ltM, m_le, n_leM, m_eqD, m_neD, d_eqM, d_neM, up_t, up_f, bit_n, bit_d, rp_n, rp_d, asb1, sh1_n, sh1_d, or_n, ↓reduceIte, ite_self, Nat.add_sub_cancel, Nat.sub_self, Nat.add_zero, Nat.zero_add, Nat.mul_zero, Nat.zero_mul, eq_self, and_true, true_and, or_true, true_or, and_self, or_self, not_true_eq_false, not_false_eq_true, g0]) 0 (by omega)
  rw [← hct] at e6
  have e6' : loopC (fun (s : Int32 × Int32) => FX8_once_b13 all m1 s.1 s.2) ((0 : Int32), (0 : Int32)) = some (nI (bitsN (goS T (fun p => T (80 + p)) (T 6)))) := e6
  obtain ⟨on1, mn1, e7, hon⟩ := looksNow8 hA hW hS on many
  have hSt : StG T (fun p => T (80 + p)) 0 (fun p => T (80 + p)) M := ⟨hS, fun i hi => by rw [Nat.zero_testBit, if_neg Bool.false_ne_true]⟩
  obtain ⟨b8, o8, n8, v8, p8, ord9, e8, -, e8'⟩ := ord8 (V := V) hA hW hS (hB.ok hA hW) e2 (n := bitsN (goS T (fun p => T (80 + p)) (T 6))) hle (bitsN (goS T (fun p => T (80 + p)) (T 6))) 10 (by omega) 0 0 (fun p => T (80 + p)) M on1 mn1 pile ord8' (by omega) (by omega) hSt hon
  -- the memo
  obtain ⟨F1, e9, hF⟩ : ∃ F1, loopC (fun (s : Int32 × (Nat → Int32)) => FX0_once_b13 s.1 s.2) ((0 : Int32), fails) = some F1 ∧ ∀ k, k < 256 → F1 k = 0 := by
    obtain ⟨r, q1, q2⟩ := up_rule (B := fun (s : Int32 × (Nat → Int32)) => FX0_once_b13 s.1 s.2) (fun i (a : Nat → Int32) => (nI i, a)) (fun i a => ∀ k, k < i → a k = 0) (fun r => ∀ k, k < 256 → r k = 0) 256 (by
      intro i a hi ha
      refine Or.inl ⟨upd a i 0, ?_, fun k hk => ?_⟩
      · show FX0_once_b13 (nI i) a = _
        unfold FX0_once_b13
        rw [if_neg (show ¬ (256 : Int32) ≤ nI i by rw [show (256 : Int32) = nI 256 from rfl, le_f (by omega) (by omega)]; exact id), wr_n (by omega) (by omega), bd1_s, show nI i + 1 = nI (i + 1) from n_add i 1]
        rfl
      · by_cases c : k = i
        · rw [up_t c]
        · rw [up_f c]; exact ha k (by omega)) (by
      intro a ha
      refine ⟨a, ?_, ha⟩
      show FX0_once_b13 (nI 256) a = _
      unfold FX0_once_b13
      rw [if_pos (show (256 : Int32) ≤ nI 256 from Int32.le_refl _)]) 0 fails (by omega) (fun k hk => absurd hk (Nat.not_lt_zero k))
    exact ⟨r, q1, q2⟩
  obtain ⟨a1, c1, e10, hat⟩ := lays4 (mv := 0) ht hW hS (by omega) tAt tMany
  have er : FX0_resting (lN (enc (fun p => T (80 + p)) (T 95))) = some (lN (enc (fun p => T (80 + p)) 0)) := resting_n hm
  have eb := bitCount4 _ hgl
  obtain ⟨b0, a2, n2, ord1', F2, mv2, e11, -, -, e11'⟩   := ordL0 (V := V) (O0 := fun p => T (80 + p)) (mv := T 95) ht hW hB.1 hm e4 rfl (bitsN (goS T (fun p => T (80 + p)) (T 6))) 10 (by omega) 0 0 (fun p => T (80 + p)) M a1 c1 ord0' F1 (by omega) rfl (by omega) (fun i hi => by rw [Nat.zero_testBit] at hi; exact absurd hi Bool.false_ne_true) hSt hat (fun g hg hz => absurd (hF g hg) hz)
  generalize goS T (fun p => T (80 + p)) (T 6) = G at *
  generalize bitsN G = n at *
  have e11s : FX0_orders 10 a1 c1 to1 ord0' F1 (nI 0) (-1) (lN (enc (fun p => T (80 + p)) (T 95))) t (nI (T 114)) V (nI G) 0 0 = some (b0, a2, n2, ord1', F2, mv2) := e11
  have e8s : FX8_orders 10 all on1 mn1 0 pile nM m1 ord8' 0 (nI n) = some (b8, o8, n8, v8, p8, ord9) := e8
  have go0 : ∀ r, (if (b2i b0) = 0 then
      some ((-1), a2, n2, L2, pc1, to1, ord1', F2, nI n, mv2, (-1), n1, nI el)
    else
      if p = (-1) then
        some (nI n, a2, n2, L2, pc1, to1, ord1', F2, nI n, mv2, (-1), n1, nI el)
      else
        bd1 (FX0_in (Int32.toInt64 p) 0 (Int32.toInt64 (nI n - 1))) fun b_87 =>
        if (b2i b_87) = 0 then
          some ((-1), a2, n2, L2, pc1, to1, ord1', F2, nI n, mv2, (-1), n1, nI el)
        else
          bd1 (rd 8 ord1' p) fun x_89 =>
          some (x_89, a2, n2, L2, pc1, to1, ord1', F2, nI n, mv2, (-1), n1, nI el)) = r → FX0_once tAt tMany La pc0 to0 ord0' fails (lN (enc (fun p => T (80 + p)) (T 95))) t (nI (T 114)) V p = r := by
    intro r hr
    unfold FX0_once
    rw [e3, bd5_s, f7, bd1_s, e9, bd1_s, er, bd1_s, e10, bd3_s, eb, bd1_s, e11s, bd6_s]
    exact hr
  have go8 : ∀ r, (if (b2i b8) = 0 then
      some ((-1), o8, n8, v8, p8, L1, m1, ord9)
    else
      if p = (-1) then
        some (nI n, o8, n8, v8, p8, L1, m1, ord9)
      else
        bd1 (FX8_within (Int32.toInt64 p) 0 (Int32.toInt64 (nI n - 1))) fun b_72 =>
        if (b2i b_72) = 0 then
          some ((-1), o8, n8, v8, p8, L1, m1, ord9)
        else
          bd1 (rd 8 ord9 p) fun x_74 =>
          some (x_74, o8, n8, v8, p8, L1, m1, ord9)) = r → FX8_once all on many pile nM L0 m0 ord8' p = r := by
    intro r hr
    unfold FX8_once
    rw [e1, bd2_s, e6', bd1_s, e7, bd3_s, e8s, bd6_s]
    exact hr
  rcases e8' with ⟨rfl, o, w1, w2⟩ | ⟨rfl, w1⟩
  · rcases e11' with ⟨rfl, o', v1, v2⟩ | ⟨rfl, v1, -⟩
    · have ho : ∀ j, j < n → ord1' j = ord9 j := fun j hj => by
        rw [w2 j (by omega) hj, v2 j (by omega) hj]
        exact congrArg nI (OrS.det hW hB.1 n 0 0 _ _ _ _ o' o (by omega) hSt hSt v1 w1 j (by omega) (by omega))
      by_cases c : p = nM
      · subst c
        exact ⟨nI n, _, _, _, _, _, _, _, _, _, _, _, _, _, _, _, _, _, _, go0 _ (by rw [if_neg (by decide), if_pos (show nM = -1 from rfl)]; rfl), go8 _ (by rw [if_neg (by decide), if_pos (show nM = -1 from rfl)])⟩
      · have c' : ¬ p = -1 := c
        have i1 : FX0_in p.toInt64 0 (Int32.toInt64 (nI n - 1)) = some (decide (0 ≤ p.toInt ∧ p.toInt ≤ (n : Int) - 1)) := inD (by omega)
        have i2 : FX8_within p.toInt64 0 (Int32.toInt64 (nI n - 1)) = some (decide (0 ≤ p.toInt ∧ p.toInt ≤ (n : Int) - 1)) := wiD (by omega)
        rcases rng p (n := n) (by omega) with ⟨j, hj, rfl⟩ | hp
        · rw [decide_eq_true (show 0 ≤ (nI j).toInt ∧ (nI j).toInt ≤ (n : Int) - 1 by rw [toN (by omega)]; omega)] at i1 i2
          have j1 : rd 8 ord1' (nI j) = some (ord9 j) := rdn (by omega) (by omega) (ho j hj)
          have j2 : rd 8 ord9 (nI j) = some (ord9 j) := rdn (by omega) (by omega) rfl
          exact ⟨ord9 j, _, _, _, _, _, _, _, _, _, _, _, _, _, _, _, _, _, _, go0 _ (by rw [if_neg (by decide), if_neg c', i1, bd1_s, if_neg (by decide), j1, bd1_s]; rfl), go8 _ (by rw [if_neg (by decide), if_neg c', i2, bd1_s, if_neg (by decide), j2, bd1_s])⟩
        · rw [decide_eq_false hp] at i1 i2
          exact ⟨-1, _, _, _, _, _, _, _, _, _, _, _, _, _, _, _, _, _, _, go0 _ (by rw [if_neg (by decide), if_neg c', i1, bd1_s, if_pos (by decide)]; rfl), go8 _ (by rw [if_neg (by decide), if_neg c', i2, bd1_s, if_pos (by decide)])⟩
    · exact absurd (OrS.win _ _ _ _ _ _ w1) v1
  · rcases e11' with ⟨rfl, o', v1, v2⟩ | ⟨rfl, v1, -⟩
    · exact absurd (OrS.win _ _ _ _ _ _ v1) w1
    · exact ⟨-1, _, _, _, _, _, _, _, _, _, _, _, _, _, _, _, _, _, _, go0 _ (by rw [if_pos (by decide)]; rfl), go8 _ (by rw [if_pos (by decide)])⟩
end P39
