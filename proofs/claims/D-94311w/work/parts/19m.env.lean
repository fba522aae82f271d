set_option maxRecDepth 100000
/-! the environment: what stays from the law's entry on -/
theorem fm_c {α : Type} {P : α → Prop} {a : α} {l : List α} (h : P a) (t : ∀ x ∈ l, P x) : ∀ x ∈ a :: l, P x := fun x hx => (List.mem_cons.mp hx).elim (fun e => e ▸ h) (t x)
theorem fm_z {α : Type} {P : α → Prop} : ∀ x ∈ ([] : List α), P x := fun _ h => nomatch h
def ntKind (w : Cond) : Bool := match w with
  | .fieldLinkNest .. => true
  | .methodLinkNest .. => true
  | .declares _ => true
  | .castable .. => true
  | _ => false
theorem nwWarm {w : Cond} (hk : ntKind w = true) {s U : State} (hW : s.WarmedH U.vm) (h : va_Nw w s) : va_Nw w U := by
  cases w <;> first | exact va_Nw.warmF hW h | exact va_Nw.warmM hW h | exact va_Nw.warmD hW h | exact va_Nw.warmC hW h | cases hk
theorem evW_k : ∀ w ∈ evW, ntKind w = true := List.all_eq_true.mp (by rfl)
theorem evW_o : ∀ w ∈ evW, w.onTables = true := List.all_eq_true.mp (by rfl)
theorem evW_t : ∀ w ∈ evW, w ∈ lw_tbl := (fm_c q178 (fm_c q184 (fm_c q217 (fm_c q218 (fm_c q219 (fm_c q221 (fm_c q222 (fm_c q223 (fm_c q224 (fm_c q225 (fm_c q227 (fm_c q228 (fm_c q229 (fm_c q231 (fm_c q232 (fm_c q233 (fm_c q235 (fm_c q236 (fm_c q237 (fm_c q238 (fm_c q239 (fm_c q240 (fm_c q241 (fm_c q242 (fm_c q243 (fm_c q244 (fm_c q265 (fm_c q266 (fm_c q268 (fm_c q269 (fm_c q271 (fm_c q272 (fm_c q274 (fm_c q276 (fm_c q278 (fm_c q296 (fm_c q300 (fm_c q301 (fm_c q302 (fm_c q303 (fm_c q304 (fm_c q305 (fm_c q306 (fm_c q307 (fm_c q308 (fm_c q309 (fm_c q310 (fm_c q311 (fm_c q328 (fm_c q333 (fm_c q335 (fm_c q337 (fm_c q339 (fm_c q357 (fm_c q365 (fm_c q368 (fm_c q385 (fm_c q391 (fm_c q394 (fm_c q409 (fm_c q414 (fm_c q442 (fm_c q443 (fm_c q445 (fm_c q451 (fm_c q537 (fm_c q542 (fm_c q544 (fm_c q551 (fm_c q553 (fm_c q596 (fm_c q686 (fm_c q687 (fm_c q688 (fm_c q690 (fm_c q691 (fm_c q692 (fm_c q693 (fm_c q695 (fm_c q696 (fm_c q697 (fm_c q698 (fm_c q700 (fm_c q701 (fm_c q702 (fm_c q806 (fm_c q807 (fm_c q808 (fm_c q810 (fm_c q811 (fm_c q813 (fm_c q815 (fm_c q816 (fm_c q910 (fm_c q928 (fm_c q942 (fm_c q992 (fm_c q1006 (fm_c q1013 (fm_c q1033 (fm_c q1038 (fm_c q1068 (fm_c q1140 (fm_c q1141 (fm_c q1242 (fm_c q1243 (fm_c q1250 (fm_c q1410 (fm_c q1492 (fm_c q1520 (fm_c q1521 (fm_c q1522 (fm_c q1523 (fm_c q1524 (fm_c q1525 (fm_c q1526 (fm_c q1569 (fm_c q1571 (fm_c q1587 (fm_c q1588 (fm_c q1589 (fm_c q2229 (fm_c q2230 (fm_c q2231 (fm_c q2232 (fm_c q2233 (fm_c q2234 (fm_c q2235 (fm_c q2236 (fm_c q2237 (fm_c q2238 (fm_c q2239 (fm_c q2240 (fm_c q2241 (fm_c q2242 (fm_c q2243 (fm_c q2244 (fm_c q2245 (fm_c q2246 (fm_c q2247 (fm_c q2248 (fm_c q2249 (fm_c q2250 (fm_c q2251 (fm_c q2252 (fm_c q2253 (fm_c q2254 (fm_c q2255 (fm_c q2256 (fm_c q2259 (fm_c q2260 (fm_c q2261 (fm_c q2262 (fm_c q2263 (fm_c q2264 (fm_c q2265 (fm_c q2266 (fm_c q2267 fm_z))))))))))))))))))))))))))))))))))))))))))))))))))))))))))))))))))))))))))))))))))))))))))))))))))))))))))))))))))))))))))))))))))))))))))))))))))))))))))))))
def FN : List Cond := flatC (Jvm.Cond.and given_1 narrow_1)
def kpL : List (Nat × Nat) := [(116, 215), (120, 222), (179, 232), (184, 242), (195, 251), (124, 264), (205, 277), (207, 289), (128, 303), (130, 319), (138, 336), (145, 354), (149, 373), (155, 393), (226, 415), (228, 436), (252, 457), (262, 480), (264, 505), (266, 531), (268, 556), (269, 584), (247, 613), (237, 642)]
def kp (k : Nat) : Nat := ((kpL.find? (fun x => x.1 == k)).map (fun x => x.2)).getD 0
abbrev s_ok (own : String) (p : Nat) (q : Nat × String × List Int32) : Prop := FN[p]? = some (.exactly (.string own q.1) "java/lang/String") ∧ FN[p + 1]? = some (.eq (.field (.string own q.1) "java/lang/String" "coder" "B") (.int 0)) ∧ FN[p + 2]? = some (.arrayOf (.field (.string own q.1) "java/lang/String" "value" "[B") .byte) ∧ FN[p + 3]? = some (.eq (.length (.field (.string own q.1) "java/lang/String" "value" "[B")) (.int (Int32.ofNat q.2.2.length))) ∧ ∀ j, j < q.2.2.length → FN[p + 4 + j]? = some (.eq (.elem (.field (.string own q.1) "java/lang/String" "value" "[B") (.int (Int32.ofNat j))) (.int (q.2.2.getD j 0)))
theorem kw_fl : ∀ q ∈ kwT, s_ok "StoneYear$Reader" (kp q.1) q := by decide +kernel
theorem key_fl : s_ok "StoneYearModel" 671 (96, keyT, keyL) := by decide +kernel
theorem kw_u : ∀ q ∈ kwT, ∀ q' ∈ kwT, q.1 = q'.1 → q = q' := by decide +kernel
theorem kw_l : ∀ q ∈ kwT, q.2.2.length < 100 := by decide +kernel
def sOk (q : Nat × String × List Int32) (a v : Nat) (A : Nat → Prop) (U : State) (H : Heap) : Prop := va_O "java/lang/String" a A U H ∧ va_OF "java/lang/String" "coder" "B" (.int 0) a A U H ∧ va_OF "java/lang/String" "value" "[B" (.ref v) a A U H ∧ va_T .byte v q.2.2.length (fun j => .int (q.2.2.getD j 0)) A U H
theorem sOk.moved {q : Nat × String × List Int32} {a v : Nat} {A : Nat → Prop} {u U : State} {H : Heap} (hvm : u.vm.Alike U.vm) (h : sOk q a v A u H) : sOk q a v A U H := ⟨h.1.moved hvm, h.2.1.moved hvm, h.2.2.1.moved hvm, h.2.2.2.moved hvm⟩
theorem sOk.kn {q : Nat × String × List Int32} {a v : Nat} {A B : Nat → Prop} {U : State} {H H1 : Heap} (h : sOk q a v A U H) (hq : ∀ a : Nat, a < H.size → ¬ A a → H1[a]? = H[a]?) (hAB : ∀ q, B q → A q) : sOk q a v B U H1 := ⟨(h.1.kept hq).narrow hAB, (h.2.1.kept hq).narrow hAB, (h.2.2.1.kept hq).narrow hAB, (h.2.2.2.kept hq).narrow hAB⟩
theorem s_of {args : Array Value} {s : State} {A : Nat → Prop} (hgv : (Jvm.Cond.and given_1 narrow_1).before args s = true) (hA : ∀ a : Nat, a < s.heap.size → ¬ A a) {own : String} {p : Nat} {q : Nat × String × List Int32} (h : s_ok own p q) (hlen : q.2.2.length < 2 ^ 31) : ∃ a v : Nat, sOk q a v A s s.heap ∧ (Term.string own q.1).eval args s none [] s = some (.ref a) := by
  have hs := flat_of_before _ hgv
  have m : ∀ {k : Nat} {c : Cond}, FN[k]? = some c → c.before args s = true := fun h => hs _ (List.mem_of_getElem? h)
  have z : ∀ i : Nat, i < 1 → i = 0 := fun i h => Nat.lt_one_iff.mp h
  obtain ⟨adK, adV, ⟨h1, -⟩, h2⟩ := vk_Sof (args := args) (s := s) (N := 1) (tm := fun _ => .string own q.1) (len := [q.2.2.length]) (byt := [q.2.2]) (A := A) (fun i hi => by cases z i hi; exact hlen) (fun _ _ => m h.1) (fun _ _ => m h.2.1) (fun _ _ => m h.2.2.1) (fun i hi => by cases z i hi; exact m h.2.2.2.1) (fun i hi j hj => by cases z i hi; exact m (h.2.2.2.2 j hj)) (fun i j hi hj hne => absurd ((z i hi).trans (z j hj).symm) hne) hA
  exact ⟨adK 0, adV 0, h1 0 (by omega), h2 0 (by omega)⟩
def EvLaw (ks vs : Nat → Nat) (fo mi ak av : Nat) : EvT := fun A U H => (NW U ∧ NC U ∧ AOk U ∧ va_Nc "java/lang/ArrayIndexOutOfBoundsException" "java/lang/NullPointerException" U ∧ va_Mi "[Ljava/lang/Object;" mi U ∧ (∀ q ∈ kwT, vk_R RX9 q.1 q.2.1 (ks q.1) U) ∧ vk_R RX8 96 keyT ak U) ∧ vx_Zq Bundle.tN "UNASSIGNED_STACK" Bundle.steD A U H ∧ vx_Zq Bundle.tN "SUPPRESSED_SENTINEL" Bundle.listD A U H ∧ va_Z "java/lang/String" "COMPACT_STRINGS" "Z" (.int 1) A U H ∧ va_Zq "jdk/internal/util/Preconditions" "SIOOBE_FORMATTER" "Ljava/util/function/BiFunction;" A U H ∧ (∀ q ∈ kwT, sOk q (ks q.1) (vs q.1) A U H) ∧ sOk (96, keyT, keyL) ak av A U H
theorem EvLaw.ok (ks vs : Nat → Nat) (fo mi ak av : Nat) : EvOK (EvLaw ks vs fo mi ak av) := by
  refine ⟨?_, ?_, ?_⟩
  · intro A B U H H1 h hk hAB
    obtain ⟨h1, h2, h3, h4, h5, h6, h7⟩ := h
    exact ⟨h1, (h2.kept hk).narrow hAB, (h3.kept hk).narrow hAB, (h4.kept hk).narrow hAB, (h5.kept hk).narrow hAB, fun q hq => (h6 q hq).kn hk hAB, h7.kn hk hAB⟩
  · intro A s U H hW h
    have hv := hW.alike
    obtain ⟨⟨a1, a2, a3, a4, a5, a6, a7⟩, h2, h3, h4, h5, h6, h7⟩ := h
    exact ⟨⟨fun w hw => nwWarm (evW_k w hw) hW (a1 w hw), fun q hq => (a2 q hq).moved hv, fun C hC => (a3 C hC).moved hv, a4.moved hv, a5.moved hv, fun q hq => (a6 q hq).warm hW, a7.warm hW⟩, h2.moved hv, h3.moved hv, h4.moved hv, h5.moved hv, fun q hq => (h6 q hq).moved hv, h7.moved hv⟩
  · intro A u U H he h
    have hv : u.vm.Alike U.vm := by rw [he]; exact Vm.Alike.refl _
    obtain ⟨⟨a1, a2, a3, a4, a5, a6, a7⟩, h2, h3, h4, h5, h6, h7⟩ := h
    exact ⟨⟨fun w hw => va_Nw.same (evW_o w hw) he.symm (a1 w hw), fun q hq => (a2 q hq).moved hv, fun C hC => (a3 C hC).moved hv, a4.moved hv, a5.moved hv, fun q hq => (a6 q hq).same he, a7.same he⟩, h2.moved hv, h3.moved hv, h4.moved hv, h5.moved hv, fun q hq => (h6 q hq).moved hv, h7.moved hv⟩
theorem EvLaw.all {l : Launch} (hfl : l.stackTraces = false) (ks vs : Nat → Nat) (fo mi ak av : Nat) : EvAll l (EvLaw ks vs fo mi ak av) ks vs fo mi ak av fo := by
  have hok := EvLaw.ok ks vs fo mi ak av
  have hN : EvN (EvLaw ks vs fo mi ak av) := ⟨hok, fun _ _ _ h => h.1.1, fun _ _ _ h => h.1.2.1, fun _ _ _ h => h.1.2.2.1⟩
  refine ⟨⟨hN, fun _ _ _ h => ⟨h.2.1, h.2.2.1, h.1.2.2.2.1⟩⟩, ⟨⟨hN, fun _ _ _ h => h.1.2.2.2.2.1⟩, fun q hq => ⟨⟨hok, fun A U H h => ?_⟩, fun _ _ _ h => h.1.2.2.2.2.2.1 q hq⟩⟩, ⟨hok, ⟨hok, fun A U H h => ?_⟩, fun _ _ _ h => h.1.2.2.2.2.2.2⟩, hfl⟩
  · have h6 := h.2.2.2.2.2.1 q hq
    exact ⟨h6.1, h6.2.1, h6.2.2.1, h6.2.2.2, h.2.2.2.1, h.2.2.2.2.1⟩
  · have h6 := h.2.2.2.2.2.2
    exact ⟨h6.1, h6.2.1, h6.2.2.1, h6.2.2.2, h.2.2.2.1, h.2.2.2.2.1⟩
theorem zeq {args : Array Value} {s : State} {C n d : String} {x : Int32} {A : Nat → Prop} (hl : (Cond.laysStatic C n d).before args s = true) (hini : (Cond.initialized C).before args s = true) (h : (Cond.eq (.static C n d) (.int x)).before args s = true) (hA : ∀ a : Nat, a < s.heap.size → ¬ A a) : va_Z C n d (.int x) A s s.heap := by
  obtain ⟨y, h1, h2⟩ := Cond.eq_one (args := args) (first := s) (o := none) (s := s) (idx := []) h
  have e : some (Value.int x) = some y := h2
  cases e
  exact va_Zof hl hini h1 hA
theorem kw_t : ∀ q ∈ kwT, (Cond.stringRef RX9 q.1 q.2.1) ∈ lw_tbl := (fm_c q607 (fm_c q782 (fm_c q826 (fm_c q833 (fm_c q834 (fm_c q874 (fm_c q875 (fm_c q876 (fm_c q877 (fm_c q787 (fm_c q796 (fm_c q798 (fm_c q831 (fm_c q832 (fm_c q886 (fm_c q887 (fm_c q953 (fm_c q936 (fm_c q900 (fm_c q918 (fm_c q919 (fm_c q920 (fm_c q921 (fm_c q922 fm_z))))))))))))))))))))))))
set_option maxHeartbeats 4000000 in
/-- the environment at the entry -/
theorem EvLaw.at {args : Array Value} {s : State} (hgv : (Jvm.Cond.and given_1 narrow_1).before args s = true) (hts : ∀ w ∈ lw_tbl, w.before args s = true) : ∃ (ks vs : Nat → Nat) (fo mi ak av : Nat), EvLaw ks vs fo mi ak av (fun q => s.heap.size ≤ q) s s.heap := by
  have hs := flat_of_before _ hgv
  have hA : ∀ a : Nat, a < s.heap.size → ¬ (fun q : Nat => s.heap.size ≤ q) a := fun a h => Nat.not_le.mpr h
  obtain ⟨mi, hmi⟩ := va_Mi.of (C := "[Ljava/lang/Object;") (hs _ (List.mem_of_getElem? (l := FN) (i := 214) (by decide +kernel)))
  obtain ⟨ak, av, hk1, hk2⟩ := s_of (A := fun q => s.heap.size ≤ q) hgv hA key_fl (by decide +kernel)
  have h0 : ∀ k : Nat, ∃ x : Nat × Nat, ∀ q ∈ kwT, q.1 = k → sOk q x.1 x.2 (fun q => s.heap.size ≤ q) s s.heap ∧ (Term.string "StoneYear$Reader" q.1).eval args s none [] s = some (.ref x.1) := by
    intro k
    by_cases h : ∃ q ∈ kwT, q.1 = k
    · obtain ⟨q, hq, rfl⟩ := h
      obtain ⟨a, v, h1, h2⟩ := s_of (A := fun q => s.heap.size ≤ q) hgv hA (kw_fl q hq) (Nat.lt_trans (kw_l q hq) (by decide))
      exact ⟨(a, v), fun q' hq' e => by rw [kw_u q' hq' q hq e]; exact ⟨h1, h2⟩⟩
    · exact ⟨(0, 0), fun q hq e => absurd ⟨q, hq, e⟩ h⟩
  obtain ⟨f, hf⟩ := Classical.axiomOfChoice h0
  have hZ := va_Zqof (A := fun q => s.heap.size ≤ q) (hts _ q637) (hts _ (lw_all_tbl q141)) (hs _ (List.mem_of_getElem? (l := FN) (i := 9) (by decide +kernel))) hA
  have hC : va_Z "java/lang/String" "COMPACT_STRINGS" "Z" (.int 1) (fun q => s.heap.size ≤ q) s s.heap := zeq (hts _ q621) (hts _ (lw_all_tbl q144)) (hs _ (List.mem_of_getElem? (l := FN) (i := 8) (by decide +kernel))) hA
  refine ⟨fun k => (f k).1, fun k => (f k).2, 0, mi, ak, av, ⟨fun w hw => va_Nw.of (evW_o w hw) (hts w (evW_t w hw)), (fm_c (va_Nc.of (hs _ (List.mem_of_getElem? (l := FN) (i := 104) (by decide +kernel)))) (fm_c (va_Nc.of (hs _ (List.mem_of_getElem? (l := FN) (i := 134) (by decide +kernel)))) (fm_c (va_Nc.of (hs _ (List.mem_of_getElem? (l := FN) (i := 107) (by decide +kernel)))) (fm_c (va_Nc.of (hs _ (List.mem_of_getElem? (l := FN) (i := 167) (by decide +kernel)))) (fm_c (va_Nc.of (hs _ (List.mem_of_getElem? (l := FN) (i := 138) (by decide +kernel)))) (fm_c (va_Nc.of (hs _ (List.mem_of_getElem? (l := FN) (i := 109) (by decide +kernel)))) (fm_c (va_Nc.of (hs _ (List.mem_of_getElem? (l := FN) (i := 169) (by decide +kernel)))) (fm_c (va_Nc.of (hs _ (List.mem_of_getElem? (l := FN) (i := 165) (by decide +kernel)))) (fm_c (va_Nc.of (hs _ (List.mem_of_getElem? (l := FN) (i := 136) (by decide +kernel)))) fm_z))))))))), (fm_c (va_AO.of (hts _ q201)) (fm_c (va_AO.of (hts _ q293)) (fm_c (va_AO.of (hts _ q407)) fm_z))), va_Nc.of (hs _ (List.mem_of_getElem? (l := FN) (i := 59) (by decide +kernel))), hmi, fun q hq => vk_R.of (hts _ (kw_t q hq)) (hf q.1 q hq rfl).2, vk_R.of (hts _ q1790) hk2⟩, vx_Zqof (hts _ q1474) (hts _ (lw_all_tbl q161)) (hs _ (List.mem_of_getElem? (l := FN) (i := 18) (by decide +kernel))) hA, vx_Zqof (hts _ q1476) (hts _ (lw_all_tbl q161)) (hs _ (List.mem_of_getElem? (l := FN) (i := 19) (by decide +kernel))) hA, hC, hZ, fun q hq => (hf q.1 q hq rfl).1, hk1⟩
