set_option maxRecDepth 100000
/-! the reader: a fact's value, what grows, the words -/
abbrev FcT : Type := Option (Nat × BvT)
def notO (o : FcT) : FcT := match o with
  | some (d, V) => some (d + 1, notB V)
  | none => none
def bothO (i : Int32) (o q : FcT) : FcT := match o, q with
  | some (d, V), some (e, W) => some (max d e + 1, bothB i V W)
  | _, _ => none
/-- a number from 0 to n -/
def upto (n : Nat) (x : Int32) : Option Unit := if x < 0 ∨ n < x.toNatClampNeg then none else some ()
theorem upto_nI {n : Nat} {x : Int32} (h : upto n x = some ()) (hn : n < 2147483648) : ∃ k, k ≤ n ∧ x = nI k := by
  unfold upto at h
  split at h
  · cases h
  · rename_i h1
    have h2 : ¬ x < 0 := fun z => h1 (Or.inl z)
    have h3 : ¬ n < x.toNatClampNeg := fun z => h1 (Or.inr z)
    refine ⟨x.toNatClampNeg, by omega, ?_⟩
    have h4 := Int32.not_lt.mp h2
    have h5 : (0 : Int) ≤ x.toInt := by simpa using Int32.le_iff_toInt_le.mp h4
    apply Int32.toInt_inj.mp
    rw [nI_toInt (by omega)]
    show _ = ((x.toInt.toNat : Nat) : Int)
    omega
def addRow (u : Nat → Int32) (high : Int32) : Nat → Int32 := fun k => if k = 0 then u 0 + 1 else if k = 1 + (u 0).toNatClampNeg then high else if k = 31 + (u 0).toNatClampNeg ∨ k = 36 + (u 0).toNatClampNeg then -1 else if k = 210 + (u 0).toNatClampNeg then 0 else if 41 + 3 * (u 0).toNatClampNeg ≤ k ∧ k < 44 + 3 * (u 0).toNatClampNeg then -1 else u k
def addStone (u : Nat → Int32) (sort size row bears : Int32) : Nat → Int32 := fun k => if k = 6 then u 6 + 1 else if k = 7 + (u 6).toNatClampNeg then sort else if k = 15 + (u 6).toNatClampNeg then size else if k = 200 + (u 6).toNatClampNeg then row else if k = 23 + (u 6).toNatClampNeg then bears else u k
def addMust (u : Nat → Int32) (kind row many : Int32) : Nat → Int32 := fun k => if k = 56 then u 56 + 1 else if k = 57 + (u 56).toNatClampNeg then kind else if k = 63 + (u 56).toNatClampNeg then row else if k = 69 + (u 56).toNatClampNeg then many else u k
def wrW (u : Nat → Int32) (r j v : Int32) : Option (Nat → Int32) := if j < 0 ∨ 3 ≤ j.toNatClampNeg then none else some (upd u (41 + 3 * r.toNatClampNeg + j.toNatClampNeg) v)
theorem wrW_in {u v : Nat → Int32} {r j x : Int32} (h : wrW u r j x = some v) : vp_in j 3 := by
  unfold wrW at h
  split at h
  · cases h
  · assumption
theorem wrW_eq {u v : Nat → Int32} {r j x : Int32} (h : wrW u r j x = some v) : upd u (41 + 3 * r.toNatClampNeg + j.toNatClampNeg) x = v := by
  unfold wrW at h
  split at h
  · cases h
  · exact Option.some.inj h
def addBar (bo : Nat → FcT) (nb : Int32) (f : FcT) : Nat → FcT := fun k => if k = nb.toNatClampNeg then f else bo k
/-- a text by its bytes -/
def kwb (l : List Int32) : Nat → Int32 := fun i => l.getD i 0
def kb_116 : Nat → Int32 := kwb [114, 111, 119]
def kb_120 : Nat → Int32 := kwb [115, 116, 111, 110, 101]
def kb_124 : Nat → Int32 := kwb [119, 105, 115, 104]
def kb_128 : Nat → Int32 := kwb [114, 111, 111, 102]
def kb_130 : Nat → Int32 := kwb [108, 97, 110, 101]
def kb_138 : Nat → Int32 := kwb [111, 118, 101, 114]
def kb_145 : Nat → Int32 := kwb [109, 111, 115, 116]
def kb_149 : Nat → Int32 := kwb [114, 105, 110, 103]
def kb_155 : Nat → Int32 := kwb [102, 108, 111, 111, 100]
def kb_179 : Nat → Int32 := kwb [115, 105, 122, 101]
def kb_184 : Nat → Int32 := kwb [97, 116]
def kb_195 : Nat → Int32 := kwb [98, 101, 97, 114, 115]
def kb_205 : Nat → Int32 := kwb [98, 121]
def kb_207 : Nat → Int32 := kwb [102, 111, 114]
def kb_226 : Nat → Int32 := kwb [98, 97, 114]
def kb_228 : Nat → Int32 := kwb [105, 102]
def kb_237 : Nat → Int32 := kwb [111, 114]
def kb_247 : Nat → Int32 := kwb [97, 110, 100]
def kb_252 : Nat → Int32 := kwb [110, 111, 116]
def kb_262 : Nat → Int32 := kwb [115, 111, 114, 116]
def kb_264 : Nat → Int32 := kwb [102, 114, 111, 109]
def kb_266 : Nat → Int32 := kwb [116, 111]
def kb_268 : Nat → Int32 := kwb [104, 105, 103, 104]
def kb_269 : Nat → Int32 := kwb [102, 117, 108, 108]
def kwT : List (Nat × String × List Int32) := [(116, "row", [114, 111, 119]), (120, "stone", [115, 116, 111, 110, 101]), (124, "wish", [119, 105, 115, 104]), (128, "roof", [114, 111, 111, 102]), (130, "lane", [108, 97, 110, 101]), (138, "over", [111, 118, 101, 114]), (145, "most", [109, 111, 115, 116]), (149, "ring", [114, 105, 110, 103]), (155, "flood", [102, 108, 111, 111, 100]), (179, "size", [115, 105, 122, 101]), (184, "at", [97, 116]), (195, "bears", [98, 101, 97, 114, 115]), (205, "by", [98, 121]), (207, "for", [102, 111, 114]), (226, "bar", [98, 97, 114]), (228, "if", [105, 102]), (237, "or", [111, 114]), (247, "and", [97, 110, 100]), (252, "not", [110, 111, 116]), (262, "sort", [115, 111, 114, 116]), (264, "from", [102, 114, 111, 109]), (266, "to", [116, 111]), (268, "high", [104, 105, 103, 104]), (269, "full", [102, 117, 108, 108])]
theorem kwm_116 : ((116, "row", [114, 111, 119]) : Nat × String × List Int32) ∈ kwT := List.mem_of_getElem? (i := 0) rfl
theorem kwm_120 : ((120, "stone", [115, 116, 111, 110, 101]) : Nat × String × List Int32) ∈ kwT := List.mem_of_getElem? (i := 1) rfl
theorem kwm_124 : ((124, "wish", [119, 105, 115, 104]) : Nat × String × List Int32) ∈ kwT := List.mem_of_getElem? (i := 2) rfl
theorem kwm_128 : ((128, "roof", [114, 111, 111, 102]) : Nat × String × List Int32) ∈ kwT := List.mem_of_getElem? (i := 3) rfl
theorem kwm_130 : ((130, "lane", [108, 97, 110, 101]) : Nat × String × List Int32) ∈ kwT := List.mem_of_getElem? (i := 4) rfl
theorem kwm_138 : ((138, "over", [111, 118, 101, 114]) : Nat × String × List Int32) ∈ kwT := List.mem_of_getElem? (i := 5) rfl
theorem kwm_145 : ((145, "most", [109, 111, 115, 116]) : Nat × String × List Int32) ∈ kwT := List.mem_of_getElem? (i := 6) rfl
theorem kwm_149 : ((149, "ring", [114, 105, 110, 103]) : Nat × String × List Int32) ∈ kwT := List.mem_of_getElem? (i := 7) rfl
theorem kwm_155 : ((155, "flood", [102, 108, 111, 111, 100]) : Nat × String × List Int32) ∈ kwT := List.mem_of_getElem? (i := 8) rfl
theorem kwm_179 : ((179, "size", [115, 105, 122, 101]) : Nat × String × List Int32) ∈ kwT := List.mem_of_getElem? (i := 9) rfl
theorem kwm_184 : ((184, "at", [97, 116]) : Nat × String × List Int32) ∈ kwT := List.mem_of_getElem? (i := 10) rfl
theorem kwm_195 : ((195, "bears", [98, 101, 97, 114, 115]) : Nat × String × List Int32) ∈ kwT := List.mem_of_getElem? (i := 11) rfl
theorem kwm_205 : ((205, "by", [98, 121]) : Nat × String × List Int32) ∈ kwT := List.mem_of_getElem? (i := 12) rfl
theorem kwm_207 : ((207, "for", [102, 111, 114]) : Nat × String × List Int32) ∈ kwT := List.mem_of_getElem? (i := 13) rfl
theorem kwm_226 : ((226, "bar", [98, 97, 114]) : Nat × String × List Int32) ∈ kwT := List.mem_of_getElem? (i := 14) rfl
theorem kwm_228 : ((228, "if", [105, 102]) : Nat × String × List Int32) ∈ kwT := List.mem_of_getElem? (i := 15) rfl
theorem kwm_237 : ((237, "or", [111, 114]) : Nat × String × List Int32) ∈ kwT := List.mem_of_getElem? (i := 16) rfl
theorem kwm_247 : ((247, "and", [97, 110, 100]) : Nat × String × List Int32) ∈ kwT := List.mem_of_getElem? (i := 17) rfl
theorem kwm_252 : ((252, "not", [110, 111, 116]) : Nat × String × List Int32) ∈ kwT := List.mem_of_getElem? (i := 18) rfl
theorem kwm_262 : ((262, "sort", [115, 111, 114, 116]) : Nat × String × List Int32) ∈ kwT := List.mem_of_getElem? (i := 19) rfl
theorem kwm_264 : ((264, "from", [102, 114, 111, 109]) : Nat × String × List Int32) ∈ kwT := List.mem_of_getElem? (i := 20) rfl
theorem kwm_266 : ((266, "to", [116, 111]) : Nat × String × List Int32) ∈ kwT := List.mem_of_getElem? (i := 21) rfl
theorem kwm_268 : ((268, "high", [104, 105, 103, 104]) : Nat × String × List Int32) ∈ kwT := List.mem_of_getElem? (i := 22) rfl
theorem kwm_269 : ((269, "full", [102, 117, 108, 108]) : Nat × String × List Int32) ∈ kwT := List.mem_of_getElem? (i := 23) rfl
noncomputable def FX9_see (size : Int32) (tape : Nat → Int32) (p1 : Int32) : Option Int32 :=
  if size ≤ p1 then
    some 0
  else
    bd1 (rd 400 tape p1) fun x_20 =>
    some (x_20 &&& 255)

noncomputable def FX9_isSmall (size : Int32) (tape : Nat → Int32) (p1 : Int32) : Option Bool :=
  bd1 (FX9_see size tape p1) fun x_19 =>
  bd1 (FX0_in (Int32.toInt64 x_19) 97 122) fun b_20 =>
  some b_20

noncomputable def FX9_isDigit (size : Int32) (tape : Nat → Int32) (p1 : Int32) : Option Bool :=
  bd1 (FX9_see size tape p1) fun x_19 =>
  bd1 (FX0_in (Int32.toInt64 x_19) 48 57) fun b_20 =>
  some b_20

noncomputable def FX9_next_j264 (v_value : Int32) (v_at_29 : Int32) (x_61 : Int32) : Option (Int32 × Int32 × Int32 × Int32) :=
  some ((v_at_29 + 1), v_at_29, x_61, v_value)

noncomputable def FX9_next_j259 (v_value : Int32) (v_at_29 : Int32) (x_57 : Int32) : Option (Int32 × Int32 × Int32 × Int32) :=
  FX9_next_j264 v_value v_at_29 x_57

noncomputable def FX9_next_j215 (v_at_29 : Int32) (v_at_53 : Int32) (v_value_54 : Int32) (x_56 : Int32) : Option (Int32 × Int32 × Int32 × Int32) :=
  some (v_at_53, v_at_29, x_56, v_value_54)

noncomputable def FX9_next_j37 (v_at_23 : Int32) : Option (Int32 ⊕ Int32) :=
  some (.inl (v_at_23 + 1))

noncomputable def FX9_next_b0 (size : Int32) (tape : Nat → Int32) (v_at_23 : Int32) : Option (Int32 ⊕ Int32) :=
  if size ≤ v_at_23 then
    some (.inr v_at_23)
  else
    bd1 (FX9_see size tape v_at_23) fun x_25 =>
    if x_25 = 32 then
      FX9_next_j37 v_at_23
    else
      bd1 (FX9_see size tape v_at_23) fun x_27 =>
      if x_27 = 10 then
        FX9_next_j37 v_at_23
      else
        some (.inr v_at_23)

noncomputable def FX9_next_j183 (v_at_46 : Int32) (v_value_52 : Int32) : Option ((Int32 × Int32) ⊕ (Int32 × Int32)) :=
  some (.inl ((v_at_46 + 1), v_value_52))

noncomputable def FX9_next_b136 (size : Int32) (tape : Nat → Int32) (v_at_29 : Int32) (v_at_46 : Int32) (v_value_47 : Int32) : Option ((Int32 × Int32) ⊕ (Int32 × Int32)) :=
  bd1 (FX9_isDigit size tape v_at_46) fun b_48 =>
  if (b2i b_48) = 0 then
    some (.inr (v_at_46, v_value_47))
  else
    if 3 ≤ (v_at_46 - v_at_29) then
      FX9_next_j183 v_at_46 v_value_47
    else
      bd1 (FX9_see size tape v_at_46) fun x_51 =>
      FX9_next_j183 v_at_46 (((10 * v_value_47) + x_51) - 48)

noncomputable def FX9_next_b88 (size : Int32) (tape : Nat → Int32) (v_at_35 : Int32) : Option (Int32 ⊕ Int32) :=
  bd1 (FX9_isSmall size tape v_at_35) fun b_36 =>
  if (b2i b_36) = 0 then
    some (.inr v_at_35)
  else
    some (.inl (v_at_35 + 1))

noncomputable def FX9_next (size : Int32) (tape : Nat → Int32) (v_at : Int32) (v_value : Int32) : Option (Int32 × Int32 × Int32 × Int32) :=
  bd1 (loopC (fun s => FX9_next_b0 size tape s) v_at) fun v_at_29 =>
    if v_at_29 < size then
      bd1 (FX9_isSmall size tape v_at_29) fun b_31 =>
      if (b2i b_31) = 0 then
        bd1 (FX9_isDigit size tape v_at_29) fun b_39 =>
        if (b2i b_39) = 0 then
          bd1 (FX9_see size tape v_at_29) fun x_57 =>
          if x_57 = 59 then
            FX9_next_j259 v_value v_at_29 x_57
          else
            if x_57 = 40 then
              FX9_next_j259 v_value v_at_29 x_57
            else
              if x_57 = 41 then
                FX9_next_j259 v_value v_at_29 x_57
              else
                FX9_next_j264 v_value v_at_29 3
        else
          bd2 (loopC (fun s => FX9_next_b136 size tape v_at_29 s.1 s.2) (v_at_29, 0)) fun v_at_53 v_value_54 =>
            if (v_at_53 - v_at_29) ≤ 3 then
              FX9_next_j215 v_at_29 v_at_53 v_value_54 2
            else
              FX9_next_j215 v_at_29 v_at_53 v_value_54 3
      else
        bd1 (loopC (fun s => FX9_next_b88 size tape s) v_at_29) fun v_at_38 =>
          some (v_at_38, v_at_29, 1, v_value)
    else
      some (v_at_29, v_at_29, 0, v_value)

noncomputable def FX9_wrong_j22 (v_begin : Int32) (x_21 : Int32) : Option (Int32 × Int32) :=
  some (x_21, v_begin)

noncomputable def FX9_wrong (v_begin : Int32) (v_token : Int32) (v_fault : Int32) (v_place : Int32) (p1 : Int32) : Option (Int32 × Int32) :=
  if v_fault = 0 then
    if v_token = 3 then
      FX9_wrong_j22 v_begin 1
    else
      FX9_wrong_j22 v_begin p1
  else
    some (v_fault, v_place)

noncomputable def FX9_is_b35 (v_begin : Int32) (size : Int32) (tape : Nat → Int32) (kn : Nat) (kb : Nat → Int32) (x_27 : Int32) : Option (Int32 ⊕ (Unit ⊕ Unit)) :=
  bd1 (FJ5_length kn) fun x_28 =>
  if x_28 ≤ x_27 then
    some (.inr (.inr ()))
  else
    bd1 (FX9_see size tape (v_begin + x_27)) fun x_30 =>
    bd1 (FJ5_charAt kn kb x_27) fun x_31 =>
    if x_30 = x_31 then
      some (.inl (x_27 + 1))
    else
      some (.inr (.inl ()))

noncomputable def FX9_is (size : Int32) (tape : Nat → Int32) (kn : Nat) (kb : Nat → Int32) (v_at : Int32) (v_begin : Int32) (v_token : Int32) (v_fault : Int32) : Option Bool :=
  if v_fault = 0 then
    if v_token = 1 then
      bd1 (FJ5_length kn) fun x_20 =>
      if (v_at - v_begin) = x_20 then
        bdS2 (loopC (fun s => FX9_is_b35 v_begin size tape kn kb s) 0)
          (un0 fun _ =>
            some false)
          (un0 fun _ =>
            some true)
      else
        some false
    else
      some false
  else
    some false

noncomputable def FX9_takes (size : Int32) (tape : Nat → Int32) (kn : Nat) (kb : Nat → Int32) (v_at : Int32) (v_begin : Int32) (v_token : Int32) (v_value : Int32) (v_fault : Int32) : Option (Bool × Int32 × Int32 × Int32 × Int32) :=
  bd1 (FX9_is size tape kn kb v_at v_begin v_token v_fault) fun b_18 =>
  if (b2i b_18) = 0 then
    some (false, v_at, v_begin, v_token, v_value)
  else
    bd4 (FX9_next size tape v_at v_value) fun v_at_20 v_begin_21 v_token_22 v_value_23 =>
    some (true, v_at_20, v_begin_21, v_token_22, v_value_23)

noncomputable def FX9_need (size : Int32) (tape : Nat → Int32) (kn : Nat) (kb : Nat → Int32) (v_at : Int32) (v_begin : Int32) (v_token : Int32) (v_value : Int32) (v_fault : Int32) (v_place : Int32) : Option (Int32 × Int32 × Int32 × Int32 × Int32 × Int32) :=
  bd5 (FX9_takes size tape kn kb v_at v_begin v_token v_value v_fault) fun b_18 v_at_19 v_begin_20 v_token_21 v_value_22 =>
  if (b2i b_18) = 0 then
    bd2 (FX9_wrong v_begin_20 v_token_21 v_fault v_place 2) fun v_fault_24 v_place_25 =>
    some (v_at_19, v_begin_20, v_token_21, v_value_22, v_fault_24, v_place_25)
  else
    some (v_at_19, v_begin_20, v_token_21, v_value_22, v_fault, v_place)

noncomputable def FX9_seen_j47 (v_fault_31 : Int32) (v_place_32 : Int32) : Option (Bool × Int32 × Int32) :=
  if v_fault_31 = 0 then
    some (true, v_fault_31, v_place_32)
  else
    some (false, v_fault_31, v_place_32)

noncomputable def FX9_seen_j20 (v_begin : Int32) (v_token : Int32) (v_value : Int32) (p1 : Int32) (p2 : Int32) (v_fault_24 : Int32) (v_place_25 : Int32) : Option (Bool × Int32 × Int32) :=
  if v_fault_24 = 0 then
    bd1 (FX0_in (Int32.toInt64 v_value) (Int32.toInt64 p1) (Int32.toInt64 p2)) fun b_27 =>
    if (b2i b_27) = 0 then
      bd2 (FX9_wrong v_begin v_token v_fault_24 v_place_25 3) fun v_fault_29 v_place_30 =>
      FX9_seen_j47 v_fault_29 v_place_30
    else
      FX9_seen_j47 v_fault_24 v_place_25
  else
    FX9_seen_j47 v_fault_24 v_place_25

noncomputable def FX9_seen (v_begin : Int32) (v_token : Int32) (v_value : Int32) (v_fault : Int32) (v_place : Int32) (p1 : Int32) (p2 : Int32) : Option (Bool × Int32 × Int32) :=
  if v_fault = 0 then
    if v_token = 2 then
      FX9_seen_j20 v_begin v_token v_value p1 p2 v_fault v_place
    else
      bd2 (FX9_wrong v_begin v_token v_fault v_place 2) fun v_fault_22 v_place_23 =>
      FX9_seen_j20 v_begin v_token v_value p1 p2 v_fault_22 v_place_23
  else
    FX9_seen_j20 v_begin v_token v_value p1 p2 v_fault v_place

noncomputable def FX9_number (size : Int32) (tape : Nat → Int32) (v_at : Int32) (v_begin : Int32) (v_token : Int32) (v_value : Int32) (v_fault : Int32) (v_place : Int32) (p1 : Int32) (p2 : Int32) : Option (Int32 × Int32 × Int32 × Int32 × Int32 × Int32 × Int32) :=
  bd3 (FX9_seen v_begin v_token v_value v_fault v_place p1 p2) fun b_20 v_fault_21 v_place_22 =>
  if (b2i b_20) = 0 then
    some (0, v_at, v_begin, v_token, v_value, v_fault_21, v_place_22)
  else
    bd4 (FX9_next size tape v_at v_value) fun v_at_24 v_begin_25 v_token_26 v_value_27 =>
    some (v_value, v_at_24, v_begin_25, v_token_26, v_value_27, v_fault_21, v_place_22)

noncomputable def FX9_over_j21 (v_at : Int32) (v_begin : Int32) (v_token : Int32) (v_value : Int32) (size : Int32) (tape : Nat → Int32) (v_fault_22 : Int32) (v_place_23 : Int32) : Option (Int32 × Int32 × Int32 × Int32 × Int32 × Int32) :=
  if v_fault_22 = 0 then
    bd4 (FX9_next size tape v_at v_value) fun v_at_25 v_begin_26 v_token_27 v_value_28 =>
    some (v_at_25, v_begin_26, v_token_27, v_value_28, v_fault_22, v_place_23)
  else
    some (v_at, v_begin, v_token, v_value, v_fault_22, v_place_23)

noncomputable def FX9_over (size : Int32) (tape : Nat → Int32) (v_at : Int32) (v_begin : Int32) (v_token : Int32) (v_value : Int32) (v_fault : Int32) (v_place : Int32) : Option (Int32 × Int32 × Int32 × Int32 × Int32 × Int32) :=
  if v_fault = 0 then
    if v_token = 59 then
      FX9_over_j21 v_at v_begin v_token v_value size tape v_fault v_place
    else
      bd2 (FX9_wrong v_begin v_token v_fault v_place 2) fun v_fault_20 v_place_21 =>
      FX9_over_j21 v_at v_begin v_token v_value size tape v_fault_20 v_place_21
  else
    FX9_over_j21 v_at v_begin v_token v_value size tape v_fault v_place

noncomputable def FX9_space_j9 (v_at : Int32) (v_begin : Int32) (v_token : Int32) (v_value : Int32) (size : Int32) (tape : Nat → Int32) (v_fault_22 : Int32) (v_place_23 : Int32) : Option (Int32 × Int32 × Int32 × Int32 × Int32 × Int32) :=
  if v_fault_22 = 0 then
    bd4 (FX9_next size tape v_at v_value) fun v_at_25 v_begin_26 v_token_27 v_value_28 =>
    some (v_at_25, v_begin_26, v_token_27, v_value_28, v_fault_22, v_place_23)
  else
    some (v_at, v_begin, v_token, v_value, v_fault_22, v_place_23)

noncomputable def FX9_space (size : Int32) (tape : Nat → Int32) (v_at : Int32) (v_begin : Int32) (v_token : Int32) (v_value : Int32) (v_fault : Int32) (v_place : Int32) (p1 : Int32) : Option (Int32 × Int32 × Int32 × Int32 × Int32 × Int32) :=
  if p1 = 0 then
    FX9_space_j9 v_at v_begin v_token v_value size tape v_fault v_place
  else
    bd2 (FX9_wrong v_begin v_token v_fault v_place 4) fun v_fault_20 v_place_21 =>
    FX9_space_j9 v_at v_begin v_token v_value size tape v_fault_20 v_place_21

noncomputable def FX9_opens_j14 (v_at : Int32) (v_begin : Int32) (v_token : Int32) (v_value : Int32) (v_open : Int32) (size : Int32) (tape : Nat → Int32) (v_fault_21 : Int32) (v_place_22 : Int32) : Option (Int32 × Int32 × Int32 × Int32 × Int32 × Int32 × Int32) :=
  if v_fault_21 = 0 then
    bd4 (FX9_next size tape v_at v_value) fun v_at_24 v_begin_25 v_token_26 v_value_27 =>
    some (v_at_24, v_begin_25, v_token_26, v_value_27, (v_open + 1), v_fault_21, v_place_22)
  else
    some (v_at, v_begin, v_token, v_value, (v_open + 1), v_fault_21, v_place_22)

noncomputable def FX9_opens (size : Int32) (tape : Nat → Int32) (v_at : Int32) (v_begin : Int32) (v_token : Int32) (v_value : Int32) (v_open : Int32) (v_fault : Int32) (v_place : Int32) : Option (Int32 × Int32 × Int32 × Int32 × Int32 × Int32 × Int32) :=
  if v_open = 8 then
    bd2 (FX9_wrong v_begin v_token v_fault v_place 5) fun v_fault_19 v_place_20 =>
    FX9_opens_j14 v_at v_begin v_token v_value v_open size tape v_fault_19 v_place_20
  else
    FX9_opens_j14 v_at v_begin v_token v_value v_open size tape v_fault v_place

noncomputable def FX9_more (size : Int32) (tape : Nat → Int32) (v_at : Int32) (v_begin : Int32) (v_token : Int32) (v_value : Int32) (v_fault : Int32) (v_place : Int32) (u : Nat → Int32) : Option (Int32 × Int32 × Int32 × Int32 × Int32 × Int32 × (Nat → Int32)) :=
  bd5 (FX9_takes size tape 4 kb_138 v_at v_begin v_token v_value v_fault) fun b_18 v_at_19 v_begin_20 v_token_21 v_value_22 =>
  if (b2i b_18) = 0 then
    bd5 (FX9_takes size tape 4 kb_145 v_at_19 v_begin_20 v_token_21 v_value_22 v_fault) fun b_31 v_at_32 v_begin_33 v_token_34 v_value_35 =>
    if (b2i b_31) = 0 then
      bd5 (FX9_takes size tape 4 kb_149 v_at_32 v_begin_33 v_token_34 v_value_35 v_fault) fun b_44 v_at_45 v_begin_46 v_token_47 v_value_48 =>
      if (b2i b_44) = 0 then
        bd5 (FX9_takes size tape 5 kb_155 v_at_45 v_begin_46 v_token_47 v_value_48 v_fault) fun b_50 v_at_51 v_begin_52 v_token_53 v_value_54 =>
        if (b2i b_50) = 0 then
          bd2 (FX9_wrong v_begin_52 v_token_53 v_fault v_place 2) fun v_fault_56 v_place_57 =>
          some (v_at_51, v_begin_52, v_token_53, v_value_54, v_fault_56, v_place_57, u)
        else
          some (v_at_51, v_begin_52, v_token_53, v_value_54, v_fault, v_place, (upd u 378 1))
      else
        some (v_at_45, v_begin_46, v_token_47, v_value_48, v_fault, v_place, (upd u 77 1))
    else
      bd7 (FX9_number size tape v_at_32 v_begin_33 v_token_34 v_value_35 v_fault v_place 1 8) fun x_37 v_at_38 v_begin_39 v_token_40 v_value_41 v_fault_42 v_place_43 =>
      some (v_at_38, v_begin_39, v_token_40, v_value_41, v_fault_42, v_place_43, (upd u 76 x_37))
  else
    bd7 (FX9_number size tape v_at_19 v_begin_20 v_token_21 v_value_22 v_fault v_place 1 3) fun x_24 v_at_25 v_begin_26 v_token_27 v_value_28 v_fault_29 v_place_30 =>
    some (v_at_25, v_begin_26, v_token_27, v_value_28, v_fault_29, v_place_30, (upd u 75 x_24))

noncomputable def FX9_row_j20 (v_at : Int32) (v_begin : Int32) (v_token : Int32) (v_value : Int32) (v_fault : Int32) (v_place : Int32) (u : Nat → Int32) (size : Int32) (tape : Nat → Int32) (x_19 : Int32) : Option (Int32 × Int32 × Int32 × Int32 × Int32 × Int32 × (Nat → Int32)) :=
  bd6 (FX9_space size tape v_at v_begin v_token v_value v_fault v_place x_19) fun v_at_20 v_begin_21 v_token_22 v_value_23 v_fault_24 v_place_25 =>
  bd7 (FX9_number size tape v_at_20 v_begin_21 v_token_22 v_value_23 v_fault_24 v_place_25 1 3) fun x_26 v_at_27 v_begin_28 v_token_29 v_value_30 v_fault_31 v_place_32 =>
  if v_fault_31 = 0 then
    bd0 (upto 4 (u 0)) <|
    some (v_at_27, v_begin_28, v_token_29, v_value_30, v_fault_31, v_place_32, (addRow u x_26))
  else
    some (v_at_27, v_begin_28, v_token_29, v_value_30, v_fault_31, v_place_32, u)

noncomputable def FX9_row (size : Int32) (tape : Nat → Int32) (v_at : Int32) (v_begin : Int32) (v_token : Int32) (v_value : Int32) (v_fault : Int32) (v_place : Int32) (u : Nat → Int32) : Option (Int32 × Int32 × Int32 × Int32 × Int32 × Int32 × (Nat → Int32)) :=
  if (u 0) = 5 then
    FX9_row_j20 v_at v_begin v_token v_value v_fault v_place u size tape 1
  else
    FX9_row_j20 v_at v_begin v_token v_value v_fault v_place u size tape 0

noncomputable def FX9_stone_j159 (u : Nat → Int32) (x_26 : Int32) (x_39 : Int32) (x_67 : Int32) (x_87 : Int32) (v_at_88 : Int32) (v_begin_89 : Int32) (v_token_90 : Int32) (v_value_91 : Int32) (v_fault_92 : Int32) (v_place_93 : Int32) : Option (Int32 × Int32 × Int32 × Int32 × Int32 × Int32 × (Nat → Int32)) :=
  if v_fault_92 = 0 then
    bd0 (alg (u 0) x_67) <|
    bd0 (alg (u 0) x_67) <|
    bd0 (alg (u 0) x_67) <|
    bd0 (alg (u 0) x_67) <|
    bd0 (upto 7 ((upd u (210 + x_67.toNatClampNeg) ((u (210 + x_67.toNatClampNeg)) + 1)) 6)) <|
    some (v_at_88, v_begin_89, v_token_90, v_value_91, v_fault_92, v_place_93, (addStone (upd u (210 + x_67.toNatClampNeg) ((u (210 + x_67.toNatClampNeg)) + 1)) x_26 x_39 x_67 x_87))
  else
    some (v_at_88, v_begin_89, v_token_90, v_value_91, v_fault_92, v_place_93, u)

noncomputable def FX9_stone_j120 (u : Nat → Int32) (size : Int32) (tape : Nat → Int32) (x_26 : Int32) (x_39 : Int32) (v_at_46 : Int32) (v_begin_47 : Int32) (v_token_48 : Int32) (v_value_49 : Int32) (v_fault_65 : Int32) (v_place_66 : Int32) : Option (Int32 × Int32 × Int32 × Int32 × Int32 × Int32 × (Nat → Int32)) :=
  bd7 (FX9_number size tape v_at_46 v_begin_47 v_token_48 v_value_49 v_fault_65 v_place_66 0 ((u 0) - 1)) fun x_67 v_at_68 v_begin_69 v_token_70 v_value_71 v_fault_72 v_place_73 =>
  bd5 (FX9_takes size tape 5 kb_195 v_at_68 v_begin_69 v_token_70 v_value_71 v_fault_72) fun b_74 v_at_75 v_begin_76 v_token_77 v_value_78 =>
  if (b2i b_74) = 0 then
    FX9_stone_j159 u x_26 x_39 x_67 99 v_at_75 v_begin_76 v_token_77 v_value_78 v_fault_72 v_place_73
  else
    bd7 (FX9_number size tape v_at_75 v_begin_76 v_token_77 v_value_78 v_fault_72 v_place_73 0 99) fun x_80 v_at_81 v_begin_82 v_token_83 v_value_84 v_fault_85 v_place_86 =>
    FX9_stone_j159 u x_26 x_39 x_67 x_80 v_at_81 v_begin_82 v_token_83 v_value_84 v_fault_85 v_place_86

noncomputable def FX9_stone_j21 (v_at : Int32) (v_begin : Int32) (v_token : Int32) (v_value : Int32) (v_fault : Int32) (v_place : Int32) (u : Nat → Int32) (size : Int32) (tape : Nat → Int32) (x_19 : Int32) : Option (Int32 × Int32 × Int32 × Int32 × Int32 × Int32 × (Nat → Int32)) :=
  bd6 (FX9_space size tape v_at v_begin v_token v_value v_fault v_place x_19) fun v_at_20 v_begin_21 v_token_22 v_value_23 v_fault_24 v_place_25 =>
  bd7 (FX9_number size tape v_at_20 v_begin_21 v_token_22 v_value_23 v_fault_24 v_place_25 0 7) fun x_26 v_at_27 v_begin_28 v_token_29 v_value_30 v_fault_31 v_place_32 =>
  bd6 (FX9_need size tape 4 kb_179 v_at_27 v_begin_28 v_token_29 v_value_30 v_fault_31 v_place_32) fun v_at_33 v_begin_34 v_token_35 v_value_36 v_fault_37 v_place_38 =>
  bd7 (FX9_number size tape v_at_33 v_begin_34 v_token_35 v_value_36 v_fault_37 v_place_38 1 9) fun x_39 v_at_40 v_begin_41 v_token_42 v_value_43 v_fault_44 v_place_45 =>
  bd6 (FX9_need size tape 2 kb_184 v_at_40 v_begin_41 v_token_42 v_value_43 v_fault_44 v_place_45) fun v_at_46 v_begin_47 v_token_48 v_value_49 v_fault_50 v_place_51 =>
  bd3 (FX9_seen v_begin_47 v_token_48 v_value_49 v_fault_50 v_place_51 0 ((u 0) - 1)) fun b_52 v_fault_53 v_place_54 =>
  if (b2i b_52) = 0 then
    FX9_stone_j120 u size tape x_26 x_39 v_at_46 v_begin_47 v_token_48 v_value_49 v_fault_53 v_place_54
  else
    bd0 (alg (u 0) v_value_49) <|
    bd0 (alg (u 0) v_value_49) <|
    bd0 (alg (u 0) v_value_49) <|
    bd0 (alg (u 0) v_value_49) <|
    bd0 (alg (u 0) v_value_49) <|
    bd0 (alg (u 0) v_value_49) <|
    if (u (210 + v_value_49.toNatClampNeg)) = (u (1 + v_value_49.toNatClampNeg)) then
      bd2 (FX9_wrong v_begin_47 v_token_48 v_fault_53 v_place_54 3) fun v_fault_63 v_place_64 =>
      FX9_stone_j120 u size tape x_26 x_39 v_at_46 v_begin_47 v_token_48 v_value_49 v_fault_63 v_place_64
    else
      FX9_stone_j120 u size tape x_26 x_39 v_at_46 v_begin_47 v_token_48 v_value_49 v_fault_53 v_place_54

noncomputable def FX9_stone (size : Int32) (tape : Nat → Int32) (v_at : Int32) (v_begin : Int32) (v_token : Int32) (v_value : Int32) (v_fault : Int32) (v_place : Int32) (u : Nat → Int32) : Option (Int32 × Int32 × Int32 × Int32 × Int32 × Int32 × (Nat → Int32)) :=
  if (u 6) = 8 then
    FX9_stone_j21 v_at v_begin v_token v_value v_fault v_place u size tape 1
  else
    FX9_stone_j21 v_at v_begin v_token v_value v_fault v_place u size tape 0

noncomputable def FX9_wish_j152 (size : Int32) (tape : Nat → Int32) (x_34 : Int32) (x_89 : Int32) (v_at_90 : Int32) (v_begin_91 : Int32) (v_token_92 : Int32) (v_value_93 : Int32) (u_96 : Nat → Int32) (v_fault_103 : Int32) (v_place_104 : Int32) : Option ((Int32 × Int32 × Int32 × Int32 × Int32 × Int32 × Int32 × (Nat → Int32)) ⊕ ((Int32 × Int32 × Int32 × Int32 × Int32 × Int32 × (Nat → Int32)) ⊕ (Int32 × Int32 × Int32 × Int32 × Int32 × Int32 × Int32 × (Nat → Int32)))) :=
  bd7 (FX9_number size tape v_at_90 v_begin_91 v_token_92 v_value_93 v_fault_103 v_place_104 0 7) fun x_105 v_at_106 v_begin_107 v_token_108 v_value_109 v_fault_110 v_place_111 =>
  if v_fault_110 = 0 then
    bd0 (alg (u_96 0) x_34) <|
    bd0 (alg (u_96 0) x_34) <|
    bd1 (wrW u_96 x_34 x_89 x_105) fun u_115 =>
    some (.inl ((x_89 + 1), v_at_106, v_begin_107, v_token_108, v_value_109, v_fault_110, v_place_111, u_115))
  else
    some (.inr (.inl (v_at_106, v_begin_107, v_token_108, v_value_109, v_fault_110, v_place_111, u_96)))

noncomputable def FX9_wish_b123 (size : Int32) (tape : Nat → Int32) (x_34 : Int32) (x_89 : Int32) (v_at_90 : Int32) (v_begin_91 : Int32) (v_token_92 : Int32) (v_value_93 : Int32) (v_fault_94 : Int32) (v_place_95 : Int32) (u_96 : Nat → Int32) : Option ((Int32 × Int32 × Int32 × Int32 × Int32 × Int32 × Int32 × (Nat → Int32)) ⊕ ((Int32 × Int32 × Int32 × Int32 × Int32 × Int32 × (Nat → Int32)) ⊕ (Int32 × Int32 × Int32 × Int32 × Int32 × Int32 × Int32 × (Nat → Int32)))) :=
  if v_fault_94 = 0 then
    if v_token_92 = 2 then
      bd0 (alg (u_96 0) x_34) <|
      if x_89 = (u_96 (1 + x_34.toNatClampNeg)) then
        bd2 (FX9_wrong v_begin_91 v_token_92 v_fault_94 v_place_95 3) fun v_fault_101 v_place_102 =>
        FX9_wish_j152 size tape x_34 x_89 v_at_90 v_begin_91 v_token_92 v_value_93 u_96 v_fault_101 v_place_102
      else
        FX9_wish_j152 size tape x_34 x_89 v_at_90 v_begin_91 v_token_92 v_value_93 u_96 v_fault_94 v_place_95
    else
      some (.inr (.inr (x_89, v_at_90, v_begin_91, v_token_92, v_value_93, v_fault_94, v_place_95, u_96)))
  else
    some (.inr (.inr (x_89, v_at_90, v_begin_91, v_token_92, v_value_93, v_fault_94, v_place_95, u_96)))

noncomputable def FX9_wish_j90 (u : Nat → Int32) (size : Int32) (tape : Nat → Int32) (x_34 : Int32) (x_54 : Int32) (v_at_55 : Int32) (v_begin_56 : Int32) (v_token_57 : Int32) (v_value_58 : Int32) (v_fault_59 : Int32) (v_place_60 : Int32) : Option (Int32 × Int32 × Int32 × Int32 × Int32 × Int32 × (Nat → Int32)) :=
  bd6 (FX9_need size tape 3 kb_207 v_at_55 v_begin_56 v_token_57 v_value_58 v_fault_59 v_place_60) fun v_at_61 v_begin_62 v_token_63 v_value_64 v_fault_65 v_place_66 =>
  if v_fault_65 = 0 then
    bd0 (alg (u 0) x_34) <|
    bd0 (alg (u 0) x_34) <|
    bdS2 (loopC (fun s => FX9_wish_b123 size tape x_34 s.1 s.2.1 s.2.2.1 s.2.2.2.1 s.2.2.2.2.1 s.2.2.2.2.2.1 s.2.2.2.2.2.2.1 s.2.2.2.2.2.2.2) (0, v_at_61, v_begin_62, v_token_63, v_value_64, v_fault_65, v_place_66, u))
      (un7 fun v_at_116 v_begin_117 v_token_118 v_value_119 v_fault_120 v_place_121 u_122 =>
        some (v_at_116, v_begin_117, v_token_118, v_value_119, v_fault_120, v_place_121, u_122))
      (un8 fun x_123 v_at_124 v_begin_125 v_token_126 v_value_127 v_fault_128 v_place_129 u_130 =>
        bd0 (alg (u_130 0) x_34) <|
        bd0 (alg ((upd u_130 (31 + x_34.toNatClampNeg) x_123) 0) x_34) <|
        some (v_at_124, v_begin_125, v_token_126, v_value_127, v_fault_128, v_place_129, (upd (upd u_130 (31 + x_34.toNatClampNeg) x_123) (36 + x_34.toNatClampNeg) x_54)))
  else
    some (v_at_61, v_begin_62, v_token_63, v_value_64, v_fault_65, v_place_66, u)

noncomputable def FX9_wish_j53 (u : Nat → Int32) (size : Int32) (tape : Nat → Int32) (v_at_18 : Int32) (v_begin_19 : Int32) (v_token_20 : Int32) (v_value_21 : Int32) (v_fault_32 : Int32) (v_place_33 : Int32) : Option (Int32 × Int32 × Int32 × Int32 × Int32 × Int32 × (Nat → Int32)) :=
  bd7 (FX9_number size tape v_at_18 v_begin_19 v_token_20 v_value_21 v_fault_32 v_place_33 0 ((u 0) - 1)) fun x_34 v_at_35 v_begin_36 v_token_37 v_value_38 v_fault_39 v_place_40 =>
  bd5 (FX9_takes size tape 2 kb_205 v_at_35 v_begin_36 v_token_37 v_value_38 v_fault_39) fun b_41 v_at_42 v_begin_43 v_token_44 v_value_45 =>
  if (b2i b_41) = 0 then
    FX9_wish_j90 u size tape x_34 0 v_at_42 v_begin_43 v_token_44 v_value_45 v_fault_39 v_place_40
  else
    bd7 (FX9_number size tape v_at_42 v_begin_43 v_token_44 v_value_45 v_fault_39 v_place_40 0 1) fun x_47 v_at_48 v_begin_49 v_token_50 v_value_51 v_fault_52 v_place_53 =>
    FX9_wish_j90 u size tape x_34 x_47 v_at_48 v_begin_49 v_token_50 v_value_51 v_fault_52 v_place_53

noncomputable def FX9_wish (size : Int32) (tape : Nat → Int32) (v_at : Int32) (v_value : Int32) (v_fault : Int32) (v_place : Int32) (u : Nat → Int32) : Option (Int32 × Int32 × Int32 × Int32 × Int32 × Int32 × (Nat → Int32)) :=
  bd4 (FX9_next size tape v_at v_value) fun v_at_18 v_begin_19 v_token_20 v_value_21 =>
  bd3 (FX9_seen v_begin_19 v_token_20 v_value_21 v_fault v_place 0 ((u 0) - 1)) fun b_22 v_fault_23 v_place_24 =>
  if (b2i b_22) = 0 then
    FX9_wish_j53 u size tape v_at_18 v_begin_19 v_token_20 v_value_21 v_fault_23 v_place_24
  else
    bd0 (alg (u 0) v_value_21) <|
    bd0 (alg (u 0) v_value_21) <|
    bd0 (alg (u 0) v_value_21) <|
    if (u (31 + v_value_21.toNatClampNeg)) = (-1) then
      FX9_wish_j53 u size tape v_at_18 v_begin_19 v_token_20 v_value_21 v_fault_23 v_place_24
    else
      bd2 (FX9_wrong v_begin_19 v_token_20 v_fault_23 v_place_24 3) fun v_fault_30 v_place_31 =>
      FX9_wish_j53 u size tape v_at_18 v_begin_19 v_token_20 v_value_21 v_fault_30 v_place_31

noncomputable def FX9_must_j28 (v_at : Int32) (v_begin : Int32) (v_token : Int32) (v_value : Int32) (v_fault : Int32) (v_place : Int32) (u : Nat → Int32) (size : Int32) (tape : Nat → Int32) (b_18 : Bool) (x_20 : Int32) : Option (Int32 × Int32 × Int32 × Int32 × Int32 × Int32 × (Nat → Int32)) :=
  bd6 (FX9_space size tape v_at v_begin v_token v_value v_fault v_place x_20) fun v_at_21 v_begin_22 v_token_23 v_value_24 v_fault_25 v_place_26 =>
  bd7 (FX9_number size tape v_at_21 v_begin_22 v_token_23 v_value_24 v_fault_25 v_place_26 0 ((u 0) - 1)) fun x_27 v_at_28 v_begin_29 v_token_30 v_value_31 v_fault_32 v_place_33 =>
  bd7 (FX9_number size tape v_at_28 v_begin_29 v_token_30 v_value_31 v_fault_32 v_place_33 0 3) fun x_34 v_at_35 v_begin_36 v_token_37 v_value_38 v_fault_39 v_place_40 =>
  if v_fault_39 = 0 then
    bd0 (upto 5 (u 56)) <|
    some (v_at_35, v_begin_36, v_token_37, v_value_38, v_fault_39, v_place_40, (addMust u (if (b2i b_18) = 0 then 1 else 0) x_27 x_34))
  else
    some (v_at_35, v_begin_36, v_token_37, v_value_38, v_fault_39, v_place_40, u)

noncomputable def FX9_must (size : Int32) (tape : Nat → Int32) (v_at : Int32) (v_begin : Int32) (v_token : Int32) (v_value : Int32) (v_fault : Int32) (v_place : Int32) (u : Nat → Int32) : Option (Int32 × Int32 × Int32 × Int32 × Int32 × Int32 × (Nat → Int32)) :=
  bd1 (FX9_is size tape 4 kb_128 v_at v_begin v_token v_fault) fun b_18 =>
  if (u 56) = 6 then
    FX9_must_j28 v_at v_begin v_token v_value v_fault v_place u size tape b_18 1
  else
    FX9_must_j28 v_at v_begin v_token v_value v_fault v_place u size tape b_18 0

noncomputable def FX9_line_j66 (v_at : Int32) (v_begin : Int32) (v_token : Int32) (v_value : Int32) (v_fault : Int32) (v_place : Int32) (u : Nat → Int32) (size : Int32) (tape : Nat → Int32) : Option (Int32 × Int32 × Int32 × Int32 × Int32 × Int32 × (Nat → Int32)) :=
  bd7 (FX9_must size tape v_at v_begin v_token v_value v_fault v_place u) fun v_at_58 v_begin_59 v_token_60 v_value_61 v_fault_62 v_place_63 u_64 =>
  some (v_at_58, v_begin_59, v_token_60, v_value_61, v_fault_62, v_place_63, u_64)

noncomputable def FX9_line (size : Int32) (tape : Nat → Int32) (v_at : Int32) (v_begin : Int32) (v_token : Int32) (v_value : Int32) (v_fault : Int32) (v_place : Int32) (u : Nat → Int32) : Option (Int32 × Int32 × Int32 × Int32 × Int32 × Int32 × (Nat → Int32)) :=
  bd1 (FX9_is size tape 3 kb_116 v_at v_begin v_token v_fault) fun b_18 =>
  if (b2i b_18) = 0 then
    bd1 (FX9_is size tape 5 kb_120 v_at v_begin v_token v_fault) fun b_28 =>
    if (b2i b_28) = 0 then
      bd1 (FX9_is size tape 4 kb_124 v_at v_begin v_token v_fault) fun b_38 =>
      if (b2i b_38) = 0 then
        bd1 (FX9_is size tape 4 kb_128 v_at v_begin v_token v_fault) fun b_47 =>
        if (b2i b_47) = 0 then
          bd1 (FX9_is size tape 4 kb_130 v_at v_begin v_token v_fault) fun b_49 =>
          if (b2i b_49) = 0 then
            bd7 (FX9_more size tape v_at v_begin v_token v_value v_fault v_place u) fun v_at_51 v_begin_52 v_token_53 v_value_54 v_fault_55 v_place_56 u_57 =>
            some (v_at_51, v_begin_52, v_token_53, v_value_54, v_fault_55, v_place_56, u_57)
          else
            FX9_line_j66 v_at v_begin v_token v_value v_fault v_place u size tape
        else
          FX9_line_j66 v_at v_begin v_token v_value v_fault v_place u size tape
      else
        bd7 (FX9_wish size tape v_at v_value v_fault v_place u) fun v_at_40 v_begin_41 v_token_42 v_value_43 v_fault_44 v_place_45 u_46 =>
        some (v_at_40, v_begin_41, v_token_42, v_value_43, v_fault_44, v_place_45, u_46)
    else
      bd7 (FX9_stone size tape v_at v_begin v_token v_value v_fault v_place u) fun v_at_30 v_begin_31 v_token_32 v_value_33 v_fault_34 v_place_35 u_36 =>
      some (v_at_30, v_begin_31, v_token_32, v_value_33, v_fault_34, v_place_35, u_36)
  else
    bd7 (FX9_row size tape v_at v_begin v_token v_value v_fault v_place u) fun v_at_20 v_begin_21 v_token_22 v_value_23 v_fault_24 v_place_25 u_26 =>
    some (v_at_20, v_begin_21, v_token_22, v_value_23, v_fault_24, v_place_25, u_26)

abbrev FaR : Type := FcT × Int32 × Int32 × Int32 × Int32 × Int32 × Int32 × Int32 × Nat
abbrev FaF : Type := Int32 → Int32 → Int32 → Int32 → Int32 → Int32 → Int32 → Option FaR
/-- a chain of facts: all (and), some (or); the last number: how many objects were made -/
noncomputable def FX9_ch_b (size : Int32) (tape : Nat → Int32) (n : Nat) (bs : Nat → Int32) (i : Int32) (rf : FaF) (o : FcT) (v_at v_begin v_token v_value v_open v_fault v_place : Int32) (k : Nat) : Option (FaR ⊕ FaR) :=
  bd5 (FX9_takes size tape n bs v_at v_begin v_token v_value v_fault) fun b x_at x_begin x_token x_value =>
  if b2i b = 0 then some (.inr (o, x_at, x_begin, x_token, x_value, v_open, v_fault, v_place, k))
  else bd9 (rf x_at x_begin x_token x_value v_open v_fault v_place) fun q y_at y_begin y_token y_value y_open y_fault y_place k2 =>
    some (.inl (bothO i o q, y_at, y_begin, y_token, y_value, y_open, y_fault, y_place, k + 1 + k2))
noncomputable def FX9_ch (size : Int32) (tape : Nat → Int32) (n : Nat) (bs : Nat → Int32) (i : Int32) (rf : FaF) (v_at v_begin v_token v_value v_open v_fault v_place : Int32) : Option FaR :=
  bd9 (rf v_at v_begin v_token v_value v_open v_fault v_place) fun o x_at x_begin x_token x_value x_open x_fault x_place k => loopC (fun (s : FaR) => FX9_ch_b size tape n bs i rf s.1 s.2.1 s.2.2.1 s.2.2.2.1 s.2.2.2.2.1 s.2.2.2.2.2.1 s.2.2.2.2.2.2.1 s.2.2.2.2.2.2.2.1 s.2.2.2.2.2.2.2.2) (o, x_at, x_begin, x_token, x_value, x_open, x_fault, x_place, k)
noncomputable def FX9_all (size : Int32) (tape : Nat → Int32) (rf : FaF) : FaF := fun v_at v_begin v_token v_value v_open v_fault v_place => FX9_ch size tape 3 kb_247 1 rf v_at v_begin v_token v_value v_open v_fault v_place
noncomputable def FX9_some (size : Int32) (tape : Nat → Int32) (rf : FaF) : FaF := fun v_at v_begin v_token v_value v_open v_fault v_place => FX9_ch size tape 2 kb_237 0 (FX9_all size tape rf) v_at v_begin v_token v_value v_open v_fault v_place
noncomputable def FX9_fact_q (size : Int32) (tape : Nat → Int32) (o : FcT) (v_at v_begin v_token v_value v_open v_fault v_place : Int32) (k : Nat) : Option FaR :=
  if v_fault = 0 then bd4 (FX9_next size tape v_at v_value) fun x_at x_begin x_token x_value => some (o, x_at, x_begin, x_token, x_value, v_open - 1, v_fault, v_place, k)
  else some (o, v_at, v_begin, v_token, v_value, v_open - 1, v_fault, v_place, k)
noncomputable def FX9_fact_p (size : Int32) (tape : Nat → Int32) (o : FcT) (v_at v_begin v_token v_value v_open v_fault v_place : Int32) (k : Nat) : Option FaR :=
  if v_fault = 0 then
    if v_token = 41 then FX9_fact_q size tape o v_at v_begin v_token v_value v_open v_fault v_place k
    else bd2 (FX9_wrong v_begin v_token v_fault v_place 2) fun x_fault x_place => FX9_fact_q size tape o v_at v_begin v_token v_value v_open x_fault x_place k
  else FX9_fact_q size tape o v_at v_begin v_token v_value v_open v_fault v_place k
noncomputable def FX9_fact_n (size : Int32) (tape : Nat → Int32) (w lo hi : Int32) (v_at v_begin v_token v_value v_open v_fault v_place : Int32) : Option FaR :=
  bd7 (FX9_number size tape v_at v_begin v_token v_value v_fault v_place lo hi) fun x x_at x_begin x_token x_value x_fault x_place => some (some (1, askB w x), x_at, x_begin, x_token, x_value, v_open, x_fault, x_place, 1)
noncomputable def FX9_fact_h (size : Int32) (tape : Nat → Int32) (w lo : Int32) (v_at v_begin v_token v_value v_open v_fault v_place : Int32) : Option FaR :=
  if w = 0 then FX9_fact_n size tape w lo 7 v_at v_begin v_token v_value v_open v_fault v_place else if w = 1 then FX9_fact_n size tape w lo 9 v_at v_begin v_token v_value v_open v_fault v_place else if 4 ≤ w then (if w = 4 then FX9_fact_n size tape w lo 2 v_at v_begin v_token v_value v_open v_fault v_place else FX9_fact_n size tape w lo 3 v_at v_begin v_token v_value v_open v_fault v_place) else FX9_fact_n size tape w lo 4 v_at v_begin v_token v_value v_open v_fault v_place
noncomputable def FX9_fact_a (size : Int32) (tape : Nat → Int32) (w : Int32) (v_at v_begin v_token v_value v_open v_fault v_place : Int32) : Option FaR :=
  if w = 1 then FX9_fact_h size tape w 1 v_at v_begin v_token v_value v_open v_fault v_place else FX9_fact_h size tape w 0 v_at v_begin v_token v_value v_open v_fault v_place
noncomputable def FX9_fact_w (size : Int32) (tape : Nat → Int32) (w : Int32) (v_at v_begin v_token v_value v_open v_fault v_place : Int32) : Option FaR :=
  if w = (-1) then bd2 (FX9_wrong v_begin v_token v_fault v_place 2) fun x_fault x_place => FX9_fact_a size tape w v_at v_begin v_token v_value v_open x_fault x_place
  else FX9_fact_a size tape w v_at v_begin v_token v_value v_open v_fault v_place
noncomputable def FX9_fact_t5 (size : Int32) (tape : Nat → Int32) (v_at v_begin v_token v_value v_open v_fault v_place : Int32) : Option FaR :=
  bd5 (FX9_takes size tape 4 kb_269 v_at v_begin v_token v_value v_fault) fun b x_at x_begin x_token x_value =>
  if b2i b = 0 then FX9_fact_w size tape (-1) x_at x_begin x_token x_value v_open v_fault v_place
  else FX9_fact_w size tape 5 x_at x_begin x_token x_value v_open v_fault v_place
noncomputable def FX9_fact_t4 (size : Int32) (tape : Nat → Int32) (v_at v_begin v_token v_value v_open v_fault v_place : Int32) : Option FaR :=
  bd5 (FX9_takes size tape 4 kb_268 v_at v_begin v_token v_value v_fault) fun b x_at x_begin x_token x_value =>
  if b2i b = 0 then FX9_fact_t5 size tape x_at x_begin x_token x_value v_open v_fault v_place
  else FX9_fact_w size tape 4 x_at x_begin x_token x_value v_open v_fault v_place
noncomputable def FX9_fact_t3 (size : Int32) (tape : Nat → Int32) (v_at v_begin v_token v_value v_open v_fault v_place : Int32) : Option FaR :=
  bd5 (FX9_takes size tape 2 kb_266 v_at v_begin v_token v_value v_fault) fun b x_at x_begin x_token x_value =>
  if b2i b = 0 then FX9_fact_t4 size tape x_at x_begin x_token x_value v_open v_fault v_place
  else FX9_fact_w size tape 3 x_at x_begin x_token x_value v_open v_fault v_place
noncomputable def FX9_fact_t2 (size : Int32) (tape : Nat → Int32) (v_at v_begin v_token v_value v_open v_fault v_place : Int32) : Option FaR :=
  bd5 (FX9_takes size tape 4 kb_264 v_at v_begin v_token v_value v_fault) fun b x_at x_begin x_token x_value =>
  if b2i b = 0 then FX9_fact_t3 size tape x_at x_begin x_token x_value v_open v_fault v_place
  else FX9_fact_w size tape 2 x_at x_begin x_token x_value v_open v_fault v_place
noncomputable def FX9_fact_t1 (size : Int32) (tape : Nat → Int32) (v_at v_begin v_token v_value v_open v_fault v_place : Int32) : Option FaR :=
  bd5 (FX9_takes size tape 4 kb_179 v_at v_begin v_token v_value v_fault) fun b x_at x_begin x_token x_value =>
  if b2i b = 0 then FX9_fact_t2 size tape x_at x_begin x_token x_value v_open v_fault v_place
  else FX9_fact_w size tape 1 x_at x_begin x_token x_value v_open v_fault v_place
noncomputable def FX9_fact_t0 (size : Int32) (tape : Nat → Int32) (v_at v_begin v_token v_value v_open v_fault v_place : Int32) : Option FaR :=
  bd5 (FX9_takes size tape 4 kb_262 v_at v_begin v_token v_value v_fault) fun b x_at x_begin x_token x_value =>
  if b2i b = 0 then FX9_fact_t1 size tape x_at x_begin x_token x_value v_open v_fault v_place
  else FX9_fact_w size tape 0 x_at x_begin x_token x_value v_open v_fault v_place
noncomputable def FX9_fact_b (size : Int32) (tape : Nat → Int32) (rf : FaF) : FaF := fun v_at v_begin v_token v_value v_open v_fault v_place =>
  bd1 (FX9_is size tape 3 kb_252 v_at v_begin v_token v_fault) fun b =>
  if b2i b = 0 then
    if v_fault = 0 then
      if v_token = 40 then
        bd7 (FX9_opens size tape v_at v_begin v_token v_value v_open v_fault v_place) fun x_at x_begin x_token x_value x_open x_fault x_place =>
        if x_fault = 0 then bd9 (FX9_some size tape rf x_at x_begin x_token x_value x_open x_fault x_place) fun o y_at y_begin y_token y_value y_open y_fault y_place k => FX9_fact_p size tape o y_at y_begin y_token y_value y_open y_fault y_place k
        else FX9_fact_p size tape none x_at x_begin x_token x_value x_open x_fault x_place 0
      else FX9_fact_t0 size tape v_at v_begin v_token v_value v_open v_fault v_place
    else FX9_fact_t0 size tape v_at v_begin v_token v_value v_open v_fault v_place
  else
    bd7 (FX9_opens size tape v_at v_begin v_token v_value v_open v_fault v_place) fun x_at x_begin x_token x_value x_open x_fault x_place =>
    if x_fault = 0 then bd9 (rf x_at x_begin x_token x_value x_open x_fault x_place) fun o y_at y_begin y_token y_value y_open y_fault y_place k => some (notO o, y_at, y_begin, y_token, y_value, y_open - 1, y_fault, y_place, 1 + k)
    else some (none, x_at, x_begin, x_token, x_value, x_open - 1, x_fault, x_place, 0)
noncomputable def FX9_fact (size : Int32) (tape : Nat → Int32) : Nat → FaF
  | 0 => fun _ _ _ _ _ _ _ => none
  | d + 1 => FX9_fact_b size tape (FX9_fact size tape d)
/-- the bars, the lines; the last number: how many of them -/
noncomputable def FX9_bars_c (size : Int32) (tape : Nat → Int32) (d : Nat) (v_at v_begin v_token v_value v_open v_fault v_place nb : Int32) (bo : Nat → FcT) (k : Nat) : Option ((Int32 × Int32 × Int32 × Int32 × Int32 × Int32 × Int32 × Int32 × (Nat → FcT) × Nat) ⊕ (Int32 × Int32 × Int32 × Int32 × Int32 × Int32 × Int32 × Int32 × (Nat → FcT) × Nat)) :=
  bd6 (FX9_need size tape 2 kb_228 v_at v_begin v_token v_value v_fault v_place) fun a_at a_begin a_token a_value a_fault a_place =>
  bd9 (FX9_some size tape (FX9_fact size tape d) a_at a_begin a_token a_value v_open a_fault a_place) fun o x_at x_begin x_token x_value x_open x_fault x_place k2 =>
  bd6 (FX9_over size tape x_at x_begin x_token x_value x_fault x_place) fun y_at y_begin y_token y_value y_fault y_place =>
  bd0 (upto 8 nb) <|
  some (.inl (y_at, y_begin, y_token, y_value, x_open, y_fault, y_place, nb + 1, addBar bo nb o, k + 1 + k2))
noncomputable def FX9_bars_s (size : Int32) (tape : Nat → Int32) (d : Nat) (v_at v_begin v_token v_value v_open v_fault v_place nb : Int32) (bo : Nat → FcT) (k : Nat) : Option ((Int32 × Int32 × Int32 × Int32 × Int32 × Int32 × Int32 × Int32 × (Nat → FcT) × Nat) ⊕ (Int32 × Int32 × Int32 × Int32 × Int32 × Int32 × Int32 × Int32 × (Nat → FcT) × Nat)) :=
  if v_fault = 0 then
    if nb = 8 then bd6 (FX9_space size tape v_at v_begin v_token v_value v_fault v_place 1) fun x_at x_begin x_token x_value x_fault x_place => FX9_bars_c size tape d x_at x_begin x_token x_value v_open x_fault x_place nb bo k
    else bd6 (FX9_space size tape v_at v_begin v_token v_value v_fault v_place 0) fun x_at x_begin x_token x_value x_fault x_place => FX9_bars_c size tape d x_at x_begin x_token x_value v_open x_fault x_place nb bo k
  else FX9_bars_c size tape d v_at v_begin v_token v_value v_open v_fault v_place nb bo k
noncomputable def FX9_bars_b (size : Int32) (tape : Nat → Int32) (d : Nat) (v_at v_begin v_token v_value v_open v_fault v_place nb : Int32) (bo : Nat → FcT) (k : Nat) : Option ((Int32 × Int32 × Int32 × Int32 × Int32 × Int32 × Int32 × Int32 × (Nat → FcT) × Nat) ⊕ (Int32 × Int32 × Int32 × Int32 × Int32 × Int32 × Int32 × Int32 × (Nat → FcT) × Nat)) :=
  if v_fault = 0 then
    if v_token = 0 then some (.inr (v_at, v_begin, v_token, v_value, v_open, v_fault, v_place, nb, bo, k))
    else bd1 (FX9_is size tape 3 kb_226 v_at v_begin v_token v_fault) fun b =>
      if b2i b = 0 then bd2 (FX9_wrong v_begin v_token v_fault v_place 2) fun x_fault x_place => FX9_bars_s size tape d v_at v_begin v_token v_value v_open x_fault x_place nb bo k
      else FX9_bars_s size tape d v_at v_begin v_token v_value v_open v_fault v_place nb bo k
  else some (.inr (v_at, v_begin, v_token, v_value, v_open, v_fault, v_place, nb, bo, k))
noncomputable def FX9_bars (size : Int32) (tape : Nat → Int32) (d : Nat) (v_at v_begin v_token v_value v_open v_fault v_place nb : Int32) (bo : Nat → FcT) : Option (Int32 × Int32 × Int32 × Int32 × Int32 × Int32 × Int32 × Int32 × (Nat → FcT) × Nat) :=
  bd4 (FX9_next size tape v_at v_value) fun x_at x_begin x_token x_value =>
  loopC (fun (s : Int32 × Int32 × Int32 × Int32 × Int32 × Int32 × Int32 × Int32 × (Nat → FcT) × Nat) => FX9_bars_b size tape d s.1 s.2.1 s.2.2.1 s.2.2.2.1 s.2.2.2.2.1 s.2.2.2.2.2.1 s.2.2.2.2.2.2.1 s.2.2.2.2.2.2.2.1 s.2.2.2.2.2.2.2.2.1 s.2.2.2.2.2.2.2.2.2) (x_at, x_begin, x_token, x_value, v_open, v_fault, v_place, nb, bo, 0)
noncomputable def FX9_town_b (size : Int32) (tape : Nat → Int32) (v_at v_begin v_token v_value v_fault v_place : Int32) (u : Nat → Int32) (k : Nat) : Option ((Int32 × Int32 × Int32 × Int32 × Int32 × Int32 × (Nat → Int32) × Nat) ⊕ (Int32 × Int32 × Int32 × Int32 × Int32 × Int32 × (Nat → Int32) × Nat)) :=
  if v_fault = 0 then
    if v_token = 0 then some (.inr (v_at, v_begin, v_token, v_value, v_fault, v_place, u, k))
    else bd7 (FX9_line size tape v_at v_begin v_token v_value v_fault v_place u) fun x_at x_begin x_token x_value x_fault x_place u1 =>
      bd6 (FX9_over size tape x_at x_begin x_token x_value x_fault x_place) fun y_at y_begin y_token y_value y_fault y_place =>
      some (.inl (y_at, y_begin, y_token, y_value, y_fault, y_place, upd u1 379 (u1 379 + 1), k + 1))
  else some (.inr (v_at, v_begin, v_token, v_value, v_fault, v_place, u, k))
noncomputable def FX9_town (size : Int32) (tape : Nat → Int32) (v_at v_value v_fault v_place : Int32) (u : Nat → Int32) : Option (Int32 × Int32 × Int32 × Int32 × Int32 × Int32 × (Nat → Int32) × Nat) :=
  bd4 (FX9_next size tape v_at v_value) fun x_at x_begin x_token x_value =>
  loopC (fun (s : Int32 × Int32 × Int32 × Int32 × Int32 × Int32 × (Nat → Int32) × Nat) => FX9_town_b size tape s.1 s.2.1 s.2.2.1 s.2.2.2.1 s.2.2.2.2.1 s.2.2.2.2.2.1 s.2.2.2.2.2.2.1 s.2.2.2.2.2.2.2) (x_at, x_begin, x_token, x_value, v_fault, v_place, u, 0)