set_option maxRecDepth 100000
noncomputable def FX0_bytes_b3 (p1 : Int32) (x_57 : Int32) (a_tape_58 : Nat → Int32) (v_taped_59 : Int32) : Option ((Int32 × (Nat → Int32) × Int32) ⊕ ((Nat → Int32) × Int32)) :=
  if x_57 < 0 then
    some (.inr (a_tape_58, v_taped_59))
  else
    bd1 (wrI 400 a_tape_58 v_taped_59 (vp_nar .byte (cvB (p1 >>> (x_57 &&& 31))))) fun a_tape_61 =>
    some (.inl ((x_57 + (-8)), a_tape_61, (v_taped_59 + 1)))

noncomputable def FX0_bytes (a_tape : Nat → Int32) (v_taped : Int32) (p1 : Int32) : Option ((Nat → Int32) × Int32) :=
  bd2 (loopC (fun s => FX0_bytes_b3 p1 s.1 s.2.1 s.2.2) (24, a_tape, v_taped)) fun a_tape_62 v_taped_63 =>
    some (a_tape_62, v_taped_63)

noncomputable def FX0_feed (a_tape : Nat → Int32) (v_taped : Int32) (p1 : Int32) (p2 : Int32) (p3 : Int32) (p4 : Int32) (p5 : Int32) : Option (Int32 × (Nat → Int32) × Int32) :=
  if (v_taped + 20) ≤ 400 then
    bd2 (FX0_bytes a_tape v_taped p1) fun a_tape_60 v_taped_61 =>
    bd2 (FX0_bytes a_tape_60 v_taped_61 p2) fun a_tape_62 v_taped_63 =>
    bd2 (FX0_bytes a_tape_62 v_taped_63 p3) fun a_tape_64 v_taped_65 =>
    bd2 (FX0_bytes a_tape_64 v_taped_65 p4) fun a_tape_66 v_taped_67 =>
    bd2 (FX0_bytes a_tape_66 v_taped_67 p5) fun a_tape_68 v_taped_69 =>
    some (v_taped_69, a_tape_68, v_taped_69)
  else
    some ((-5), a_tape, v_taped)

noncomputable def FX0_in (p0 : Int64) (p2 : Int64) (p4 : Int64) : Option Bool :=
  if (lg_cmp p0 p2) < 0 then
    some false
  else
    if 0 < (lg_cmp p0 p4) then
      some false
    else
      some true

noncomputable def FX0_fault (v_faultKind : Int32) (v_faultPlace : Int32) (p1 : Int32) : Option Int32 :=
  if p1 = 0 then
    some v_faultKind
  else
    if p1 = 1 then
      some v_faultPlace
    else
      some (-1)

noncomputable def FX0_isStone (t : Nat → Int32) (p1 : Int32) : Option Bool :=
  bd1 (FX0_in (Int32.toInt64 p1) 0 (Int32.toInt64 ((t 6) - 1))) fun b_55 =>
  some b_55

noncomputable def FX0_placeIn (p0 : Int64) (p2 : Int32) : Option Int32 :=
  some (Int64.toInt32 ((shrL p0 (4 * p2)) &&& 15))

noncomputable def FX0_isThere (y_lies : Int64) (t : Nat → Int32) (p1 : Int32) : Option Bool :=
  bd1 (FX0_isStone t p1) fun b_55 =>
  if (b2i b_55) = 0 then
    some false
  else
    bd1 (FX0_placeIn y_lies p1) fun x_57 =>
    if x_57 = 15 then
      some false
    else
      some true

noncomputable def FX0_stone (a_carried : Nat → Int32) (a_latest : Nat → Int32) (y_lies : Int64) (t : Nat → Int32) (p1 : Int32) (p2 : Int32) : Option Int32 :=
  bd1 (FX0_isStone t p1) fun b_56 =>
  if (b2i b_56) = 0 then
    some (-2)
  else
    bd1 (FX0_in (Int32.toInt64 p2) 0 6) fun b_58 =>
    if (b2i b_58) = 0 then
      some (-2)
    else
      bd0 (alg (t 6) p1) <|
      if p2 = 0 then
        some (t (7 + p1.toNatClampNeg))
      else
      if p2 = 1 then
        some (t (15 + p1.toNatClampNeg))
      else
      if p2 = 2 then
        some (t (23 + p1.toNatClampNeg))
      else
      if p2 = 3 then
        bd1 (FX0_isThere y_lies t p1) fun b_64 =>
        if (b2i b_64) = 0 then
          some (-1)
        else
          bd1 (FX0_placeIn y_lies p1) fun x_66 =>
          some x_66
      else
      if p2 = 4 then
        some (Int64.toInt32 ((shrL y_lies (32 + p1)) &&& 1))
      else
      if p2 = 5 then
        bd1 (rd 8 a_carried p1) fun x_63 =>
        some x_63
      else
        bd1 (rd 8 a_latest p1) fun x_62 =>
        some x_62

noncomputable def FX4_lays_b17 (x_58 : Int32) (a_hMany_59 : Nat → Int32) : Option ((Int32 × (Nat → Int32)) ⊕ (Nat → Int32)) :=
  if 5 ≤ x_58 then
    some (.inr a_hMany_59)
  else
    bd1 (wrI 5 a_hMany_59 x_58 0) fun a_hMany_61 =>
    some (.inl ((x_58 + 1), a_hMany_61))

noncomputable def FX4_lays_b40 (x_65 : Int32) (a_hAt_66 : Nat → Int32) : Option ((Int32 × (Nat → Int32)) ⊕ (Nat → Int32)) :=
  if 15 ≤ x_65 then
    some (.inr a_hAt_66)
  else
    bd1 (wrI 15 a_hAt_66 x_65 (-1)) fun a_hAt_68 =>
    some (.inl ((x_65 + 1), a_hAt_68))

noncomputable def FX4_lays_j116 (x_78 : Int32) (a_hAt_87 : Nat → Int32) (a_hMany_88 : Nat → Int32) : Option ((Int32 × (Nat → Int32) × (Nat → Int32)) ⊕ ((Nat → Int32) × (Nat → Int32))) :=
  some (.inl ((x_78 + 1), a_hAt_87, a_hMany_88))

noncomputable def FX4_lays_b64 (u : Nat → Int32) (p2 : Int64) (x_78 : Int32) (a_hAt_79 : Nat → Int32) (a_hMany_80 : Nat → Int32) : Option ((Int32 × (Nat → Int32) × (Nat → Int32)) ⊕ ((Nat → Int32) × (Nat → Int32))) :=
  if (u 6) ≤ x_78 then
    some (.inr (a_hAt_79, a_hMany_80))
  else
    bd1 (FX0_placeIn p2 x_78) fun x_82 =>
    if x_82 = 15 then
      FX4_lays_j116 x_78 a_hAt_79 a_hMany_80
    else
      bd1 (wrI 15 a_hAt_79 x_82 x_78) fun a_hAt_84 =>
      bd1 (rd 5 a_hMany_80 (x_82 / 3)) fun x_85 =>
      bd1 (wrI 5 a_hMany_80 (x_82 / 3) (x_85 + 1)) fun a_hMany_86 =>
      FX4_lays_j116 x_78 a_hAt_84 a_hMany_86

noncomputable def FX4_lays (u : Nat → Int32) (a_hAt : Nat → Int32) (a_hMany : Nat → Int32) (p2 : Int64) : Option ((Nat → Int32) × (Nat → Int32) × Int32) :=
  bd1 (loopC (fun s => FX4_lays_b17 s.1 s.2) (0, a_hMany)) fun a_hMany_62 =>
    bd1 (loopC (fun s => FX4_lays_b40 s.1 s.2) (0, a_hAt)) fun a_hAt_69 =>
      bd2 (loopC (fun s => FX4_lays_b64 u p2 s.1 s.2.1 s.2.2) (0, a_hAt_69, a_hMany_62)) fun a_hAt_89 a_hMany_90 =>
        some (a_hAt_89, a_hMany_90, (Int64.toInt32 (shrL p2 32)))

noncomputable def FX0_here (a_hAt : Nat → Int32) (a_hMany : Nat → Int32) (y_lies : Int64) (t : Nat → Int32) : Option ((Nat → Int32) × (Nat → Int32) × Int32) :=
  bd3 (FX4_lays t a_hAt a_hMany y_lies) fun a_hAt_54 a_hMany_55 v_hMoved_56 =>
  some (a_hAt_54, a_hMany_55, v_hMoved_56)

noncomputable def FX0_lies (a_hAt : Nat → Int32) (a_hMany : Nat → Int32) (v_hMoved : Int32) (y_lies : Int64) (t : Nat → Int32) (p1 : Int32) : Option (Int32 × (Nat → Int32) × (Nat → Int32) × Int32) :=
  bd1 (FX0_in (Int32.toInt64 p1) 0 14) fun b_55 =>
  if (b2i b_55) = 0 then
    some ((-3), a_hAt, a_hMany, v_hMoved)
  else
    bd3 (FX0_here a_hAt a_hMany y_lies t) fun a_hAt_57 a_hMany_58 v_hMoved_59 =>
    bd1 (rd 15 a_hAt_57 p1) fun x_60 =>
    some (x_60, a_hAt_57, a_hMany_58, v_hMoved_59)

noncomputable def FX0_row (a_hAt : Nat → Int32) (a_hMany : Nat → Int32) (v_hMoved : Int32) (y_lies : Int64) (t : Nat → Int32) (p1 : Int32) (p2 : Int32) : Option (Int32 × (Nat → Int32) × (Nat → Int32) × Int32) :=
  bd1 (FX0_in (Int32.toInt64 p1) 0 (Int32.toInt64 ((t 0) - 1))) fun b_56 =>
  if (b2i b_56) = 0 then
    some ((-2), a_hAt, a_hMany, v_hMoved)
  else
    bd1 (FX0_in (Int32.toInt64 p2) 0 6) fun b_58 =>
    if (b2i b_58) = 0 then
      some ((-2), a_hAt, a_hMany, v_hMoved)
    else
      bd0 (alg (t 0) p1) <|
      if p2 = 0 then
        some ((t (1 + p1.toNatClampNeg)), a_hAt, a_hMany, v_hMoved)
      else
        if p2 = 1 then
          bd3 (FX0_here a_hAt a_hMany y_lies t) fun a_hAt_63 a_hMany_64 v_hMoved_65 =>
          bd1 (rd 5 a_hMany_64 p1) fun x_66 =>
          some (x_66, a_hAt_63, a_hMany_64, v_hMoved_65)
        else
          if p2 = 2 then
            some ((t (31 + p1.toNatClampNeg)), a_hAt, a_hMany, v_hMoved)
          else
            if p2 = 3 then
              some ((t (36 + p1.toNatClampNeg)), a_hAt, a_hMany, v_hMoved)
            else
              bd1 (rd 3 (fun j => t (41 + 3 * p1.toNatClampNeg + j)) (p2 - 4)) fun x_69 =>
              some (x_69, a_hAt, a_hMany, v_hMoved)

noncomputable def FX0_tooMuch_j97 (t : Nat → Int32) (x_92 : Int32) (x_93 : Int32) (x_95 : Int32) (x_100 : Int32) : Option ((Int32 × Int32 × Int32) ⊕ Int32) :=
  bd0 (alg (t 6) x_95) <|
  some (.inl (x_100, (x_92 + (t (15 + x_95.toNatClampNeg))), (x_93 + (-1))))

noncomputable def FX0_tooMuch_j94 (t : Nat → Int32) (x_92 : Int32) (x_93 : Int32) (x_95 : Int32) : Option ((Int32 × Int32 × Int32) ⊕ Int32) :=
  FX0_tooMuch_j97 t x_92 x_93 x_95 x_95

noncomputable def FX0_tooMuch_b39 (t : Nat → Int32) (a_hAt_54 : Nat → Int32) (x_80 : Int32) (x_91 : Int32) (x_92 : Int32) (x_93 : Int32) : Option ((Int32 × Int32 × Int32) ⊕ Int32) :=
  if x_93 < 0 then
    some (.inr x_91)
  else
    bd1 (rd 15 a_hAt_54 ((3 * x_80) + x_93)) fun x_95 =>
    bd0 (alg (t 6) x_95) <|
    if x_92 ≤ (t (23 + x_95.toNatClampNeg)) then
      FX0_tooMuch_j97 t x_92 x_93 x_95 x_91
    else
      if x_91 = (-1) then
        FX0_tooMuch_j94 t x_92 x_93 x_95
      else
        if x_91 ≤ x_95 then
          FX0_tooMuch_j97 t x_92 x_93 x_95 x_91
        else
          FX0_tooMuch_j94 t x_92 x_93 x_95

noncomputable def FX0_tooMuch_b9 (t : Nat → Int32) (a_hAt_54 : Nat → Int32) (a_hMany_55 : Nat → Int32) (x_79 : Int32) (x_80 : Int32) : Option ((Int32 × Int32) ⊕ Int32) :=
  if (t 0) ≤ x_80 then
    some (.inr x_79)
  else
    bd1 (rd 5 a_hMany_55 x_80) fun x_82 =>
    bd1 (loopC (fun s => FX0_tooMuch_b39 t a_hAt_54 x_80 s.1 s.2.1 s.2.2) (x_79, 0, (x_82 - 1))) fun x_102 =>
      some (.inl (x_102, (x_80 + 1)))

noncomputable def FX0_tooMuch (a_hAt : Nat → Int32) (a_hMany : Nat → Int32) (y_lies : Int64) (t : Nat → Int32) : Option (Int32 × (Nat → Int32) × (Nat → Int32) × Int32) :=
  bd3 (FX0_here a_hAt a_hMany y_lies t) fun a_hAt_54 a_hMany_55 v_hMoved_56 =>
  bd1 (loopC (fun s => FX0_tooMuch_b9 t a_hAt_54 a_hMany_55 s.1 s.2) ((-1), 0)) fun x_103 =>
    some (x_103, a_hAt_54, a_hMany_55, v_hMoved_56)

noncomputable def FX4_broken_j90 (x_66 : Int32) : Option (Int32 ⊕ (Int32 ⊕ Unit)) :=
  some (.inl (x_66 + 1))

noncomputable def FX4_broken_j81 (u : Nat → Int32) (x_66 : Int32) (x_70 : Int32) (x_72 : Int32) (x_74 : Int32) : Option (Int32 ⊕ (Int32 ⊕ Unit)) :=
  if (b2i (kpI u x_66.toNatClampNeg ((x_70 + x_72) - x_74))) = 0 then
    some (.inr (.inl x_66))
  else
    FX4_broken_j90 x_66

noncomputable def FX4_broken_j66 (u : Nat → Int32) (p2 : Int32) (x_66 : Int32) (x_70 : Int32) (x_72 : Int32) : Option (Int32 ⊕ (Int32 ⊕ Unit)) :=
  if (u (63 + x_66.toNatClampNeg)) = p2 then
    FX4_broken_j81 u x_66 x_70 x_72 1
  else
    FX4_broken_j81 u x_66 x_70 x_72 0

noncomputable def FX4_broken_b2 (a_hMany : Nat → Int32) (v_hWithout : Int32) (u : Nat → Int32) (p1 : Int32) (p2 : Int32) (x_66 : Int32) : Option (Int32 ⊕ (Int32 ⊕ Unit)) :=
  if (u 56) ≤ x_66 then
    some (.inr (.inr ()))
  else
    bd0 (alg (u 56) x_66) <|
    if x_66 = v_hWithout then
      FX4_broken_j90 x_66
    else
      bd1 (rd 5 a_hMany (u (63 + x_66.toNatClampNeg))) fun x_70 =>
      if (u (63 + x_66.toNatClampNeg)) = p1 then
        FX4_broken_j66 u p2 x_66 x_70 1
      else
        FX4_broken_j66 u p2 x_66 x_70 0

noncomputable def FX4_broken (u : Nat → Int32) (a_hMany : Nat → Int32) (v_hWithout : Int32) (p1 : Int32) (p2 : Int32) : Option Int32 :=
  bdS2 (loopC (fun s => FX4_broken_b2 a_hMany v_hWithout u p1 p2 s) 0)
    (un1 fun x_76 =>
      some x_76)
    (un0 fun _ =>
      some (-1))

noncomputable def FX0_rests (a_hAt : Nat → Int32) (a_hMany : Nat → Int32) (v_hMoved : Int32) (v_hWithout : Int32) (y_lies : Int64) (t : Nat → Int32) (p1 : Int32) : Option (Int32 × (Nat → Int32) × (Nat → Int32) × Int32) :=
  bd1 (FX0_in (Int32.toInt64 p1) 0 1) fun b_55 =>
  if (b2i b_55) = 0 then
    some ((-2), a_hAt, a_hMany, v_hMoved)
  else
    if p1 = 0 then
      bd4 (FX0_tooMuch a_hAt a_hMany y_lies t) fun x_58 a_hAt_59 a_hMany_60 v_hMoved_61 =>
      some (x_58, a_hAt_59, a_hMany_60, v_hMoved_61)
    else
      bd3 (FX0_here a_hAt a_hMany y_lies t) fun a_hAt_62 a_hMany_63 v_hMoved_64 =>
      bd1 (FX4_broken t a_hMany_63 v_hWithout (-1) (-1)) fun x_65 =>
      some (x_65, a_hAt_62, a_hMany_63, v_hMoved_64)

noncomputable def FX0_has (p0 : Int32) (p1 : Int32) : Option Bool :=
  if ((p0 >>> (p1 &&& 31)) &&& 1) = 1 then
    some true
  else
    some false

noncomputable def FX4_size (u : Nat → Int32) (p1 : Int32) : Option Int32 :=
  bd0 (alg (u 6) p1) <|
  some (u (15 + p1.toNatClampNeg))

noncomputable def FX4_bears_b8 (a_hAt : Nat → Int32) (u : Nat → Int32) (p1 : Int32) (x_63 : Int32) (x_64 : Int32) : Option ((Int32 × Int32) ⊕ (Unit ⊕ Unit)) :=
  if x_64 < 0 then
    some (.inr (.inr ()))
  else
    bd1 (rd 15 a_hAt ((3 * p1) + x_64)) fun x_66 =>
    bd0 (alg (u 6) x_66) <|
    if x_63 ≤ (u (23 + x_66.toNatClampNeg)) then
      bd1 (FX4_size u x_66) fun x_69 =>
      some (.inl ((x_63 + x_69), (x_64 + (-1))))
    else
      some (.inr (.inl ()))

noncomputable def FX4_bears (u : Nat → Int32) (a_hAt : Nat → Int32) (p1 : Int32) (p2 : Int32) (p3 : Int32) : Option Bool :=
  bdS2 (loopC (fun s => FX4_bears_b8 a_hAt u p1 s.1 s.2) (p3, (p2 - 1)))
    (un0 fun _ =>
      some false)
    (un0 fun _ =>
      some true)

noncomputable def FX4_top (a_hAt : Nat → Int32) (a_hMany : Nat → Int32) (p1 : Int32) : Option Int32 :=
  bd1 (rd 5 a_hMany p1) fun x_56 =>
  bd1 (rd 15 a_hAt (((3 * p1) + x_56) - 1)) fun x_57 =>
  some x_57

noncomputable def FX4_isBarred_b104 (nb : Int32) (bv : Nat → Int32 → Int32 → Int32 → Int32 → Int32 → Int32 → Bool) (u : Nat → Int32) (p1 : Int32) (p2 : Int32) (p3 : Int32) (x_58 : Int32) (x_60 : Int32) (x_64 : Int32) : Option (Int32 ⊕ (Unit ⊕ Unit)) :=
  if nb ≤ x_64 then
    some (.inr (.inr ()))
  else
    bd0 (alg nb x_64) <|
    if (b2i (bv x_64.toNatClampNeg (u (7 + x_58.toNatClampNeg)) (u (15 + x_58.toNatClampNeg)) p1 p2 (x_60 - 1) p3)) = 0 then
      some (.inl (x_64 + 1))
    else
      some (.inr (.inl ()))

noncomputable def FX4_isBarred (u : Nat → Int32) (a_hAt : Nat → Int32) (a_hMany : Nat → Int32) (nb : Int32) (bv : Nat → Int32 → Int32 → Int32 → Int32 → Int32 → Int32 → Bool) (p1 : Int32) (p2 : Int32) (p3 : Int32) : Option Bool :=
  bd1 (FX4_top a_hAt a_hMany p1) fun x_58 =>
  bd0 (alg (u 6) x_58) <|
  bd1 (rd 5 a_hMany p1) fun x_60 =>
  bdS2 (loopC (fun s => FX4_isBarred_b104 nb bv u p1 p2 p3 x_58 x_60 s) 0)
    (un0 fun _ =>
      some true)
    (un0 fun _ =>
      some false)

noncomputable def FX4_isFree_b8 (a_hMany : Nat → Int32) (u : Nat → Int32) (p1 : Int32) (p2 : Int32) (x_60 : Int32) : Option (Int32 ⊕ (Unit ⊕ Unit)) :=
  if (mxI p1 p2) ≤ x_60 then
    some (.inr (.inr ()))
  else
    bd1 (rd 5 a_hMany x_60) fun x_62 =>
    if x_62 < (u 75) then
      some (.inl (x_60 + 1))
    else
      some (.inr (.inl ()))

noncomputable def FX4_isFree (u : Nat → Int32) (a_hMany : Nat → Int32) (p1 : Int32) (p2 : Int32) : Option Bool :=
  bdS2 (loopC (fun s => FX4_isFree_b8 a_hMany u p1 p2 s) ((mnI p1 p2) + 1))
    (un0 fun _ =>
      some false)
    (un0 fun _ =>
      some true)

noncomputable def FX4_isRow (u : Nat → Int32) (p1 : Int32) : Option Bool :=
  bd1 (FX0_in (Int32.toInt64 p1) 0 (Int32.toInt64 ((u 0) - 1))) fun b_56 =>
  some b_56

noncomputable def FX2_high (u : Nat → Int32) (p1 : Int32) : Option Int32 :=
  bd0 (alg (u 0) p1) <|
  some (u (1 + p1.toNatClampNeg))

noncomputable def FX4_may (u : Nat → Int32) (a_hAt : Nat → Int32) (a_hMany : Nat → Int32) (v_hMoved : Int32) (v_hWithout : Int32) (nb : Int32) (bv : Nat → Int32 → Int32 → Int32 → Int32 → Int32 → Int32 → Bool) (p1 : Int32) (p2 : Int32) : Option Int32 :=
  bd1 (FX4_isRow u p1) fun b_57 =>
  if (b2i b_57) = 0 then
    some 1
  else
    bd1 (FX4_isRow u p2) fun b_59 =>
    if (b2i b_59) = 0 then
      some 1
    else
      if p1 = p2 then
        some 1
      else
        bd1 (rd 5 a_hMany p1) fun x_62 =>
        if x_62 = 0 then
          some 2
        else
          bd1 (FX4_top a_hAt a_hMany p1) fun x_64 =>
          bd1 (FX0_has v_hMoved x_64) fun b_65 =>
          if (b2i b_65) = 0 then
            bd1 (rd 5 a_hMany p2) fun x_67 =>
            bd1 (FX2_high u p2) fun x_68 =>
            if x_67 = x_68 then
              some 4
            else
              bd1 (FX4_isFree u a_hMany p1 p2) fun b_70 =>
              if (b2i b_70) = 0 then
                some 5
              else
                bd1 (rd 5 a_hMany p2) fun x_72 =>
                bd1 (FX4_top a_hAt a_hMany p1) fun x_73 =>
                bd1 (FX4_size u x_73) fun x_74 =>
                bd1 (FX4_bears u a_hAt p2 x_72 x_74) fun b_75 =>
                if (b2i b_75) = 0 then
                  some 6
                else
                  bd1 (rd 5 a_hMany p2) fun x_77 =>
                  bd1 (FX4_isBarred u a_hAt a_hMany nb bv p1 p2 x_77) fun b_78 =>
                  if (b2i b_78) = 0 then
                    bd1 (FX4_broken u a_hMany v_hWithout p2 p1) fun x_83 =>
                    if x_83 = (-1) then
                      bd1 (FJ11_bitCount v_hMoved) fun x_85 =>
                      if x_85 < (u 76) then
                        some 0
                      else
                        some 9
                    else
                      some 8
                  else
                    some 7
          else
            some 3

noncomputable def FX0_may (a_hAt : Nat → Int32) (a_hMany : Nat → Int32) (v_hWithout : Int32) (y_lies : Int64) (t : Nat → Int32) (nb : Int32) (bv : Nat → Int32 → Int32 → Int32 → Int32 → Int32 → Int32 → Bool) (p1 : Int32) (p2 : Int32) : Option (Int32 × (Nat → Int32) × (Nat → Int32) × Int32) :=
  bd3 (FX0_here a_hAt a_hMany y_lies t) fun a_hAt_56 a_hMany_57 v_hMoved_58 =>
  bd1 (FX4_may t a_hAt_56 a_hMany_57 v_hMoved_58 v_hWithout nb bv p1 p2) fun x_59 =>
  some (x_59, a_hAt_56, a_hMany_57, v_hMoved_58)

noncomputable def FX4_mayExchange (u : Nat → Int32) (a_hAt : Nat → Int32) (a_hMany : Nat → Int32) (v_hMoved : Int32) (nb : Int32) (bv : Nat → Int32 → Int32 → Int32 → Int32 → Int32 → Int32 → Bool) (p1 : Int32) (p2 : Int32) : Option Int32 :=
  bd1 (FX4_isRow u p1) fun b_57 =>
  if (b2i b_57) = 0 then
    some 1
  else
    bd1 (FX4_isRow u p2) fun b_59 =>
    if (b2i b_59) = 0 then
      some 1
    else
      if p1 = p2 then
        some 1
      else
        if (u 77) = 0 then
          some 1
        else
          bd1 (rd 5 a_hMany p1) fun x_63 =>
          if x_63 = 0 then
            some 2
          else
            bd1 (rd 5 a_hMany p2) fun x_65 =>
            if x_65 = 0 then
              some 2
            else
              bd1 (FX4_top a_hAt a_hMany p1) fun x_67 =>
              bd1 (FX0_has v_hMoved x_67) fun b_68 =>
              if (b2i b_68) = 0 then
                bd1 (FX4_top a_hAt a_hMany p2) fun x_70 =>
                bd1 (FX0_has v_hMoved x_70) fun b_71 =>
                if (b2i b_71) = 0 then
                  bd1 (FX4_isFree u a_hMany p1 p2) fun b_73 =>
                  if (b2i b_73) = 0 then
                    some 5
                  else
                    bd1 (rd 5 a_hMany p1) fun x_75 =>
                    bd1 (FX4_top a_hAt a_hMany p2) fun x_76 =>
                    bd1 (FX4_size u x_76) fun x_77 =>
                    bd1 (FX4_bears u a_hAt p1 (x_75 - 1) x_77) fun b_78 =>
                    if (b2i b_78) = 0 then
                      some 6
                    else
                      bd1 (rd 5 a_hMany p2) fun x_80 =>
                      bd1 (FX4_top a_hAt a_hMany p1) fun x_81 =>
                      bd1 (FX4_size u x_81) fun x_82 =>
                      bd1 (FX4_bears u a_hAt p2 (x_80 - 1) x_82) fun b_83 =>
                      if (b2i b_83) = 0 then
                        some 6
                      else
                        bd1 (rd 5 a_hMany p2) fun x_85 =>
                        bd1 (FX4_isBarred u a_hAt a_hMany nb bv p1 p2 (x_85 - 1)) fun b_86 =>
                        if (b2i b_86) = 0 then
                          bd1 (rd 5 a_hMany p1) fun x_91 =>
                          bd1 (FX4_isBarred u a_hAt a_hMany nb bv p2 p1 (x_91 - 1)) fun b_92 =>
                          if (b2i b_92) = 0 then
                            bd1 (FJ11_bitCount v_hMoved) fun x_97 =>
                            if (x_97 + 2) ≤ (u 76) then
                              some 0
                            else
                              some 9
                          else
                            some 7
                        else
                          some 7
                else
                  some 3
              else
                some 3

noncomputable def FX0_mayExchange (a_hAt : Nat → Int32) (a_hMany : Nat → Int32) (y_lies : Int64) (t : Nat → Int32) (nb : Int32) (bv : Nat → Int32 → Int32 → Int32 → Int32 → Int32 → Int32 → Bool) (p1 : Int32) (p2 : Int32) : Option (Int32 × (Nat → Int32) × (Nat → Int32) × Int32) :=
  bd3 (FX0_here a_hAt a_hMany y_lies t) fun a_hAt_56 a_hMany_57 v_hMoved_58 =>
  bd1 (FX4_mayExchange t a_hAt_56 a_hMany_57 v_hMoved_58 nb bv p1 p2) fun x_59 =>
  some (x_59, a_hAt_56, a_hMany_57, v_hMoved_58)

noncomputable def FX0_counts (a_carried : Nat → Int32) (a_latest : Nat → Int32) (v_year : Int32) (p1 : Int32) : Option ((Nat → Int32) × (Nat → Int32)) :=
  bd1 (rd 8 a_carried p1) fun x_55 =>
  bd1 (wrI 8 a_carried p1 (x_55 + 1)) fun a_carried_56 =>
  bd1 (wrI 8 a_latest p1 v_year) fun a_latest_57 =>
  some (a_carried_56, a_latest_57)

noncomputable def FX4_carries (a_hAt : Nat → Int32) (a_hMany : Nat → Int32) (v_hMoved : Int32) (p1 : Int32) (p2 : Int32) (p3 : Int32) : Option (Int32 × (Nat → Int32) × (Nat → Int32) × Int32) :=
  bd1 (FX4_top a_hAt a_hMany p1) fun x_58 =>
  bd1 (rd 5 a_hMany p1) fun x_59 =>
  bd1 (wrI 15 a_hAt (((3 * p1) + x_59) - 1) (-1)) fun a_hAt_60 =>
  bd1 (rd 5 a_hMany p1) fun x_61 =>
  bd1 (wrI 5 a_hMany p1 (x_61 - 1)) fun a_hMany_62 =>
  bd1 (rd 5 a_hMany_62 p2) fun x_63 =>
  bd1 (wrI 15 a_hAt_60 ((3 * p2) + x_63) x_58) fun a_hAt_64 =>
  bd1 (rd 5 a_hMany_62 p2) fun x_65 =>
  bd1 (wrI 5 a_hMany_62 p2 (x_65 + 1)) fun a_hMany_66 =>
  if p3 = 0 then
    some (x_58, a_hAt_64, a_hMany_66, v_hMoved)
  else
    some (x_58, a_hAt_64, a_hMany_66, (v_hMoved ||| ((1 : Int32) <<< (x_58 &&& 31))))

noncomputable def FX4_lies_j49 (x_76 : Int32) (x_80 : Int32) : Option ((Int32 × Int32) ⊕ Int32) :=
  some (.inl (x_80, (x_76 + 1)))

noncomputable def FX4_lies_b26 (a_hAt : Nat → Int32) (x_69 : Int32) (x_75 : Int32) (x_76 : Int32) : Option ((Int32 × Int32) ⊕ Int32) :=
  if 15 ≤ x_76 then
    some (.inr x_75)
  else
    bd1 (rd 15 a_hAt x_76) fun x_78 =>
    if x_78 = x_69 then
      FX4_lies_j49 x_76 x_76
    else
      FX4_lies_j49 x_76 x_75

noncomputable def FX4_lies_b12 (a_hAt : Nat → Int32) (y_68 : Int64) (x_69 : Int32) : Option ((Int64 × Int32) ⊕ Int64) :=
  if 8 ≤ x_69 then
    some (.inr y_68)
  else
    bd1 (loopC (fun s => FX4_lies_b26 a_hAt x_69 s.1 s.2) (15, 0)) fun x_81 =>
      some (.inl ((y_68 ||| (shlL (Int32.toInt64 x_81) (4 * x_69))), (x_69 + 1)))

noncomputable def FX4_lies (a_hAt : Nat → Int32) (v_hMoved : Int32) (p1 : Int64) : Option Int64 :=
  bd1 (loopC (fun s => FX4_lies_b12 a_hAt s.1 s.2) ((shlL (Int32.toInt64 v_hMoved) 32), 0)) fun y_82 =>
    some y_82

noncomputable def FX0_carry (a_hAt : Nat → Int32) (a_hMany : Nat → Int32) (a_carried : Nat → Int32) (a_latest : Nat → Int32) (v_hWithout : Int32) (v_year : Int32) (y_lies : Int64) (t : Nat → Int32) (nb : Int32) (bv : Nat → Int32 → Int32 → Int32 → Int32 → Int32 → Int32 → Bool) (p1 : Int32) (p2 : Int32) : Option (Int32 × (Nat → Int32) × (Nat → Int32) × (Nat → Int32) × (Nat → Int32) × Int32 × Int64) :=
  bd3 (FX0_here a_hAt a_hMany y_lies t) fun a_hAt_56 a_hMany_57 v_hMoved_58 =>
  bd1 (FX4_may t a_hAt_56 a_hMany_57 v_hMoved_58 v_hWithout nb bv p1 p2) fun x_59 =>
  if x_59 = 0 then
    bd4 (FX4_carries a_hAt_56 a_hMany_57 v_hMoved_58 p1 p2 1) fun x_67 a_hAt_68 a_hMany_69 v_hMoved_70 =>
    bd2 (FX0_counts a_carried a_latest v_year x_67) fun a_carried_71 a_latest_72 =>
    bd1 (FX4_lies a_hAt_68 v_hMoved_70 y_lies) fun y_73 =>
    some (x_67, a_hAt_68, a_hMany_69, a_carried_71, a_latest_72, v_hMoved_70, y_73)
  else
    some (((-10) - x_59), a_hAt_56, a_hMany_57, a_carried, a_latest, v_hMoved_58, y_lies)

noncomputable def FX4_exchanges (a_hAt : Nat → Int32) (a_hMany : Nat → Int32) (v_hMoved : Int32) (p1 : Int32) (p2 : Int32) : Option (Int32 × (Nat → Int32) × Int32) :=
  bd1 (FX4_top a_hAt a_hMany p1) fun x_57 =>
  bd1 (FX4_top a_hAt a_hMany p2) fun x_58 =>
  bd1 (rd 5 a_hMany p1) fun x_59 =>
  bd1 (wrI 15 a_hAt (((3 * p1) + x_59) - 1) x_58) fun a_hAt_60 =>
  bd1 (rd 5 a_hMany p2) fun x_61 =>
  bd1 (wrI 15 a_hAt_60 (((3 * p2) + x_61) - 1) x_57) fun a_hAt_62 =>
  some (x_57, a_hAt_62, (v_hMoved ||| (((1 : Int32) <<< (x_57 &&& 31)) ||| ((1 : Int32) <<< (x_58 &&& 31)))))

noncomputable def FX0_exchange (a_hAt : Nat → Int32) (a_hMany : Nat → Int32) (a_carried : Nat → Int32) (a_latest : Nat → Int32) (v_year : Int32) (y_lies : Int64) (t : Nat → Int32) (nb : Int32) (bv : Nat → Int32 → Int32 → Int32 → Int32 → Int32 → Int32 → Bool) (p1 : Int32) (p2 : Int32) : Option (Int32 × (Nat → Int32) × (Nat → Int32) × (Nat → Int32) × (Nat → Int32) × Int32 × Int64) :=
  bd3 (FX0_here a_hAt a_hMany y_lies t) fun a_hAt_56 a_hMany_57 v_hMoved_58 =>
  bd1 (FX4_mayExchange t a_hAt_56 a_hMany_57 v_hMoved_58 nb bv p1 p2) fun x_59 =>
  if x_59 = 0 then
    bd3 (FX4_exchanges a_hAt_56 a_hMany_57 v_hMoved_58 p1 p2) fun x_67 a_hAt_68 v_hMoved_69 =>
    bd2 (FX0_counts a_carried a_latest v_year x_67) fun a_carried_70 a_latest_71 =>
    bd1 (FX4_top a_hAt_68 a_hMany_57 p1) fun x_72 =>
    bd2 (FX0_counts a_carried_70 a_latest_71 v_year x_72) fun a_carried_73 a_latest_74 =>
    bd1 (FX4_lies a_hAt_68 v_hMoved_69 y_lies) fun y_75 =>
    some (x_67, a_hAt_68, a_hMany_57, a_carried_73, a_latest_74, v_hMoved_69, y_75)
  else
    some (((-10) - x_59), a_hAt_56, a_hMany_57, a_carried, a_latest, v_hMoved_58, y_lies)

noncomputable def FX0_resting (p0 : Int64) : Option Int64 :=
  some (p0 &&& 4294967295)

noncomputable def FX0_year (v_year : Int32) (y_lies : Int64) : Option (Int32 × Int32 × Int64) :=
  if v_year = 999 then
    some ((-5), v_year, y_lies)
  else
    bd1 (FX0_resting y_lies) fun y_55 =>
    some ((v_year + 1), (v_year + 1), y_55)

noncomputable def FX0_draw (v_x : Int32) (p1 : Int32) : Option (Int32 × Int32) :=
  bd0 (nzI p1) <|
  some (((ushI ((1103515245 * v_x) + 12345) 16) - (ushI ((1103515245 * v_x) + 12345) 16) / p1 * p1), ((1103515245 * v_x) + 12345))

noncomputable def FX0_flood_j162 (x_90 : Int32) (x_121 : Int32) (a_hAt_122 : Nat → Int32) (a_hMany_123 : Nat → Int32) (a_carried_124 : Nat → Int32) (a_latest_125 : Nat → Int32) (v_x_126 : Int32) (v_hMoved_127 : Int32) : Option ((Int32 × Int32 × (Nat → Int32) × (Nat → Int32) × (Nat → Int32) × (Nat → Int32) × Int32 × Int32) ⊕ (Int32 × (Nat → Int32) × (Nat → Int32) × (Nat → Int32) × (Nat → Int32) × Int32 × Int32)) :=
  some (.inl (x_121, (x_90 + 1), a_hAt_122, a_hMany_123, a_carried_124, a_latest_125, v_x_126, v_hMoved_127))

noncomputable def FX0_flood_j70 (v_year : Int32) (t : Nat → Int32) (x_89 : Int32) (x_90 : Int32) (a_hAt_91 : Nat → Int32) (a_hMany_92 : Nat → Int32) (a_carried_93 : Nat → Int32) (a_latest_94 : Nat → Int32) (v_hMoved_96 : Int32) (x_100 : Int32) (v_x_101 : Int32) (x_103 : Int32) : Option ((Int32 × Int32 × (Nat → Int32) × (Nat → Int32) × (Nat → Int32) × (Nat → Int32) × Int32 × Int32) ⊕ (Int32 × (Nat → Int32) × (Nat → Int32) × (Nat → Int32) × (Nat → Int32) × Int32 × Int32)) :=
  if x_100 = 0 then
    FX0_flood_j162 x_90 x_89 a_hAt_91 a_hMany_92 a_carried_93 a_latest_94 v_x_101 v_hMoved_96
  else
    bd1 (FX4_isRow t x_103) fun b_105 =>
    if (b2i b_105) = 0 then
      FX0_flood_j162 x_90 x_89 a_hAt_91 a_hMany_92 a_carried_93 a_latest_94 v_x_101 v_hMoved_96
    else
      bd1 (rd 5 a_hMany_92 x_103) fun x_107 =>
      bd1 (FX2_high t x_103) fun x_108 =>
      if x_107 = x_108 then
        FX0_flood_j162 x_90 x_89 a_hAt_91 a_hMany_92 a_carried_93 a_latest_94 v_x_101 v_hMoved_96
      else
        bd1 (rd 5 a_hMany_92 x_103) fun x_110 =>
        bd1 (FX4_top a_hAt_91 a_hMany_92 x_90) fun x_111 =>
        bd1 (FX4_size t x_111) fun x_112 =>
        bd1 (FX4_bears t a_hAt_91 x_103 x_110 x_112) fun b_113 =>
        if (b2i b_113) = 0 then
          FX0_flood_j162 x_90 x_89 a_hAt_91 a_hMany_92 a_carried_93 a_latest_94 v_x_101 v_hMoved_96
        else
          bd4 (FX4_carries a_hAt_91 a_hMany_92 v_hMoved_96 x_90 x_103 (t 378)) fun x_115 a_hAt_116 a_hMany_117 v_hMoved_118 =>
          bd2 (FX0_counts a_carried_93 a_latest_94 v_year x_115) fun a_carried_119 a_latest_120 =>
          FX0_flood_j162 x_90 (x_89 + 1) a_hAt_116 a_hMany_117 a_carried_119 a_latest_120 v_x_101 v_hMoved_118

noncomputable def FX0_flood_b15 (v_year : Int32) (t : Nat → Int32) (x_89 : Int32) (x_90 : Int32) (a_hAt_91 : Nat → Int32) (a_hMany_92 : Nat → Int32) (a_carried_93 : Nat → Int32) (a_latest_94 : Nat → Int32) (v_x_95 : Int32) (v_hMoved_96 : Int32) : Option ((Int32 × Int32 × (Nat → Int32) × (Nat → Int32) × (Nat → Int32) × (Nat → Int32) × Int32 × Int32) ⊕ (Int32 × (Nat → Int32) × (Nat → Int32) × (Nat → Int32) × (Nat → Int32) × Int32 × Int32)) :=
  if (t 0) ≤ x_90 then
    some (.inr (x_89, a_hAt_91, a_hMany_92, a_carried_93, a_latest_94, v_x_95, v_hMoved_96))
  else
    bd1 (rd 5 a_hMany_92 x_90) fun x_98 =>
    if x_98 = 0 then
      FX0_flood_j162 x_90 x_89 a_hAt_91 a_hMany_92 a_carried_93 a_latest_94 v_x_95 v_hMoved_96
    else
      bd2 (FX0_draw v_x_95 3) fun x_100 v_x_101 =>
      if x_100 = 1 then
        FX0_flood_j70 v_year t x_89 x_90 a_hAt_91 a_hMany_92 a_carried_93 a_latest_94 v_hMoved_96 x_100 v_x_101 (x_90 - 1)
      else
        FX0_flood_j70 v_year t x_89 x_90 a_hAt_91 a_hMany_92 a_carried_93 a_latest_94 v_hMoved_96 x_100 v_x_101 (x_90 + 1)

noncomputable def FX0_flood (a_hAt : Nat → Int32) (a_hMany : Nat → Int32) (a_carried : Nat → Int32) (a_latest : Nat → Int32) (v_year : Int32) (y_lies : Int64) (t : Nat → Int32) (p1 : Int32) : Option (Int32 × (Nat → Int32) × (Nat → Int32) × (Nat → Int32) × (Nat → Int32) × Int32 × Int32 × Int64) :=
  bd3 (FX0_here a_hAt a_hMany y_lies t) fun a_hAt_55 a_hMany_56 v_hMoved_57 =>
  bd7 (loopC (fun s => FX0_flood_b15 v_year t s.1 s.2.1 s.2.2.1 s.2.2.2.1 s.2.2.2.2.1 s.2.2.2.2.2.1 s.2.2.2.2.2.2.1 s.2.2.2.2.2.2.2) (0, 0, a_hAt_55, a_hMany_56, a_carried, a_latest, p1, v_hMoved_57)) fun x_128 a_hAt_129 a_hMany_130 a_carried_131 a_latest_132 v_x_133 v_hMoved_134 =>
    bd1 (FX4_lies a_hAt_129 v_hMoved_134 y_lies) fun y_135 =>
    some (x_128, a_hAt_129, a_hMany_130, a_carried_131, a_latest_132, v_x_133, v_hMoved_134, y_135)

noncomputable def FX0_isTop (a_hAt : Nat → Int32) (a_hMany : Nat → Int32) (y_lies : Int64) (t : Nat → Int32) (p1 : Int32) : Option (Bool × (Nat → Int32) × (Nat → Int32) × Int32) :=
  bd1 (FX0_placeIn y_lies p1) fun x_55 =>
  bd3 (FX0_here a_hAt a_hMany y_lies t) fun a_hAt_56 a_hMany_57 v_hMoved_58 =>
  bd1 (FX4_top a_hAt_56 a_hMany_57 (x_55 / 3)) fun x_59 =>
  if x_59 = p1 then
    some (true, a_hAt_56, a_hMany_57, v_hMoved_58)
  else
    some (false, a_hAt_56, a_hMany_57, v_hMoved_58)

noncomputable def FX0_robbed (p0 : Int64) (p2 : Int32) : Option Int64 :=
  some ((p0 ||| (shlL 15 (4 * p2))) &&& ((shlL 1 (32 + p2)) ^^^ (-1)))

noncomputable def FX0_steal (a_hAt : Nat → Int32) (a_hMany : Nat → Int32) (v_hMoved : Int32) (y_lies : Int64) (t : Nat → Int32) (p1 : Int32) : Option (Int32 × (Nat → Int32) × (Nat → Int32) × Int32 × Int64) :=
  bd1 (FX0_isThere y_lies t p1) fun b_55 =>
  if (b2i b_55) = 0 then
    some ((-2), a_hAt, a_hMany, v_hMoved, y_lies)
  else
    bd4 (FX0_isTop a_hAt a_hMany y_lies t p1) fun b_57 a_hAt_58 a_hMany_59 v_hMoved_60 =>
    if (b2i b_57) = 0 then
      some ((-5), a_hAt_58, a_hMany_59, v_hMoved_60, y_lies)
    else
      bd1 (FX0_placeIn y_lies p1) fun x_62 =>
      bd1 (FX0_robbed y_lies p1) fun y_63 =>
      some (x_62, a_hAt_58, a_hMany_59, v_hMoved_60, y_63)

noncomputable def FX0_isWho (p0 : Int32) : Option Bool :=
  bd1 (FX0_in (Int32.toInt64 p0) (-1) 1) fun b_55 =>
  some b_55

noncomputable def FX10_isAsked_j21 : Option Bool :=
  some true

noncomputable def FX10_isAsked (u : Nat → Int32) (i0 : Int32) (p1 : Int32) : Option Bool :=
  if (u (31 + i0.toNatClampNeg)) = (-1) then
    some false
  else
    if p1 = (-1) then
      FX10_isAsked_j21
    else
      if (u (36 + i0.toNatClampNeg)) = p1 then
        FX10_isAsked_j21
      else
        some false

noncomputable def FX4_isDone_j114 (x_73 : Int32) : Option (Int32 ⊕ (Unit ⊕ (Unit ⊕ Unit))) :=
  some (.inl (x_73 + 1))

noncomputable def FX4_isDone_b60 (a_hAt : Nat → Int32) (u : Nat → Int32) (x_73 : Int32) (x_85 : Int32) : Option (Int32 ⊕ (Unit ⊕ Unit)) :=
  if (u (31 + x_73.toNatClampNeg)) ≤ x_85 then
    some (.inr (.inr ()))
  else
    bd1 (rd 15 a_hAt ((3 * x_73) + x_85)) fun x_87 =>
    bd0 (alg (u 6) x_87) <|
    bd1 (rd 3 (fun j => u (41 + 3 * x_73.toNatClampNeg + j)) x_85) fun x_89 =>
    if (u (7 + x_87.toNatClampNeg)) = x_89 then
      some (.inl (x_85 + 1))
    else
      some (.inr (.inl ()))

noncomputable def FX4_isDone_b2 (a_hAt : Nat → Int32) (a_hMany : Nat → Int32) (u : Nat → Int32) (p1 : Int32) (x_73 : Int32) : Option (Int32 ⊕ (Unit ⊕ (Unit ⊕ Unit))) :=
  if (u 0) ≤ x_73 then
    some (.inr (.inr (.inr ())))
  else
    bd0 (alg (u 0) x_73) <|
    bd1 (FX10_isAsked u x_73 p1) fun b_76 =>
    if (b2i b_76) = 0 then
      FX4_isDone_j114 x_73
    else
      bd1 (rd 5 a_hMany x_73) fun x_78 =>
      if x_78 = (u (31 + x_73.toNatClampNeg)) then
        bdS2 (loopC (fun s => FX4_isDone_b60 a_hAt u x_73 s) 0)
          (un0 fun _ =>
            some (.inr (.inr (.inl ()))))
          (un0 fun _ =>
            FX4_isDone_j114 x_73)
      else
        some (.inr (.inl ()))

noncomputable def FX4_isDone (u : Nat → Int32) (a_hAt : Nat → Int32) (a_hMany : Nat → Int32) (p1 : Int32) : Option Bool :=
  bdS3 (loopC (fun s => FX4_isDone_b2 a_hAt a_hMany u p1 s) 0)
    (un0 fun _ =>
      some false)
    (un0 fun _ =>
      some false)
    (un0 fun _ =>
      some true)

noncomputable def FX0_done (a_hAt : Nat → Int32) (a_hMany : Nat → Int32) (v_hMoved : Int32) (y_lies : Int64) (t : Nat → Int32) (p1 : Int32) : Option (Int32 × (Nat → Int32) × (Nat → Int32) × Int32) :=
  bd1 (FX0_isWho p1) fun b_55 =>
  if (b2i b_55) = 0 then
    some ((-2), a_hAt, a_hMany, v_hMoved)
  else
    bd3 (FX0_here a_hAt a_hMany y_lies t) fun a_hAt_57 a_hMany_58 v_hMoved_59 =>
    bd1 (FX4_isDone t a_hAt_57 a_hMany_58 p1) fun b_60 =>
    if (b2i b_60) = 0 then
      some (0, a_hAt_57, a_hMany_58, v_hMoved_59)
    else
      some (1, a_hAt_57, a_hMany_58, v_hMoved_59)

noncomputable def FX2_wished (u : Nat → Int32) (p1 : Int32) (p2 : Int32) : Option Int32 :=
  if (p1 / 3) < (u 0) then
    bd0 (alg (u 0) (p1 / 3)) <|
    bd1 (FX10_isAsked u (p1 / 3) p2) fun b_59 =>
    if (b2i b_59) = 0 then
      some (-1)
    else
      if (u (31 + (p1 / 3).toNatClampNeg)) ≤ (p1 - p1 / 3 * 3) then
        some (-1)
      else
        bd1 (rd 3 (fun j => u (41 + 3 * (p1 / 3).toNatClampNeg + j)) (p1 - p1 / 3 * 3)) fun x_62 =>
        some x_62
  else
    some (-1)

noncomputable def FX4_right_j70 (x_65 : Int32) (x_66 : Int32) (x_75 : Int32) : Option ((Int32 × Int32) ⊕ Int32) :=
  some (.inl ((x_65 + x_75), (x_66 + 1)))

noncomputable def FX4_right_j69 (x_65 : Int32) (x_66 : Int32) : Option ((Int32 × Int32) ⊕ Int32) :=
  FX4_right_j70 x_65 x_66 0

noncomputable def FX4_right_b4 (a_hAt : Nat → Int32) (u : Nat → Int32) (p1 : Int32) (x_65 : Int32) (x_66 : Int32) : Option ((Int32 × Int32) ⊕ Int32) :=
  if 15 ≤ x_66 then
    some (.inr x_65)
  else
    bd1 (FX2_wished u x_66 p1) fun x_68 =>
    if x_68 = (-1) then
      FX4_right_j69 x_65 x_66
    else
      bd1 (rd 15 a_hAt x_66) fun x_70 =>
      if x_70 = (-1) then
        FX4_right_j69 x_65 x_66
      else
        bd1 (rd 15 a_hAt x_66) fun x_72 =>
        bd0 (alg (u 6) x_72) <|
        if (u (7 + x_72.toNatClampNeg)) = x_68 then
          FX4_right_j70 x_65 x_66 1
        else
          FX4_right_j69 x_65 x_66

noncomputable def FX4_right (u : Nat → Int32) (a_hAt : Nat → Int32) (p1 : Int32) : Option Int32 :=
  bd1 (loopC (fun s => FX4_right_b4 a_hAt u p1 s.1 s.2) (0, 0)) fun x_76 =>
    some x_76

noncomputable def FX0_right (a_hAt : Nat → Int32) (a_hMany : Nat → Int32) (v_hMoved : Int32) (y_lies : Int64) (t : Nat → Int32) (p1 : Int32) : Option (Int32 × (Nat → Int32) × (Nat → Int32) × Int32) :=
  bd1 (FX0_isWho p1) fun b_55 =>
  if (b2i b_55) = 0 then
    some ((-2), a_hAt, a_hMany, v_hMoved)
  else
    bd3 (FX0_here a_hAt a_hMany y_lies t) fun a_hAt_57 a_hMany_58 v_hMoved_59 =>
    bd1 (FX4_right t a_hAt_57 p1) fun x_60 =>
    some (x_60, a_hAt_57, a_hMany_58, v_hMoved_59)

noncomputable def FX0_isNumbers (p0 : Int32) : Option Bool :=
  bd1 (FX0_in (Int32.toInt64 p0) 0 3) fun b_55 =>
  some b_55

noncomputable def FX0_kindOf (p0 : Int64) : Option Int32 :=
  if (lg_cmp p0 (-1)) = 0 then
    some 2
  else
    bd1 (FX0_in p0 0 99) fun b_56 =>
    if (b2i b_56) = 0 then
      bd1 (FX0_in p0 100 199) fun b_58 =>
      if (b2i b_58) = 0 then
        some (-1)
      else
        some 1
    else
      some 0

noncomputable def FX0_whyNot (u : Nat → Int32) (a_hAt : Nat → Int32) (a_hMany : Nat → Int32) (v_hMoved : Int32) (v_hWithout : Int32) (nb : Int32) (bv : Nat → Int32 → Int32 → Int32 → Int32 → Int32 → Int32 → Bool) (p1 : Int64) (p3 : Int32) : Option Int32 :=
  bd1 (FX0_kindOf p1) fun x_57 =>
  if x_57 = 2 then
    if p3 = 999 then
      some 1
    else
      some 0
  else
    if x_57 = (-1) then
      some 1
    else
      if x_57 = 0 then
        bd1 (FX4_may u a_hAt a_hMany v_hMoved v_hWithout nb bv (((Int64.toInt32 p1) - (Int64.toInt32 p1) / 100 * 100) / 10) ((Int64.toInt32 p1) - (Int64.toInt32 p1) / 10 * 10)) fun x_62 =>
        some x_62
      else
        bd1 (FX4_mayExchange u a_hAt a_hMany v_hMoved nb bv (((Int64.toInt32 p1) - (Int64.toInt32 p1) / 100 * 100) / 10) ((Int64.toInt32 p1) - (Int64.toInt32 p1) / 10 * 10)) fun x_69 =>
        some x_69

noncomputable def FX0_judge_j175 (v_year : Int32) (a_rsort : Nat → Int32) (a_rmany : Nat → Int32) (t : Nat → Int32) (p1 : Int32) (p2 : Int32) (x_151 : Int32) (x_152 : Int32) (x_153 : Int32) (a_hAt_154 : Nat → Int32) (a_hMany_155 : Nat → Int32) (v_hMoved_156 : Int32) : Option (Int32 × (Nat → Int32) × (Nat → Int32) × Int32) :=
  if p2 = 0 then
    bd1 (numMany a_rsort a_rmany p1.toNatClampNeg) fun x_164 =>
    if x_152 = x_164 then
      some ((-1), a_hAt_154, a_hMany_155, v_hMoved_156)
    else
      some (x_152, a_hAt_154, a_hMany_155, v_hMoved_156)
  else
    if p2 = 1 then
      some (x_153, a_hAt_154, a_hMany_155, v_hMoved_156)
    else
      if p2 = 2 then
        bd1 (FX4_right t a_hAt_154 (-1)) fun x_168 =>
        some (x_168, a_hAt_154, a_hMany_155, v_hMoved_156)
      else
        some ((x_151 - v_year), a_hAt_154, a_hMany_155, v_hMoved_156)

noncomputable def FX0_judge_j169 (x_91 : Int32) (x_105 : Int32) (x_123 : Int32) (a_hAt_124 : Nat → Int32) (a_hMany_125 : Nat → Int32) (v_hMoved_126 : Int32) : Option ((Int32 × Int32 × Int32 × (Nat → Int32) × (Nat → Int32) × Int32) ⊕ ((Int32 × Int32 × Int32 × (Nat → Int32) × (Nat → Int32) × Int32) ⊕ (Int32 × Int32 × Int32 × (Nat → Int32) × (Nat → Int32) × Int32))) :=
  some (.inl (x_123, (x_91 + 1), x_105, a_hAt_124, a_hMany_125, v_hMoved_126))

noncomputable def FX0_judge_b60 (v_hWithout : Int32) (a_rsort : Nat → Int32) (a_rmany : Nat → Int32) (a_nums : Nat → Nat → Int64) (t : Nat → Int32) (nb : Int32) (bv : Nat → Int32 → Int32 → Int32 → Int32 → Int32 → Int32 → Bool) (p1 : Int32) (x_90 : Int32) (x_91 : Int32) (x_92 : Int32) (a_hAt_93 : Nat → Int32) (a_hMany_94 : Nat → Int32) (v_hMoved_95 : Int32) : Option ((Int32 × Int32 × Int32 × (Nat → Int32) × (Nat → Int32) × Int32) ⊕ ((Int32 × Int32 × Int32 × (Nat → Int32) × (Nat → Int32) × Int32) ⊕ (Int32 × Int32 × Int32 × (Nat → Int32) × (Nat → Int32) × Int32))) :=
  bd1 (numMany a_rsort a_rmany p1.toNatClampNeg) fun x_102 =>
  if x_102 ≤ x_91 then
    some (.inr (.inr (x_90, x_91, x_92, a_hAt_93, a_hMany_94, v_hMoved_95)))
  else
    bd1 (numAt a_rsort a_rmany a_nums p1.toNatClampNeg x_91) fun y_104 =>
    bd1 (FX0_whyNot t a_hAt_93 a_hMany_94 v_hMoved_95 v_hWithout nb bv y_104 x_90) fun x_105 =>
    if x_105 = 0 then
      bd1 (FX0_kindOf y_104) fun x_113 =>
      if x_113 = 2 then
        FX0_judge_j169 x_91 x_105 (x_90 + 1) a_hAt_93 a_hMany_94 0
      else
        if x_113 = 0 then
          bd4 (FX4_carries a_hAt_93 a_hMany_94 v_hMoved_95 ((Int64.toInt32 y_104) / 10) ((Int64.toInt32 y_104) - (Int64.toInt32 y_104) / 10 * 10) 1) fun x_116 a_hAt_117 a_hMany_118 v_hMoved_119 =>
          FX0_judge_j169 x_91 x_105 x_90 a_hAt_117 a_hMany_118 v_hMoved_119
        else
          bd3 (FX4_exchanges a_hAt_93 a_hMany_94 v_hMoved_95 (((Int64.toInt32 y_104) - (Int64.toInt32 y_104) / 100 * 100) / 10) ((Int64.toInt32 y_104) - (Int64.toInt32 y_104) / 10 * 10)) fun x_120 a_hAt_121 v_hMoved_122 =>
          FX0_judge_j169 x_91 x_105 x_90 a_hAt_121 a_hMany_94 v_hMoved_122
    else
      some (.inr (.inl (x_90, x_91, x_105, a_hAt_93, a_hMany_94, v_hMoved_95)))

noncomputable def FX0_judge (a_hAt : Nat → Int32) (a_hMany : Nat → Int32) (v_hMoved : Int32) (v_hWithout : Int32) (v_year : Int32) (y_lies : Int64) (a_rsort : Nat → Int32) (a_rmany : Nat → Int32) (a_nums : Nat → Nat → Int64) (t : Nat → Int32) (nb : Int32) (bv : Nat → Int32 → Int32 → Int32 → Int32 → Int32 → Int32 → Bool) (p1 : Int32) (p2 : Int32) : Option (Int32 × (Nat → Int32) × (Nat → Int32) × Int32) :=
  bd1 (FX0_isNumbers p1) fun b_56 =>
  if (b2i b_56) = 0 then
    some ((-2), a_hAt, a_hMany, v_hMoved)
  else
    bd1 (FX0_in (Int32.toInt64 p2) 0 3) fun b_58 =>
    if (b2i b_58) = 0 then
      some ((-2), a_hAt, a_hMany, v_hMoved)
    else
      bd0 (alg 4 p1) <|
      if a_rsort p1.toNatClampNeg = (-1) then
        some ((-6), a_hAt, a_hMany, v_hMoved)
      else
        bd3 (FX0_here a_hAt a_hMany y_lies t) fun a_hAt_62 a_hMany_63 v_hMoved_64 =>
        bdS2 (loopC (fun s => FX0_judge_b60 v_hWithout a_rsort a_rmany a_nums t nb bv p1 s.1 s.2.1 s.2.2.1 s.2.2.2.1 s.2.2.2.2.1 s.2.2.2.2.2) (v_year, 0, 0, a_hAt_62, a_hMany_63, v_hMoved_64))
          (un6 fun x_127 x_128 x_129 a_hAt_130 a_hMany_131 v_hMoved_132 =>
            FX0_judge_j175 v_year a_rsort a_rmany t p1 p2 x_127 x_128 x_129 a_hAt_130 a_hMany_131 v_hMoved_132)
          (un6 fun x_139 x_140 x_141 a_hAt_142 a_hMany_143 v_hMoved_144 =>
            FX0_judge_j175 v_year a_rsort a_rmany t p1 p2 x_139 x_140 x_141 a_hAt_142 a_hMany_143 v_hMoved_144)

noncomputable def FX0_perform_j142 (x_122 : Int32) (a_hAt_185 : Nat → Int32) (a_hMany_186 : Nat → Int32) (a_carried_187 : Nat → Int32) (a_latest_188 : Nat → Int32) (v_hMoved_189 : Int32) (v_year_190 : Int32) (y_lies_191 : Int64) (x_199 : Int32) : Option ((Int32 × (Nat → Int32) × (Nat → Int32) × (Nat → Int32) × (Nat → Int32) × Int32 × Int32 × Int64) ⊕ (Int32 × (Nat → Int32) × (Nat → Int32) × (Nat → Int32) × (Nat → Int32) × Int32 × Int32 × Int64)) :=
  some (.inl ((x_122 + x_199), a_hAt_185, a_hMany_186, a_carried_187, a_latest_188, v_hMoved_189, v_year_190, y_lies_191))

noncomputable def FX0_perform_j129 (x_122 : Int32) (x_184 : Int32) (a_hAt_185 : Nat → Int32) (a_hMany_186 : Nat → Int32) (a_carried_187 : Nat → Int32) (a_latest_188 : Nat → Int32) (v_hMoved_189 : Int32) (v_year_190 : Int32) (y_lies_191 : Int64) : Option ((Int32 × (Nat → Int32) × (Nat → Int32) × (Nat → Int32) × (Nat → Int32) × Int32 × Int32 × Int64) ⊕ (Int32 × (Nat → Int32) × (Nat → Int32) × (Nat → Int32) × (Nat → Int32) × Int32 × Int32 × Int64)) :=
  if x_184 < 0 then
    FX0_perform_j142 x_122 a_hAt_185 a_hMany_186 a_carried_187 a_latest_188 v_hMoved_189 v_year_190 y_lies_191 0
  else
    FX0_perform_j142 x_122 a_hAt_185 a_hMany_186 a_carried_187 a_latest_188 v_hMoved_189 v_year_190 y_lies_191 1

noncomputable def FX0_perform_b29 (v_hWithout : Int32) (a_rsort : Nat → Int32) (a_rmany : Nat → Int32) (a_nums : Nat → Nat → Int64) (t : Nat → Int32) (nb : Int32) (bv : Nat → Int32 → Int32 → Int32 → Int32 → Int32 → Int32 → Bool) (p1 : Int32) (x_122 : Int32) (a_hAt_123 : Nat → Int32) (a_hMany_124 : Nat → Int32) (a_carried_125 : Nat → Int32) (a_latest_126 : Nat → Int32) (v_hMoved_127 : Int32) (v_year_128 : Int32) (y_lies_129 : Int64) : Option ((Int32 × (Nat → Int32) × (Nat → Int32) × (Nat → Int32) × (Nat → Int32) × Int32 × Int32 × Int64) ⊕ (Int32 × (Nat → Int32) × (Nat → Int32) × (Nat → Int32) × (Nat → Int32) × Int32 × Int32 × Int64)) :=
  bd1 (numMany a_rsort a_rmany p1.toNatClampNeg) fun x_137 =>
  if x_137 ≤ x_122 then
    some (.inr (x_122, a_hAt_123, a_hMany_124, a_carried_125, a_latest_126, v_hMoved_127, v_year_128, y_lies_129))
  else
    bd3 (FX0_here a_hAt_123 a_hMany_124 y_lies_129 t) fun a_hAt_139 a_hMany_140 v_hMoved_141 =>
    bd1 (numAt a_rsort a_rmany a_nums p1.toNatClampNeg x_122) fun y_142 =>
    bd1 (FX0_whyNot t a_hAt_139 a_hMany_140 v_hMoved_141 v_hWithout nb bv y_142 v_year_128) fun x_143 =>
    if x_143 = 0 then
      bd1 (numAt a_rsort a_rmany a_nums p1.toNatClampNeg x_122) fun y_151 =>
      bd1 (FX0_kindOf y_151) fun x_152 =>
      if x_152 = 2 then
        bd3 (FX0_year v_year_128 y_lies_129) fun x_154 v_year_155 y_lies_156 =>
        FX0_perform_j129 x_122 x_154 a_hAt_139 a_hMany_140 a_carried_125 a_latest_126 v_hMoved_141 v_year_155 y_lies_156
      else
        if x_152 = 0 then
          bd7 (FX0_carry a_hAt_139 a_hMany_140 a_carried_125 a_latest_126 v_hWithout v_year_128 y_lies_129 t nb bv ((Int64.toInt32 y_151) / 10) ((Int64.toInt32 y_151) - (Int64.toInt32 y_151) / 10 * 10)) fun x_158 a_hAt_159 a_hMany_160 a_carried_161 a_latest_162 v_hMoved_163 y_lies_164 =>
          FX0_perform_j129 x_122 x_158 a_hAt_159 a_hMany_160 a_carried_161 a_latest_162 v_hMoved_163 v_year_128 y_lies_164
        else
          bd7 (FX0_exchange a_hAt_139 a_hMany_140 a_carried_125 a_latest_126 v_year_128 y_lies_129 t nb bv (((Int64.toInt32 y_151) - (Int64.toInt32 y_151) / 100 * 100) / 10) ((Int64.toInt32 y_151) - (Int64.toInt32 y_151) / 10 * 10)) fun x_171 a_hAt_172 a_hMany_173 a_carried_174 a_latest_175 v_hMoved_176 y_lies_177 =>
          FX0_perform_j129 x_122 x_171 a_hAt_172 a_hMany_173 a_carried_174 a_latest_175 v_hMoved_176 v_year_128 y_lies_177
    else
      some (.inr (x_122, a_hAt_139, a_hMany_140, a_carried_125, a_latest_126, v_hMoved_141, v_year_128, y_lies_129))

noncomputable def FX0_perform (a_hAt : Nat → Int32) (a_hMany : Nat → Int32) (a_carried : Nat → Int32) (a_latest : Nat → Int32) (v_hMoved : Int32) (v_hWithout : Int32) (v_year : Int32) (y_lies : Int64) (a_rsort : Nat → Int32) (a_rmany : Nat → Int32) (a_nums : Nat → Nat → Int64) (t : Nat → Int32) (nb : Int32) (bv : Nat → Int32 → Int32 → Int32 → Int32 → Int32 → Int32 → Bool) (p1 : Int32) : Option (Int32 × (Nat → Int32) × (Nat → Int32) × (Nat → Int32) × (Nat → Int32) × Int32 × Int32 × Int64) :=
  bd1 (FX0_isNumbers p1) fun b_55 =>
  if (b2i b_55) = 0 then
    some ((-2), a_hAt, a_hMany, a_carried, a_latest, v_hMoved, v_year, y_lies)
  else
    bd0 (alg 4 p1) <|
    if a_rsort p1.toNatClampNeg = (-1) then
      some ((-6), a_hAt, a_hMany, a_carried, a_latest, v_hMoved, v_year, y_lies)
    else
      bd8 (loopC (fun s => FX0_perform_b29 v_hWithout a_rsort a_rmany a_nums t nb bv p1 s.1 s.2.1 s.2.2.1 s.2.2.2.1 s.2.2.2.2.1 s.2.2.2.2.2.1 s.2.2.2.2.2.2.1 s.2.2.2.2.2.2.2) (0, a_hAt, a_hMany, a_carried, a_latest, v_hMoved, v_year, y_lies)) fun x_200 a_hAt_201 a_hMany_202 a_carried_203 a_latest_204 v_hMoved_205 v_year_206 y_lies_207 =>
        some (x_200, a_hAt_201, a_hMany_202, a_carried_203, a_latest_204, v_hMoved_205, v_year_206, y_lies_207)

noncomputable def FX5_at (p1 : Int32) (p2 : Int32) : Option Int32 :=
  some ((p1 <<< ((15 : Int32) &&& 31)) ||| p2)

noncomputable def FX5_can (a_place : Nat → Int32) (y_lies : Int64) (t : Nat → Int32) (p1 : Int32) (p2 : Int32) (p3 : Int32) : Option Bool :=
  bd1 (FX0_isThere y_lies t p1) fun b_57 =>
  if (b2i b_57) = 0 then
    some false
  else
    bd1 (FX0_has p3 p2) fun b_59 =>
    if (b2i b_59) = 0 then
      bd1 (rd 15 a_place p2) fun x_61 =>
      bd1 (FX2_wished t x_61 (-1)) fun x_62 =>
      bd0 (alg (t 6) p1) <|
      if x_62 = (t (7 + p1.toNatClampNeg)) then
        some true
      else
        some false
    else
      some false

noncomputable def FX5_costs_j31 (a_place : Nat → Int32) (p2 : Int32) (x_56 : Int32) (x_59 : Int32) : Option Int32 :=
  bd1 (rd 15 a_place p2) fun x_60 =>
  some (x_59 + (abI ((x_56 / 3) - (x_60 / 3))))

noncomputable def FX5_costs (a_place : Nat → Int32) (y_lies : Int64) (p1 : Int32) (p2 : Int32) : Option Int32 :=
  bd1 (FX0_placeIn y_lies p1) fun x_56 =>
  bd1 (rd 15 a_place p2) fun x_57 =>
  if x_56 = x_57 then
    FX5_costs_j31 a_place p2 x_56 0
  else
    FX5_costs_j31 a_place p2 x_56 100

noncomputable def FX5_chosen_j60 (x_65 : Int32) : Option (Int32 ⊕ (Int32 ⊕ Unit)) :=
  some (.inl (x_65 + 1))

noncomputable def FX5_chosen_b2 (a_least : Nat → Int32) (a_place : Nat → Int32) (v_places : Int32) (y_lies : Int64) (t : Nat → Int32) (p1 : Int32) (p2 : Int32) (x_65 : Int32) : Option (Int32 ⊕ (Int32 ⊕ Unit)) :=
  if v_places ≤ x_65 then
    some (.inr (.inr ()))
  else
    bd1 (FX5_can a_place y_lies t p1 x_65 p2) fun b_67 =>
    if (b2i b_67) = 0 then
      FX5_chosen_j60 x_65
    else
      bd1 (FX5_costs a_place y_lies p1 x_65) fun x_69 =>
      bd1 (FX5_at (p1 + 1) (p2 ||| ((1 : Int32) <<< (x_65 &&& 31)))) fun x_70 =>
      bd1 (rd 294912 a_least x_70) fun x_71 =>
      bd1 (FX5_at p1 p2) fun x_72 =>
      bd1 (rd 294912 a_least x_72) fun x_73 =>
      if (x_69 + x_71) = x_73 then
        some (.inr (.inl x_65))
      else
        FX5_chosen_j60 x_65

noncomputable def FX5_chosen (a_least : Nat → Int32) (a_place : Nat → Int32) (v_places : Int32) (y_lies : Int64) (t : Nat → Int32) (p1 : Int32) (p2 : Int32) : Option Int32 :=
  bdS2 (loopC (fun s => FX5_chosen_b2 a_least a_place v_places y_lies t p1 p2 s) 0)
    (un1 fun x_75 =>
      some x_75)
    (un0 fun _ =>
      some (-1))

noncomputable def FX5_weighs_j72 (x_66 : Int32) (x_73 : Int32) : Option ((Int32 × Int32) ⊕ Int32) :=
  some (.inl (x_73, (x_66 + 1)))

noncomputable def FX5_weighs_b21 (a_least : Nat → Int32) (a_place : Nat → Int32) (v_places : Int32) (y_lies : Int64) (t : Nat → Int32) (p1 : Int32) (p2 : Int32) (x_65 : Int32) (x_66 : Int32) : Option ((Int32 × Int32) ⊕ Int32) :=
  if v_places ≤ x_66 then
    some (.inr x_65)
  else
    bd1 (FX5_can a_place y_lies t p1 x_66 p2) fun b_68 =>
    if (b2i b_68) = 0 then
      FX5_weighs_j72 x_66 x_65
    else
      bd1 (FX5_costs a_place y_lies p1 x_66) fun x_70 =>
      bd1 (FX5_at (p1 + 1) (p2 ||| ((1 : Int32) <<< (x_66 &&& 31)))) fun x_71 =>
      bd1 (rd 294912 a_least x_71) fun x_72 =>
      FX5_weighs_j72 x_66 (mnI x_65 (x_70 + x_72))

noncomputable def FX5_weighs (a_least : Nat → Int32) (a_place : Nat → Int32) (v_places : Int32) (y_lies : Int64) (t : Nat → Int32) (p1 : Int32) (p2 : Int32) : Option (Nat → Int32) :=
  bd1 (FX5_at (p1 + 1) p2) fun x_56 =>
  bd1 (rd 294912 a_least x_56) fun x_57 =>
  bd1 (loopC (fun s => FX5_weighs_b21 a_least a_place v_places y_lies t p1 p2 s.1 s.2) ((10000 + x_57), 0)) fun x_74 =>
    bd1 (FX5_at p1 p2) fun x_75 =>
    bd1 (wrI 294912 a_least x_75 x_74) fun a_least_76 =>
    some a_least_76

noncomputable def FX5_finds_j60 (x_60 : Int32) (a_place_67 : Nat → Int32) (v_places_68 : Int32) : Option ((Int32 × (Nat → Int32) × Int32) ⊕ ((Nat → Int32) × Int32)) :=
  some (.inl ((x_60 + 1), a_place_67, v_places_68))

noncomputable def FX5_finds_b12 (t : Nat → Int32) (x_60 : Int32) (a_place_61 : Nat → Int32) (v_places_62 : Int32) : Option ((Int32 × (Nat → Int32) × Int32) ⊕ ((Nat → Int32) × Int32)) :=
  if 15 ≤ x_60 then
    some (.inr (a_place_61, v_places_62))
  else
    bd1 (FX2_wished t x_60 (-1)) fun x_64 =>
    if x_64 = (-1) then
      FX5_finds_j60 x_60 a_place_61 v_places_62
    else
      bd1 (wrI 15 a_place_61 v_places_62 x_60) fun a_place_66 =>
      FX5_finds_j60 x_60 a_place_66 (v_places_62 + 1)

noncomputable def FX5_finds_b85 (t : Nat → Int32) (v_places_70 : Int32) (x_74 : Int32) (a_least_75 : Nat → Int32) : Option ((Int32 × (Nat → Int32)) ⊕ (Nat → Int32)) :=
  if ((1 : Int32) <<< (v_places_70 &&& 31)) ≤ x_74 then
    some (.inr a_least_75)
  else
    bd1 (FX5_at (t 6) x_74) fun x_77 =>
    bd1 (wrI 294912 a_least_75 x_77 0) fun a_least_78 =>
    some (.inl ((x_74 + 1), a_least_78))

noncomputable def FX5_finds_b123 (y_lies : Int64) (t : Nat → Int32) (a_place_69 : Nat → Int32) (v_places_70 : Int32) (x_88 : Int32) (x_93 : Int32) (a_least_94 : Nat → Int32) : Option ((Int32 × (Nat → Int32)) ⊕ (Nat → Int32)) :=
  if ((1 : Int32) <<< (v_places_70 &&& 31)) ≤ x_93 then
    some (.inr a_least_94)
  else
    bd1 (FX5_weighs a_least_94 a_place_69 v_places_70 y_lies t x_88 x_93) fun a_least_96 =>
    some (.inl ((x_93 + 1), a_least_96))

noncomputable def FX5_finds_b117 (y_lies : Int64) (t : Nat → Int32) (a_place_69 : Nat → Int32) (v_places_70 : Int32) (x_88 : Int32) (a_least_89 : Nat → Int32) : Option ((Int32 × (Nat → Int32)) ⊕ (Nat → Int32)) :=
  if x_88 < 0 then
    some (.inr a_least_89)
  else
    bd1 (loopC (fun s => FX5_finds_b123 y_lies t a_place_69 v_places_70 x_88 s.1 s.2) (0, a_least_89)) fun a_least_97 =>
      some (.inl ((x_88 + (-1)), a_least_97))

noncomputable def FX5_finds_j248 (x_112 : Int32) (x_113 : Int32) (v_elsewhere_115 : Int32) (a_to_121 : Nat → Int32) (x_123 : Int32) (x_128 : Int32) : Option ((Int32 × Int32 × (Nat → Int32) × Int32) ⊕ ((Nat → Int32) × Int32)) :=
  some (.inl ((x_112 ||| x_123), (x_113 + 1), a_to_121, (v_elsewhere_115 + x_128)))

noncomputable def FX5_finds_j247 (x_112 : Int32) (x_113 : Int32) (v_elsewhere_115 : Int32) (a_to_121 : Nat → Int32) (x_123 : Int32) : Option ((Int32 × Int32 × (Nat → Int32) × Int32) ⊕ ((Nat → Int32) × Int32)) :=
  FX5_finds_j248 x_112 x_113 v_elsewhere_115 a_to_121 x_123 0

noncomputable def FX5_finds_j206 (y_lies : Int64) (a_place_69 : Nat → Int32) (x_112 : Int32) (x_113 : Int32) (v_elsewhere_115 : Int32) (x_117 : Int32) (a_to_121 : Nat → Int32) (x_123 : Int32) : Option ((Int32 × Int32 × (Nat → Int32) × Int32) ⊕ ((Nat → Int32) × Int32)) :=
  if x_117 = (-1) then
    FX5_finds_j247 x_112 x_113 v_elsewhere_115 a_to_121 x_123
  else
    bd1 (rd 15 a_place_69 x_117) fun x_125 =>
    bd1 (FX0_placeIn y_lies x_113) fun x_126 =>
    if x_125 = x_126 then
      FX5_finds_j247 x_112 x_113 v_elsewhere_115 a_to_121 x_123
    else
      FX5_finds_j248 x_112 x_113 v_elsewhere_115 a_to_121 x_123 1

noncomputable def FX5_finds_j190 (y_lies : Int64) (a_place_69 : Nat → Int32) (x_112 : Int32) (x_113 : Int32) (a_to_114 : Nat → Int32) (v_elsewhere_115 : Int32) (x_117 : Int32) (x_120 : Int32) : Option ((Int32 × Int32 × (Nat → Int32) × Int32) ⊕ ((Nat → Int32) × Int32)) :=
  bd1 (wrI 8 a_to_114 x_113 x_120) fun a_to_121 =>
  if x_117 = (-1) then
    FX5_finds_j206 y_lies a_place_69 x_112 x_113 v_elsewhere_115 x_117 a_to_121 0
  else
    FX5_finds_j206 y_lies a_place_69 x_112 x_113 v_elsewhere_115 x_117 a_to_121 ((1 : Int32) <<< (x_117 &&& 31))

noncomputable def FX5_finds_b155 (y_lies : Int64) (t : Nat → Int32) (a_place_69 : Nat → Int32) (v_places_70 : Int32) (a_least_98 : Nat → Int32) (x_112 : Int32) (x_113 : Int32) (a_to_114 : Nat → Int32) (v_elsewhere_115 : Int32) : Option ((Int32 × Int32 × (Nat → Int32) × Int32) ⊕ ((Nat → Int32) × Int32)) :=
  if (t 6) ≤ x_113 then
    some (.inr (a_to_114, v_elsewhere_115))
  else
    bd1 (FX5_chosen a_least_98 a_place_69 v_places_70 y_lies t x_113 x_112) fun x_117 =>
    if x_117 = (-1) then
      FX5_finds_j190 y_lies a_place_69 x_112 x_113 a_to_114 v_elsewhere_115 x_117 (-1)
    else
      bd1 (rd 15 a_place_69 x_117) fun x_119 =>
      FX5_finds_j190 y_lies a_place_69 x_112 x_113 a_to_114 v_elsewhere_115 x_117 x_119

noncomputable def FX5_finds (a_least : Nat → Int32) (a_place : Nat → Int32) (a_to : Nat → Int32) (y_lies : Int64) (t : Nat → Int32) : Option ((Nat → Int32) × (Nat → Int32) × (Nat → Int32) × Int32 × Int32) :=
  bd2 (loopC (fun s => FX5_finds_b12 t s.1 s.2.1 s.2.2) (0, a_place, 0)) fun a_place_69 v_places_70 =>
    bd1 (loopC (fun s => FX5_finds_b85 t v_places_70 s.1 s.2) (0, a_least)) fun a_least_79 =>
      bd1 (loopC (fun s => FX5_finds_b117 y_lies t a_place_69 v_places_70 s.1 s.2) (((t 6) - 1), a_least_79)) fun a_least_98 =>
        bd2 (loopC (fun s => FX5_finds_b155 y_lies t a_place_69 v_places_70 a_least_98 s.1 s.2.1 s.2.2.1 s.2.2.2) (0, 0, a_to, 0)) fun a_to_129 v_elsewhere_130 =>
          some (a_least_98, a_place_69, a_to_129, v_places_70, v_elsewhere_130)

noncomputable def FX0_match_j16 (a_least : Nat → Int32) (a_place : Nat → Int32) (a_to : Nat → Int32) (y_lies : Int64) (t : Nat → Int32) (p1 : Int32) : Option (Int32 × (Nat → Int32) × (Nat → Int32) × (Nat → Int32) × Int32 × Int32) :=
  bd5 (FX5_finds a_least a_place a_to y_lies t) fun a_least_58 a_place_59 a_to_60 v_places_61 v_elsewhere_62 =>
  if p1 = (-1) then
    some (v_elsewhere_62, a_least_58, a_place_59, a_to_60, v_places_61, v_elsewhere_62)
  else
    bd1 (rd 8 a_to_60 p1) fun x_64 =>
    some (x_64, a_least_58, a_place_59, a_to_60, v_places_61, v_elsewhere_62)

noncomputable def FX0_match (a_least : Nat → Int32) (a_place : Nat → Int32) (a_to : Nat → Int32) (v_places : Int32) (v_elsewhere : Int32) (y_lies : Int64) (t : Nat → Int32) (p1 : Int32) : Option (Int32 × (Nat → Int32) × (Nat → Int32) × (Nat → Int32) × Int32 × Int32) :=
  if p1 = (-1) then
    FX0_match_j16 a_least a_place a_to y_lies t p1
  else
    bd1 (FX0_isStone t p1) fun b_56 =>
    if (b2i b_56) = 0 then
      some ((-2), a_least, a_place, a_to, v_places, v_elsewhere)
    else
      FX0_match_j16 a_least a_place a_to y_lies t p1

noncomputable def FX4_undoes (a_hAt : Nat → Int32) (a_hMany : Nat → Int32) (v_hMoved : Int32) (p1 : Int32) (p2 : Int32) (p3 : Int32) : Option ((Nat → Int32) × (Nat → Int32) × Int32) :=
  bd4 (FX4_carries a_hAt a_hMany v_hMoved p2 p1 0) fun x_58 a_hAt_59 a_hMany_60 v_hMoved_61 =>
  some (a_hAt_59, a_hMany_60, p3)

noncomputable def FX0_orders_b_j197 (rf : (Nat → Int32) → (Nat → Int32) → (Nat → Int32) → (Nat → Int32) → (Nat → Int32) → Int32 → Int32 → Int64 → (Nat → Int32) → Int32 → (Nat → Int32 → Int32 → Int32 → Int32 → Int32 → Int32 → Bool) → Int32 → Int32 → Int32 → Option (Bool × (Nat → Int32) × (Nat → Int32) × (Nat → Int32) × (Nat → Int32) × Int32)) (x_112 : Int32) (a_tAt_165 : Nat → Int32) (a_tMany_166 : Nat → Int32) (a_order_167 : Nat → Int32) (a_fails_168 : Nat → Int32) (v_tMoved_169 : Int32) : Option ((Int32 × (Nat → Int32) × (Nat → Int32) × (Nat → Int32) × (Nat → Int32) × Int32) ⊕ (((Nat → Int32) × (Nat → Int32) × (Nat → Int32) × (Nat → Int32) × Int32) ⊕ ((Nat → Int32) × (Nat → Int32) × (Nat → Int32) × (Nat → Int32) × Int32))) :=
  some (.inl ((x_112 + 1), a_tAt_165, a_tMany_166, a_order_167, a_fails_168, v_tMoved_169))

noncomputable def FX0_orders_b_b21 (rf : (Nat → Int32) → (Nat → Int32) → (Nat → Int32) → (Nat → Int32) → (Nat → Int32) → Int32 → Int32 → Int64 → (Nat → Int32) → Int32 → (Nat → Int32 → Int32 → Int32 → Int32 → Int32 → Int32 → Bool) → Int32 → Int32 → Int32 → Option (Bool × (Nat → Int32) × (Nat → Int32) × (Nat → Int32) × (Nat → Int32) × Int32)) (a_to : Nat → Int32) (v_tWithout : Int32) (y_lies : Int64) (t : Nat → Int32) (nb : Int32) (bv : Nat → Int32 → Int32 → Int32 → Int32 → Int32 → Int32 → Bool) (p1 : Int32) (p2 : Int32) (p3 : Int32) (x_112 : Int32) (a_tAt_113 : Nat → Int32) (a_tMany_114 : Nat → Int32) (a_order_115 : Nat → Int32) (a_fails_116 : Nat → Int32) (v_tMoved_117 : Int32) : Option ((Int32 × (Nat → Int32) × (Nat → Int32) × (Nat → Int32) × (Nat → Int32) × Int32) ⊕ (((Nat → Int32) × (Nat → Int32) × (Nat → Int32) × (Nat → Int32) × Int32) ⊕ ((Nat → Int32) × (Nat → Int32) × (Nat → Int32) × (Nat → Int32) × Int32))) :=
  if 8 ≤ x_112 then
    some (.inr (.inr (a_tAt_113, a_tMany_114, a_order_115, a_fails_116, v_tMoved_117)))
  else
    bd1 (FX0_has p1 x_112) fun b_125 =>
    if (b2i b_125) = 0 then
      FX0_orders_b_j197 rf x_112 a_tAt_113 a_tMany_114 a_order_115 a_fails_116 v_tMoved_117
    else
      bd1 (FX0_has p2 x_112) fun b_127 =>
      if (b2i b_127) = 0 then
        bd1 (FX0_placeIn y_lies x_112) fun x_129 =>
        bd1 (rd 8 a_to x_112) fun x_130 =>
        bd1 (FX4_top a_tAt_113 a_tMany_114 (x_129 / 3)) fun x_131 =>
        if x_131 = x_112 then
          bd1 (FX4_may t a_tAt_113 a_tMany_114 v_tMoved_117 v_tWithout nb bv (x_129 / 3) (x_130 / 3)) fun x_133 =>
          if x_133 = 0 then
            bd1 (rd 5 a_tMany_114 (x_130 / 3)) fun x_141 =>
            bd1 (rd 8 a_to x_112) fun x_142 =>
            if x_141 = (x_142 - x_142 / 3 * 3) then
              bd4 (FX4_carries a_tAt_113 a_tMany_114 v_tMoved_117 (x_129 / 3) (x_130 / 3) 1) fun x_144 a_tAt_145 a_tMany_146 v_tMoved_147 =>
              bd1 (wrI 8 a_order_115 p3 x_112) fun a_order_148 =>
              bd6 (rf a_tAt_145 a_tMany_146 a_to a_order_148 a_fails_116 v_tMoved_147 v_tWithout y_lies t nb bv p1 (p2 ||| ((1 : Int32) <<< (x_112 &&& 31))) (p3 + 1)) fun b_149 a_tAt_150 a_tMany_151 a_order_152 a_fails_153 v_tMoved_154 =>
              if (b2i b_149) = 0 then
                bd3 (FX4_undoes a_tAt_150 a_tMany_151 v_tMoved_154 (x_129 / 3) (x_130 / 3) v_tMoved_117) fun a_tAt_162 a_tMany_163 v_tMoved_164 =>
                FX0_orders_b_j197 rf x_112 a_tAt_162 a_tMany_163 a_order_152 a_fails_153 v_tMoved_164
              else
                some (.inr (.inl (a_tAt_150, a_tMany_151, a_order_152, a_fails_153, v_tMoved_154)))
            else
              FX0_orders_b_j197 rf x_112 a_tAt_113 a_tMany_114 a_order_115 a_fails_116 v_tMoved_117
          else
            FX0_orders_b_j197 rf x_112 a_tAt_113 a_tMany_114 a_order_115 a_fails_116 v_tMoved_117
        else
          FX0_orders_b_j197 rf x_112 a_tAt_113 a_tMany_114 a_order_115 a_fails_116 v_tMoved_117
      else
        FX0_orders_b_j197 rf x_112 a_tAt_113 a_tMany_114 a_order_115 a_fails_116 v_tMoved_117

noncomputable def FX0_orders_b (rf : (Nat → Int32) → (Nat → Int32) → (Nat → Int32) → (Nat → Int32) → (Nat → Int32) → Int32 → Int32 → Int64 → (Nat → Int32) → Int32 → (Nat → Int32 → Int32 → Int32 → Int32 → Int32 → Int32 → Bool) → Int32 → Int32 → Int32 → Option (Bool × (Nat → Int32) × (Nat → Int32) × (Nat → Int32) × (Nat → Int32) × Int32)) (a_tAt : Nat → Int32) (a_tMany : Nat → Int32) (a_to : Nat → Int32) (a_order : Nat → Int32) (a_fails : Nat → Int32) (v_tMoved : Int32) (v_tWithout : Int32) (y_lies : Int64) (t : Nat → Int32) (nb : Int32) (bv : Nat → Int32 → Int32 → Int32 → Int32 → Int32 → Int32 → Bool) (p1 : Int32) (p2 : Int32) (p3 : Int32) : Option (Bool × (Nat → Int32) × (Nat → Int32) × (Nat → Int32) × (Nat → Int32) × Int32) :=
  if p2 = p1 then
    some (true, a_tAt, a_tMany, a_order, a_fails, v_tMoved)
  else
    bd1 (rd 256 a_fails p2) fun x_58 =>
    if x_58 = 0 then
      bdS2 (loopC (fun s => FX0_orders_b_b21 rf a_to v_tWithout y_lies t nb bv p1 p2 p3 s.1 s.2.1 s.2.2.1 s.2.2.2.1 s.2.2.2.2.1 s.2.2.2.2.2) (0, a_tAt, a_tMany, a_order, a_fails, v_tMoved))
        (un5 fun a_tAt_176 a_tMany_177 a_order_178 a_fails_179 v_tMoved_180 =>
          some (true, a_tAt_176, a_tMany_177, a_order_178, a_fails_179, v_tMoved_180))
        (un5 fun a_tAt_187 a_tMany_188 a_order_189 a_fails_190 v_tMoved_191 =>
          bd1 (wrI 256 a_fails_190 p2 (vp_nar .boolean 1)) fun a_fails_198 =>
          some (false, a_tAt_187, a_tMany_188, a_order_189, a_fails_198, v_tMoved_191))
    else
      some (false, a_tAt, a_tMany, a_order, a_fails, v_tMoved)

noncomputable def FX0_orders : Nat → (Nat → Int32) → (Nat → Int32) → (Nat → Int32) → (Nat → Int32) → (Nat → Int32) → Int32 → Int32 → Int64 → (Nat → Int32) → Int32 → (Nat → Int32 → Int32 → Int32 → Int32 → Int32 → Int32 → Bool) → Int32 → Int32 → Int32 → Option (Bool × (Nat → Int32) × (Nat → Int32) × (Nat → Int32) × (Nat → Int32) × Int32)
  | 0 => fun _ _ _ _ _ _ _ _ _ _ _ _ _ _ => none
  | d + 1 => FX0_orders_b (FX0_orders d)

noncomputable def FX5_goes (a_to : Nat → Int32) (y_lies : Int64) (p1 : Int32) : Option Bool :=
  bd1 (rd 8 a_to p1) fun x_55 =>
  if x_55 = (-1) then
    some false
  else
    bd1 (rd 8 a_to p1) fun x_57 =>
    bd1 (FX0_placeIn y_lies p1) fun x_58 =>
    if x_57 = x_58 then
      some false
    else
      some true

noncomputable def FX5_going_j40 (x_58 : Int32) (x_59 : Int32) (x_63 : Int32) : Option ((Int32 × Int32) ⊕ Int32) :=
  some (.inl ((x_58 ||| x_63), (x_59 + 1)))

noncomputable def FX5_going_b4 (a_to : Nat → Int32) (y_lies : Int64) (t : Nat → Int32) (x_58 : Int32) (x_59 : Int32) : Option ((Int32 × Int32) ⊕ Int32) :=
  if (t 6) ≤ x_59 then
    some (.inr x_58)
  else
    bd1 (FX5_goes a_to y_lies x_59) fun b_61 =>
    if (b2i b_61) = 0 then
      FX5_going_j40 x_58 x_59 0
    else
      FX5_going_j40 x_58 x_59 ((1 : Int32) <<< (x_59 &&& 31))

noncomputable def FX5_going (a_to : Nat → Int32) (y_lies : Int64) (t : Nat → Int32) : Option Int32 :=
  bd1 (loopC (fun s => FX5_going_b4 a_to y_lies t s.1 s.2) (0, 0)) fun x_64 =>
    some x_64

noncomputable def FX0_once_b13 (x_63 : Int32) (a_fails_64 : Nat → Int32) : Option ((Int32 × (Nat → Int32)) ⊕ (Nat → Int32)) :=
  if 256 ≤ x_63 then
    some (.inr a_fails_64)
  else
    bd1 (wrI 256 a_fails_64 x_63 (vp_nar .boolean 0)) fun a_fails_66 =>
    some (.inl ((x_63 + 1), a_fails_66))

noncomputable def FX0_once (a_tAt : Nat → Int32) (a_tMany : Nat → Int32) (a_least : Nat → Int32) (a_place : Nat → Int32) (a_to : Nat → Int32) (a_order : Nat → Int32) (a_fails : Nat → Int32) (y_lies : Int64) (t : Nat → Int32) (nb : Int32) (bv : Nat → Int32 → Int32 → Int32 → Int32 → Int32 → Int32 → Bool) (p1 : Int32) : Option (Int32 × (Nat → Int32) × (Nat → Int32) × (Nat → Int32) × (Nat → Int32) × (Nat → Int32) × (Nat → Int32) × (Nat → Int32) × Int32 × Int32 × Int32 × Int32 × Int32) :=
  bd5 (FX5_finds a_least a_place a_to y_lies t) fun a_least_55 a_place_56 a_to_57 v_places_58 v_elsewhere_59 =>
  bd1 (FX5_going a_to_57 y_lies t) fun x_60 =>
  bd1 (loopC (fun s => FX0_once_b13 s.1 s.2) (0, a_fails)) fun a_fails_67 =>
    bd1 (FX0_resting y_lies) fun y_68 =>
    bd3 (FX4_lays t a_tAt a_tMany y_68) fun a_tAt_69 a_tMany_70 v_tMoved_71 =>
    bd1 (FJ11_bitCount x_60) fun x_72 =>
    bd6 (FX0_orders 10 a_tAt_69 a_tMany_70 a_to_57 a_order a_fails_67 v_tMoved_71 (-1) y_lies t nb bv x_60 0 0) fun b_73 a_tAt_74 a_tMany_75 a_order_76 a_fails_77 v_tMoved_78 =>
    if (b2i b_73) = 0 then
      some ((-1), a_tAt_74, a_tMany_75, a_least_55, a_place_56, a_to_57, a_order_76, a_fails_77, x_72, v_tMoved_78, (-1), v_places_58, v_elsewhere_59)
    else
      if p1 = (-1) then
        some (x_72, a_tAt_74, a_tMany_75, a_least_55, a_place_56, a_to_57, a_order_76, a_fails_77, x_72, v_tMoved_78, (-1), v_places_58, v_elsewhere_59)
      else
        bd1 (FX0_in (Int32.toInt64 p1) 0 (Int32.toInt64 (x_72 - 1))) fun b_87 =>
        if (b2i b_87) = 0 then
          some ((-1), a_tAt_74, a_tMany_75, a_least_55, a_place_56, a_to_57, a_order_76, a_fails_77, x_72, v_tMoved_78, (-1), v_places_58, v_elsewhere_59)
        else
          bd1 (rd 8 a_order_76 p1) fun x_89 =>
          some (x_89, a_tAt_74, a_tMany_75, a_least_55, a_place_56, a_to_57, a_order_76, a_fails_77, x_72, v_tMoved_78, (-1), v_places_58, v_elsewhere_59)

noncomputable def FX0_isAhead_j136 : Option Bool :=
  some true

noncomputable def FX0_isAhead_j126 (x_60 : Int32) (x_63 : Int32) : Option Bool :=
  if (x_60 / 3) = (x_63 / 3) then
    FX0_isAhead_j136
  else
    some false

noncomputable def FX0_isAhead_j108 (x_60 : Int32) (x_62 : Int32) (x_63 : Int32) : Option Bool :=
  if (x_62 / 3) = (x_63 / 3) then
    if x_62 < x_63 then
      FX0_isAhead_j136
    else
      FX0_isAhead_j126 x_60 x_63
  else
    FX0_isAhead_j126 x_60 x_63

noncomputable def FX0_isAhead (a_to : Nat → Int32) (y_lies : Int64) (p1 : Int32) (p2 : Int32) : Option Bool :=
  bd1 (FX5_goes a_to y_lies p1) fun b_56 =>
  if (b2i b_56) = 0 then
    some false
  else
    bd1 (FX5_goes a_to y_lies p2) fun b_58 =>
    if (b2i b_58) = 0 then
      some false
    else
      bd1 (FX0_placeIn y_lies p1) fun x_60 =>
      bd1 (FX0_placeIn y_lies p2) fun x_61 =>
      bd1 (rd 8 a_to p1) fun x_62 =>
      bd1 (rd 8 a_to p2) fun x_63 =>
      if p1 = p2 then
        if (x_60 / 3) = (x_62 / 3) then
          some true
        else
          some false
      else
        if (x_60 / 3) = (x_61 / 3) then
          if x_61 < x_60 then
            FX0_isAhead_j136
          else
            FX0_isAhead_j108 x_60 x_62 x_63
        else
          FX0_isAhead_j108 x_60 x_62 x_63

noncomputable def FX0_ahead (a_least : Nat → Int32) (a_place : Nat → Int32) (a_to : Nat → Int32) (v_places : Int32) (v_elsewhere : Int32) (y_lies : Int64) (t : Nat → Int32) (p1 : Int32) (p2 : Int32) : Option (Int32 × (Nat → Int32) × (Nat → Int32) × (Nat → Int32) × Int32 × Int32) :=
  bd1 (FX0_isStone t p1) fun b_56 =>
  if (b2i b_56) = 0 then
    some ((-2), a_least, a_place, a_to, v_places, v_elsewhere)
  else
    bd1 (FX0_isStone t p2) fun b_58 =>
    if (b2i b_58) = 0 then
      some ((-2), a_least, a_place, a_to, v_places, v_elsewhere)
    else
      bd5 (FX5_finds a_least a_place a_to y_lies t) fun a_least_60 a_place_61 a_to_62 v_places_63 v_elsewhere_64 =>
      bd1 (FX0_isAhead a_to_62 y_lies p1 p2) fun b_65 =>
      if (b2i b_65) = 0 then
        some (0, a_least_60, a_place_61, a_to_62, v_places_63, v_elsewhere_64)
      else
        some (1, a_least_60, a_place_61, a_to_62, v_places_63, v_elsewhere_64)

noncomputable def FX0_isLoose_j106 (x_137 : Int32) (x_159 : Int32) (x_160 : Int32) : Option ((Int32 × Int32 × Int32) ⊕ (Int32 × Int32)) :=
  some (.inl (x_159, x_160, (x_137 + 1)))

noncomputable def FX0_isLoose_j79 (x_149 : Int32) (x_156 : Int32) : Option ((Int32 × Int32) ⊕ Int32) :=
  some (.inl (x_156, (x_149 + 1)))

noncomputable def FX0_isLoose_j74 (x_149 : Int32) : Option ((Int32 × Int32) ⊕ Int32) :=
  FX0_isLoose_j79 x_149 1

noncomputable def FX0_isLoose_j78 (x_149 : Int32) : Option ((Int32 × Int32) ⊕ Int32) :=
  FX0_isLoose_j79 x_149 0

noncomputable def FX0_isLoose_b42 (a_to : Nat → Int32) (y_lies : Int64) (x_135 : Int32) (x_137 : Int32) (x_148 : Int32) (x_149 : Int32) : Option ((Int32 × Int32) ⊕ Int32) :=
  if 8 ≤ x_149 then
    some (.inr x_148)
  else
    if x_148 = 0 then
      bd1 (FX0_has x_135 x_149) fun b_152 =>
      if (b2i b_152) = 0 then
        FX0_isLoose_j78 x_149
      else
        bd1 (FX0_isAhead a_to y_lies x_149 x_137) fun b_154 =>
        if (b2i b_154) = 0 then
          FX0_isLoose_j78 x_149
        else
          FX0_isLoose_j74 x_149
    else
      FX0_isLoose_j74 x_149

noncomputable def FX0_isLoose_b17 (a_to : Nat → Int32) (y_lies : Int64) (x_135 : Int32) (x_136 : Int32) (x_137 : Int32) : Option ((Int32 × Int32 × Int32) ⊕ (Int32 × Int32)) :=
  if 8 ≤ x_137 then
    some (.inr (x_135, x_136))
  else
    bd1 (FX0_has x_135 x_137) fun b_139 =>
    if (b2i b_139) = 0 then
      FX0_isLoose_j106 x_137 x_135 x_136
    else
      bd1 (loopC (fun s => FX0_isLoose_b42 a_to y_lies x_135 x_137 s.1 s.2) (0, 0)) fun x_157 =>
        if x_157 = 0 then
          FX0_isLoose_j106 x_137 (x_135 &&& (((1 : Int32) <<< (x_137 &&& 31)) ^^^ (-1))) 1
        else
          FX0_isLoose_j106 x_137 x_135 x_136

noncomputable def FX0_isLoose_b4 (a_to : Nat → Int32) (y_lies : Int64) (x_108 : Int32) (x_109 : Int32) : Option ((Int32 × Int32) ⊕ Int32) :=
  if x_108 = 0 then
    some (.inr x_108)
  else
    if x_109 = 0 then
      some (.inr x_108)
    else
      bd2 (loopC (fun s => FX0_isLoose_b17 a_to y_lies s.1 s.2.1 s.2.2) (x_108, 0, 0)) fun x_161 x_162 =>
        some (.inl (x_161, x_162))

noncomputable def FX0_isLoose (a_to : Nat → Int32) (y_lies : Int64) (p1 : Int32) : Option Bool :=
  bd1 (loopC (fun s => FX0_isLoose_b4 a_to y_lies s.1 s.2) (p1, 1)) fun x_163 =>
    if x_163 = 0 then
      some true
    else
      some false

noncomputable def FX0_aside_j74 (x_72 : Int32) (x_80 : Int32) : Option ((Int32 × Int32) ⊕ Int32) :=
  some (.inl (x_80, (x_72 + 1)))

noncomputable def FX0_aside_b29 (y_lies : Int64) (a_to_59 : Nat → Int32) (x_62 : Int32) (x_71 : Int32) (x_72 : Int32) : Option ((Int32 × Int32) ⊕ Int32) :=
  if 256 ≤ x_72 then
    some (.inr x_71)
  else
    if (x_72 &&& (x_62 ^^^ (-1))) = 0 then
      bd1 (FJ11_bitCount x_72) fun x_75 =>
      bd1 (FJ11_bitCount x_71) fun x_76 =>
      if x_76 ≤ x_75 then
        FX0_aside_j74 x_72 x_71
      else
        bd1 (FX0_isLoose a_to_59 y_lies (x_62 &&& (x_72 ^^^ (-1)))) fun b_78 =>
        if (b2i b_78) = 0 then
          FX0_aside_j74 x_72 x_71
        else
          FX0_aside_j74 x_72 x_72
    else
      FX0_aside_j74 x_72 x_71

noncomputable def FX0_aside (a_least : Nat → Int32) (a_place : Nat → Int32) (a_to : Nat → Int32) (v_places : Int32) (v_elsewhere : Int32) (y_lies : Int64) (t : Nat → Int32) (p1 : Int32) : Option (Int32 × (Nat → Int32) × (Nat → Int32) × (Nat → Int32) × Int32 × Int32) :=
  bd1 (FX0_in (Int32.toInt64 p1) 0 1) fun b_55 =>
  if (b2i b_55) = 0 then
    some ((-2), a_least, a_place, a_to, v_places, v_elsewhere)
  else
    bd5 (FX5_finds a_least a_place a_to y_lies t) fun a_least_57 a_place_58 a_to_59 v_places_60 v_elsewhere_61 =>
    bd1 (FX5_going a_to_59 y_lies t) fun x_62 =>
    bd1 (loopC (fun s => FX0_aside_b29 y_lies a_to_59 x_62 s.1 s.2) (x_62, 0)) fun x_81 =>
      if p1 = 0 then
        bd1 (FJ11_bitCount x_81) fun x_83 =>
        some (x_83, a_least_57, a_place_58, a_to_59, v_places_60, v_elsewhere_61)
      else
        some (x_81, a_least_57, a_place_58, a_to_59, v_places_60, v_elsewhere_61)

noncomputable def FX6_slot_b13 (a_sKeys : Nat → Int64) (p1 : Int64) (x_59 : Int32) : Option (Int32 ⊕ Int32) :=
  bd1 (rd 16384 a_sKeys x_59) fun y_60 =>
  if (lg_cmp y_60 0) = 0 then
    some (.inr x_59)
  else
    bd1 (rd 16384 a_sKeys x_59) fun y_62 =>
    if (lg_cmp y_62 (p1 + 1)) = 0 then
      some (.inr x_59)
    else
      some (.inl ((x_59 + 1) &&& 16383))

noncomputable def FX6_slot (a_sKeys : Nat → Int64) (p1 : Int64) : Option Int32 :=
  bd1 (loopC (fun s => FX6_slot_b13 a_sKeys p1 s) (Int64.toInt32 (ushL (p1 * (-7046029254386353131)) 50))) fun x_64 =>
    some x_64

noncomputable def FX6_adds (a_sKeys : Nat → Int64) (a_sRow : Nat → Int64) (a_sSlots : Nat → Int32) (v_sMany : Int32) (p1 : Int64) : Option (Bool × (Nat → Int64) × (Nat → Int64) × (Nat → Int32) × Int32) :=
  bd1 (FX6_slot a_sKeys p1) fun x_55 =>
  bd1 (rd 16384 a_sKeys x_55) fun y_56 =>
  if (lg_cmp y_56 0) = 0 then
    bd1 (wrL 16384 a_sKeys x_55 (p1 + 1)) fun a_sKeys_58 =>
    bd1 (wrL 6002 a_sRow v_sMany p1) fun a_sRow_59 =>
    bd1 (wrI 6002 a_sSlots v_sMany x_55) fun a_sSlots_60 =>
    some (true, a_sKeys_58, a_sRow_59, a_sSlots_60, (v_sMany + 1))
  else
    some (false, a_sKeys, a_sRow, a_sSlots, v_sMany)

noncomputable def FX6_clears_b2 (a_sSlots : Nat → Int32) (v_sMany : Int32) (x_57 : Int32) (a_sKeys_58 : Nat → Int64) : Option ((Int32 × (Nat → Int64)) ⊕ (Nat → Int64)) :=
  if v_sMany ≤ x_57 then
    some (.inr a_sKeys_58)
  else
    bd1 (rd 6002 a_sSlots x_57) fun x_60 =>
    bd1 (wrL 16384 a_sKeys_58 x_60 0) fun a_sKeys_61 =>
    some (.inl ((x_57 + 1), a_sKeys_61))

noncomputable def FX6_clears (a_sKeys : Nat → Int64) (a_sSlots : Nat → Int32) (v_sMany : Int32) : Option ((Nat → Int64) × Int32) :=
  bd1 (loopC (fun s => FX6_clears_b2 a_sSlots v_sMany s.1 s.2) (0, a_sKeys)) fun a_sKeys_62 =>
    some (a_sKeys_62, 0)

noncomputable def FX6_has (a_sKeys : Nat → Int64) (p1 : Int64) : Option Bool :=
  bd1 (FX6_slot a_sKeys p1) fun x_55 =>
  bd1 (rd 16384 a_sKeys x_55) fun y_56 =>
  if (lg_cmp y_56 0) = 0 then
    some false
  else
    some true

noncomputable def FX0_begins_j67 (x_69 : Int32) (a_bKeys_85 : Nat → Int64) (a_bRow_86 : Nat → Int64) (a_bSlots_87 : Nat → Int32) (v_bMany_88 : Int32) : Option ((Int32 × (Nat → Int64) × (Nat → Int64) × (Nat → Int32) × Int32) ⊕ ((Nat → Int64) × (Nat → Int64) × (Nat → Int32) × Int32)) :=
  some (.inl ((x_69 + 1), a_bKeys_85, a_bRow_86, a_bSlots_87, v_bMany_88))

noncomputable def FX0_begins_b10 (a_sRow : Nat → Int64) (v_sMany : Int32) (x_69 : Int32) (a_bKeys_70 : Nat → Int64) (a_bRow_71 : Nat → Int64) (a_bSlots_72 : Nat → Int32) (v_bMany_73 : Int32) : Option ((Int32 × (Nat → Int64) × (Nat → Int64) × (Nat → Int32) × Int32) ⊕ ((Nat → Int64) × (Nat → Int64) × (Nat → Int32) × Int32)) :=
  if v_sMany ≤ x_69 then
    some (.inr (a_bKeys_70, a_bRow_71, a_bSlots_72, v_bMany_73))
  else
    if 6000 < v_bMany_73 then
      some (.inr (a_bKeys_70, a_bRow_71, a_bSlots_72, v_bMany_73))
    else
      bd1 (rd 6002 a_sRow x_69) fun y_76 =>
      bd1 (FX0_resting y_76) fun y_77 =>
      bd1 (FX6_has a_bKeys_70 y_77) fun b_78 =>
      if (b2i b_78) = 0 then
        bd5 (FX6_adds a_bKeys_70 a_bRow_71 a_bSlots_72 v_bMany_73 y_77) fun b_80 a_bKeys_81 a_bRow_82 a_bSlots_83 v_bMany_84 =>
        FX0_begins_j67 x_69 a_bKeys_81 a_bRow_82 a_bSlots_83 v_bMany_84
      else
        FX0_begins_j67 x_69 a_bKeys_70 a_bRow_71 a_bSlots_72 v_bMany_73

noncomputable def FX0_begins_b82 (a_bRow_90 : Nat → Int64) (v_bMany_92 : Int32) (x_102 : Int32) (a_sKeys_103 : Nat → Int64) (a_sRow_104 : Nat → Int64) (a_sSlots_105 : Nat → Int32) (v_sMany_106 : Int32) : Option ((Int32 × (Nat → Int64) × (Nat → Int64) × (Nat → Int32) × Int32) ⊕ ((Nat → Int64) × (Nat → Int64) × (Nat → Int32) × Int32)) :=
  if v_bMany_92 ≤ x_102 then
    some (.inr (a_sKeys_103, a_sRow_104, a_sSlots_105, v_sMany_106))
  else
    bd1 (rd 6002 a_bRow_90 x_102) fun y_108 =>
    bd5 (FX6_adds a_sKeys_103 a_sRow_104 a_sSlots_105 v_sMany_106 y_108) fun b_109 a_sKeys_110 a_sRow_111 a_sSlots_112 v_sMany_113 =>
    some (.inl ((x_102 + 1), a_sKeys_110, a_sRow_111, a_sSlots_112, v_sMany_113))

noncomputable def FX0_begins (a_sKeys : Nat → Int64) (a_sRow : Nat → Int64) (a_sSlots : Nat → Int32) (a_bKeys : Nat → Int64) (a_bRow : Nat → Int64) (a_bSlots : Nat → Int32) (v_sMany : Int32) (v_bMany : Int32) : Option (Bool × (Nat → Int64) × (Nat → Int64) × (Nat → Int32) × (Nat → Int64) × (Nat → Int64) × (Nat → Int32) × Int32 × Int32) :=
  bd4 (loopC (fun s => FX0_begins_b10 a_sRow v_sMany s.1 s.2.1 s.2.2.1 s.2.2.2.1 s.2.2.2.2) (0, a_bKeys, a_bRow, a_bSlots, v_bMany)) fun a_bKeys_89 a_bRow_90 a_bSlots_91 v_bMany_92 =>
    bd2 (FX6_clears a_sKeys a_sSlots v_sMany) fun a_sKeys_93 v_sMany_94 =>
    bd4 (loopC (fun s => FX0_begins_b82 a_bRow_90 v_bMany_92 s.1 s.2.1 s.2.2.1 s.2.2.2.1 s.2.2.2.2) (v_bMany, a_sKeys_93, a_sRow, a_sSlots, v_sMany_94)) fun a_sKeys_114 a_sRow_115 a_sSlots_116 v_sMany_117 =>
      if v_bMany_92 ≤ v_bMany then
        some (false, a_sKeys_114, a_sRow_115, a_sSlots_116, a_bKeys_89, a_bRow_90, a_bSlots_91, v_sMany_117, v_bMany_92)
      else
        some (true, a_sKeys_114, a_sRow_115, a_sSlots_116, a_bKeys_89, a_bRow_90, a_bSlots_91, v_sMany_117, v_bMany_92)

noncomputable def FX0_comes_j16 (a_sKeys : Nat → Int64) (a_sRow : Nat → Int64) (a_sSlots : Nat → Int32) (v_sMany : Int32) (y_58 : Int64) : Option ((Nat → Int64) × (Nat → Int64) × (Nat → Int32) × Int32) :=
  bd5 (FX6_adds a_sKeys a_sRow a_sSlots v_sMany y_58) fun b_59 a_sKeys_60 a_sRow_61 a_sSlots_62 v_sMany_63 =>
  some (a_sKeys_60, a_sRow_61, a_sSlots_62, v_sMany_63)

noncomputable def FX0_comes (a_sKeys : Nat → Int64) (a_sRow : Nat → Int64) (a_sSlots : Nat → Int32) (v_sMany : Int32) (p1 : Int64) (p3 : Int32) : Option ((Nat → Int64) × (Nat → Int64) × (Nat → Int32) × Int32) :=
  if p3 = 0 then
    FX0_comes_j16 a_sKeys a_sRow a_sSlots v_sMany p1
  else
    bd1 (FX0_resting p1) fun y_57 =>
    FX0_comes_j16 a_sKeys a_sRow a_sSlots v_sMany y_57

noncomputable def FX0_to (p0 : Int64) (p2 : Int32) (p3 : Int32) : Option Int64 :=
  some (((p0 &&& ((shlL 15 (4 * p2)) ^^^ (-1))) ||| (shlL (Int32.toInt64 p3) (4 * p2))) ||| (shlL 1 (32 + p2)))

noncomputable def FX0_closes_j202 (p2 : Int32) (x_571 : Int32) (a_sKeys_621 : Nat → Int64) (a_sRow_622 : Nat → Int64) (a_sSlots_623 : Nat → Int32) (v_sMany_624 : Int32) : Option ((Int32 × (Nat → Int64) × (Nat → Int64) × (Nat → Int32) × Int32) ⊕ (((Nat → Int64) × (Nat → Int64) × (Nat → Int32) × Int32) ⊕ ((Nat → Int64) × (Nat → Int64) × (Nat → Int32) × Int32))) :=
  if (p2 + v_sMany_624) ≤ 6000 then
    some (.inl ((x_571 + 1), a_sKeys_621, a_sRow_622, a_sSlots_623, v_sMany_624))
  else
    some (.inr (.inl (a_sKeys_621, a_sRow_622, a_sSlots_623, v_sMany_624)))

noncomputable def FX0_closes_j116 (nb : Int32) (bv : Nat → Int32 → Int32 → Int32 → Int32 → Int32 → Int32 → Bool) (u : Nat → Int32) (p2 : Int32) (p3 : Int32) (y_373 : Int64) (a_tAt_374 : Nat → Int32) (a_tMany_375 : Nat → Int32) (v_tMoved_376 : Int32) (x_509 : Int32) (x_571 : Int32) (a_sKeys_598 : Nat → Int64) (a_sRow_599 : Nat → Int64) (a_sSlots_600 : Nat → Int32) (v_sMany_601 : Int32) : Option ((Int32 × (Nat → Int64) × (Nat → Int64) × (Nat → Int32) × Int32) ⊕ (((Nat → Int64) × (Nat → Int64) × (Nat → Int32) × Int32) ⊕ ((Nat → Int64) × (Nat → Int64) × (Nat → Int32) × Int32))) :=
  if x_571 ≤ x_509 then
    FX0_closes_j202 p2 x_571 a_sKeys_598 a_sRow_599 a_sSlots_600 v_sMany_601
  else
    bd1 (FX4_mayExchange u a_tAt_374 a_tMany_375 v_tMoved_376 nb bv x_509 x_571) fun x_603 =>
    if x_603 = 0 then
      bd1 (FX4_top a_tAt_374 a_tMany_375 x_509) fun x_611 =>
      bd1 (rd 5 a_tMany_375 x_571) fun x_612 =>
      bd1 (FX0_to y_373 x_611 (((3 * x_571) + x_612) - 1)) fun y_613 =>
      bd1 (FX4_top a_tAt_374 a_tMany_375 x_571) fun x_614 =>
      bd1 (rd 5 a_tMany_375 x_509) fun x_615 =>
      bd1 (FX0_to y_613 x_614 (((3 * x_509) + x_615) - 1)) fun y_616 =>
      bd4 (FX0_comes a_sKeys_598 a_sRow_599 a_sSlots_600 v_sMany_601 y_616 p3) fun a_sKeys_617 a_sRow_618 a_sSlots_619 v_sMany_620 =>
      FX0_closes_j202 p2 x_571 a_sKeys_617 a_sRow_618 a_sSlots_619 v_sMany_620
    else
      FX0_closes_j202 p2 x_571 a_sKeys_598 a_sRow_599 a_sSlots_600 v_sMany_601

noncomputable def FX0_closes_b56 (v_tWithout : Int32) (nb : Int32) (bv : Nat → Int32 → Int32 → Int32 → Int32 → Int32 → Int32 → Bool) (u : Nat → Int32) (p2 : Int32) (p3 : Int32) (y_373 : Int64) (a_tAt_374 : Nat → Int32) (a_tMany_375 : Nat → Int32) (v_tMoved_376 : Int32) (x_509 : Int32) (x_571 : Int32) (a_sKeys_572 : Nat → Int64) (a_sRow_573 : Nat → Int64) (a_sSlots_574 : Nat → Int32) (v_sMany_575 : Int32) : Option ((Int32 × (Nat → Int64) × (Nat → Int64) × (Nat → Int32) × Int32) ⊕ (((Nat → Int64) × (Nat → Int64) × (Nat → Int32) × Int32) ⊕ ((Nat → Int64) × (Nat → Int64) × (Nat → Int32) × Int32))) :=
  if (u 0) ≤ x_571 then
    some (.inr (.inr (a_sKeys_572, a_sRow_573, a_sSlots_574, v_sMany_575)))
  else
    bd1 (FX4_may u a_tAt_374 a_tMany_375 v_tMoved_376 v_tWithout nb bv x_509 x_571) fun x_583 =>
    if x_583 = 0 then
      bd1 (FX4_top a_tAt_374 a_tMany_375 x_509) fun x_591 =>
      bd1 (rd 5 a_tMany_375 x_571) fun x_592 =>
      bd1 (FX0_to y_373 x_591 ((3 * x_571) + x_592)) fun y_593 =>
      bd4 (FX0_comes a_sKeys_572 a_sRow_573 a_sSlots_574 v_sMany_575 y_593 p3) fun a_sKeys_594 a_sRow_595 a_sSlots_596 v_sMany_597 =>
      FX0_closes_j116 nb bv u p2 p3 y_373 a_tAt_374 a_tMany_375 v_tMoved_376 x_509 x_571 a_sKeys_594 a_sRow_595 a_sSlots_596 v_sMany_597
    else
      FX0_closes_j116 nb bv u p2 p3 y_373 a_tAt_374 a_tMany_375 v_tMoved_376 x_509 x_571 a_sKeys_572 a_sRow_573 a_sSlots_574 v_sMany_575

noncomputable def FX0_closes_b41 (v_tWithout : Int32) (nb : Int32) (bv : Nat → Int32 → Int32 → Int32 → Int32 → Int32 → Int32 → Bool) (u : Nat → Int32) (p2 : Int32) (p3 : Int32) (y_373 : Int64) (a_tAt_374 : Nat → Int32) (a_tMany_375 : Nat → Int32) (v_tMoved_376 : Int32) (x_509 : Int32) (a_sKeys_510 : Nat → Int64) (a_sRow_511 : Nat → Int64) (a_sSlots_512 : Nat → Int32) (v_sMany_513 : Int32) : Option ((Int32 × (Nat → Int64) × (Nat → Int64) × (Nat → Int32) × Int32) ⊕ (((Nat → Int64) × (Nat → Int64) × (Nat → Int32) × Int32) ⊕ ((Nat → Int64) × (Nat → Int64) × (Nat → Int32) × Int32))) :=
  if (u 0) ≤ x_509 then
    some (.inr (.inr (a_sKeys_510, a_sRow_511, a_sSlots_512, v_sMany_513)))
  else
    bdS2 (loopC (fun s => FX0_closes_b56 v_tWithout nb bv u p2 p3 y_373 a_tAt_374 a_tMany_375 v_tMoved_376 x_509 s.1 s.2.1 s.2.2.1 s.2.2.2.1 s.2.2.2.2) (0, a_sKeys_510, a_sRow_511, a_sSlots_512, v_sMany_513))
      (un4 fun a_sKeys_632 a_sRow_633 a_sSlots_634 v_sMany_635 =>
        some (.inr (.inl (a_sKeys_632, a_sRow_633, a_sSlots_634, v_sMany_635))))
      (un4 fun a_sKeys_642 a_sRow_643 a_sSlots_644 v_sMany_645 =>
        some (.inl ((x_509 + 1), a_sKeys_642, a_sRow_643, a_sSlots_644, v_sMany_645)))

noncomputable def FX0_closes_b3 (v_tWithout : Int32) (nb : Int32) (bv : Nat → Int32 → Int32 → Int32 → Int32 → Int32 → Int32 → Bool) (u : Nat → Int32) (p2 : Int32) (p3 : Int32) (x_357 : Int32) (a_tAt_358 : Nat → Int32) (a_tMany_359 : Nat → Int32) (a_sKeys_360 : Nat → Int64) (a_sRow_361 : Nat → Int64) (a_sSlots_362 : Nat → Int32) (v_tMoved_363 : Int32) (v_sMany_364 : Int32) : Option ((Int32 × (Nat → Int32) × (Nat → Int32) × (Nat → Int64) × (Nat → Int64) × (Nat → Int32) × Int32 × Int32) ⊕ (((Nat → Int32) × (Nat → Int32) × (Nat → Int64) × (Nat → Int64) × (Nat → Int32) × Int32 × Int32) ⊕ ((Nat → Int32) × (Nat → Int32) × (Nat → Int64) × (Nat → Int64) × (Nat → Int32) × Int32 × Int32))) :=
  if v_sMany_364 ≤ x_357 then
    some (.inr (.inr (a_tAt_358, a_tMany_359, a_sKeys_360, a_sRow_361, a_sSlots_362, v_tMoved_363, v_sMany_364)))
  else
    bd1 (rd 6002 a_sRow_361 x_357) fun y_373 =>
    bd3 (FX4_lays u a_tAt_358 a_tMany_359 y_373) fun a_tAt_374 a_tMany_375 v_tMoved_376 =>
    bdS2 (loopC (fun s => FX0_closes_b41 v_tWithout nb bv u p2 p3 y_373 a_tAt_374 a_tMany_375 v_tMoved_376 s.1 s.2.1 s.2.2.1 s.2.2.2.1 s.2.2.2.2) (0, a_sKeys_360, a_sRow_361, a_sSlots_362, v_sMany_364))
      (un4 fun a_sKeys_652 a_sRow_653 a_sSlots_654 v_sMany_655 =>
        some (.inr (.inl (a_tAt_374, a_tMany_375, a_sKeys_652, a_sRow_653, a_sSlots_654, v_tMoved_376, v_sMany_655))))
      (un4 fun a_sKeys_662 a_sRow_663 a_sSlots_664 v_sMany_665 =>
        some (.inl ((x_357 + 1), a_tAt_374, a_tMany_375, a_sKeys_662, a_sRow_663, a_sSlots_664, v_tMoved_376, v_sMany_665)))

noncomputable def FX0_closes (u : Nat → Int32) (a_tAt : Nat → Int32) (a_tMany : Nat → Int32) (a_sKeys : Nat → Int64) (a_sRow : Nat → Int64) (a_sSlots : Nat → Int32) (v_tMoved : Int32) (v_tWithout : Int32) (v_sMany : Int32) (nb : Int32) (bv : Nat → Int32 → Int32 → Int32 → Int32 → Int32 → Int32 → Bool) (p2 : Int32) (p3 : Int32) : Option (Bool × (Nat → Int32) × (Nat → Int32) × (Nat → Int64) × (Nat → Int64) × (Nat → Int32) × Int32 × Int32) :=
  bdS2 (loopC (fun s => FX0_closes_b3 v_tWithout nb bv u p2 p3 s.1 s.2.1 s.2.2.1 s.2.2.2.1 s.2.2.2.2.1 s.2.2.2.2.2.1 s.2.2.2.2.2.2.1 s.2.2.2.2.2.2.2) (0, a_tAt, a_tMany, a_sKeys, a_sRow, a_sSlots, v_tMoved, v_sMany))
    (un7 fun a_tAt_672 a_tMany_673 a_sKeys_674 a_sRow_675 a_sSlots_676 v_tMoved_677 v_sMany_678 =>
      some (false, a_tAt_672, a_tMany_673, a_sKeys_674, a_sRow_675, a_sSlots_676, v_tMoved_677, v_sMany_678))
    (un7 fun a_tAt_685 a_tMany_686 a_sKeys_687 a_sRow_688 a_sSlots_689 v_tMoved_690 v_sMany_691 =>
      some (true, a_tAt_685, a_tMany_686, a_sKeys_687, a_sRow_688, a_sSlots_689, v_tMoved_690, v_sMany_691))

noncomputable def FX0_isAnyDone_b2 (a_sRow : Nat → Int64) (v_sMany : Int32) (u : Nat → Int32) (p2 : Int32) (x_63 : Int32) (a_tAt_64 : Nat → Int32) (a_tMany_65 : Nat → Int32) (v_tMoved_66 : Int32) : Option ((Int32 × (Nat → Int32) × (Nat → Int32) × Int32) ⊕ (((Nat → Int32) × (Nat → Int32) × Int32) ⊕ ((Nat → Int32) × (Nat → Int32) × Int32))) :=
  if v_sMany ≤ x_63 then
    some (.inr (.inr (a_tAt_64, a_tMany_65, v_tMoved_66)))
  else
    bd1 (rd 6002 a_sRow x_63) fun y_69 =>
    bd3 (FX4_lays u a_tAt_64 a_tMany_65 y_69) fun a_tAt_70 a_tMany_71 v_tMoved_72 =>
    bd1 (FX4_isDone u a_tAt_70 a_tMany_71 p2) fun b_73 =>
    if (b2i b_73) = 0 then
      some (.inl ((x_63 + 1), a_tAt_70, a_tMany_71, v_tMoved_72))
    else
      some (.inr (.inl (a_tAt_70, a_tMany_71, v_tMoved_72)))

noncomputable def FX0_isAnyDone (u : Nat → Int32) (a_tAt : Nat → Int32) (a_tMany : Nat → Int32) (a_sRow : Nat → Int64) (v_tMoved : Int32) (v_sMany : Int32) (p2 : Int32) : Option (Bool × (Nat → Int32) × (Nat → Int32) × Int32) :=
  bdS2 (loopC (fun s => FX0_isAnyDone_b2 a_sRow v_sMany u p2 s.1 s.2.1 s.2.2.1 s.2.2.2) (0, a_tAt, a_tMany, v_tMoved))
    (un3 fun a_tAt_75 a_tMany_76 v_tMoved_77 =>
      some (true, a_tAt_75, a_tMany_76, v_tMoved_77))
    (un3 fun a_tAt_78 a_tMany_79 v_tMoved_80 =>
      some (false, a_tAt_78, a_tMany_79, v_tMoved_80))

noncomputable def FX0_opens_j41 (a_sKeys_60 : Nat → Int64) (a_sRow_61 : Nat → Int64) (a_sSlots_62 : Nat → Int32) (v_sMany_63 : Int32) (a_bKeys_71 : Nat → Int64) (a_bRow_72 : Nat → Int64) (a_bSlots_73 : Nat → Int32) (v_bMany_74 : Int32) : Option ((Nat → Int64) × (Nat → Int64) × (Nat → Int32) × (Nat → Int64) × (Nat → Int64) × (Nat → Int32) × Int32 × Int32 × Int32) :=
  some (a_sKeys_60, a_sRow_61, a_sSlots_62, a_bKeys_71, a_bRow_72, a_bSlots_73, 0, v_sMany_63, v_bMany_74)

noncomputable def FX0_opens (a_sKeys : Nat → Int64) (a_sRow : Nat → Int64) (a_sSlots : Nat → Int32) (a_bKeys : Nat → Int64) (a_bRow : Nat → Int64) (a_bSlots : Nat → Int32) (v_sMany : Int32) (v_bMany : Int32) (p1 : Int64) : Option ((Nat → Int64) × (Nat → Int64) × (Nat → Int32) × (Nat → Int64) × (Nat → Int64) × (Nat → Int32) × Int32 × Int32 × Int32) :=
  bd2 (FX6_clears a_sKeys a_sSlots v_sMany) fun a_sKeys_55 v_sMany_56 =>
  bd2 (FX6_clears a_bKeys a_bSlots v_bMany) fun a_bKeys_57 v_bMany_58 =>
  bd5 (FX6_adds a_sKeys_55 a_sRow a_sSlots v_sMany_56 p1) fun b_59 a_sKeys_60 a_sRow_61 a_sSlots_62 v_sMany_63 =>
  bd1 (FX0_resting p1) fun y_64 =>
  if (lg_cmp y_64 p1) = 0 then
    bd5 (FX6_adds a_bKeys_57 a_bRow a_bSlots v_bMany_58 p1) fun b_66 a_bKeys_67 a_bRow_68 a_bSlots_69 v_bMany_70 =>
    FX0_opens_j41 a_sKeys_60 a_sRow_61 a_sSlots_62 v_sMany_63 a_bKeys_67 a_bRow_68 a_bSlots_69 v_bMany_70
  else
    FX0_opens_j41 a_sKeys_60 a_sRow_61 a_sSlots_62 v_sMany_63 a_bKeys_57 a_bRow a_bSlots v_bMany_58

noncomputable def FX0_seeks_b44 (nb : Int32) (bv : Nat → Int32 → Int32 → Int32 → Int32 → Int32 → Int32 → Bool) (u : Nat → Int32) (p4 : Int32) (p5 : Int32) (x_104 : Int32) (x_105 : Int32) (a_tAt_106 : Nat → Int32) (a_tMany_107 : Nat → Int32) (a_sKeys_108 : Nat → Int64) (a_sRow_109 : Nat → Int64) (a_sSlots_110 : Nat → Int32) (a_bKeys_111 : Nat → Int64) (a_bRow_112 : Nat → Int64) (a_bSlots_113 : Nat → Int32) (v_sought_114 : Int32) (v_tMoved_115 : Int32) (v_sMany_116 : Int32) (v_bMany_117 : Int32) : Option ((Int32 × Int32 × (Nat → Int32) × (Nat → Int32) × (Nat → Int64) × (Nat → Int64) × (Nat → Int32) × (Nat → Int64) × (Nat → Int64) × (Nat → Int32) × Int32 × Int32 × Int32 × Int32) ⊕ (((Nat → Int32) × (Nat → Int32) × (Nat → Int64) × (Nat → Int64) × (Nat → Int32) × (Nat → Int64) × (Nat → Int64) × (Nat → Int32) × Int32 × Int32 × Int32 × Int32) ⊕ ((Int32 × (Nat → Int32) × (Nat → Int32) × (Nat → Int64) × (Nat → Int64) × (Nat → Int32) × (Nat → Int64) × (Nat → Int64) × (Nat → Int32) × Int32 × Int32 × Int32 × Int32) ⊕ ((Nat → Int32) × (Nat → Int32) × (Nat → Int64) × (Nat → Int64) × (Nat → Int32) × (Nat → Int64) × (Nat → Int64) × (Nat → Int32) × Int32 × Int32 × Int32 × Int32)))) :=
  if x_105 = 0 then
    some (.inr (.inr (.inr (a_tAt_106, a_tMany_107, a_sKeys_108, a_sRow_109, a_sSlots_110, a_bKeys_111, a_bRow_112, a_bSlots_113, v_sought_114, v_tMoved_115, v_sMany_116, v_bMany_117))))
  else
    bd8 (FX0_closes u a_tAt_106 a_tMany_107 a_sKeys_108 a_sRow_109 a_sSlots_110 v_tMoved_115 p5 v_sMany_116 nb bv v_sought_114 0) fun b_126 a_tAt_127 a_tMany_128 a_sKeys_129 a_sRow_130 a_sSlots_131 v_tMoved_132 v_sMany_133 =>
    if (b2i b_126) = 0 then
      some (.inr (.inl (a_tAt_127, a_tMany_128, a_sKeys_129, a_sRow_130, a_sSlots_131, a_bKeys_111, a_bRow_112, a_bSlots_113, v_sought_114, v_tMoved_132, v_sMany_133, v_bMany_117)))
    else
      bd4 (FX0_isAnyDone u a_tAt_127 a_tMany_128 a_sRow_130 v_tMoved_132 v_sMany_133 p4) fun b_142 a_tAt_143 a_tMany_144 v_tMoved_145 =>
      if (b2i b_142) = 0 then
        bd9 (FX0_begins a_sKeys_129 a_sRow_130 a_sSlots_131 a_bKeys_111 a_bRow_112 a_bSlots_113 v_sMany_133 v_bMany_117) fun b_148 a_sKeys_149 a_sRow_150 a_sSlots_151 a_bKeys_152 a_bRow_153 a_bSlots_154 v_sMany_155 v_bMany_156 =>
        some (.inl ((x_104 + 1), (b2i b_148), a_tAt_143, a_tMany_144, a_sKeys_149, a_sRow_150, a_sSlots_151, a_bKeys_152, a_bRow_153, a_bSlots_154, (v_sought_114 + v_sMany_133), v_tMoved_145, v_sMany_155, v_bMany_156))
      else
        some (.inr (.inr (.inl (x_104, a_tAt_143, a_tMany_144, a_sKeys_129, a_sRow_130, a_sSlots_131, a_bKeys_111, a_bRow_112, a_bSlots_113, (v_sought_114 + v_sMany_133), v_tMoved_145, v_sMany_133, v_bMany_117))))

noncomputable def FX0_seeks (u : Nat → Int32) (a_tAt : Nat → Int32) (a_tMany : Nat → Int32) (a_sKeys : Nat → Int64) (a_sRow : Nat → Int64) (a_sSlots : Nat → Int32) (a_bKeys : Nat → Int64) (a_bRow : Nat → Int64) (a_bSlots : Nat → Int32) (v_sMany : Int32) (v_bMany : Int32) (nb : Int32) (bv : Nat → Int32 → Int32 → Int32 → Int32 → Int32 → Int32 → Bool) (p2 : Int64) (p4 : Int32) (p5 : Int32) : Option (Int32 × (Nat → Int32) × (Nat → Int32) × (Nat → Int64) × (Nat → Int64) × (Nat → Int32) × (Nat → Int64) × (Nat → Int64) × (Nat → Int32) × Int32 × Int32 × Int32 × Int32 × Int32) :=
  bd3 (FX4_lays u a_tAt a_tMany p2) fun a_tAt_58 a_tMany_59 v_tMoved_60 =>
  bd1 (FX4_isDone u a_tAt_58 a_tMany_59 p4) fun b_61 =>
  if (b2i b_61) = 0 then
    bd9 (FX0_opens a_sKeys a_sRow a_sSlots a_bKeys a_bRow a_bSlots v_sMany v_bMany p2) fun a_sKeys_63 a_sRow_64 a_sSlots_65 a_bKeys_66 a_bRow_67 a_bSlots_68 v_sought_69 v_sMany_70 v_bMany_71 =>
    bdS3 (loopC (fun s => FX0_seeks_b44 nb bv u p4 p5 s.1 s.2.1 s.2.2.1 s.2.2.2.1 s.2.2.2.2.1 s.2.2.2.2.2.1 s.2.2.2.2.2.2.1 s.2.2.2.2.2.2.2.1 s.2.2.2.2.2.2.2.2.1 s.2.2.2.2.2.2.2.2.2.1 s.2.2.2.2.2.2.2.2.2.2.1 s.2.2.2.2.2.2.2.2.2.2.2.1 s.2.2.2.2.2.2.2.2.2.2.2.2.1 s.2.2.2.2.2.2.2.2.2.2.2.2.2) (1, 1, a_tAt_58, a_tMany_59, a_sKeys_63, a_sRow_64, a_sSlots_65, a_bKeys_66, a_bRow_67, a_bSlots_68, v_sought_69, v_tMoved_60, v_sMany_70, v_bMany_71))
      (un12 fun a_tAt_157 a_tMany_158 a_sKeys_159 a_sRow_160 a_sSlots_161 a_bKeys_162 a_bRow_163 a_bSlots_164 v_sought_165 v_tMoved_166 v_sMany_167 v_bMany_168 =>
        some ((-4), a_tAt_157, a_tMany_158, a_sKeys_159, a_sRow_160, a_sSlots_161, a_bKeys_162, a_bRow_163, a_bSlots_164, v_sought_165, v_tMoved_166, p5, v_sMany_167, v_bMany_168))
      (un13 fun x_176 a_tAt_177 a_tMany_178 a_sKeys_179 a_sRow_180 a_sSlots_181 a_bKeys_182 a_bRow_183 a_bSlots_184 v_sought_185 v_tMoved_186 v_sMany_187 v_bMany_188 =>
        some (x_176, a_tAt_177, a_tMany_178, a_sKeys_179, a_sRow_180, a_sSlots_181, a_bKeys_182, a_bRow_183, a_bSlots_184, v_sought_185, v_tMoved_186, p5, v_sMany_187, v_bMany_188))
      (un12 fun a_tAt_196 a_tMany_197 a_sKeys_198 a_sRow_199 a_sSlots_200 a_bKeys_201 a_bRow_202 a_bSlots_203 v_sought_204 v_tMoved_205 v_sMany_206 v_bMany_207 =>
        some ((-1), a_tAt_196, a_tMany_197, a_sKeys_198, a_sRow_199, a_sSlots_200, a_bKeys_201, a_bRow_202, a_bSlots_203, v_sought_204, v_tMoved_205, p5, v_sMany_206, v_bMany_207))
  else
    some (0, a_tAt_58, a_tMany_59, a_sKeys, a_sRow, a_sSlots, a_bKeys, a_bRow, a_bSlots, 0, v_tMoved_60, p5, v_sMany, v_bMany)

noncomputable def FX0_years (a_tAt : Nat → Int32) (a_tMany : Nat → Int32) (a_sKeys : Nat → Int64) (a_sRow : Nat → Int64) (a_sSlots : Nat → Int32) (a_bKeys : Nat → Int64) (a_bRow : Nat → Int64) (a_bSlots : Nat → Int32) (v_sought : Int32) (v_lastSought : Int32) (v_tMoved : Int32) (v_tWithout : Int32) (v_sMany : Int32) (v_bMany : Int32) (y_lies : Int64) (t : Nat → Int32) (nb : Int32) (bv : Nat → Int32 → Int32 → Int32 → Int32 → Int32 → Int32 → Bool) (p1 : Int32) : Option (Int32 × (Nat → Int32) × (Nat → Int32) × (Nat → Int64) × (Nat → Int64) × (Nat → Int32) × (Nat → Int64) × (Nat → Int64) × (Nat → Int32) × Int32 × Int32 × Int32 × Int32 × Int32 × Int32) :=
  bd1 (FX0_isWho p1) fun b_55 =>
  if (b2i b_55) = 0 then
    some ((-2), a_tAt, a_tMany, a_sKeys, a_sRow, a_sSlots, a_bKeys, a_bRow, a_bSlots, v_sought, v_lastSought, v_tMoved, v_tWithout, v_sMany, v_bMany)
  else
    bd14 (FX0_seeks t a_tAt a_tMany a_sKeys a_sRow a_sSlots a_bKeys a_bRow a_bSlots v_sMany v_bMany nb bv y_lies p1 (-1)) fun x_57 a_tAt_58 a_tMany_59 a_sKeys_60 a_sRow_61 a_sSlots_62 a_bKeys_63 a_bRow_64 a_bSlots_65 v_sought_66 v_tMoved_67 v_tWithout_68 v_sMany_69 v_bMany_70 =>
    if x_57 = (-4) then
      some (x_57, a_tAt_58, a_tMany_59, a_sKeys_60, a_sRow_61, a_sSlots_62, a_bKeys_63, a_bRow_64, a_bSlots_65, v_sought_66, v_lastSought, v_tMoved_67, v_tWithout_68, v_sMany_69, v_bMany_70)
    else
      some (x_57, a_tAt_58, a_tMany_59, a_sKeys_60, a_sRow_61, a_sSlots_62, a_bKeys_63, a_bRow_64, a_bSlots_65, v_sought_66, v_sought_66, v_tMoved_67, v_tWithout_68, v_sMany_69, v_bMany_70)

noncomputable def FX0_states (v_lastSought : Int32) : Option Int32 :=
  some v_lastSought

noncomputable def FX0_after (a_hAt : Nat → Int32) (a_hMany : Nat → Int32) (a_tAt : Nat → Int32) (a_tMany : Nat → Int32) (a_sKeys : Nat → Int64) (a_sRow : Nat → Int64) (a_sSlots : Nat → Int32) (a_bKeys : Nat → Int64) (a_bRow : Nat → Int64) (a_bSlots : Nat → Int32) (v_sought : Int32) (v_hWithout : Int32) (v_tMoved : Int32) (v_tWithout : Int32) (v_sMany : Int32) (v_bMany : Int32) (y_lies : Int64) (t : Nat → Int32) (nb : Int32) (bv : Nat → Int32 → Int32 → Int32 → Int32 → Int32 → Int32 → Bool) (p1 : Int32) (p2 : Int32) : Option (Int32 × (Nat → Int32) × (Nat → Int32) × (Nat → Int32) × (Nat → Int32) × (Nat → Int64) × (Nat → Int64) × (Nat → Int32) × (Nat → Int64) × (Nat → Int64) × (Nat → Int32) × Int32 × Int32 × Int32 × Int32 × Int32 × Int32) :=
  bd3 (FX0_here a_hAt a_hMany y_lies t) fun a_hAt_56 a_hMany_57 v_hMoved_58 =>
  bd1 (FX4_may t a_hAt_56 a_hMany_57 v_hMoved_58 v_hWithout nb bv p1 p2) fun x_59 =>
  if x_59 = 0 then
    bd4 (FX4_carries a_hAt_56 a_hMany_57 v_hMoved_58 p1 p2 1) fun x_67 a_hAt_68 a_hMany_69 v_hMoved_70 =>
    bd1 (FX4_lies a_hAt_68 v_hMoved_70 y_lies) fun y_71 =>
    bd14 (FX0_seeks t a_tAt a_tMany a_sKeys a_sRow a_sSlots a_bKeys a_bRow a_bSlots v_sMany v_bMany nb bv y_71 (-1) (-1)) fun x_72 a_tAt_73 a_tMany_74 a_sKeys_75 a_sRow_76 a_sSlots_77 a_bKeys_78 a_bRow_79 a_bSlots_80 v_sought_81 v_tMoved_82 v_tWithout_83 v_sMany_84 v_bMany_85 =>
    some (x_72, a_hAt_68, a_hMany_69, a_tAt_73, a_tMany_74, a_sKeys_75, a_sRow_76, a_sSlots_77, a_bKeys_78, a_bRow_79, a_bSlots_80, v_sought_81, v_hMoved_70, v_tMoved_82, v_tWithout_83, v_sMany_84, v_bMany_85)
  else
    some ((-5), a_hAt_56, a_hMany_57, a_tAt, a_tMany, a_sKeys, a_sRow, a_sSlots, a_bKeys, a_bRow, a_bSlots, v_sought, v_hMoved_58, v_tMoved, v_tWithout, v_sMany, v_bMany)

noncomputable def FX0_without (a_tAt : Nat → Int32) (a_tMany : Nat → Int32) (a_sKeys : Nat → Int64) (a_sRow : Nat → Int64) (a_sSlots : Nat → Int32) (a_bKeys : Nat → Int64) (a_bRow : Nat → Int64) (a_bSlots : Nat → Int32) (v_sought : Int32) (v_tMoved : Int32) (v_tWithout : Int32) (v_sMany : Int32) (v_bMany : Int32) (y_lies : Int64) (t : Nat → Int32) (nb : Int32) (bv : Nat → Int32 → Int32 → Int32 → Int32 → Int32 → Int32 → Bool) (p1 : Int32) : Option (Int32 × (Nat → Int32) × (Nat → Int32) × (Nat → Int64) × (Nat → Int64) × (Nat → Int32) × (Nat → Int64) × (Nat → Int64) × (Nat → Int32) × Int32 × Int32 × Int32 × Int32 × Int32) :=
  bd1 (FX0_in (Int32.toInt64 p1) 0 (Int32.toInt64 ((t 56) - 1))) fun b_55 =>
  if (b2i b_55) = 0 then
    some ((-2), a_tAt, a_tMany, a_sKeys, a_sRow, a_sSlots, a_bKeys, a_bRow, a_bSlots, v_sought, v_tMoved, v_tWithout, v_sMany, v_bMany)
  else
    bd14 (FX0_seeks t a_tAt a_tMany a_sKeys a_sRow a_sSlots a_bKeys a_bRow a_bSlots v_sMany v_bMany nb bv y_lies (-1) p1) fun x_57 a_tAt_58 a_tMany_59 a_sKeys_60 a_sRow_61 a_sSlots_62 a_bKeys_63 a_bRow_64 a_bSlots_65 v_sought_66 v_tMoved_67 v_tWithout_68 v_sMany_69 v_bMany_70 =>
    some (x_57, a_tAt_58, a_tMany_59, a_sKeys_60, a_sRow_61, a_sSlots_62, a_bKeys_63, a_bRow_64, a_bSlots_65, v_sought_66, v_tMoved_67, v_tWithout_68, v_sMany_69, v_bMany_70)

noncomputable def FX0_missing (a_hAt : Nat → Int32) (a_hMany : Nat → Int32) (a_tAt : Nat → Int32) (a_tMany : Nat → Int32) (a_sKeys : Nat → Int64) (a_sRow : Nat → Int64) (a_sSlots : Nat → Int32) (a_bKeys : Nat → Int64) (a_bRow : Nat → Int64) (a_bSlots : Nat → Int32) (v_sought : Int32) (v_hMoved : Int32) (v_tMoved : Int32) (v_tWithout : Int32) (v_sMany : Int32) (v_bMany : Int32) (y_lies : Int64) (t : Nat → Int32) (nb : Int32) (bv : Nat → Int32 → Int32 → Int32 → Int32 → Int32 → Int32 → Bool) (p1 : Int32) : Option (Int32 × (Nat → Int32) × (Nat → Int32) × (Nat → Int32) × (Nat → Int32) × (Nat → Int64) × (Nat → Int64) × (Nat → Int32) × (Nat → Int64) × (Nat → Int64) × (Nat → Int32) × Int32 × Int32 × Int32 × Int32 × Int32 × Int32) :=
  bd1 (FX0_isThere y_lies t p1) fun b_55 =>
  if (b2i b_55) = 0 then
    some ((-2), a_hAt, a_hMany, a_tAt, a_tMany, a_sKeys, a_sRow, a_sSlots, a_bKeys, a_bRow, a_bSlots, v_sought, v_hMoved, v_tMoved, v_tWithout, v_sMany, v_bMany)
  else
    bd4 (FX0_isTop a_hAt a_hMany y_lies t p1) fun b_57 a_hAt_58 a_hMany_59 v_hMoved_60 =>
    if (b2i b_57) = 0 then
      some ((-5), a_hAt_58, a_hMany_59, a_tAt, a_tMany, a_sKeys, a_sRow, a_sSlots, a_bKeys, a_bRow, a_bSlots, v_sought, v_hMoved_60, v_tMoved, v_tWithout, v_sMany, v_bMany)
    else
      bd1 (FX0_robbed y_lies p1) fun y_62 =>
      bd14 (FX0_seeks t a_tAt a_tMany a_sKeys a_sRow a_sSlots a_bKeys a_bRow a_bSlots v_sMany v_bMany nb bv y_62 (-1) (-1)) fun x_63 a_tAt_64 a_tMany_65 a_sKeys_66 a_sRow_67 a_sSlots_68 a_bKeys_69 a_bRow_70 a_bSlots_71 v_sought_72 v_tMoved_73 v_tWithout_74 v_sMany_75 v_bMany_76 =>
      some (x_63, a_hAt_58, a_hMany_59, a_tAt_64, a_tMany_65, a_sKeys_66, a_sRow_67, a_sSlots_68, a_bKeys_69, a_bRow_70, a_bSlots_71, v_sought_72, v_hMoved_60, v_tMoved_73, v_tWithout_74, v_sMany_75, v_bMany_76)

noncomputable def FX0_winters_b92 (t : Nat → Int32) (a_sRow_144 : Nat → Int64) (v_sMany_147 : Int32) (x_162 : Int32) (x_163 : Int32) (a_tAt_164 : Nat → Int32) (a_tMany_165 : Nat → Int32) (v_tMoved_166 : Int32) : Option ((Int32 × Int32 × (Nat → Int32) × (Nat → Int32) × Int32) ⊕ (Int32 × (Nat → Int32) × (Nat → Int32) × Int32)) :=
  if v_sMany_147 ≤ x_163 then
    some (.inr (x_162, a_tAt_164, a_tMany_165, v_tMoved_166))
  else
    bd1 (rd 6002 a_sRow_144 x_163) fun y_169 =>
    bd3 (FX4_lays t a_tAt_164 a_tMany_165 y_169) fun a_tAt_170 a_tMany_171 v_tMoved_172 =>
    bd1 (FX4_right t a_tAt_170 (-1)) fun x_173 =>
    some (.inl ((mxI x_162 x_173), (x_163 + 1), a_tAt_170, a_tMany_171, v_tMoved_172))

noncomputable def FX0_winters_b41 (t : Nat → Int32) (nb : Int32) (bv : Nat → Int32 → Int32 → Int32 → Int32 → Int32 → Int32 → Bool) (p1 : Int32) (x_116 : Int32) (x_117 : Int32) (x_118 : Int32) (a_tAt_119 : Nat → Int32) (a_tMany_120 : Nat → Int32) (a_sKeys_121 : Nat → Int64) (a_sRow_122 : Nat → Int64) (a_sSlots_123 : Nat → Int32) (a_bKeys_124 : Nat → Int64) (a_bRow_125 : Nat → Int64) (a_bSlots_126 : Nat → Int32) (v_sought_127 : Int32) (v_tMoved_128 : Int32) (v_sMany_129 : Int32) (v_bMany_130 : Int32) : Option ((Int32 × Int32 × Int32 × (Nat → Int32) × (Nat → Int32) × (Nat → Int64) × (Nat → Int64) × (Nat → Int32) × (Nat → Int64) × (Nat → Int64) × (Nat → Int32) × Int32 × Int32 × Int32 × Int32) ⊕ (((Nat → Int32) × (Nat → Int32) × (Nat → Int64) × (Nat → Int64) × (Nat → Int32) × (Nat → Int64) × (Nat → Int64) × (Nat → Int32) × Int32 × Int32 × Int32 × Int32) ⊕ (Int32 × (Nat → Int32) × (Nat → Int32) × (Nat → Int64) × (Nat → Int64) × (Nat → Int32) × (Nat → Int64) × (Nat → Int64) × (Nat → Int32) × Int32 × Int32 × Int32 × Int32))) :=
  if p1 < x_118 then
    some (.inr (.inr (x_116, a_tAt_119, a_tMany_120, a_sKeys_121, a_sRow_122, a_sSlots_123, a_bKeys_124, a_bRow_125, a_bSlots_126, v_sought_127, v_tMoved_128, v_sMany_129, v_bMany_130)))
  else
    if x_117 = 0 then
      some (.inr (.inr (x_116, a_tAt_119, a_tMany_120, a_sKeys_121, a_sRow_122, a_sSlots_123, a_bKeys_124, a_bRow_125, a_bSlots_126, v_sought_127, v_tMoved_128, v_sMany_129, v_bMany_130)))
    else
      bd8 (FX0_closes t a_tAt_119 a_tMany_120 a_sKeys_121 a_sRow_122 a_sSlots_123 v_tMoved_128 (-1) v_sMany_129 nb bv v_sought_127 0) fun b_140 a_tAt_141 a_tMany_142 a_sKeys_143 a_sRow_144 a_sSlots_145 v_tMoved_146 v_sMany_147 =>
      if (b2i b_140) = 0 then
        some (.inr (.inl (a_tAt_141, a_tMany_142, a_sKeys_143, a_sRow_144, a_sSlots_145, a_bKeys_124, a_bRow_125, a_bSlots_126, v_sought_127, v_tMoved_146, v_sMany_147, v_bMany_130)))
      else
        bd4 (loopC (fun s => FX0_winters_b92 t a_sRow_144 v_sMany_147 s.1 s.2.1 s.2.2.1 s.2.2.2.1 s.2.2.2.2) (x_116, 0, a_tAt_141, a_tMany_142, v_tMoved_146)) fun x_174 a_tAt_175 a_tMany_176 v_tMoved_177 =>
          bd9 (FX0_begins a_sKeys_143 a_sRow_144 a_sSlots_145 a_bKeys_124 a_bRow_125 a_bSlots_126 v_sMany_147 v_bMany_130) fun b_179 a_sKeys_180 a_sRow_181 a_sSlots_182 a_bKeys_183 a_bRow_184 a_bSlots_185 v_sMany_186 v_bMany_187 =>
          some (.inl (x_174, (b2i b_179), (x_118 + 1), a_tAt_175, a_tMany_176, a_sKeys_180, a_sRow_181, a_sSlots_182, a_bKeys_183, a_bRow_184, a_bSlots_185, (v_sought_127 + v_sMany_147), v_tMoved_177, v_sMany_186, v_bMany_187))

noncomputable def FX0_winters (a_tAt : Nat → Int32) (a_tMany : Nat → Int32) (a_sKeys : Nat → Int64) (a_sRow : Nat → Int64) (a_sSlots : Nat → Int32) (a_bKeys : Nat → Int64) (a_bRow : Nat → Int64) (a_bSlots : Nat → Int32) (v_sought : Int32) (v_tMoved : Int32) (v_tWithout : Int32) (v_sMany : Int32) (v_bMany : Int32) (y_lies : Int64) (t : Nat → Int32) (nb : Int32) (bv : Nat → Int32 → Int32 → Int32 → Int32 → Int32 → Int32 → Bool) (p1 : Int32) : Option (Int32 × (Nat → Int32) × (Nat → Int32) × (Nat → Int64) × (Nat → Int64) × (Nat → Int32) × (Nat → Int64) × (Nat → Int64) × (Nat → Int32) × Int32 × Int32 × Int32 × Int32 × Int32) :=
  bd1 (FX0_in (Int32.toInt64 p1) 1 3) fun b_55 =>
  if (b2i b_55) = 0 then
    some ((-3), a_tAt, a_tMany, a_sKeys, a_sRow, a_sSlots, a_bKeys, a_bRow, a_bSlots, v_sought, v_tMoved, v_tWithout, v_sMany, v_bMany)
  else
    bd9 (FX0_opens a_sKeys a_sRow a_sSlots a_bKeys a_bRow a_bSlots v_sMany v_bMany y_lies) fun a_sKeys_57 a_sRow_58 a_sSlots_59 a_bKeys_60 a_bRow_61 a_bSlots_62 v_sought_63 v_sMany_64 v_bMany_65 =>
    bdS2 (loopC (fun s => FX0_winters_b41 t nb bv p1 s.1 s.2.1 s.2.2.1 s.2.2.2.1 s.2.2.2.2.1 s.2.2.2.2.2.1 s.2.2.2.2.2.2.1 s.2.2.2.2.2.2.2.1 s.2.2.2.2.2.2.2.2.1 s.2.2.2.2.2.2.2.2.2.1 s.2.2.2.2.2.2.2.2.2.2.1 s.2.2.2.2.2.2.2.2.2.2.2.1 s.2.2.2.2.2.2.2.2.2.2.2.2.1 s.2.2.2.2.2.2.2.2.2.2.2.2.2.1 s.2.2.2.2.2.2.2.2.2.2.2.2.2.2) (0, 1, 1, a_tAt, a_tMany, a_sKeys_57, a_sRow_58, a_sSlots_59, a_bKeys_60, a_bRow_61, a_bSlots_62, v_sought_63, v_tMoved, v_sMany_64, v_bMany_65))
      (un12 fun a_tAt_188 a_tMany_189 a_sKeys_190 a_sRow_191 a_sSlots_192 a_bKeys_193 a_bRow_194 a_bSlots_195 v_sought_196 v_tMoved_197 v_sMany_198 v_bMany_199 =>
        some ((-4), a_tAt_188, a_tMany_189, a_sKeys_190, a_sRow_191, a_sSlots_192, a_bKeys_193, a_bRow_194, a_bSlots_195, v_sought_196, v_tMoved_197, (-1), v_sMany_198, v_bMany_199))
      (un13 fun x_207 a_tAt_208 a_tMany_209 a_sKeys_210 a_sRow_211 a_sSlots_212 a_bKeys_213 a_bRow_214 a_bSlots_215 v_sought_216 v_tMoved_217 v_sMany_218 v_bMany_219 =>
        some (x_207, a_tAt_208, a_tMany_209, a_sKeys_210, a_sRow_211, a_sSlots_212, a_bKeys_213, a_bRow_214, a_bSlots_215, v_sought_216, v_tMoved_217, (-1), v_sMany_218, v_bMany_219))

noncomputable def FX0_canBe (a_tAt : Nat → Int32) (a_tMany : Nat → Int32) (a_sKeys : Nat → Int64) (a_sRow : Nat → Int64) (a_sSlots : Nat → Int32) (a_bKeys : Nat → Int64) (a_bRow : Nat → Int64) (a_bSlots : Nat → Int32) (v_tMoved : Int32) (v_sMany : Int32) (v_bMany : Int32) (y_lies : Int64) (t : Nat → Int32) (nb : Int32) (bv : Nat → Int32 → Int32 → Int32 → Int32 → Int32 → Int32 → Bool) (p1 : Int32) : Option (Int32 × (Nat → Int32) × (Nat → Int32) × (Nat → Int64) × (Nat → Int64) × (Nat → Int32) × (Nat → Int64) × (Nat → Int64) × (Nat → Int32) × Int32 × Int32 × Int32 × Int32 × Int32) :=
  bd1 (FX0_resting y_lies) fun y_55 =>
  bd9 (FX0_opens a_sKeys a_sRow a_sSlots a_bKeys a_bRow a_bSlots v_sMany v_bMany y_55) fun a_sKeys_56 a_sRow_57 a_sSlots_58 a_bKeys_59 a_bRow_60 a_bSlots_61 v_sought_62 v_sMany_63 v_bMany_64 =>
  bd8 (FX0_closes t a_tAt a_tMany a_sKeys_56 a_sRow_57 a_sSlots_58 v_tMoved (-1) v_sMany_63 nb bv 0 1) fun b_65 a_tAt_66 a_tMany_67 a_sKeys_68 a_sRow_69 a_sSlots_70 v_tMoved_71 v_sMany_72 =>
  if (b2i b_65) = 0 then
    some ((-4), a_tAt_66, a_tMany_67, a_sKeys_68, a_sRow_69, a_sSlots_70, a_bKeys_59, a_bRow_60, a_bSlots_61, v_sought_62, v_tMoved_71, (-1), v_sMany_72, v_bMany_64)
  else
    bd4 (FX0_isAnyDone t a_tAt_66 a_tMany_67 a_sRow_69 v_tMoved_71 v_sMany_72 p1) fun b_81 a_tAt_82 a_tMany_83 v_tMoved_84 =>
    if (b2i b_81) = 0 then
      some (0, a_tAt_82, a_tMany_83, a_sKeys_68, a_sRow_69, a_sSlots_70, a_bKeys_59, a_bRow_60, a_bSlots_61, v_sought_62, v_tMoved_84, (-1), v_sMany_72, v_bMany_64)
    else
      some (1, a_tAt_82, a_tMany_83, a_sKeys_68, a_sRow_69, a_sSlots_70, a_bKeys_59, a_bRow_60, a_bSlots_61, v_sought_62, v_tMoved_84, (-1), v_sMany_72, v_bMany_64)

noncomputable def FX0_can (a_tAt : Nat → Int32) (a_tMany : Nat → Int32) (a_sKeys : Nat → Int64) (a_sRow : Nat → Int64) (a_sSlots : Nat → Int32) (a_bKeys : Nat → Int64) (a_bRow : Nat → Int64) (a_bSlots : Nat → Int32) (v_sought : Int32) (v_tMoved : Int32) (v_tWithout : Int32) (v_sMany : Int32) (v_bMany : Int32) (y_lies : Int64) (t : Nat → Int32) (nb : Int32) (bv : Nat → Int32 → Int32 → Int32 → Int32 → Int32 → Int32 → Bool) (p1 : Int32) : Option (Int32 × (Nat → Int32) × (Nat → Int32) × (Nat → Int64) × (Nat → Int64) × (Nat → Int32) × (Nat → Int64) × (Nat → Int64) × (Nat → Int32) × Int32 × Int32 × Int32 × Int32 × Int32) :=
  bd1 (FX0_isWho p1) fun b_55 =>
  if (b2i b_55) = 0 then
    some ((-2), a_tAt, a_tMany, a_sKeys, a_sRow, a_sSlots, a_bKeys, a_bRow, a_bSlots, v_sought, v_tMoved, v_tWithout, v_sMany, v_bMany)
  else
    bd14 (FX0_canBe a_tAt a_tMany a_sKeys a_sRow a_sSlots a_bKeys a_bRow a_bSlots v_tMoved v_sMany v_bMany y_lies t nb bv p1) fun x_57 a_tAt_58 a_tMany_59 a_sKeys_60 a_sRow_61 a_sSlots_62 a_bKeys_63 a_bRow_64 a_bSlots_65 v_sought_66 v_tMoved_67 v_tWithout_68 v_sMany_69 v_bMany_70 =>
    some (x_57, a_tAt_58, a_tMany_59, a_sKeys_60, a_sRow_61, a_sSlots_62, a_bKeys_63, a_bRow_64, a_bSlots_65, v_sought_66, v_tMoved_67, v_tWithout_68, v_sMany_69, v_bMany_70)

noncomputable def FX0_isAgainst_j82 (x_61 : Int32) : Option (Int32 ⊕ (Unit ⊕ Unit)) :=
  some (.inl (x_61 + 1))

noncomputable def FX0_isAgainst_b2 (t : Nat → Int32) (p1 : Int32) (x_61 : Int32) : Option (Int32 ⊕ (Unit ⊕ Unit)) :=
  if (t 56) ≤ x_61 then
    some (.inr (.inr ()))
  else
    bd0 (alg (t 56) x_61) <|
    bd0 (alg (t 0) (t (63 + x_61.toNatClampNeg))) <|
    bd1 (FX10_isAsked t (t (63 + x_61.toNatClampNeg)) p1) fun b_65 =>
    if (b2i b_65) = 0 then
      FX0_isAgainst_j82 x_61
    else
      if (b2i (kpI t x_61.toNatClampNeg (t (31 + (t (63 + x_61.toNatClampNeg)).toNatClampNeg)))) = 0 then
        some (.inr (.inl ()))
      else
        FX0_isAgainst_j82 x_61

noncomputable def FX0_isAgainst (t : Nat → Int32) (p1 : Int32) : Option Bool :=
  bdS2 (loopC (fun s => FX0_isAgainst_b2 t p1 s) 0)
    (un0 fun _ =>
      some true)
    (un0 fun _ =>
      some false)

noncomputable def FX0_isLacking_j71 (x_91 : Int32) (x_92 : Int32) (x_98 : Int32) : Option ((Int32 × Int32) ⊕ Int32) :=
  some (.inl ((x_91 + x_98), (x_92 + 1)))

noncomputable def FX0_isLacking_j70 (x_91 : Int32) (x_92 : Int32) : Option ((Int32 × Int32) ⊕ Int32) :=
  FX0_isLacking_j71 x_91 x_92 0

noncomputable def FX0_isLacking_b13 (y_lies : Int64) (t : Nat → Int32) (x_83 : Int32) (x_91 : Int32) (x_92 : Int32) : Option ((Int32 × Int32) ⊕ Int32) :=
  if (t 6) ≤ x_92 then
    some (.inr x_91)
  else
    bd1 (FX0_isThere y_lies t x_92) fun b_94 =>
    if (b2i b_94) = 0 then
      FX0_isLacking_j70 x_91 x_92
    else
      bd0 (alg (t 6) x_92) <|
      if (t (7 + x_92.toNatClampNeg)) = x_83 then
        FX0_isLacking_j71 x_91 x_92 1
      else
        FX0_isLacking_j70 x_91 x_92

noncomputable def FX0_isLacking_j112 (x_104 : Int32) (x_105 : Int32) (x_109 : Int32) : Option ((Int32 × Int32) ⊕ Int32) :=
  some (.inl ((x_104 - x_109), (x_105 + 1)))

noncomputable def FX0_isLacking_b82 (t : Nat → Int32) (p1 : Int32) (x_83 : Int32) (x_104 : Int32) (x_105 : Int32) : Option ((Int32 × Int32) ⊕ Int32) :=
  if 15 ≤ x_105 then
    some (.inr x_104)
  else
    bd1 (FX2_wished t x_105 p1) fun x_107 =>
    if x_107 = x_83 then
      FX0_isLacking_j112 x_104 x_105 1
    else
      FX0_isLacking_j112 x_104 x_105 0

noncomputable def FX0_isLacking_b2 (y_lies : Int64) (t : Nat → Int32) (p1 : Int32) (x_83 : Int32) : Option (Int32 ⊕ (Unit ⊕ Unit)) :=
  if 8 ≤ x_83 then
    some (.inr (.inr ()))
  else
    bd1 (loopC (fun s => FX0_isLacking_b13 y_lies t x_83 s.1 s.2) (0, 0)) fun x_99 =>
      bd1 (loopC (fun s => FX0_isLacking_b82 t p1 x_83 s.1 s.2) (x_99, 0)) fun x_110 =>
        if 0 ≤ x_110 then
          some (.inl (x_83 + 1))
        else
          some (.inr (.inl ()))

noncomputable def FX0_isLacking (y_lies : Int64) (t : Nat → Int32) (p1 : Int32) : Option Bool :=
  bdS2 (loopC (fun s => FX0_isLacking_b2 y_lies t p1 s) 0)
    (un0 fun _ =>
      some true)
    (un0 fun _ =>
      some false)

noncomputable def FX0_why (a_tAt : Nat → Int32) (a_tMany : Nat → Int32) (a_sKeys : Nat → Int64) (a_sRow : Nat → Int64) (a_sSlots : Nat → Int32) (a_bKeys : Nat → Int64) (a_bRow : Nat → Int64) (a_bSlots : Nat → Int32) (v_sought : Int32) (v_tMoved : Int32) (v_tWithout : Int32) (v_sMany : Int32) (v_bMany : Int32) (y_lies : Int64) (t : Nat → Int32) (nb : Int32) (bv : Nat → Int32 → Int32 → Int32 → Int32 → Int32 → Int32 → Bool) (p1 : Int32) : Option (Int32 × (Nat → Int32) × (Nat → Int32) × (Nat → Int64) × (Nat → Int64) × (Nat → Int32) × (Nat → Int64) × (Nat → Int64) × (Nat → Int32) × Int32 × Int32 × Int32 × Int32 × Int32) :=
  bd1 (FX0_isWho p1) fun b_55 =>
  if (b2i b_55) = 0 then
    some ((-2), a_tAt, a_tMany, a_sKeys, a_sRow, a_sSlots, a_bKeys, a_bRow, a_bSlots, v_sought, v_tMoved, v_tWithout, v_sMany, v_bMany)
  else
    bd14 (FX0_canBe a_tAt a_tMany a_sKeys a_sRow a_sSlots a_bKeys a_bRow a_bSlots v_tMoved v_sMany v_bMany y_lies t nb bv p1) fun x_57 a_tAt_58 a_tMany_59 a_sKeys_60 a_sRow_61 a_sSlots_62 a_bKeys_63 a_bRow_64 a_bSlots_65 v_sought_66 v_tMoved_67 v_tWithout_68 v_sMany_69 v_bMany_70 =>
    if x_57 = 1 then
      some (0, a_tAt_58, a_tMany_59, a_sKeys_60, a_sRow_61, a_sSlots_62, a_bKeys_63, a_bRow_64, a_bSlots_65, v_sought_66, v_tMoved_67, v_tWithout_68, v_sMany_69, v_bMany_70)
    else
      bd1 (FX0_isLacking y_lies t p1) fun b_79 =>
      if (b2i b_79) = 0 then
        bd1 (FX0_isAgainst t p1) fun b_81 =>
        if (b2i b_81) = 0 then
          if x_57 = 0 then
            some (3, a_tAt_58, a_tMany_59, a_sKeys_60, a_sRow_61, a_sSlots_62, a_bKeys_63, a_bRow_64, a_bSlots_65, v_sought_66, v_tMoved_67, v_tWithout_68, v_sMany_69, v_bMany_70)
          else
            some ((-4), a_tAt_58, a_tMany_59, a_sKeys_60, a_sRow_61, a_sSlots_62, a_bKeys_63, a_bRow_64, a_bSlots_65, v_sought_66, v_tMoved_67, v_tWithout_68, v_sMany_69, v_bMany_70)
        else
          some (2, a_tAt_58, a_tMany_59, a_sKeys_60, a_sRow_61, a_sSlots_62, a_bKeys_63, a_bRow_64, a_bSlots_65, v_sought_66, v_tMoved_67, v_tWithout_68, v_sMany_69, v_bMany_70)
      else
        some (1, a_tAt_58, a_tMany_59, a_sKeys_60, a_sRow_61, a_sSlots_62, a_bKeys_63, a_bRow_64, a_bSlots_65, v_sought_66, v_tMoved_67, v_tWithout_68, v_sMany_69, v_bMany_70)

noncomputable def FX0_isExchange (t : Nat → Int32) (p1 : Int32) (p2 : Int32) : Option Bool :=
  bd1 (FX2_wished t p1 (-1)) fun x_56 =>
  bd1 (FX2_wished t p2 (-1)) fun x_57 =>
  if x_56 = (-1) then
    some false
  else
    if x_57 = (-1) then
      some false
    else
      if x_56 = x_57 then
        some false
      else
        some true

noncomputable def FX0_wallFault_b58 (p2 : Int32) (x_67 : Int32) (a_wantedBy_68 : Nat → Int32) : Option ((Int32 × (Nat → Int32)) ⊕ (Nat → Int32)) :=
  if p2 ≤ x_67 then
    some (.inr a_wantedBy_68)
  else
    bd1 (wrI 40 a_wantedBy_68 x_67 (-1)) fun a_wantedBy_70 =>
    some (.inl ((x_67 + 1), a_wantedBy_70))

noncomputable def FX0_wallFault_b78 (a_rsort : Nat → Int32) (a_rmany : Nat → Int32) (a_nums : Nat → Nat → Int64) (p1 : Int32) (p2 : Int32) (x_81 : Int32) (a_wants_82 : Nat → Int32) (a_wantedBy_83 : Nat → Int32) : Option ((Int32 × (Nat → Int32) × (Nat → Int32)) ⊕ (((Nat → Int32) × (Nat → Int32)) ⊕ ((Nat → Int32) × (Nat → Int32)))) :=
  if p2 ≤ x_81 then
    some (.inr (.inr (a_wants_82, a_wantedBy_83)))
  else
    bd0 (alg 4 p1) <|
    bd1 (numAt a_rsort a_rmany a_nums p1.toNatClampNeg x_81) fun y_86 =>
    bd1 (FX0_in y_86 0 (Int32.toInt64 (p2 - 1))) fun b_87 =>
    if (b2i b_87) = 0 then
      some (.inr (.inl (a_wants_82, a_wantedBy_83)))
    else
      bd1 (rd 40 a_wantedBy_83 (Int64.toInt32 y_86)) fun x_89 =>
      if x_89 = (-1) then
        bd1 (wrI 40 a_wants_82 x_81 (Int64.toInt32 y_86)) fun a_wants_91 =>
        bd1 (wrI 40 a_wantedBy_83 (Int64.toInt32 y_86) x_81) fun a_wantedBy_92 =>
        some (.inl ((x_81 + 1), a_wants_91, a_wantedBy_92))
      else
        some (.inr (.inl (a_wants_82, a_wantedBy_83)))

noncomputable def FX0_wallFault (a_wants : Nat → Int32) (a_wantedBy : Nat → Int32) (a_rsort : Nat → Int32) (a_rmany : Nat → Int32) (a_nums : Nat → Nat → Int64) (p1 : Int32) (p2 : Int32) : Option (Int32 × (Nat → Int32) × (Nat → Int32)) :=
  bd1 (FX0_isNumbers p1) fun b_56 =>
  if (b2i b_56) = 0 then
    some ((-2), a_wants, a_wantedBy)
  else
    bd1 (FX0_in (Int32.toInt64 p2) 1 40) fun b_58 =>
    if (b2i b_58) = 0 then
      some ((-3), a_wants, a_wantedBy)
    else
      bd0 (alg 4 p1) <|
      if a_rsort p1.toNatClampNeg = (-1) then
        some ((-6), a_wants, a_wantedBy)
      else
        bd0 (alg 4 p1) <|
        bd1 (numMany a_rsort a_rmany p1.toNatClampNeg) fun x_63 =>
        if p2 ≤ x_63 then
          bd1 (loopC (fun s => FX0_wallFault_b58 p2 s.1 s.2) (0, a_wantedBy)) fun a_wantedBy_71 =>
            bdS2 (loopC (fun s => FX0_wallFault_b78 a_rsort a_rmany a_nums p1 p2 s.1 s.2.1 s.2.2) (0, a_wants, a_wantedBy_71))
              (un2 fun a_wants_93 a_wantedBy_94 =>
                some ((-3), a_wants_93, a_wantedBy_94))
              (un2 fun a_wants_95 a_wantedBy_96 =>
                some (0, a_wants_95, a_wantedBy_96))
        else
          some ((-7), a_wants, a_wantedBy)

noncomputable def FX0_wallYears_j44 (x_64 : Int32) (x_72 : Int32) : Option ((Int32 × Int32) ⊕ Int32) :=
  some (.inl (x_72, (x_64 + 1)))

noncomputable def FX0_wallYears_j40 (x_63 : Int32) (x_64 : Int32) (x_71 : Int32) : Option ((Int32 × Int32) ⊕ Int32) :=
  FX0_wallYears_j44 x_64 (mxI x_63 x_71)

noncomputable def FX0_wallYears_b4 (a_wants : Nat → Int32) (p1 : Int32) (x_63 : Int32) (x_64 : Int32) : Option ((Int32 × Int32) ⊕ Int32) :=
  if p1 ≤ x_64 then
    some (.inr x_63)
  else
    bd1 (rd 40 a_wants x_64) fun x_66 =>
    if x_66 = x_64 then
      FX0_wallYears_j44 x_64 x_63
    else
      bd1 (rd 40 a_wants x_64) fun x_68 =>
      bd1 (rd 40 a_wants x_68) fun x_69 =>
      if x_69 = x_64 then
        FX0_wallYears_j40 x_63 x_64 1
      else
        FX0_wallYears_j40 x_63 x_64 2

noncomputable def FX0_wallYears (a_wants : Nat → Int32) (p1 : Int32) : Option Int32 :=
  bd1 (loopC (fun s => FX0_wallYears_b4 a_wants p1 s.1 s.2) (0, 0)) fun x_73 =>
    some x_73

noncomputable def FX0_wall (a_wants : Nat → Int32) (a_wantedBy : Nat → Int32) (a_rsort : Nat → Int32) (a_rmany : Nat → Int32) (a_nums : Nat → Nat → Int64) (p1 : Int32) (p2 : Int32) : Option (Int32 × (Nat → Int32) × (Nat → Int32)) :=
  bd3 (FX0_wallFault a_wants a_wantedBy a_rsort a_rmany a_nums p1 p2) fun x_56 a_wants_57 a_wantedBy_58 =>
  if x_56 = 0 then
    bd1 (FX0_wallYears a_wants_57 p2) fun x_60 =>
    some (x_60, a_wants_57, a_wantedBy_58)
  else
    some (x_56, a_wants_57, a_wantedBy_58)

noncomputable def FX0_inRing_j95 (p1 : Int32) (x_85 : Int32) (x_86 : Int32) (a_ring_87 : Nat → Int32) (x_89 : Int32) : Option (Int32 × (Nat → Int32)) :=
  bd0 (nzI x_85) <|
  bd1 (rd 40 a_ring_87 (fmI (x_89 - x_86) x_85)) fun x_91 =>
  if x_91 = p1 then
    some ((-1), a_ring_87)
  else
    some (x_91, a_ring_87)

noncomputable def FX0_inRing_b10 (a_wants : Nat → Int32) (p1 : Int32) (x_59 : Int32) (x_60 : Int32) : Option ((Int32 × Int32) ⊕ Int32) :=
  if x_60 = p1 then
    some (.inr x_59)
  else
    bd1 (rd 40 a_wants x_60) fun x_62 =>
    some (.inl ((mnI x_59 x_60), x_62))

noncomputable def FX0_inRing_j63 (a_wants : Nat → Int32) (x_63 : Int32) (x_76 : Int32) (x_78 : Int32) (a_ring_80 : Nat → Int32) (x_82 : Int32) : Option ((Int32 × Int32 × Int32 × (Nat → Int32)) ⊕ (Int32 × Int32 × (Nat → Int32))) :=
  bd1 (rd 40 a_wants x_78) fun x_83 =>
  if x_83 = x_63 then
    some (.inr ((x_76 + 1), x_82, a_ring_80))
  else
    some (.inl ((x_76 + 1), x_82, x_83, a_ring_80))

noncomputable def FX0_inRing_b44 (a_wants : Nat → Int32) (p1 : Int32) (x_63 : Int32) (x_76 : Int32) (x_77 : Int32) (x_78 : Int32) (a_ring_79 : Nat → Int32) : Option ((Int32 × Int32 × Int32 × (Nat → Int32)) ⊕ (Int32 × Int32 × (Nat → Int32))) :=
  bd1 (wrI 40 a_ring_79 x_76 x_78) fun a_ring_80 =>
  if x_78 = p1 then
    FX0_inRing_j63 a_wants x_63 x_76 x_78 a_ring_80 x_76
  else
    FX0_inRing_j63 a_wants x_63 x_76 x_78 a_ring_80 x_77

noncomputable def FX0_inRing (a_wants : Nat → Int32) (a_ring : Nat → Int32) (p1 : Int32) (p2 : Int32) : Option (Int32 × (Nat → Int32)) :=
  bd1 (rd 40 a_wants p1) fun x_56 =>
  bd1 (loopC (fun s => FX0_inRing_b10 a_wants p1 s.1 s.2) (p1, x_56)) fun x_63 =>
    bd3 (loopC (fun s => FX0_inRing_b44 a_wants p1 x_63 s.1 s.2.1 s.2.2.1 s.2.2.2) (0, 0, x_63, a_ring)) fun x_85 x_86 a_ring_87 =>
      if p2 = 1 then
        FX0_inRing_j95 p1 x_85 x_86 a_ring_87 0
      else
        FX0_inRing_j95 p1 x_85 x_86 a_ring_87 1

noncomputable def FX0_partner (a_wants : Nat → Int32) (a_wantedBy : Nat → Int32) (a_ring : Nat → Int32) (a_rsort : Nat → Int32) (a_rmany : Nat → Int32) (a_nums : Nat → Nat → Int64) (p1 : Int32) (p2 : Int32) (p3 : Int32) (p4 : Int32) : Option (Int32 × (Nat → Int32) × (Nat → Int32) × (Nat → Int32)) :=
  bd1 (FX0_isNumbers p1) fun b_58 =>
  if (b2i b_58) = 0 then
    some ((-2), a_wants, a_wantedBy, a_ring)
  else
    if p4 < 0 then
      some ((-2), a_wants, a_wantedBy, a_ring)
    else
      if p2 ≤ p4 then
        some ((-2), a_wants, a_wantedBy, a_ring)
      else
        bd1 (FX0_in (Int32.toInt64 p3) 1 2) fun b_62 =>
        if (b2i b_62) = 0 then
          some ((-2), a_wants, a_wantedBy, a_ring)
        else
          bd3 (FX0_wallFault a_wants a_wantedBy a_rsort a_rmany a_nums p1 p2) fun x_64 a_wants_65 a_wantedBy_66 =>
          if x_64 = 0 then
            bd1 (FX0_wallYears a_wants_65 p2) fun x_68 =>
            if p3 ≤ x_68 then
              if x_68 = 1 then
                bd1 (rd 40 a_wants_65 p4) fun x_71 =>
                if x_71 = p4 then
                  some ((-1), a_wants_65, a_wantedBy_66, a_ring)
                else
                  bd1 (rd 40 a_wants_65 p4) fun x_73 =>
                  some (x_73, a_wants_65, a_wantedBy_66, a_ring)
              else
                bd2 (FX0_inRing a_wants_65 a_ring p4 p3) fun x_74 a_ring_75 =>
                some (x_74, a_wants_65, a_wantedBy_66, a_ring_75)
            else
              some ((-1), a_wants_65, a_wantedBy_66, a_ring)
          else
            some (x_64, a_wants_65, a_wantedBy_66, a_ring)

noncomputable def FX0_threshold_b67 (t : Nat → Int32) (p2 : Int32) (a_hMany_62 : Nat → Int32) (x_64 : Int32) (x_69 : Int32) : Option (Int32 ⊕ (Unit ⊕ Unit)) :=
  if x_69 = p2 then
    some (.inr (.inr ()))
  else
    bd1 (rd 5 a_hMany_62 (x_69 + x_64)) fun x_71 =>
    bd1 (FX2_high t (x_69 + x_64)) fun x_72 =>
    if x_71 = x_72 then
      some (.inr (.inl ()))
    else
      some (.inl (x_69 + x_64))

noncomputable def FX0_threshold (a_hAt : Nat → Int32) (a_hMany : Nat → Int32) (v_hMoved : Int32) (y_lies : Int64) (t : Nat → Int32) (p1 : Int32) (p2 : Int32) : Option (Int32 × (Nat → Int32) × (Nat → Int32) × Int32) :=
  bd1 (FX0_isThere y_lies t p1) fun b_56 =>
  if (b2i b_56) = 0 then
    some ((-2), a_hAt, a_hMany, v_hMoved)
  else
    bd1 (FX0_in (Int32.toInt64 p2) 0 (Int32.toInt64 ((t 0) - 1))) fun b_58 =>
    if (b2i b_58) = 0 then
      some ((-2), a_hAt, a_hMany, v_hMoved)
    else
      bd1 (FX0_placeIn y_lies p1) fun x_60 =>
      bd3 (FX0_here a_hAt a_hMany y_lies t) fun a_hAt_61 a_hMany_62 v_hMoved_63 =>
      bd1 (FJ11_signum (p2 - (x_60 / 3))) fun x_64 =>
      bdS2 (loopC (fun s => FX0_threshold_b67 t p2 a_hMany_62 x_64 s) (x_60 / 3))
        (un0 fun _ =>
          some ((-1), a_hAt_61, a_hMany_62, v_hMoved_63))
        (un0 fun _ =>
          some ((abI (p2 - (x_60 / 3))), a_hAt_61, a_hMany_62, v_hMoved_63))

noncomputable def FX0_count (v_taped : Int32) (v_year : Int32) (y_lies : Int64) (t : Nat → Int32) (nb : Int32) (p1 : Int32) : Option Int32 :=
  if p1 = 0 then
    some (t 0)
  else
  if p1 = 1 then
    some (t 6)
  else
  if p1 = 2 then
    some (t 56)
  else
  if p1 = 3 then
    some nb
  else
  if p1 = 4 then
    some v_year
  else
  if p1 = 5 then
    bd1 (FJ11_bitCount (Int64.toInt32 (shrL y_lies 32))) fun x_58 =>
    some x_58
  else
  if p1 = 6 then
    some (t 75)
  else
  if p1 = 7 then
    some (t 76)
  else
  if p1 = 8 then
    if (t 77) = 0 then
      some 0
    else
      some 1
  else
  if p1 = 9 then
    if (t 378) = 0 then
      some 0
    else
      some 1
  else
  if p1 = 10 then
    some v_taped
  else
  if p1 = 11 then
    some (t 379)
  else
    some (-1)
