set_option maxRecDepth 100000
def keyT : String := " row stone size at bears wish by for roof lane over most ring flood bar if or and not sort from to high full "
def keyL : List Int32 := [32, 114, 111, 119, 32, 115, 116, 111, 110, 101, 32, 115, 105, 122, 101, 32, 97, 116, 32, 98, 101, 97, 114, 115, 32, 119, 105, 115, 104, 32, 98, 121, 32, 102, 111, 114, 32, 114, 111, 111, 102, 32, 108, 97, 110, 101, 32, 111, 118, 101, 114, 32, 109, 111, 115, 116, 32, 114, 105, 110, 103, 32, 102, 108, 111, 111, 100, 32, 98, 97, 114, 32, 105, 102, 32, 111, 114, 32, 97, 110, 100, 32, 110, 111, 116, 32, 115, 111, 114, 116, 32, 102, 114, 111, 109, 32, 116, 111, 32, 104, 105, 103, 104, 32, 102, 117, 108, 108, 32]
def keyB (j : Nat) : Int32 := keyL.getD j 0
noncomputable def FX8_plain_all_b2 (x_47 : Int32) (a_all_48 : Nat → Int32) : Option ((Int32 × (Nat → Int32)) ⊕ (Nat → Int32)) :=
  if 113 ≤ x_47 then
    some (.inr a_all_48)
  else
    bd1 (wrI 1593 a_all_48 x_47 0) fun a_all_50 =>
    some (.inl ((x_47 + 1), a_all_50))

noncomputable def FX8_plain_all_b31 (x_57 : Int32) (a_all_58 : Nat → Int32) : Option ((Int32 × (Nat → Int32)) ⊕ (Nat → Int32)) :=
  if 5 ≤ x_57 then
    some (.inr a_all_58)
  else
    bd1 (wrI 1593 a_all_58 (31 + x_57) (-1)) fun a_all_60 =>
    bd1 (wrI 1593 a_all_60 (36 + x_57) (-1)) fun a_all_61 =>
    some (.inl ((x_57 + 1), a_all_61))

noncomputable def FX8_plain_all_b58 (x_65 : Int32) (a_all_66 : Nat → Int32) : Option ((Int32 × (Nat → Int32)) ⊕ (Nat → Int32)) :=
  if 15 ≤ x_65 then
    some (.inr a_all_66)
  else
    bd1 (wrI 1593 a_all_66 (41 + x_65) (-1)) fun a_all_68 =>
    some (.inl ((x_65 + 1), a_all_68))

noncomputable def FX8_plain_all_b79 (x_72 : Int32) (a_all_73 : Nat → Int32) : Option ((Int32 × (Nat → Int32)) ⊕ (Nat → Int32)) :=
  if 8 ≤ x_72 then
    some (.inr a_all_73)
  else
    bd1 (wrI 1593 a_all_73 (104 + x_72) (-1)) fun a_all_75 =>
    some (.inl ((x_72 + 1), a_all_75))

noncomputable def FX8_plain_all (a_all : Nat → Int32) : Option (Nat → Int32) :=
  bd1 (loopC (fun s => FX8_plain_all_b2 s.1 s.2) (0, a_all)) fun a_all_51 =>
    bd1 (wrI 1593 a_all_51 75 4) fun a_all_52 =>
    bd1 (wrI 1593 a_all_52 76 8) fun a_all_53 =>
    bd1 (loopC (fun s => FX8_plain_all_b31 s.1 s.2) (0, a_all_53)) fun a_all_62 =>
      bd1 (loopC (fun s => FX8_plain_all_b58 s.1 s.2) (0, a_all_62)) fun a_all_69 =>
        bd1 (loopC (fun s => FX8_plain_all_b79 s.1 s.2) (0, a_all_69)) fun a_all_76 =>
          some a_all_76

noncomputable def FX8_plain_fresh_b2 (x_47 : Int32) (a_fresh_48 : Nat → Int32) : Option ((Int32 × (Nat → Int32)) ⊕ (Nat → Int32)) :=
  if 113 ≤ x_47 then
    some (.inr a_fresh_48)
  else
    bd1 (wrI 531 a_fresh_48 x_47 0) fun a_fresh_50 =>
    some (.inl ((x_47 + 1), a_fresh_50))

noncomputable def FX8_plain_fresh_b31 (x_57 : Int32) (a_fresh_58 : Nat → Int32) : Option ((Int32 × (Nat → Int32)) ⊕ (Nat → Int32)) :=
  if 5 ≤ x_57 then
    some (.inr a_fresh_58)
  else
    bd1 (wrI 531 a_fresh_58 (31 + x_57) (-1)) fun a_fresh_60 =>
    bd1 (wrI 531 a_fresh_60 (36 + x_57) (-1)) fun a_fresh_61 =>
    some (.inl ((x_57 + 1), a_fresh_61))

noncomputable def FX8_plain_fresh_b58 (x_65 : Int32) (a_fresh_66 : Nat → Int32) : Option ((Int32 × (Nat → Int32)) ⊕ (Nat → Int32)) :=
  if 15 ≤ x_65 then
    some (.inr a_fresh_66)
  else
    bd1 (wrI 531 a_fresh_66 (41 + x_65) (-1)) fun a_fresh_68 =>
    some (.inl ((x_65 + 1), a_fresh_68))

noncomputable def FX8_plain_fresh_b79 (x_72 : Int32) (a_fresh_73 : Nat → Int32) : Option ((Int32 × (Nat → Int32)) ⊕ (Nat → Int32)) :=
  if 8 ≤ x_72 then
    some (.inr a_fresh_73)
  else
    bd1 (wrI 531 a_fresh_73 (104 + x_72) (-1)) fun a_fresh_75 =>
    some (.inl ((x_72 + 1), a_fresh_75))

noncomputable def FX8_plain_fresh (a_fresh : Nat → Int32) : Option (Nat → Int32) :=
  bd1 (loopC (fun s => FX8_plain_fresh_b2 s.1 s.2) (0, a_fresh)) fun a_fresh_51 =>
    bd1 (wrI 531 a_fresh_51 75 4) fun a_fresh_52 =>
    bd1 (wrI 531 a_fresh_52 76 8) fun a_fresh_53 =>
    bd1 (loopC (fun s => FX8_plain_fresh_b31 s.1 s.2) (0, a_fresh_53)) fun a_fresh_62 =>
      bd1 (loopC (fun s => FX8_plain_fresh_b58 s.1 s.2) (0, a_fresh_62)) fun a_fresh_69 =>
        bd1 (loopC (fun s => FX8_plain_fresh_b79 s.1 s.2) (0, a_fresh_69)) fun a_fresh_76 =>
          some a_fresh_76

noncomputable def FX8_feed_j77 (x_58 : Int32) (a_tape_59 : Nat → Int32) (v_taped_60 : Int32) (x_66 : Int32) : Option ((Int32 × (Nat → Int32) × Int32) ⊕ ((Nat → Int32) × Int32)) :=
  bd1 (wrI 400 a_tape_59 v_taped_60 ((x_66 >>> ((24 - (8 * (x_58 - x_58 / 4 * 4))) &&& 31)) &&& 255)) fun a_tape_67 =>
  some (.inl ((x_58 + 1), a_tape_67, (v_taped_60 + 1)))

noncomputable def FX8_feed_b24 (p1 : Int32) (p2 : Int32) (p3 : Int32) (p4 : Int32) (p5 : Int32) (x_58 : Int32) (a_tape_59 : Nat → Int32) (v_taped_60 : Int32) : Option ((Int32 × (Nat → Int32) × Int32) ⊕ ((Nat → Int32) × Int32)) :=
  if 20 ≤ x_58 then
    some (.inr (a_tape_59, v_taped_60))
  else
    if 4 ≤ x_58 then
      if 8 ≤ x_58 then
        if 12 ≤ x_58 then
          if 16 ≤ x_58 then
            FX8_feed_j77 x_58 a_tape_59 v_taped_60 p5
          else
            FX8_feed_j77 x_58 a_tape_59 v_taped_60 p4
        else
          FX8_feed_j77 x_58 a_tape_59 v_taped_60 p3
      else
        FX8_feed_j77 x_58 a_tape_59 v_taped_60 p2
    else
      FX8_feed_j77 x_58 a_tape_59 v_taped_60 p1

noncomputable def FX8_feed (a_tape : Nat → Int32) (v_taped : Int32) (p1 : Int32) (p2 : Int32) (p3 : Int32) (p4 : Int32) (p5 : Int32) : Option (Int32 × (Nat → Int32) × Int32) :=
  if (v_taped + 20) ≤ 400 then
    bd2 (loopC (fun s => FX8_feed_b24 p1 p2 p3 p4 p5 s.1 s.2.1 s.2.2) (0, a_tape, v_taped)) fun a_tape_68 v_taped_69 =>
      some (v_taped_69, a_tape_68, v_taped_69)
  else
    some ((-5), a_tape, v_taped)

noncomputable def FX8_isDigit (p0 : Int32) : Option Bool :=
  if p0 < 48 then
    some false
  else
    if 57 < p0 then
      some false
    else
      some true

noncomputable def FX8_isSmall (p0 : Int32) : Option Bool :=
  if p0 < 97 then
    some false
  else
    if 122 < p0 then
      some false
    else
      some true

noncomputable def FX8_keyAt_b97 (x_93 : Int32) : Option (Int32 ⊕ Int32) :=
  bd1 (FJ5_charAt 109 keyB x_93) fun x_94 =>
  if x_94 = 32 then
    some (.inr x_93)
  else
    some (.inl (x_93 + 1))

noncomputable def FX8_keyAt_j97 (x_70 : Int32) (x_71 : Int32) : Option ((Int32 × Int32) ⊕ (Int32 ⊕ Unit)) :=
  bd1 (loopC (fun s => FX8_keyAt_b97 s) x_71) fun x_96 =>
    some (.inl ((x_70 + 1), (x_96 + 1)))

noncomputable def FX8_keyAt_b15 (a_tape : Nat → Int32) (v_at : Int32) (v_behind : Int32) (x_71 : Int32) (x_80 : Int32) : Option (Int32 ⊕ Int32) :=
  bd1 (FJ5_charAt 109 keyB (x_71 + x_80)) fun x_81 =>
  if x_81 = 32 then
    some (.inr x_80)
  else
    if v_behind ≤ (v_at + x_80) then
      some (.inr x_80)
    else
      bd1 (rd 400 a_tape (v_at + x_80)) fun x_84 =>
      bd1 (FJ5_charAt 109 keyB (x_71 + x_80)) fun x_85 =>
      if x_84 = x_85 then
        some (.inl (x_80 + 1))
      else
        some (.inr x_80)

noncomputable def FX8_keyAt_b4 (a_tape : Nat → Int32) (v_at : Int32) (v_behind : Int32) (x_70 : Int32) (x_71 : Int32) : Option ((Int32 × Int32) ⊕ (Int32 ⊕ Unit)) :=
  bd1 (FJ5_length 109) fun x_72 =>
  if x_72 ≤ x_71 then
    some (.inr (.inr ()))
  else
    bd1 (loopC (fun s => FX8_keyAt_b15 a_tape v_at v_behind x_71 s) 0) fun x_87 =>
      bd1 (FJ5_charAt 109 keyB (x_71 + x_87)) fun x_88 =>
      if x_88 = 32 then
        if (v_at + x_87) = v_behind then
          some (.inr (.inl x_70))
        else
          FX8_keyAt_j97 x_70 x_71
      else
        FX8_keyAt_j97 x_70 x_71

noncomputable def FX8_keyAt (a_tape : Nat → Int32) (v_at : Int32) (v_behind : Int32) : Option Int32 :=
  bdS2 (loopC (fun s => FX8_keyAt_b4 a_tape v_at v_behind s.1 s.2) (0, 1))
    (un1 fun x_97 =>
      some x_97)
    (un0 fun _ =>
      some 24)

noncomputable def FX8_see (a_tape : Nat → Int32) (v_size : Int32) (p1 : Int32) : Option Int32 :=
  if v_size ≤ p1 then
    some (-1)
  else
    bd1 (rd 400 a_tape p1) fun x_47 =>
    some x_47

noncomputable def FX8_next_j303 (v_number : Int32) (v_at_54 : Int32) (x_95 : Int32) : Option (Int32 × Int32 × Int32 × Int32) :=
  some (v_at_54, (v_at_54 + 1), x_95, v_number)

noncomputable def FX8_next_j230 (v_at_54 : Int32) (v_behind_85 : Int32) (v_number_86 : Int32) (x_88 : Int32) : Option (Int32 × Int32 × Int32 × Int32) :=
  some (v_at_54, v_behind_85, x_88, v_number_86)

noncomputable def FX8_next_j34 (v_at_49 : Int32) : Option (Int32 ⊕ Int32) :=
  some (.inl (v_at_49 + 1))

noncomputable def FX8_next_b8 (a_tape : Nat → Int32) (v_size : Int32) (v_at_49 : Int32) : Option (Int32 ⊕ Int32) :=
  bd1 (FX8_see a_tape v_size v_at_49) fun x_50 =>
  if x_50 = 10 then
    FX8_next_j34 v_at_49
  else
    bd1 (FX8_see a_tape v_size v_at_49) fun x_52 =>
    if x_52 = 32 then
      FX8_next_j34 v_at_49
    else
      some (.inr v_at_49)

noncomputable def FX8_next_j196 (v_behind_77 : Int32) (v_number_84 : Int32) : Option ((Int32 × Int32) ⊕ (Int32 × Int32)) :=
  some (.inl ((v_behind_77 + 1), v_number_84))

noncomputable def FX8_next_b146 (a_tape : Nat → Int32) (v_size : Int32) (v_at_54 : Int32) (v_behind_77 : Int32) (v_number_78 : Int32) : Option ((Int32 × Int32) ⊕ (Int32 × Int32)) :=
  bd1 (FX8_see a_tape v_size v_behind_77) fun x_79 =>
  bd1 (FX8_isDigit x_79) fun b_80 =>
  if (b2i b_80) = 0 then
    some (.inr (v_behind_77, v_number_78))
  else
    if 3 ≤ (v_behind_77 - v_at_54) then
      FX8_next_j196 v_behind_77 v_number_78
    else
      bd1 (FX8_see a_tape v_size v_behind_77) fun x_83 =>
      FX8_next_j196 v_behind_77 (((10 * v_number_78) + x_83) - 48)

noncomputable def FX8_next_b89 (a_tape : Nat → Int32) (v_size : Int32) (v_behind_62 : Int32) : Option (Int32 ⊕ Int32) :=
  bd1 (FX8_see a_tape v_size v_behind_62) fun x_63 =>
  bd1 (FX8_isSmall x_63) fun b_64 =>
  if (b2i b_64) = 0 then
    some (.inr v_behind_62)
  else
    some (.inl (v_behind_62 + 1))

noncomputable def FX8_next (a_tape : Nat → Int32) (v_behind : Int32) (v_size : Int32) (v_number : Int32) : Option (Int32 × Int32 × Int32 × Int32) :=
  bd1 (loopC (fun s => FX8_next_b8 a_tape v_size s) v_behind) fun v_at_54 =>
    if v_at_54 < v_size then
      bd1 (FX8_see a_tape v_size v_at_54) fun x_56 =>
      bd1 (FX8_isSmall x_56) fun b_57 =>
      if (b2i b_57) = 0 then
        bd1 (FX8_see a_tape v_size v_at_54) fun x_68 =>
        bd1 (FX8_isDigit x_68) fun b_69 =>
        if (b2i b_69) = 0 then
          bd1 (FX8_see a_tape v_size v_at_54) fun x_89 =>
          if x_89 = 59 then
            FX8_next_j303 v_number v_at_54 26
          else
            bd1 (FX8_see a_tape v_size v_at_54) fun x_91 =>
            if x_91 = 40 then
              FX8_next_j303 v_number v_at_54 27
            else
              bd1 (FX8_see a_tape v_size v_at_54) fun x_93 =>
              if x_93 = 41 then
                FX8_next_j303 v_number v_at_54 28
              else
                FX8_next_j303 v_number v_at_54 30
        else
          bd2 (loopC (fun s => FX8_next_b146 a_tape v_size v_at_54 s.1 s.2) (v_at_54, 0)) fun v_behind_85 v_number_86 =>
            if (v_behind_85 - v_at_54) ≤ 3 then
              FX8_next_j230 v_at_54 v_behind_85 v_number_86 25
            else
              FX8_next_j230 v_at_54 v_behind_85 v_number_86 30
      else
        bd1 (loopC (fun s => FX8_next_b89 a_tape v_size s) v_at_54) fun v_behind_66 =>
          bd1 (FX8_keyAt a_tape v_at_54 v_behind_66) fun x_67 =>
          some (v_at_54, v_behind_66, x_67, v_number)
    else
      some (v_at_54, v_at_54, 29, v_number)

noncomputable def FX8_fails_j23 (v_at : Int32) (x_48 : Int32) : Option (Int32 × Int32) :=
  some (x_48, v_at)

noncomputable def FX8_fails (v_at : Int32) (v_kind : Int32) (v_wrong : Int32) (v_wrongAt : Int32) (p1 : Int32) : Option (Int32 × Int32) :=
  if v_wrong = 0 then
    if v_kind = 30 then
      FX8_fails_j23 v_at 1
    else
      FX8_fails_j23 v_at p1
  else
    some (v_wrong, v_wrongAt)

noncomputable def FX8_is (v_kind : Int32) (v_wrong : Int32) (p1 : Int32) : Option Bool :=
  if v_wrong = 0 then
    if v_kind = p1 then
      some true
    else
      some false
  else
    some false

noncomputable def FX8_eats (a_tape : Nat → Int32) (v_at : Int32) (v_behind : Int32) (v_size : Int32) (v_kind : Int32) (v_number : Int32) (v_wrong : Int32) (p1 : Int32) : Option (Bool × Int32 × Int32 × Int32 × Int32) :=
  bd1 (FX8_is v_kind v_wrong p1) fun b_46 =>
  if (b2i b_46) = 0 then
    some (false, v_at, v_behind, v_kind, v_number)
  else
    bd4 (FX8_next a_tape v_behind v_size v_number) fun v_at_48 v_behind_49 v_kind_50 v_number_51 =>
    some (true, v_at_48, v_behind_49, v_kind_50, v_number_51)

noncomputable def FX8_needs (a_tape : Nat → Int32) (v_at : Int32) (v_behind : Int32) (v_size : Int32) (v_kind : Int32) (v_number : Int32) (v_wrong : Int32) (v_wrongAt : Int32) (p1 : Int32) : Option (Int32 × Int32 × Int32 × Int32 × Int32 × Int32) :=
  bd5 (FX8_eats a_tape v_at v_behind v_size v_kind v_number v_wrong p1) fun b_46 v_at_47 v_behind_48 v_kind_49 v_number_50 =>
  if (b2i b_46) = 0 then
    bd2 (FX8_fails v_at_47 v_kind_49 v_wrong v_wrongAt 2) fun v_wrong_52 v_wrongAt_53 =>
    some (v_at_47, v_behind_48, v_kind_49, v_number_50, v_wrong_52, v_wrongAt_53)
  else
    some (v_at_47, v_behind_48, v_kind_49, v_number_50, v_wrong, v_wrongAt)

noncomputable def FX8_emit (a_fresh : Nat → Int32) (v_steps : Int32) (p1 : Int32) (p2 : Int32) : Option ((Nat → Int32) × Int32) :=
  bd1 (wrI 531 a_fresh (131 + (2 * v_steps)) p1) fun a_fresh_47 =>
  bd1 (wrI 531 a_fresh_47 ((131 + (2 * v_steps)) + 1) p2) fun a_fresh_48 =>
  some (a_fresh_48, (v_steps + 1))

noncomputable def FX8_within (p0 : Int64) (p2 : Int64) (p4 : Int64) : Option Bool :=
  if (lg_cmp p0 p2) < 0 then
    some false
  else
    if 0 < (lg_cmp p0 p4) then
      some false
    else
      some true

noncomputable def FX8_reads_j37 (a_tape : Nat → Int32) (v_at : Int32) (v_behind : Int32) (v_size : Int32) (v_kind : Int32) (v_number : Int32) (v_wrong_55 : Int32) (v_wrongAt_56 : Int32) : Option (Int32 × Int32 × Int32 × Int32 × Int32 × Int32 × Int32) :=
  if v_wrong_55 = 0 then
    bd4 (FX8_next a_tape v_behind v_size v_number) fun v_at_58 v_behind_59 v_kind_60 v_number_61 =>
    some (v_number, v_at_58, v_behind_59, v_kind_60, v_number_61, v_wrong_55, v_wrongAt_56)
  else
    some (v_number, v_at, v_behind, v_kind, v_number, v_wrong_55, v_wrongAt_56)

noncomputable def FX8_reads (a_tape : Nat → Int32) (v_at : Int32) (v_behind : Int32) (v_size : Int32) (v_kind : Int32) (v_number : Int32) (v_wrong : Int32) (v_wrongAt : Int32) (p1 : Int32) (p2 : Int32) : Option (Int32 × Int32 × Int32 × Int32 × Int32 × Int32 × Int32) :=
  bd1 (FX8_is v_kind v_wrong 25) fun b_47 =>
  if (b2i b_47) = 0 then
    bd2 (FX8_fails v_at v_kind v_wrong v_wrongAt 2) fun v_wrong_49 v_wrongAt_50 =>
    FX8_reads_j37 a_tape v_at v_behind v_size v_kind v_number v_wrong_49 v_wrongAt_50
  else
    bd1 (FX8_within (Int32.toInt64 v_number) (Int32.toInt64 p1) (Int32.toInt64 p2)) fun b_51 =>
    if (b2i b_51) = 0 then
      bd2 (FX8_fails v_at v_kind v_wrong v_wrongAt 3) fun v_wrong_53 v_wrongAt_54 =>
      FX8_reads_j37 a_tape v_at v_behind v_size v_kind v_number v_wrong_53 v_wrongAt_54
    else
      FX8_reads_j37 a_tape v_at v_behind v_size v_kind v_number v_wrong v_wrongAt

noncomputable def FX8_readPart_b4 (rf : (Nat → Int32) → (Nat → Int32) → Int32 → Int32 → Int32 → Int32 → Int32 → Int32 → Int32 → Int32 → Int32 → Option ((Nat → Int32) × Int32 × Int32 × Int32 × Int32 × Int32 × Int32 × Int32 × Int32)) (a_tape : Nat → Int32) (v_size : Int32) (a_fresh_72 : Nat → Int32) (v_at_73 : Int32) (v_behind_74 : Int32) (v_kind_75 : Int32) (v_number_76 : Int32) (v_wrong_77 : Int32) (v_wrongAt_78 : Int32) (v_depth_79 : Int32) (v_steps_80 : Int32) : Option (((Nat → Int32) × Int32 × Int32 × Int32 × Int32 × Int32 × Int32 × Int32 × Int32) ⊕ ((Nat → Int32) × Int32 × Int32 × Int32 × Int32 × Int32 × Int32 × Int32 × Int32)) :=
  bd5 (FX8_eats a_tape v_at_73 v_behind_74 v_size v_kind_75 v_number_76 v_wrong_77 17) fun b_81 v_at_82 v_behind_83 v_kind_84 v_number_85 =>
  if (b2i b_81) = 0 then
    some (.inr (a_fresh_72, v_at_82, v_behind_83, v_kind_84, v_number_85, v_wrong_77, v_wrongAt_78, v_depth_79, v_steps_80))
  else
    bd9 (rf a_tape a_fresh_72 v_at_82 v_behind_83 v_size v_kind_84 v_number_85 v_wrong_77 v_wrongAt_78 v_depth_79 v_steps_80) fun a_fresh_87 v_at_88 v_behind_89 v_kind_90 v_number_91 v_wrong_92 v_wrongAt_93 v_depth_94 v_steps_95 =>
    if v_wrong_92 = 0 then
      bd2 (FX8_emit a_fresh_87 v_steps_95 17 0) fun a_fresh_97 v_steps_98 =>
      some (.inl (a_fresh_97, v_at_88, v_behind_89, v_kind_90, v_number_91, v_wrong_92, v_wrongAt_93, v_depth_94, v_steps_98))
    else
      some (.inl (a_fresh_87, v_at_88, v_behind_89, v_kind_90, v_number_91, v_wrong_92, v_wrongAt_93, v_depth_94, v_steps_95))

noncomputable def FX8_readPart (rf : (Nat → Int32) → (Nat → Int32) → Int32 → Int32 → Int32 → Int32 → Int32 → Int32 → Int32 → Int32 → Int32 → Option ((Nat → Int32) × Int32 × Int32 × Int32 × Int32 × Int32 × Int32 × Int32 × Int32)) (a_tape : Nat → Int32) (a_fresh : Nat → Int32) (v_at : Int32) (v_behind : Int32) (v_size : Int32) (v_kind : Int32) (v_number : Int32) (v_wrong : Int32) (v_wrongAt : Int32) (v_depth : Int32) (v_steps : Int32) : Option ((Nat → Int32) × Int32 × Int32 × Int32 × Int32 × Int32 × Int32 × Int32 × Int32) :=
  bd9 (rf a_tape a_fresh v_at v_behind v_size v_kind v_number v_wrong v_wrongAt v_depth v_steps) fun a_fresh_45 v_at_46 v_behind_47 v_kind_48 v_number_49 v_wrong_50 v_wrongAt_51 v_depth_52 v_steps_53 =>
  bd9 (loopC (fun s => FX8_readPart_b4 rf a_tape v_size s.1 s.2.1 s.2.2.1 s.2.2.2.1 s.2.2.2.2.1 s.2.2.2.2.2.1 s.2.2.2.2.2.2.1 s.2.2.2.2.2.2.2.1 s.2.2.2.2.2.2.2.2) (a_fresh_45, v_at_46, v_behind_47, v_kind_48, v_number_49, v_wrong_50, v_wrongAt_51, v_depth_52, v_steps_53)) fun a_fresh_99 v_at_100 v_behind_101 v_kind_102 v_number_103 v_wrong_104 v_wrongAt_105 v_depth_106 v_steps_107 =>
    some (a_fresh_99, v_at_100, v_behind_101, v_kind_102, v_number_103, v_wrong_104, v_wrongAt_105, v_depth_106, v_steps_107)

noncomputable def FX8_readTest_b4 (rf : (Nat → Int32) → (Nat → Int32) → Int32 → Int32 → Int32 → Int32 → Int32 → Int32 → Int32 → Int32 → Int32 → Option ((Nat → Int32) × Int32 × Int32 × Int32 × Int32 × Int32 × Int32 × Int32 × Int32)) (a_tape : Nat → Int32) (v_size : Int32) (a_fresh_72 : Nat → Int32) (v_at_73 : Int32) (v_behind_74 : Int32) (v_kind_75 : Int32) (v_number_76 : Int32) (v_wrong_77 : Int32) (v_wrongAt_78 : Int32) (v_depth_79 : Int32) (v_steps_80 : Int32) : Option (((Nat → Int32) × Int32 × Int32 × Int32 × Int32 × Int32 × Int32 × Int32 × Int32) ⊕ ((Nat → Int32) × Int32 × Int32 × Int32 × Int32 × Int32 × Int32 × Int32 × Int32)) :=
  bd5 (FX8_eats a_tape v_at_73 v_behind_74 v_size v_kind_75 v_number_76 v_wrong_77 16) fun b_81 v_at_82 v_behind_83 v_kind_84 v_number_85 =>
  if (b2i b_81) = 0 then
    some (.inr (a_fresh_72, v_at_82, v_behind_83, v_kind_84, v_number_85, v_wrong_77, v_wrongAt_78, v_depth_79, v_steps_80))
  else
    bd9 (FX8_readPart rf a_tape a_fresh_72 v_at_82 v_behind_83 v_size v_kind_84 v_number_85 v_wrong_77 v_wrongAt_78 v_depth_79 v_steps_80) fun a_fresh_87 v_at_88 v_behind_89 v_kind_90 v_number_91 v_wrong_92 v_wrongAt_93 v_depth_94 v_steps_95 =>
    if v_wrong_92 = 0 then
      bd2 (FX8_emit a_fresh_87 v_steps_95 16 0) fun a_fresh_97 v_steps_98 =>
      some (.inl (a_fresh_97, v_at_88, v_behind_89, v_kind_90, v_number_91, v_wrong_92, v_wrongAt_93, v_depth_94, v_steps_98))
    else
      some (.inl (a_fresh_87, v_at_88, v_behind_89, v_kind_90, v_number_91, v_wrong_92, v_wrongAt_93, v_depth_94, v_steps_95))

noncomputable def FX8_readTest (rf : (Nat → Int32) → (Nat → Int32) → Int32 → Int32 → Int32 → Int32 → Int32 → Int32 → Int32 → Int32 → Int32 → Option ((Nat → Int32) × Int32 × Int32 × Int32 × Int32 × Int32 × Int32 × Int32 × Int32)) (a_tape : Nat → Int32) (a_fresh : Nat → Int32) (v_at : Int32) (v_behind : Int32) (v_size : Int32) (v_kind : Int32) (v_number : Int32) (v_wrong : Int32) (v_wrongAt : Int32) (v_depth : Int32) (v_steps : Int32) : Option ((Nat → Int32) × Int32 × Int32 × Int32 × Int32 × Int32 × Int32 × Int32 × Int32) :=
  bd9 (FX8_readPart rf a_tape a_fresh v_at v_behind v_size v_kind v_number v_wrong v_wrongAt v_depth v_steps) fun a_fresh_45 v_at_46 v_behind_47 v_kind_48 v_number_49 v_wrong_50 v_wrongAt_51 v_depth_52 v_steps_53 =>
  bd9 (loopC (fun s => FX8_readTest_b4 rf a_tape v_size s.1 s.2.1 s.2.2.1 s.2.2.2.1 s.2.2.2.2.1 s.2.2.2.2.2.1 s.2.2.2.2.2.2.1 s.2.2.2.2.2.2.2.1 s.2.2.2.2.2.2.2.2) (a_fresh_45, v_at_46, v_behind_47, v_kind_48, v_number_49, v_wrong_50, v_wrongAt_51, v_depth_52, v_steps_53)) fun a_fresh_99 v_at_100 v_behind_101 v_kind_102 v_number_103 v_wrong_104 v_wrongAt_105 v_depth_106 v_steps_107 =>
    some (a_fresh_99, v_at_100, v_behind_101, v_kind_102, v_number_103, v_wrong_104, v_wrongAt_105, v_depth_106, v_steps_107)

noncomputable def FX8_readFact_b_j78 (rf : (Nat → Int32) → (Nat → Int32) → Int32 → Int32 → Int32 → Int32 → Int32 → Int32 → Int32 → Int32 → Int32 → Option ((Nat → Int32) × Int32 × Int32 × Int32 × Int32 × Int32 × Int32 × Int32 × Int32)) (a_tape : Nat → Int32) (v_size : Int32) (v_kind : Int32) (a_fresh_138 : Nat → Int32) (v_at_139 : Int32) (v_behind_140 : Int32) (v_kind_141 : Int32) (v_number_142 : Int32) (v_wrong_143 : Int32) (v_wrongAt_144 : Int32) (v_depth_145 : Int32) (v_steps_146 : Int32) : Option ((Nat → Int32) × Int32 × Int32 × Int32 × Int32 × Int32 × Int32 × Int32 × Int32) :=
  if v_kind = 27 then
    bd6 (FX8_needs a_tape v_at_139 v_behind_140 v_size v_kind_141 v_number_142 v_wrong_143 v_wrongAt_144 28) fun v_at_148 v_behind_149 v_kind_150 v_number_151 v_wrong_152 v_wrongAt_153 =>
    some (a_fresh_138, v_at_148, v_behind_149, v_kind_150, v_number_151, v_wrong_152, v_wrongAt_153, (v_depth_145 - 1), v_steps_146)
  else
    if v_wrong_143 = 0 then
      bd2 (FX8_emit a_fresh_138 v_steps_146 18 0) fun a_fresh_155 v_steps_156 =>
      some (a_fresh_155, v_at_139, v_behind_140, v_kind_141, v_number_142, v_wrong_143, v_wrongAt_144, (v_depth_145 - 1), v_steps_156)
    else
      some (a_fresh_138, v_at_139, v_behind_140, v_kind_141, v_number_142, v_wrong_143, v_wrongAt_144, (v_depth_145 - 1), v_steps_146)

noncomputable def FX8_readFact_b_j39 (rf : (Nat → Int32) → (Nat → Int32) → Int32 → Int32 → Int32 → Int32 → Int32 → Int32 → Int32 → Int32 → Int32 → Option ((Nat → Int32) × Int32 × Int32 × Int32 × Int32 × Int32 × Int32 × Int32 × Int32)) (a_tape : Nat → Int32) (a_fresh : Nat → Int32) (v_at : Int32) (v_behind : Int32) (v_size : Int32) (v_kind : Int32) (v_number : Int32) (v_depth : Int32) (v_steps : Int32) (v_wrong_112 : Int32) (v_wrongAt_113 : Int32) : Option ((Nat → Int32) × Int32 × Int32 × Int32 × Int32 × Int32 × Int32 × Int32 × Int32) :=
  if v_wrong_112 = 0 then
    bd4 (FX8_next a_tape v_behind v_size v_number) fun v_at_115 v_behind_116 v_kind_117 v_number_118 =>
    if v_kind = 18 then
      bd9 (rf a_tape a_fresh v_at_115 v_behind_116 v_size v_kind_117 v_number_118 v_wrong_112 v_wrongAt_113 (v_depth + 1) v_steps) fun a_fresh_120 v_at_121 v_behind_122 v_kind_123 v_number_124 v_wrong_125 v_wrongAt_126 v_depth_127 v_steps_128 =>
      FX8_readFact_b_j78 rf a_tape v_size v_kind a_fresh_120 v_at_121 v_behind_122 v_kind_123 v_number_124 v_wrong_125 v_wrongAt_126 v_depth_127 v_steps_128
    else
      bd9 (FX8_readTest rf a_tape a_fresh v_at_115 v_behind_116 v_size v_kind_117 v_number_118 v_wrong_112 v_wrongAt_113 (v_depth + 1) v_steps) fun a_fresh_129 v_at_130 v_behind_131 v_kind_132 v_number_133 v_wrong_134 v_wrongAt_135 v_depth_136 v_steps_137 =>
      FX8_readFact_b_j78 rf a_tape v_size v_kind a_fresh_129 v_at_130 v_behind_131 v_kind_132 v_number_133 v_wrong_134 v_wrongAt_135 v_depth_136 v_steps_137
  else
    some (a_fresh, v_at, v_behind, v_kind, v_number, v_wrong_112, v_wrongAt_113, v_depth, v_steps)

noncomputable def FX8_readFact_b_j25 (rf : (Nat → Int32) → (Nat → Int32) → Int32 → Int32 → Int32 → Int32 → Int32 → Int32 → Int32 → Int32 → Int32 → Option ((Nat → Int32) × Int32 × Int32 × Int32 × Int32 × Int32 × Int32 × Int32 × Int32)) (a_tape : Nat → Int32) (a_fresh : Nat → Int32) (v_at : Int32) (v_behind : Int32) (v_size : Int32) (v_kind : Int32) (v_number : Int32) (v_wrong : Int32) (v_wrongAt : Int32) (v_depth : Int32) (v_steps : Int32) : Option ((Nat → Int32) × Int32 × Int32 × Int32 × Int32 × Int32 × Int32 × Int32 × Int32) :=
  if v_depth = 8 then
    bd2 (FX8_fails v_at v_kind v_wrong v_wrongAt 5) fun v_wrong_110 v_wrongAt_111 =>
    FX8_readFact_b_j39 rf a_tape a_fresh v_at v_behind v_size v_kind v_number v_depth v_steps v_wrong_110 v_wrongAt_111
  else
    FX8_readFact_b_j39 rf a_tape a_fresh v_at v_behind v_size v_kind v_number v_depth v_steps v_wrong v_wrongAt

noncomputable def FX8_readFact_b_j221 (rf : (Nat → Int32) → (Nat → Int32) → Int32 → Int32 → Int32 → Int32 → Int32 → Int32 → Int32 → Int32 → Int32 → Option ((Nat → Int32) × Int32 × Int32 × Int32 × Int32 × Int32 × Int32 × Int32 × Int32)) (a_fresh : Nat → Int32) (v_kind : Int32) (v_depth : Int32) (v_steps : Int32) (x_99 : Int32) (v_at_100 : Int32) (v_behind_101 : Int32) (v_kind_102 : Int32) (v_number_103 : Int32) (v_wrong_104 : Int32) (v_wrongAt_105 : Int32) : Option ((Nat → Int32) × Int32 × Int32 × Int32 × Int32 × Int32 × Int32 × Int32 × Int32) :=
  if v_wrong_104 = 0 then
    bd2 (FX8_emit a_fresh v_steps v_kind x_99) fun a_fresh_107 v_steps_108 =>
    some (a_fresh_107, v_at_100, v_behind_101, v_kind_102, v_number_103, v_wrong_104, v_wrongAt_105, v_depth, v_steps_108)
  else
    some (a_fresh, v_at_100, v_behind_101, v_kind_102, v_number_103, v_wrong_104, v_wrongAt_105, v_depth, v_steps)

noncomputable def FX8_readFact_b_j142 (rf : (Nat → Int32) → (Nat → Int32) → Int32 → Int32 → Int32 → Int32 → Int32 → Int32 → Int32 → Int32 → Int32 → Option ((Nat → Int32) × Int32 × Int32 × Int32 × Int32 × Int32 × Int32 × Int32 × Int32)) (a_tape : Nat → Int32) (a_fresh : Nat → Int32) (v_at : Int32) (v_behind : Int32) (v_size : Int32) (v_kind : Int32) (v_number : Int32) (v_depth : Int32) (v_steps : Int32) (v_wrong_53 : Int32) (v_wrongAt_54 : Int32) : Option ((Nat → Int32) × Int32 × Int32 × Int32 × Int32 × Int32 × Int32 × Int32 × Int32) :=
  if v_wrong_53 = 0 then
    bd4 (FX8_next a_tape v_behind v_size v_number) fun v_at_56 v_behind_57 v_kind_58 v_number_59 =>
    if v_kind = 19 then
      bd7 (FX8_reads a_tape v_at_56 v_behind_57 v_size v_kind_58 v_number_59 v_wrong_53 v_wrongAt_54 0 7) fun x_61 v_at_62 v_behind_63 v_kind_64 v_number_65 v_wrong_66 v_wrongAt_67 =>
      FX8_readFact_b_j221 rf a_fresh v_kind v_depth v_steps x_61 v_at_62 v_behind_63 v_kind_64 v_number_65 v_wrong_66 v_wrongAt_67
    else
      if v_kind = 2 then
        bd7 (FX8_reads a_tape v_at_56 v_behind_57 v_size v_kind_58 v_number_59 v_wrong_53 v_wrongAt_54 1 9) fun x_69 v_at_70 v_behind_71 v_kind_72 v_number_73 v_wrong_74 v_wrongAt_75 =>
        FX8_readFact_b_j221 rf a_fresh v_kind v_depth v_steps x_69 v_at_70 v_behind_71 v_kind_72 v_number_73 v_wrong_74 v_wrongAt_75
      else
        if v_kind = 22 then
          bd7 (FX8_reads a_tape v_at_56 v_behind_57 v_size v_kind_58 v_number_59 v_wrong_53 v_wrongAt_54 0 2) fun x_77 v_at_78 v_behind_79 v_kind_80 v_number_81 v_wrong_82 v_wrongAt_83 =>
          FX8_readFact_b_j221 rf a_fresh v_kind v_depth v_steps x_77 v_at_78 v_behind_79 v_kind_80 v_number_81 v_wrong_82 v_wrongAt_83
        else
          if v_kind = 23 then
            bd7 (FX8_reads a_tape v_at_56 v_behind_57 v_size v_kind_58 v_number_59 v_wrong_53 v_wrongAt_54 0 3) fun x_85 v_at_86 v_behind_87 v_kind_88 v_number_89 v_wrong_90 v_wrongAt_91 =>
            FX8_readFact_b_j221 rf a_fresh v_kind v_depth v_steps x_85 v_at_86 v_behind_87 v_kind_88 v_number_89 v_wrong_90 v_wrongAt_91
          else
            bd7 (FX8_reads a_tape v_at_56 v_behind_57 v_size v_kind_58 v_number_59 v_wrong_53 v_wrongAt_54 0 4) fun x_92 v_at_93 v_behind_94 v_kind_95 v_number_96 v_wrong_97 v_wrongAt_98 =>
            FX8_readFact_b_j221 rf a_fresh v_kind v_depth v_steps x_92 v_at_93 v_behind_94 v_kind_95 v_number_96 v_wrong_97 v_wrongAt_98
  else
    some (a_fresh, v_at, v_behind, v_kind, v_number, v_wrong_53, v_wrongAt_54, v_depth, v_steps)

noncomputable def FX8_readFact_b (rf : (Nat → Int32) → (Nat → Int32) → Int32 → Int32 → Int32 → Int32 → Int32 → Int32 → Int32 → Int32 → Int32 → Option ((Nat → Int32) × Int32 × Int32 × Int32 × Int32 × Int32 × Int32 × Int32 × Int32)) (a_tape : Nat → Int32) (a_fresh : Nat → Int32) (v_at : Int32) (v_behind : Int32) (v_size : Int32) (v_kind : Int32) (v_number : Int32) (v_wrong : Int32) (v_wrongAt : Int32) (v_depth : Int32) (v_steps : Int32) : Option ((Nat → Int32) × Int32 × Int32 × Int32 × Int32 × Int32 × Int32 × Int32 × Int32) :=
  if v_wrong = 0 then
    if v_kind = 18 then
      FX8_readFact_b_j25 rf a_tape a_fresh v_at v_behind v_size v_kind v_number v_wrong v_wrongAt v_depth v_steps
    else
      if v_kind = 27 then
        FX8_readFact_b_j25 rf a_tape a_fresh v_at v_behind v_size v_kind v_number v_wrong v_wrongAt v_depth v_steps
      else
        if v_kind = 2 then
          FX8_readFact_b_j142 rf a_tape a_fresh v_at v_behind v_size v_kind v_number v_depth v_steps v_wrong v_wrongAt
        else
          bd1 (FX8_within (Int32.toInt64 v_kind) 19 23) fun b_49 =>
          if (b2i b_49) = 0 then
            bd2 (FX8_fails v_at v_kind v_wrong v_wrongAt 2) fun v_wrong_51 v_wrongAt_52 =>
            FX8_readFact_b_j142 rf a_tape a_fresh v_at v_behind v_size v_kind v_number v_depth v_steps v_wrong_51 v_wrongAt_52
          else
            FX8_readFact_b_j142 rf a_tape a_fresh v_at v_behind v_size v_kind v_number v_depth v_steps v_wrong v_wrongAt
  else
    some (a_fresh, v_at, v_behind, v_kind, v_number, v_wrong, v_wrongAt, v_depth, v_steps)

noncomputable def FX8_readFact : Nat → (Nat → Int32) → (Nat → Int32) → Int32 → Int32 → Int32 → Int32 → Int32 → Int32 → Int32 → Int32 → Int32 → Option ((Nat → Int32) × Int32 × Int32 × Int32 × Int32 × Int32 × Int32 × Int32 × Int32)
  | 0 => fun _ _ _ _ _ _ _ _ _ _ _ => none
  | d + 1 => FX8_readFact_b (FX8_readFact d)

noncomputable def FX8_readBar_j36 (a_tape : Nat → Int32) (a_fresh : Nat → Int32) (v_at : Int32) (v_behind : Int32) (v_size : Int32) (v_kind : Int32) (v_number : Int32) (v_depth : Int32) (v_steps : Int32) (x_45 : Int32) (v_wrong_53 : Int32) (v_wrongAt_54 : Int32) : Option ((Nat → Int32) × Int32 × Int32 × Int32 × Int32 × Int32 × Int32 × Int32 × Int32) :=
  if v_wrong_53 = 0 then
    bd4 (FX8_next a_tape v_behind v_size v_number) fun v_at_56 v_behind_57 v_kind_58 v_number_59 =>
    bd6 (FX8_needs a_tape v_at_56 v_behind_57 v_size v_kind_58 v_number_59 v_wrong_53 v_wrongAt_54 15) fun v_at_60 v_behind_61 v_kind_62 v_number_63 v_wrong_64 v_wrongAt_65 =>
    bd1 (wrI 531 a_fresh (115 + x_45) v_steps) fun a_fresh_66 =>
    bd9 (FX8_readTest (FX8_readFact 12) a_tape a_fresh_66 v_at_60 v_behind_61 v_size v_kind_62 v_number_63 v_wrong_64 v_wrongAt_65 v_depth v_steps) fun a_fresh_67 v_at_68 v_behind_69 v_kind_70 v_number_71 v_wrong_72 v_wrongAt_73 v_depth_74 v_steps_75 =>
    bd1 (wrI 531 a_fresh_67 (123 + x_45) v_steps_75) fun a_fresh_76 =>
    bd6 (FX8_needs a_tape v_at_68 v_behind_69 v_size v_kind_70 v_number_71 v_wrong_72 v_wrongAt_73 26) fun v_at_77 v_behind_78 v_kind_79 v_number_80 v_wrong_81 v_wrongAt_82 =>
    bd1 (rd 531 a_fresh_76 114) fun x_83 =>
    bd1 (wrI 531 a_fresh_76 114 (x_83 + 1)) fun a_fresh_84 =>
    some (a_fresh_84, v_at_77, v_behind_78, v_kind_79, v_number_80, v_wrong_81, v_wrongAt_82, v_depth_74, v_steps_75)
  else
    some (a_fresh, v_at, v_behind, v_kind, v_number, v_wrong_53, v_wrongAt_54, v_depth, v_steps)

noncomputable def FX8_readBar (a_tape : Nat → Int32) (a_fresh : Nat → Int32) (v_at : Int32) (v_behind : Int32) (v_size : Int32) (v_kind : Int32) (v_number : Int32) (v_wrong : Int32) (v_wrongAt : Int32) (v_depth : Int32) (v_steps : Int32) : Option ((Nat → Int32) × Int32 × Int32 × Int32 × Int32 × Int32 × Int32 × Int32 × Int32) :=
  bd1 (rd 531 a_fresh 114) fun x_45 =>
  bd1 (FX8_is v_kind v_wrong 14) fun b_46 =>
  if (b2i b_46) = 0 then
    bd2 (FX8_fails v_at v_kind v_wrong v_wrongAt 2) fun v_wrong_48 v_wrongAt_49 =>
    FX8_readBar_j36 a_tape a_fresh v_at v_behind v_size v_kind v_number v_depth v_steps x_45 v_wrong_48 v_wrongAt_49
  else
    if x_45 = 8 then
      bd2 (FX8_fails v_at v_kind v_wrong v_wrongAt 4) fun v_wrong_51 v_wrongAt_52 =>
      FX8_readBar_j36 a_tape a_fresh v_at v_behind v_size v_kind v_number v_depth v_steps x_45 v_wrong_51 v_wrongAt_52
    else
      FX8_readBar_j36 a_tape a_fresh v_at v_behind v_size v_kind v_number v_depth v_steps x_45 v_wrong v_wrongAt

noncomputable def FX8_readMust_j19 (a_tape : Nat → Int32) (a_fresh : Nat → Int32) (v_at : Int32) (v_behind : Int32) (v_size : Int32) (v_kind : Int32) (v_number : Int32) (p1 : Int32) (x_46 : Int32) (v_wrong_50 : Int32) (v_wrongAt_51 : Int32) : Option ((Nat → Int32) × Int32 × Int32 × Int32 × Int32 × Int32 × Int32) :=
  if v_wrong_50 = 0 then
    bd4 (FX8_next a_tape v_behind v_size v_number) fun v_at_53 v_behind_54 v_kind_55 v_number_56 =>
    bd1 (rd 531 a_fresh 0) fun x_57 =>
    bd7 (FX8_reads a_tape v_at_53 v_behind_54 v_size v_kind_55 v_number_56 v_wrong_50 v_wrongAt_51 0 (x_57 - 1)) fun x_58 v_at_59 v_behind_60 v_kind_61 v_number_62 v_wrong_63 v_wrongAt_64 =>
    bd7 (FX8_reads a_tape v_at_59 v_behind_60 v_size v_kind_61 v_number_62 v_wrong_63 v_wrongAt_64 0 3) fun x_65 v_at_66 v_behind_67 v_kind_68 v_number_69 v_wrong_70 v_wrongAt_71 =>
    if v_wrong_70 = 0 then
      bd1 (wrI 531 a_fresh (57 + x_46) p1) fun a_fresh_73 =>
      bd1 (wrI 531 a_fresh_73 (63 + x_46) x_58) fun a_fresh_74 =>
      bd1 (wrI 531 a_fresh_74 (69 + x_46) x_65) fun a_fresh_75 =>
      bd1 (rd 531 a_fresh_75 56) fun x_76 =>
      bd1 (wrI 531 a_fresh_75 56 (x_76 + 1)) fun a_fresh_77 =>
      some (a_fresh_77, v_at_66, v_behind_67, v_kind_68, v_number_69, v_wrong_70, v_wrongAt_71)
    else
      some (a_fresh, v_at_66, v_behind_67, v_kind_68, v_number_69, v_wrong_70, v_wrongAt_71)
  else
    some (a_fresh, v_at, v_behind, v_kind, v_number, v_wrong_50, v_wrongAt_51)

noncomputable def FX8_readMust (a_tape : Nat → Int32) (a_fresh : Nat → Int32) (v_at : Int32) (v_behind : Int32) (v_size : Int32) (v_kind : Int32) (v_number : Int32) (v_wrong : Int32) (v_wrongAt : Int32) (p1 : Int32) : Option ((Nat → Int32) × Int32 × Int32 × Int32 × Int32 × Int32 × Int32) :=
  bd1 (rd 531 a_fresh 56) fun x_46 =>
  if x_46 = 6 then
    bd2 (FX8_fails v_at v_kind v_wrong v_wrongAt 4) fun v_wrong_48 v_wrongAt_49 =>
    FX8_readMust_j19 a_tape a_fresh v_at v_behind v_size v_kind v_number p1 x_46 v_wrong_48 v_wrongAt_49
  else
    FX8_readMust_j19 a_tape a_fresh v_at v_behind v_size v_kind v_number p1 x_46 v_wrong v_wrongAt

noncomputable def FX8_readRow_j15 (a_tape : Nat → Int32) (a_fresh : Nat → Int32) (v_at : Int32) (v_behind : Int32) (v_size : Int32) (v_kind : Int32) (v_number : Int32) (v_wrong_49 : Int32) (v_wrongAt_50 : Int32) : Option ((Nat → Int32) × Int32 × Int32 × Int32 × Int32 × Int32 × Int32) :=
  if v_wrong_49 = 0 then
    bd4 (FX8_next a_tape v_behind v_size v_number) fun v_at_52 v_behind_53 v_kind_54 v_number_55 =>
    bd7 (FX8_reads a_tape v_at_52 v_behind_53 v_size v_kind_54 v_number_55 v_wrong_49 v_wrongAt_50 1 3) fun x_56 v_at_57 v_behind_58 v_kind_59 v_number_60 v_wrong_61 v_wrongAt_62 =>
    if v_wrong_61 = 0 then
      bd1 (rd 531 a_fresh 0) fun x_64 =>
      bd1 (wrI 531 a_fresh (1 + x_64) x_56) fun a_fresh_65 =>
      bd1 (rd 531 a_fresh_65 0) fun x_66 =>
      bd1 (wrI 531 a_fresh_65 0 (x_66 + 1)) fun a_fresh_67 =>
      some (a_fresh_67, v_at_57, v_behind_58, v_kind_59, v_number_60, v_wrong_61, v_wrongAt_62)
    else
      some (a_fresh, v_at_57, v_behind_58, v_kind_59, v_number_60, v_wrong_61, v_wrongAt_62)
  else
    some (a_fresh, v_at, v_behind, v_kind, v_number, v_wrong_49, v_wrongAt_50)

noncomputable def FX8_readRow (a_tape : Nat → Int32) (a_fresh : Nat → Int32) (v_at : Int32) (v_behind : Int32) (v_size : Int32) (v_kind : Int32) (v_number : Int32) (v_wrong : Int32) (v_wrongAt : Int32) : Option ((Nat → Int32) × Int32 × Int32 × Int32 × Int32 × Int32 × Int32) :=
  bd1 (rd 531 a_fresh 0) fun x_45 =>
  if x_45 = 5 then
    bd2 (FX8_fails v_at v_kind v_wrong v_wrongAt 4) fun v_wrong_47 v_wrongAt_48 =>
    FX8_readRow_j15 a_tape a_fresh v_at v_behind v_size v_kind v_number v_wrong_47 v_wrongAt_48
  else
    FX8_readRow_j15 a_tape a_fresh v_at v_behind v_size v_kind v_number v_wrong v_wrongAt

noncomputable def FX8_freshMany_b2 (a_fresh : Nat → Int32) (p1 : Int32) (x_49 : Int32) : Option (Int32 ⊕ Int32) :=
  if 3 ≤ x_49 then
    some (.inr x_49)
  else
    bd1 (rd 531 a_fresh ((80 + (3 * p1)) + x_49)) fun x_51 =>
    if x_51 ≤ 0 then
      some (.inr x_49)
    else
      some (.inl (x_49 + 1))

noncomputable def FX8_freshMany (a_fresh : Nat → Int32) (p1 : Int32) : Option Int32 :=
  bd1 (loopC (fun s => FX8_freshMany_b2 a_fresh p1 s) 0) fun x_53 =>
    some x_53

noncomputable def FX8_readStone_j150 (a_fresh : Nat → Int32) (x_45 : Int32) (x_56 : Int32) (x_69 : Int32) (x_95 : Int32) (x_115 : Int32) (v_at_116 : Int32) (v_behind_117 : Int32) (v_kind_118 : Int32) (v_number_119 : Int32) (v_wrong_120 : Int32) (v_wrongAt_121 : Int32) : Option ((Nat → Int32) × Int32 × Int32 × Int32 × Int32 × Int32 × Int32) :=
  if v_wrong_120 = 0 then
    bd1 (wrI 531 a_fresh (7 + x_45) x_56) fun a_fresh_123 =>
    bd1 (wrI 531 a_fresh_123 (15 + x_45) x_69) fun a_fresh_124 =>
    bd1 (wrI 531 a_fresh_124 (23 + x_45) x_115) fun a_fresh_125 =>
    bd1 (FX8_freshMany a_fresh_125 x_95) fun x_126 =>
    bd1 (wrI 531 a_fresh_125 ((80 + (3 * x_95)) + x_126) (x_45 + 1)) fun a_fresh_127 =>
    bd1 (rd 531 a_fresh_127 6) fun x_128 =>
    bd1 (wrI 531 a_fresh_127 6 (x_128 + 1)) fun a_fresh_129 =>
    some (a_fresh_129, v_at_116, v_behind_117, v_kind_118, v_number_119, v_wrong_120, v_wrongAt_121)
  else
    some (a_fresh, v_at_116, v_behind_117, v_kind_118, v_number_119, v_wrong_120, v_wrongAt_121)

noncomputable def FX8_readStone_j114 (a_tape : Nat → Int32) (a_fresh : Nat → Int32) (v_size : Int32) (x_45 : Int32) (x_56 : Int32) (x_69 : Int32) (v_at_76 : Int32) (v_behind_77 : Int32) (v_kind_78 : Int32) (v_number_79 : Int32) (v_wrong_92 : Int32) (v_wrongAt_93 : Int32) : Option ((Nat → Int32) × Int32 × Int32 × Int32 × Int32 × Int32 × Int32) :=
  bd1 (rd 531 a_fresh 0) fun x_94 =>
  bd7 (FX8_reads a_tape v_at_76 v_behind_77 v_size v_kind_78 v_number_79 v_wrong_92 v_wrongAt_93 0 (x_94 - 1)) fun x_95 v_at_96 v_behind_97 v_kind_98 v_number_99 v_wrong_100 v_wrongAt_101 =>
  bd5 (FX8_eats a_tape v_at_96 v_behind_97 v_size v_kind_98 v_number_99 v_wrong_100 4) fun b_102 v_at_103 v_behind_104 v_kind_105 v_number_106 =>
  if (b2i b_102) = 0 then
    FX8_readStone_j150 a_fresh x_45 x_56 x_69 x_95 99 v_at_103 v_behind_104 v_kind_105 v_number_106 v_wrong_100 v_wrongAt_101
  else
    bd7 (FX8_reads a_tape v_at_103 v_behind_104 v_size v_kind_105 v_number_106 v_wrong_100 v_wrongAt_101 0 99) fun x_108 v_at_109 v_behind_110 v_kind_111 v_number_112 v_wrong_113 v_wrongAt_114 =>
    FX8_readStone_j150 a_fresh x_45 x_56 x_69 x_95 x_108 v_at_109 v_behind_110 v_kind_111 v_number_112 v_wrong_113 v_wrongAt_114

noncomputable def FX8_readStone_j19 (a_tape : Nat → Int32) (a_fresh : Nat → Int32) (v_at : Int32) (v_behind : Int32) (v_size : Int32) (v_kind : Int32) (v_number : Int32) (x_45 : Int32) (v_wrong_49 : Int32) (v_wrongAt_50 : Int32) : Option ((Nat → Int32) × Int32 × Int32 × Int32 × Int32 × Int32 × Int32) :=
  if v_wrong_49 = 0 then
    bd4 (FX8_next a_tape v_behind v_size v_number) fun v_at_52 v_behind_53 v_kind_54 v_number_55 =>
    bd7 (FX8_reads a_tape v_at_52 v_behind_53 v_size v_kind_54 v_number_55 v_wrong_49 v_wrongAt_50 0 7) fun x_56 v_at_57 v_behind_58 v_kind_59 v_number_60 v_wrong_61 v_wrongAt_62 =>
    bd6 (FX8_needs a_tape v_at_57 v_behind_58 v_size v_kind_59 v_number_60 v_wrong_61 v_wrongAt_62 2) fun v_at_63 v_behind_64 v_kind_65 v_number_66 v_wrong_67 v_wrongAt_68 =>
    bd7 (FX8_reads a_tape v_at_63 v_behind_64 v_size v_kind_65 v_number_66 v_wrong_67 v_wrongAt_68 1 9) fun x_69 v_at_70 v_behind_71 v_kind_72 v_number_73 v_wrong_74 v_wrongAt_75 =>
    bd6 (FX8_needs a_tape v_at_70 v_behind_71 v_size v_kind_72 v_number_73 v_wrong_74 v_wrongAt_75 3) fun v_at_76 v_behind_77 v_kind_78 v_number_79 v_wrong_80 v_wrongAt_81 =>
    bd1 (FX8_is v_kind_78 v_wrong_80 25) fun b_82 =>
    if (b2i b_82) = 0 then
      FX8_readStone_j114 a_tape a_fresh v_size x_45 x_56 x_69 v_at_76 v_behind_77 v_kind_78 v_number_79 v_wrong_80 v_wrongAt_81
    else
      bd1 (rd 531 a_fresh 0) fun x_84 =>
      bd1 (FX8_within (Int32.toInt64 v_number_79) 0 (Int32.toInt64 (x_84 - 1))) fun b_85 =>
      if (b2i b_85) = 0 then
        FX8_readStone_j114 a_tape a_fresh v_size x_45 x_56 x_69 v_at_76 v_behind_77 v_kind_78 v_number_79 v_wrong_80 v_wrongAt_81
      else
        bd1 (FX8_freshMany a_fresh v_number_79) fun x_87 =>
        bd1 (rd 531 a_fresh (1 + v_number_79)) fun x_88 =>
        if x_87 = x_88 then
          bd2 (FX8_fails v_at_76 v_kind_78 v_wrong_80 v_wrongAt_81 3) fun v_wrong_90 v_wrongAt_91 =>
          FX8_readStone_j114 a_tape a_fresh v_size x_45 x_56 x_69 v_at_76 v_behind_77 v_kind_78 v_number_79 v_wrong_90 v_wrongAt_91
        else
          FX8_readStone_j114 a_tape a_fresh v_size x_45 x_56 x_69 v_at_76 v_behind_77 v_kind_78 v_number_79 v_wrong_80 v_wrongAt_81
  else
    some (a_fresh, v_at, v_behind, v_kind, v_number, v_wrong_49, v_wrongAt_50)

noncomputable def FX8_readStone (a_tape : Nat → Int32) (a_fresh : Nat → Int32) (v_at : Int32) (v_behind : Int32) (v_size : Int32) (v_kind : Int32) (v_number : Int32) (v_wrong : Int32) (v_wrongAt : Int32) : Option ((Nat → Int32) × Int32 × Int32 × Int32 × Int32 × Int32 × Int32) :=
  bd1 (rd 531 a_fresh 6) fun x_45 =>
  if x_45 = 8 then
    bd2 (FX8_fails v_at v_kind v_wrong v_wrongAt 4) fun v_wrong_47 v_wrongAt_48 =>
    FX8_readStone_j19 a_tape a_fresh v_at v_behind v_size v_kind v_number x_45 v_wrong_47 v_wrongAt_48
  else
    FX8_readStone_j19 a_tape a_fresh v_at v_behind v_size v_kind v_number x_45 v_wrong v_wrongAt

noncomputable def FX8_readWish_j129 (a_tape : Nat → Int32) (v_size : Int32) (x_61 : Int32) (x_112 : Int32) (a_fresh_113 : Nat → Int32) (v_at_114 : Int32) (v_behind_115 : Int32) (v_kind_116 : Int32) (v_number_117 : Int32) (v_wrong_126 : Int32) (v_wrongAt_127 : Int32) : Option ((Int32 × (Nat → Int32) × Int32 × Int32 × Int32 × Int32 × Int32 × Int32) ⊕ (((Nat → Int32) × Int32 × Int32 × Int32 × Int32 × Int32 × Int32) ⊕ (Int32 × (Nat → Int32) × Int32 × Int32 × Int32 × Int32 × Int32 × Int32))) :=
  bd7 (FX8_reads a_tape v_at_114 v_behind_115 v_size v_kind_116 v_number_117 v_wrong_126 v_wrongAt_127 0 7) fun x_128 v_at_129 v_behind_130 v_kind_131 v_number_132 v_wrong_133 v_wrongAt_134 =>
  if v_wrong_133 = 0 then
    bd1 (wrI 531 a_fresh_113 ((41 + (3 * x_61)) + x_112) x_128) fun a_fresh_136 =>
    some (.inl ((x_112 + 1), a_fresh_136, v_at_129, v_behind_130, v_kind_131, v_number_132, v_wrong_133, v_wrongAt_134))
  else
    some (.inr (.inl (a_fresh_113, v_at_129, v_behind_130, v_kind_131, v_number_132, v_wrong_133, v_wrongAt_134)))

noncomputable def FX8_readWish_b103 (a_tape : Nat → Int32) (v_size : Int32) (x_61 : Int32) (x_112 : Int32) (a_fresh_113 : Nat → Int32) (v_at_114 : Int32) (v_behind_115 : Int32) (v_kind_116 : Int32) (v_number_117 : Int32) (v_wrong_118 : Int32) (v_wrongAt_119 : Int32) : Option ((Int32 × (Nat → Int32) × Int32 × Int32 × Int32 × Int32 × Int32 × Int32) ⊕ (((Nat → Int32) × Int32 × Int32 × Int32 × Int32 × Int32 × Int32) ⊕ (Int32 × (Nat → Int32) × Int32 × Int32 × Int32 × Int32 × Int32 × Int32))) :=
  bd1 (FX8_is v_kind_116 v_wrong_118 25) fun b_120 =>
  if (b2i b_120) = 0 then
    some (.inr (.inr (x_112, a_fresh_113, v_at_114, v_behind_115, v_kind_116, v_number_117, v_wrong_118, v_wrongAt_119)))
  else
    bd1 (rd 531 a_fresh_113 (1 + x_61)) fun x_122 =>
    if x_112 = x_122 then
      bd2 (FX8_fails v_at_114 v_kind_116 v_wrong_118 v_wrongAt_119 3) fun v_wrong_124 v_wrongAt_125 =>
      FX8_readWish_j129 a_tape v_size x_61 x_112 a_fresh_113 v_at_114 v_behind_115 v_kind_116 v_number_117 v_wrong_124 v_wrongAt_125
    else
      FX8_readWish_j129 a_tape v_size x_61 x_112 a_fresh_113 v_at_114 v_behind_115 v_kind_116 v_number_117 v_wrong_118 v_wrongAt_119

noncomputable def FX8_readWish_j87 (a_tape : Nat → Int32) (a_fresh : Nat → Int32) (v_size : Int32) (x_61 : Int32) (x_81 : Int32) (v_at_82 : Int32) (v_behind_83 : Int32) (v_kind_84 : Int32) (v_number_85 : Int32) (v_wrong_86 : Int32) (v_wrongAt_87 : Int32) : Option ((Nat → Int32) × Int32 × Int32 × Int32 × Int32 × Int32 × Int32) :=
  bd6 (FX8_needs a_tape v_at_82 v_behind_83 v_size v_kind_84 v_number_85 v_wrong_86 v_wrongAt_87 7) fun v_at_88 v_behind_89 v_kind_90 v_number_91 v_wrong_92 v_wrongAt_93 =>
  if v_wrong_92 = 0 then
    bdS2 (loopC (fun s => FX8_readWish_b103 a_tape v_size x_61 s.1 s.2.1 s.2.2.1 s.2.2.2.1 s.2.2.2.2.1 s.2.2.2.2.2.1 s.2.2.2.2.2.2.1 s.2.2.2.2.2.2.2) (0, a_fresh, v_at_88, v_behind_89, v_kind_90, v_number_91, v_wrong_92, v_wrongAt_93))
      (un7 fun a_fresh_137 v_at_138 v_behind_139 v_kind_140 v_number_141 v_wrong_142 v_wrongAt_143 =>
        some (a_fresh_137, v_at_138, v_behind_139, v_kind_140, v_number_141, v_wrong_142, v_wrongAt_143))
      (un8 fun x_144 a_fresh_145 v_at_146 v_behind_147 v_kind_148 v_number_149 v_wrong_150 v_wrongAt_151 =>
        bd1 (wrI 531 a_fresh_145 (31 + x_61) x_144) fun a_fresh_152 =>
        bd1 (wrI 531 a_fresh_152 (36 + x_61) x_81) fun a_fresh_153 =>
        some (a_fresh_153, v_at_146, v_behind_147, v_kind_148, v_number_149, v_wrong_150, v_wrongAt_151))
  else
    some (a_fresh, v_at_88, v_behind_89, v_kind_90, v_number_91, v_wrong_92, v_wrongAt_93)

noncomputable def FX8_readWish_j55 (a_tape : Nat → Int32) (a_fresh : Nat → Int32) (v_size : Int32) (v_at_45 : Int32) (v_behind_46 : Int32) (v_kind_47 : Int32) (v_number_48 : Int32) (v_wrong_58 : Int32) (v_wrongAt_59 : Int32) : Option ((Nat → Int32) × Int32 × Int32 × Int32 × Int32 × Int32 × Int32) :=
  bd1 (rd 531 a_fresh 0) fun x_60 =>
  bd7 (FX8_reads a_tape v_at_45 v_behind_46 v_size v_kind_47 v_number_48 v_wrong_58 v_wrongAt_59 0 (x_60 - 1)) fun x_61 v_at_62 v_behind_63 v_kind_64 v_number_65 v_wrong_66 v_wrongAt_67 =>
  bd5 (FX8_eats a_tape v_at_62 v_behind_63 v_size v_kind_64 v_number_65 v_wrong_66 6) fun b_68 v_at_69 v_behind_70 v_kind_71 v_number_72 =>
  if (b2i b_68) = 0 then
    FX8_readWish_j87 a_tape a_fresh v_size x_61 0 v_at_69 v_behind_70 v_kind_71 v_number_72 v_wrong_66 v_wrongAt_67
  else
    bd7 (FX8_reads a_tape v_at_69 v_behind_70 v_size v_kind_71 v_number_72 v_wrong_66 v_wrongAt_67 0 1) fun x_74 v_at_75 v_behind_76 v_kind_77 v_number_78 v_wrong_79 v_wrongAt_80 =>
    FX8_readWish_j87 a_tape a_fresh v_size x_61 x_74 v_at_75 v_behind_76 v_kind_77 v_number_78 v_wrong_79 v_wrongAt_80

noncomputable def FX8_readWish (a_tape : Nat → Int32) (a_fresh : Nat → Int32) (v_behind : Int32) (v_size : Int32) (v_number : Int32) (v_wrong : Int32) (v_wrongAt : Int32) : Option ((Nat → Int32) × Int32 × Int32 × Int32 × Int32 × Int32 × Int32) :=
  bd4 (FX8_next a_tape v_behind v_size v_number) fun v_at_45 v_behind_46 v_kind_47 v_number_48 =>
  bd1 (FX8_is v_kind_47 v_wrong 25) fun b_49 =>
  if (b2i b_49) = 0 then
    FX8_readWish_j55 a_tape a_fresh v_size v_at_45 v_behind_46 v_kind_47 v_number_48 v_wrong v_wrongAt
  else
    bd1 (rd 531 a_fresh 0) fun x_51 =>
    bd1 (FX8_within (Int32.toInt64 v_number_48) 0 (Int32.toInt64 (x_51 - 1))) fun b_52 =>
    if (b2i b_52) = 0 then
      FX8_readWish_j55 a_tape a_fresh v_size v_at_45 v_behind_46 v_kind_47 v_number_48 v_wrong v_wrongAt
    else
      bd1 (rd 531 a_fresh (31 + v_number_48)) fun x_54 =>
      if x_54 = (-1) then
        FX8_readWish_j55 a_tape a_fresh v_size v_at_45 v_behind_46 v_kind_47 v_number_48 v_wrong v_wrongAt
      else
        bd2 (FX8_fails v_at_45 v_kind_47 v_wrong v_wrongAt 3) fun v_wrong_56 v_wrongAt_57 =>
        FX8_readWish_j55 a_tape a_fresh v_size v_at_45 v_behind_46 v_kind_47 v_number_48 v_wrong_56 v_wrongAt_57

noncomputable def FX8_readLine_j175 (a_tape : Nat → Int32) (v_size : Int32) (a_fresh_134 : Nat → Int32) (v_at_135 : Int32) (v_behind_136 : Int32) (v_kind_137 : Int32) (v_number_138 : Int32) (v_wrong_139 : Int32) (v_wrongAt_140 : Int32) : Option ((Nat → Int32) × Int32 × Int32 × Int32 × Int32 × Int32 × Int32) :=
  bd6 (FX8_needs a_tape v_at_135 v_behind_136 v_size v_kind_137 v_number_138 v_wrong_139 v_wrongAt_140 26) fun v_at_141 v_behind_142 v_kind_143 v_number_144 v_wrong_145 v_wrongAt_146 =>
  bd1 (rd 531 a_fresh_134 79) fun x_147 =>
  bd1 (wrI 531 a_fresh_134 79 (x_147 + 1)) fun a_fresh_148 =>
  some (a_fresh_148, v_at_141, v_behind_142, v_kind_143, v_number_144, v_wrong_145, v_wrongAt_146)

noncomputable def FX8_readLine (a_tape : Nat → Int32) (a_fresh : Nat → Int32) (v_at : Int32) (v_behind : Int32) (v_size : Int32) (v_kind : Int32) (v_number : Int32) (v_wrong : Int32) (v_wrongAt : Int32) : Option ((Nat → Int32) × Int32 × Int32 × Int32 × Int32 × Int32 × Int32) :=
  bd1 (FX8_is v_kind v_wrong 0) fun b_45 =>
  if (b2i b_45) = 0 then
    bd1 (FX8_is v_kind v_wrong 1) fun b_54 =>
    if (b2i b_54) = 0 then
      bd1 (FX8_is v_kind v_wrong 5) fun b_63 =>
      if (b2i b_63) = 0 then
        bd1 (FX8_is v_kind v_wrong 8) fun b_72 =>
        if (b2i b_72) = 0 then
          bd1 (FX8_is v_kind v_wrong 9) fun b_81 =>
          if (b2i b_81) = 0 then
            bd5 (FX8_eats a_tape v_at v_behind v_size v_kind v_number v_wrong 10) fun b_90 v_at_91 v_behind_92 v_kind_93 v_number_94 =>
            if (b2i b_90) = 0 then
              bd5 (FX8_eats a_tape v_at_91 v_behind_92 v_size v_kind_93 v_number_94 v_wrong 11) fun b_104 v_at_105 v_behind_106 v_kind_107 v_number_108 =>
              if (b2i b_104) = 0 then
                bd5 (FX8_eats a_tape v_at_105 v_behind_106 v_size v_kind_107 v_number_108 v_wrong 12) fun b_118 v_at_119 v_behind_120 v_kind_121 v_number_122 =>
                if (b2i b_118) = 0 then
                  bd5 (FX8_eats a_tape v_at_119 v_behind_120 v_size v_kind_121 v_number_122 v_wrong 13) fun b_125 v_at_126 v_behind_127 v_kind_128 v_number_129 =>
                  if (b2i b_125) = 0 then
                    bd2 (FX8_fails v_at_126 v_kind_128 v_wrong v_wrongAt 2) fun v_wrong_132 v_wrongAt_133 =>
                    FX8_readLine_j175 a_tape v_size a_fresh v_at_126 v_behind_127 v_kind_128 v_number_129 v_wrong_132 v_wrongAt_133
                  else
                    bd1 (wrI 531 a_fresh 78 1) fun a_fresh_131 =>
                    FX8_readLine_j175 a_tape v_size a_fresh_131 v_at_126 v_behind_127 v_kind_128 v_number_129 v_wrong v_wrongAt
                else
                  bd1 (wrI 531 a_fresh 77 1) fun a_fresh_124 =>
                  FX8_readLine_j175 a_tape v_size a_fresh_124 v_at_119 v_behind_120 v_kind_121 v_number_122 v_wrong v_wrongAt
              else
                bd7 (FX8_reads a_tape v_at_105 v_behind_106 v_size v_kind_107 v_number_108 v_wrong v_wrongAt 1 8) fun x_110 v_at_111 v_behind_112 v_kind_113 v_number_114 v_wrong_115 v_wrongAt_116 =>
                bd1 (wrI 531 a_fresh 76 x_110) fun a_fresh_117 =>
                FX8_readLine_j175 a_tape v_size a_fresh_117 v_at_111 v_behind_112 v_kind_113 v_number_114 v_wrong_115 v_wrongAt_116
            else
              bd7 (FX8_reads a_tape v_at_91 v_behind_92 v_size v_kind_93 v_number_94 v_wrong v_wrongAt 1 3) fun x_96 v_at_97 v_behind_98 v_kind_99 v_number_100 v_wrong_101 v_wrongAt_102 =>
              bd1 (wrI 531 a_fresh 75 x_96) fun a_fresh_103 =>
              FX8_readLine_j175 a_tape v_size a_fresh_103 v_at_97 v_behind_98 v_kind_99 v_number_100 v_wrong_101 v_wrongAt_102
          else
            bd7 (FX8_readMust a_tape a_fresh v_at v_behind v_size v_kind v_number v_wrong v_wrongAt 1) fun a_fresh_83 v_at_84 v_behind_85 v_kind_86 v_number_87 v_wrong_88 v_wrongAt_89 =>
            FX8_readLine_j175 a_tape v_size a_fresh_83 v_at_84 v_behind_85 v_kind_86 v_number_87 v_wrong_88 v_wrongAt_89
        else
          bd7 (FX8_readMust a_tape a_fresh v_at v_behind v_size v_kind v_number v_wrong v_wrongAt 0) fun a_fresh_74 v_at_75 v_behind_76 v_kind_77 v_number_78 v_wrong_79 v_wrongAt_80 =>
          FX8_readLine_j175 a_tape v_size a_fresh_74 v_at_75 v_behind_76 v_kind_77 v_number_78 v_wrong_79 v_wrongAt_80
      else
        bd7 (FX8_readWish a_tape a_fresh v_behind v_size v_number v_wrong v_wrongAt) fun a_fresh_65 v_at_66 v_behind_67 v_kind_68 v_number_69 v_wrong_70 v_wrongAt_71 =>
        FX8_readLine_j175 a_tape v_size a_fresh_65 v_at_66 v_behind_67 v_kind_68 v_number_69 v_wrong_70 v_wrongAt_71
    else
      bd7 (FX8_readStone a_tape a_fresh v_at v_behind v_size v_kind v_number v_wrong v_wrongAt) fun a_fresh_56 v_at_57 v_behind_58 v_kind_59 v_number_60 v_wrong_61 v_wrongAt_62 =>
      FX8_readLine_j175 a_tape v_size a_fresh_56 v_at_57 v_behind_58 v_kind_59 v_number_60 v_wrong_61 v_wrongAt_62
  else
    bd7 (FX8_readRow a_tape a_fresh v_at v_behind v_size v_kind v_number v_wrong v_wrongAt) fun a_fresh_47 v_at_48 v_behind_49 v_kind_50 v_number_51 v_wrong_52 v_wrongAt_53 =>
    FX8_readLine_j175 a_tape v_size a_fresh_47 v_at_48 v_behind_49 v_kind_50 v_number_51 v_wrong_52 v_wrongAt_53

noncomputable def FX8_text_b188 (a_fresh_104 : Nat → Int32) (x_119 : Int32) (x_123 : Int32) (a_all_124 : Nat → Int32) : Option ((Int32 × (Nat → Int32)) ⊕ (Nat → Int32)) :=
  if x_119 ≤ x_123 then
    some (.inr a_all_124)
  else
    bd1 (rd 531 a_fresh_104 x_123) fun x_126 =>
    bd1 (wrI 1593 a_all_124 x_123 x_126) fun a_all_127 =>
    some (.inl ((x_123 + 1), a_all_127))

noncomputable def FX8_text_j183 (a_all : Nat → Int32) (p1 : Int32) (p2 : Int32) (a_fresh_104 : Nat → Int32) (v_at_105 : Int32) (v_behind_106 : Int32) (v_kind_107 : Int32) (v_number_108 : Int32) (v_wrong_109 : Int32) (v_wrongAt_110 : Int32) (v_depth_111 : Int32) (v_steps_112 : Int32) (x_114 : Int32) (x_117 : Int32) (x_119 : Int32) : Option (Int32 × (Nat → Int32) × (Nat → Int32) × Int32 × Int32 × Int32 × Int32 × Int32 × Int32 × Int32 × Int32 × Int32 × Int32 × Int32 × Int32) :=
  bd1 (loopC (fun s => FX8_text_b188 a_fresh_104 x_119 s.1 s.2) (x_117, a_all)) fun a_all_128 =>
    if p1 = 0 then
      bd1 (rd 1593 a_all_128 79) fun x_130 =>
      some (x_130, a_all_128, a_fresh_104, 0, v_at_105, v_behind_106, p2, v_kind_107, v_number_108, v_wrong_109, v_wrongAt_110, v_depth_111, v_steps_112, v_wrong_109, x_114)
    else
      bd1 (rd 1593 a_all_128 114) fun x_131 =>
      some (x_131, a_all_128, a_fresh_104, 0, v_at_105, v_behind_106, p2, v_kind_107, v_number_108, v_wrong_109, v_wrongAt_110, v_depth_111, v_steps_112, v_wrong_109, x_114)

noncomputable def FX8_text_j170 (a_all : Nat → Int32) (p1 : Int32) (p2 : Int32) (a_fresh_104 : Nat → Int32) (v_at_105 : Int32) (v_behind_106 : Int32) (v_kind_107 : Int32) (v_number_108 : Int32) (v_wrong_109 : Int32) (v_wrongAt_110 : Int32) (v_depth_111 : Int32) (v_steps_112 : Int32) (x_114 : Int32) (x_117 : Int32) : Option (Int32 × (Nat → Int32) × (Nat → Int32) × Int32 × Int32 × Int32 × Int32 × Int32 × Int32 × Int32 × Int32 × Int32 × Int32 × Int32 × Int32) :=
  if p1 = 0 then
    FX8_text_j183 a_all p1 p2 a_fresh_104 v_at_105 v_behind_106 v_kind_107 v_number_108 v_wrong_109 v_wrongAt_110 v_depth_111 v_steps_112 x_114 x_117 113
  else
    FX8_text_j183 a_all p1 p2 a_fresh_104 v_at_105 v_behind_106 v_kind_107 v_number_108 v_wrong_109 v_wrongAt_110 v_depth_111 v_steps_112 x_114 x_117 531

noncomputable def FX8_text_j142 (a_all : Nat → Int32) (p1 : Int32) (p2 : Int32) (a_fresh_104 : Nat → Int32) (v_at_105 : Int32) (v_behind_106 : Int32) (v_kind_107 : Int32) (v_number_108 : Int32) (v_wrong_109 : Int32) (v_wrongAt_110 : Int32) (v_depth_111 : Int32) (v_steps_112 : Int32) (x_114 : Int32) : Option (Int32 × (Nat → Int32) × (Nat → Int32) × Int32 × Int32 × Int32 × Int32 × Int32 × Int32 × Int32 × Int32 × Int32 × Int32 × Int32 × Int32) :=
  if v_wrong_109 = 0 then
    if p1 = 0 then
      FX8_text_j170 a_all p1 p2 a_fresh_104 v_at_105 v_behind_106 v_kind_107 v_number_108 v_wrong_109 v_wrongAt_110 v_depth_111 v_steps_112 x_114 0
    else
      FX8_text_j170 a_all p1 p2 a_fresh_104 v_at_105 v_behind_106 v_kind_107 v_number_108 v_wrong_109 v_wrongAt_110 v_depth_111 v_steps_112 x_114 114
  else
    some (((-10) - v_wrong_109), a_all, a_fresh_104, 0, v_at_105, v_behind_106, p2, v_kind_107, v_number_108, v_wrong_109, v_wrongAt_110, v_depth_111, v_steps_112, v_wrong_109, x_114)

noncomputable def FX8_text_b84 (a_tape : Nat → Int32) (p1 : Int32) (p2 : Int32) (a_fresh_76 : Nat → Int32) (v_at_77 : Int32) (v_behind_78 : Int32) (v_kind_79 : Int32) (v_number_80 : Int32) (v_wrong_81 : Int32) (v_wrongAt_82 : Int32) (v_depth_83 : Int32) (v_steps_84 : Int32) : Option (((Nat → Int32) × Int32 × Int32 × Int32 × Int32 × Int32 × Int32 × Int32 × Int32) ⊕ ((Nat → Int32) × Int32 × Int32 × Int32 × Int32 × Int32 × Int32 × Int32 × Int32)) :=
  if v_wrong_81 = 0 then
    if v_kind_79 = 29 then
      some (.inr (a_fresh_76, v_at_77, v_behind_78, v_kind_79, v_number_80, v_wrong_81, v_wrongAt_82, v_depth_83, v_steps_84))
    else
      if p1 = 0 then
        bd7 (FX8_readLine a_tape a_fresh_76 v_at_77 v_behind_78 p2 v_kind_79 v_number_80 v_wrong_81 v_wrongAt_82) fun a_fresh_88 v_at_89 v_behind_90 v_kind_91 v_number_92 v_wrong_93 v_wrongAt_94 =>
        some (.inl (a_fresh_88, v_at_89, v_behind_90, v_kind_91, v_number_92, v_wrong_93, v_wrongAt_94, v_depth_83, v_steps_84))
      else
        bd9 (FX8_readBar a_tape a_fresh_76 v_at_77 v_behind_78 p2 v_kind_79 v_number_80 v_wrong_81 v_wrongAt_82 v_depth_83 v_steps_84) fun a_fresh_95 v_at_96 v_behind_97 v_kind_98 v_number_99 v_wrong_100 v_wrongAt_101 v_depth_102 v_steps_103 =>
        some (.inl (a_fresh_95, v_at_96, v_behind_97, v_kind_98, v_number_99, v_wrong_100, v_wrongAt_101, v_depth_102, v_steps_103))
  else
    some (.inr (a_fresh_76, v_at_77, v_behind_78, v_kind_79, v_number_80, v_wrong_81, v_wrongAt_82, v_depth_83, v_steps_84))

noncomputable def FX8_text (a_all : Nat → Int32) (a_tape : Nat → Int32) (a_fresh : Nat → Int32) (v_taped : Int32) (v_at : Int32) (v_behind : Int32) (v_size : Int32) (v_kind : Int32) (v_number : Int32) (v_wrong : Int32) (v_wrongAt : Int32) (v_depth : Int32) (v_steps : Int32) (v_faultKind : Int32) (v_faultPlace : Int32) (p1 : Int32) (p2 : Int32) : Option (Int32 × (Nat → Int32) × (Nat → Int32) × Int32 × Int32 × Int32 × Int32 × Int32 × Int32 × Int32 × Int32 × Int32 × Int32 × Int32 × Int32) :=
  bd1 (FX8_within (Int32.toInt64 p1) 0 1) fun b_47 =>
  if (b2i b_47) = 0 then
    some ((-2), a_all, a_fresh, v_taped, v_at, v_behind, v_size, v_kind, v_number, v_wrong, v_wrongAt, v_depth, v_steps, v_faultKind, v_faultPlace)
  else
    bd1 (FX8_within (Int32.toInt64 p2) 0 (Int32.toInt64 v_taped)) fun b_49 =>
    if (b2i b_49) = 0 then
      some ((-3), a_all, a_fresh, v_taped, v_at, v_behind, v_size, v_kind, v_number, v_wrong, v_wrongAt, v_depth, v_steps, v_faultKind, v_faultPlace)
    else
      bd1 (FX8_plain_fresh a_fresh) fun a_fresh_51 =>
      bd1 (wrI 531 a_fresh_51 114 0) fun a_fresh_52 =>
      bd4 (FX8_next a_tape 0 p2 v_number) fun v_at_53 v_behind_54 v_kind_55 v_number_56 =>
      bd9 (loopC (fun s => FX8_text_b84 a_tape p1 p2 s.1 s.2.1 s.2.2.1 s.2.2.2.1 s.2.2.2.2.1 s.2.2.2.2.2.1 s.2.2.2.2.2.2.1 s.2.2.2.2.2.2.2.1 s.2.2.2.2.2.2.2.2) (a_fresh_52, v_at_53, v_behind_54, v_kind_55, v_number_56, 0, v_wrongAt, 0, 0)) fun a_fresh_104 v_at_105 v_behind_106 v_kind_107 v_number_108 v_wrong_109 v_wrongAt_110 v_depth_111 v_steps_112 =>
        if v_wrong_109 = 0 then
          FX8_text_j142 a_all p1 p2 a_fresh_104 v_at_105 v_behind_106 v_kind_107 v_number_108 v_wrong_109 v_wrongAt_110 v_depth_111 v_steps_112 (-1)
        else
          FX8_text_j142 a_all p1 p2 a_fresh_104 v_at_105 v_behind_106 v_kind_107 v_number_108 v_wrong_109 v_wrongAt_110 v_depth_111 v_steps_112 v_wrongAt_110

noncomputable def FX8_fault (v_faultKind : Int32) (v_faultPlace : Int32) (p1 : Int32) : Option Int32 :=
  if p1 = 0 then
    some v_faultKind
  else
    if p1 = 1 then
      some v_faultPlace
    else
      some (-1)

noncomputable def FX8_isStone (a_all : Nat → Int32) (p1 : Int32) : Option Bool :=
  bd1 (rd 1593 a_all 6) fun x_46 =>
  bd1 (FX8_within (Int32.toInt64 p1) 0 (Int32.toInt64 (x_46 - 1))) fun b_47 =>
  some b_47

noncomputable def FX8_placeOf_b2 (a_all : Nat → Int32) (p1 : Int32) (x_49 : Int32) : Option (Int32 ⊕ (Int32 ⊕ Unit)) :=
  if 15 ≤ x_49 then
    some (.inr (.inr ()))
  else
    bd1 (rd 1593 a_all (80 + x_49)) fun x_51 =>
    if x_51 = (p1 + 1) then
      some (.inr (.inl x_49))
    else
      some (.inl (x_49 + 1))

noncomputable def FX8_placeOf (a_all : Nat → Int32) (p1 : Int32) : Option Int32 :=
  bdS2 (loopC (fun s => FX8_placeOf_b2 a_all p1 s) 0)
    (un1 fun x_53 =>
      some x_53)
    (un0 fun _ =>
      some (-1))

noncomputable def FX8_stone (a_all : Nat → Int32) (p1 : Int32) (p2 : Int32) : Option Int32 :=
  bd1 (FX8_isStone a_all p1) fun b_47 =>
  if (b2i b_47) = 0 then
    some (-2)
  else
    bd1 (FX8_within (Int32.toInt64 p2) 0 6) fun b_49 =>
    if (b2i b_49) = 0 then
      some (-2)
    else
      if p2 = 0 then
        bd1 (rd 1593 a_all (7 + p1)) fun x_58 =>
        some x_58
      else
      if p2 = 1 then
        bd1 (rd 1593 a_all (15 + p1)) fun x_57 =>
        some x_57
      else
      if p2 = 2 then
        bd1 (rd 1593 a_all (23 + p1)) fun x_56 =>
        some x_56
      else
      if p2 = 3 then
        bd1 (FX8_placeOf a_all p1) fun x_55 =>
        some x_55
      else
      if p2 = 4 then
        bd1 (rd 1593 a_all 95) fun x_54 =>
        some ((x_54 >>> (p1 &&& 31)) &&& 1)
      else
      if p2 = 5 then
        bd1 (rd 1593 a_all (96 + p1)) fun x_53 =>
        some x_53
      else
        bd1 (rd 1593 a_all (104 + p1)) fun x_52 =>
        some x_52

noncomputable def FX8_lies (a_all : Nat → Int32) (p1 : Int32) : Option Int32 :=
  bd1 (FX8_within (Int32.toInt64 p1) 0 14) fun b_46 =>
  if (b2i b_46) = 0 then
    some (-3)
  else
    bd1 (rd 1593 a_all (80 + p1)) fun x_48 =>
    some (x_48 - 1)

noncomputable def FX8_isRow (a_all : Nat → Int32) (p1 : Int32) : Option Bool :=
  bd1 (rd 1593 a_all 0) fun x_46 =>
  bd1 (FX8_within (Int32.toInt64 p1) 0 (Int32.toInt64 (x_46 - 1))) fun b_47 =>
  some b_47

noncomputable def FX8_counts_j46 (x_62 : Int32) (x_72 : Int32) (a_many_73 : Nat → Int32) (x_75 : Int32) (x_78 : Int32) : Option ((Int32 × (Nat → Int32)) ⊕ (Nat → Int32)) :=
  bd1 (wrI 5 a_many_73 x_62 (x_75 + x_78)) fun a_many_79 =>
  some (.inl ((x_72 + 1), a_many_79))

noncomputable def FX8_counts_b16 (a_on : Nat → Int32) (x_62 : Int32) (x_72 : Int32) (a_many_73 : Nat → Int32) : Option ((Int32 × (Nat → Int32)) ⊕ (Nat → Int32)) :=
  if 3 ≤ x_72 then
    some (.inr a_many_73)
  else
    bd1 (rd 5 a_many_73 x_62) fun x_75 =>
    bd1 (rd 15 a_on ((3 * x_62) + x_72)) fun x_76 =>
    if x_76 ≤ 0 then
      FX8_counts_j46 x_62 x_72 a_many_73 x_75 0
    else
      FX8_counts_j46 x_62 x_72 a_many_73 x_75 1

noncomputable def FX8_counts_b2 (a_on : Nat → Int32) (x_62 : Int32) (a_many_63 : Nat → Int32) : Option ((Int32 × (Nat → Int32)) ⊕ (Nat → Int32)) :=
  if 5 ≤ x_62 then
    some (.inr a_many_63)
  else
    bd1 (wrI 5 a_many_63 x_62 0) fun a_many_65 =>
    bd1 (loopC (fun s => FX8_counts_b16 a_on x_62 s.1 s.2) (0, a_many_65)) fun a_many_80 =>
      some (.inl ((x_62 + 1), a_many_80))

noncomputable def FX8_counts (a_on : Nat → Int32) (a_many : Nat → Int32) : Option (Nat → Int32) :=
  bd1 (loopC (fun s => FX8_counts_b2 a_on s.1 s.2) (0, a_many)) fun a_many_81 =>
    some a_many_81

noncomputable def FX8_looksNow_b2 (a_all : Nat → Int32) (x_48 : Int32) (a_on_49 : Nat → Int32) : Option ((Int32 × (Nat → Int32)) ⊕ (Nat → Int32)) :=
  if 15 ≤ x_48 then
    some (.inr a_on_49)
  else
    bd1 (rd 1593 a_all (80 + x_48)) fun x_51 =>
    bd1 (wrI 15 a_on_49 x_48 x_51) fun a_on_52 =>
    some (.inl ((x_48 + 1), a_on_52))

noncomputable def FX8_looksNow (a_all : Nat → Int32) (a_on : Nat → Int32) (a_many : Nat → Int32) : Option ((Nat → Int32) × (Nat → Int32) × Int32) :=
  bd1 (loopC (fun s => FX8_looksNow_b2 a_all s.1 s.2) (0, a_on)) fun a_on_53 =>
    bd1 (rd 1593 a_all 95) fun x_54 =>
    bd1 (FX8_counts a_on_53 a_many) fun a_many_55 =>
    some (a_on_53, a_many_55, x_54)

noncomputable def FX8_row (a_all : Nat → Int32) (a_on : Nat → Int32) (a_many : Nat → Int32) (v_moved : Int32) (p1 : Int32) (p2 : Int32) : Option (Int32 × (Nat → Int32) × (Nat → Int32) × Int32) :=
  bd1 (FX8_isRow a_all p1) fun b_47 =>
  if (b2i b_47) = 0 then
    some ((-2), a_on, a_many, v_moved)
  else
    bd1 (FX8_within (Int32.toInt64 p2) 0 6) fun b_49 =>
    if (b2i b_49) = 0 then
      some ((-2), a_on, a_many, v_moved)
    else
      bd3 (FX8_looksNow a_all a_on a_many) fun a_on_51 a_many_52 v_moved_53 =>
      if p2 = 0 then
        bd1 (rd 1593 a_all (1 + p1)) fun x_59 =>
        some (x_59, a_on_51, a_many_52, v_moved_53)
      else
      if p2 = 1 then
        bd1 (rd 5 a_many_52 p1) fun x_58 =>
        some (x_58, a_on_51, a_many_52, v_moved_53)
      else
      if p2 = 2 then
        bd1 (rd 1593 a_all (31 + p1)) fun x_57 =>
        some (x_57, a_on_51, a_many_52, v_moved_53)
      else
      if p2 = 3 then
        bd1 (rd 1593 a_all (36 + p1)) fun x_56 =>
        some (x_56, a_on_51, a_many_52, v_moved_53)
      else
        bd1 (rd 1593 a_all (((41 + (3 * p1)) + p2) - 4)) fun x_55 =>
        some (x_55, a_on_51, a_many_52, v_moved_53)

noncomputable def FX8_brokenMust_j82 (x_56 : Int32) : Option (Int32 ⊕ (Int32 ⊕ (Int32 ⊕ Unit))) :=
  some (.inl (x_56 + 1))

noncomputable def FX8_brokenMust_b2 (a_all : Nat → Int32) (a_many : Nat → Int32) (v_aside : Int32) (x_56 : Int32) : Option (Int32 ⊕ (Int32 ⊕ (Int32 ⊕ Unit))) :=
  bd1 (rd 1593 a_all 56) fun x_57 =>
  if x_57 ≤ x_56 then
    some (.inr (.inr (.inr ())))
  else
    if x_56 = v_aside then
      FX8_brokenMust_j82 x_56
    else
      bd1 (rd 1593 a_all (63 + x_56)) fun x_60 =>
      bd1 (rd 5 a_many x_60) fun x_61 =>
      bd1 (rd 1593 a_all (57 + x_56)) fun x_62 =>
      if x_62 = 0 then
        bd1 (rd 1593 a_all (69 + x_56)) fun x_64 =>
        if x_64 ≤ x_61 then
          FX8_brokenMust_j82 x_56
        else
          some (.inr (.inl x_56))
      else
        bd1 (rd 1593 a_all (69 + x_56)) fun x_66 =>
        if x_61 ≤ x_66 then
          FX8_brokenMust_j82 x_56
        else
          some (.inr (.inr (.inl x_56)))

noncomputable def FX8_brokenMust (a_all : Nat → Int32) (a_many : Nat → Int32) (v_aside : Int32) : Option Int32 :=
  bdS3 (loopC (fun s => FX8_brokenMust_b2 a_all a_many v_aside s) 0)
    (un1 fun x_68 =>
      some x_68)
    (un1 fun x_69 =>
      some x_69)
    (un0 fun _ =>
      some (-1))

noncomputable def FX8_heavy_j107 (x_66 : Int32) : Option (Int32 ⊕ (Int32 ⊕ Unit)) :=
  some (.inl (x_66 + 1))

noncomputable def FX8_heavy_j84 (x_77 : Int32) (x_78 : Int32) (x_84 : Int32) : Option ((Int32 × Int32) ⊕ Int32) :=
  some (.inl ((x_77 + x_84), (x_78 + 1)))

noncomputable def FX8_heavy_b34 (a_all : Nat → Int32) (x_69 : Int32) (x_77 : Int32) (x_78 : Int32) : Option ((Int32 × Int32) ⊕ Int32) :=
  if (3 * ((x_69 / 3) + 1)) ≤ x_78 then
    some (.inr x_77)
  else
    bd1 (rd 1593 a_all (80 + x_78)) fun x_80 =>
    if x_80 ≤ 0 then
      FX8_heavy_j84 x_77 x_78 0
    else
      bd1 (rd 1593 a_all (80 + x_78)) fun x_82 =>
      bd1 (rd 1593 a_all ((15 + x_82) - 1)) fun x_83 =>
      FX8_heavy_j84 x_77 x_78 x_83

noncomputable def FX8_heavy_b2 (a_all : Nat → Int32) (x_66 : Int32) : Option (Int32 ⊕ (Int32 ⊕ Unit)) :=
  bd1 (rd 1593 a_all 6) fun x_67 =>
  if x_67 ≤ x_66 then
    some (.inr (.inr ()))
  else
    bd1 (FX8_placeOf a_all x_66) fun x_69 =>
    if x_69 = (-1) then
      FX8_heavy_j107 x_66
    else
      bd1 (loopC (fun s => FX8_heavy_b34 a_all x_69 s.1 s.2) (0, (x_69 + 1))) fun x_85 =>
        bd1 (rd 1593 a_all (23 + x_66)) fun x_86 =>
        if x_85 ≤ x_86 then
          FX8_heavy_j107 x_66
        else
          some (.inr (.inl x_66))

noncomputable def FX8_heavy (a_all : Nat → Int32) : Option Int32 :=
  bdS2 (loopC (fun s => FX8_heavy_b2 a_all s) 0)
    (un1 fun x_88 =>
      some x_88)
    (un0 fun _ =>
      some (-1))

noncomputable def FX8_rests (a_all : Nat → Int32) (a_on : Nat → Int32) (a_many : Nat → Int32) (v_moved : Int32) (v_aside : Int32) (p1 : Int32) : Option (Int32 × (Nat → Int32) × (Nat → Int32) × Int32) :=
  bd1 (FX8_within (Int32.toInt64 p1) 0 1) fun b_46 =>
  if (b2i b_46) = 0 then
    some ((-2), a_on, a_many, v_moved)
  else
    bd3 (FX8_looksNow a_all a_on a_many) fun a_on_48 a_many_49 v_moved_50 =>
    if p1 = 0 then
      bd1 (FX8_heavy a_all) fun x_52 =>
      some (x_52, a_on_48, a_many_49, v_moved_50)
    else
      bd1 (FX8_brokenMust a_all a_many_49 v_aside) fun x_53 =>
      some (x_53, a_on_48, a_many_49, v_moved_50)

noncomputable def FX8_bitsOf_b4 (p0 : Int32) (x_47 : Int32) (x_48 : Int32) : Option ((Int32 × Int32) ⊕ Int32) :=
  if 16 ≤ x_48 then
    some (.inr x_47)
  else
    some (.inl ((x_47 + ((p0 >>> (x_48 &&& 31)) &&& 1)), (x_48 + 1)))

noncomputable def FX8_bitsOf (p0 : Int32) : Option Int32 :=
  bd1 (loopC (fun s => FX8_bitsOf_b4 p0 s.1 s.2) (0, 0)) fun x_50 =>
    some x_50

noncomputable def FX8_fact (a_all : Nat → Int32) (p1 : Int32) (p2 : Int32) (p3 : Int32) (p4 : Int32) (p5 : Int32) (p6 : Int32) (p7 : Int32) : Option Bool :=
  if p1 = 2 then
    bd1 (rd 1593 a_all (15 + p3)) fun x_59 =>
    if x_59 < p2 then
      some false
    else
      some true
  else
  if p1 = 19 then
    bd1 (rd 1593 a_all (7 + p3)) fun x_57 =>
    if x_57 = p2 then
      some true
    else
      some false
  else
  if p1 = 20 then
    if p4 = p2 then
      some true
    else
      some false
  else
  if p1 = 21 then
    if p5 = p2 then
      some true
    else
      some false
  else
  if p1 = 22 then
    if p6 < p2 then
      some false
    else
      some true
  else
    if p7 < p2 then
      some false
    else
      some true

noncomputable def FX8_isBarred_j227 (x_143 : Int32) (x_169 : Int32) (a_pile_170 : Nat → Int32) : Option ((Int32 × Int32 × (Nat → Int32)) ⊕ (Nat → Int32)) :=
  some (.inl (x_169, (x_143 + 1), a_pile_170))

noncomputable def FX8_isBarred_j185 (x_142 : Int32) (x_143 : Int32) (a_pile_144 : Nat → Int32) (x_167 : Int32) : Option ((Int32 × Int32 × (Nat → Int32)) ⊕ (Nat → Int32)) :=
  bd1 (wrI 220 a_pile_144 ((x_142 + (-1)) - 1) (vp_nar .boolean x_167)) fun a_pile_168 =>
  FX8_isBarred_j227 x_143 (x_142 + (-1)) a_pile_168

noncomputable def FX8_isBarred_j180 (x_142 : Int32) (x_143 : Int32) (a_pile_144 : Nat → Int32) : Option ((Int32 × Int32 × (Nat → Int32)) ⊕ (Nat → Int32)) :=
  FX8_isBarred_j185 x_142 x_143 a_pile_144 1

noncomputable def FX8_isBarred_j154 (x_142 : Int32) (x_143 : Int32) (a_pile_144 : Nat → Int32) : Option ((Int32 × Int32 × (Nat → Int32)) ⊕ (Nat → Int32)) :=
  FX8_isBarred_j185 x_142 x_143 a_pile_144 0

noncomputable def FX8_isBarred_j110 (x_142 : Int32) (x_143 : Int32) (a_pile_144 : Nat → Int32) (x_147 : Int32) : Option ((Int32 × Int32 × (Nat → Int32)) ⊕ (Nat → Int32)) :=
  if x_147 = 17 then
    bd1 (rd 220 a_pile_144 ((x_142 + (-1)) - 1)) fun x_159 =>
    if x_159 = 0 then
      FX8_isBarred_j154 x_142 x_143 a_pile_144
    else
      bd1 (rd 220 a_pile_144 (x_142 + (-1))) fun x_161 =>
      if x_161 = 0 then
        FX8_isBarred_j154 x_142 x_143 a_pile_144
      else
        FX8_isBarred_j185 x_142 x_143 a_pile_144 1
  else
    bd1 (rd 220 a_pile_144 ((x_142 + (-1)) - 1)) fun x_163 =>
    if x_163 = 0 then
      bd1 (rd 220 a_pile_144 (x_142 + (-1))) fun x_165 =>
      if x_165 = 0 then
        FX8_isBarred_j185 x_142 x_143 a_pile_144 0
      else
        FX8_isBarred_j180 x_142 x_143 a_pile_144
    else
      FX8_isBarred_j180 x_142 x_143 a_pile_144

noncomputable def FX8_isBarred_j92 (x_142 : Int32) (x_143 : Int32) (a_pile_144 : Nat → Int32) (x_151 : Int32) : Option ((Int32 × Int32 × (Nat → Int32)) ⊕ (Nat → Int32)) :=
  bd1 (wrI 220 a_pile_144 (x_142 - 1) (vp_nar .boolean x_151)) fun a_pile_152 =>
  FX8_isBarred_j227 x_143 x_142 a_pile_152

noncomputable def FX8_isBarred_b30 (a_all : Nat → Int32) (p1 : Int32) (p2 : Int32) (p3 : Int32) (p4 : Int32) (p5 : Int32) (x_111 : Int32) (x_142 : Int32) (x_143 : Int32) (a_pile_144 : Nat → Int32) : Option ((Int32 × Int32 × (Nat → Int32)) ⊕ (Nat → Int32)) :=
  bd1 (rd 1593 a_all (123 + x_111)) fun x_145 =>
  if x_145 ≤ x_143 then
    some (.inr a_pile_144)
  else
    bd1 (rd 1593 a_all (131 + (2 * x_143))) fun x_147 =>
    if x_147 = 18 then
      bd1 (rd 220 a_pile_144 (x_142 - 1)) fun x_149 =>
      if x_149 = 0 then
        FX8_isBarred_j92 x_142 x_143 a_pile_144 1
      else
        FX8_isBarred_j92 x_142 x_143 a_pile_144 0
    else
      if x_147 = 17 then
        FX8_isBarred_j110 x_142 x_143 a_pile_144 x_147
      else
        if x_147 = 16 then
          FX8_isBarred_j110 x_142 x_143 a_pile_144 x_147
        else
          bd1 (rd 1593 a_all ((131 + (2 * x_143)) + 1)) fun x_155 =>
          bd1 (FX8_fact a_all x_147 x_155 p1 p2 p3 p4 p5) fun b_156 =>
          bd1 (wrI 220 a_pile_144 x_142 (vp_nar .boolean (b2i b_156))) fun a_pile_157 =>
          FX8_isBarred_j227 x_143 (x_142 + 1) a_pile_157

noncomputable def FX8_isBarred_b3 (a_all : Nat → Int32) (p1 : Int32) (p2 : Int32) (p3 : Int32) (p4 : Int32) (p5 : Int32) (x_111 : Int32) (a_pile_112 : Nat → Int32) : Option ((Int32 × (Nat → Int32)) ⊕ ((Nat → Int32) ⊕ (Nat → Int32))) :=
  bd1 (rd 1593 a_all 114) fun x_113 =>
  if x_113 ≤ x_111 then
    some (.inr (.inr a_pile_112))
  else
    bd1 (rd 1593 a_all (115 + x_111)) fun x_115 =>
    bd1 (loopC (fun s => FX8_isBarred_b30 a_all p1 p2 p3 p4 p5 x_111 s.1 s.2.1 s.2.2) (0, x_115, a_pile_112)) fun a_pile_171 =>
      bd1 (rd 220 a_pile_171 0) fun x_172 =>
      if x_172 = 0 then
        some (.inl ((x_111 + 1), a_pile_171))
      else
        some (.inr (.inl a_pile_171))

noncomputable def FX8_isBarred (a_all : Nat → Int32) (a_pile : Nat → Int32) (p1 : Int32) (p2 : Int32) (p3 : Int32) (p4 : Int32) (p5 : Int32) : Option (Bool × (Nat → Int32)) :=
  bdS2 (loopC (fun s => FX8_isBarred_b3 a_all p1 p2 p3 p4 p5 s.1 s.2) (0, a_pile))
    (un1 fun a_pile_174 =>
      some (true, a_pile_174))
    (un1 fun a_pile_175 =>
      some (false, a_pile_175))

noncomputable def FX8_isHeavy_b8 (a_all : Nat → Int32) (a_on : Nat → Int32) (p1 : Int32) (x_53 : Int32) (x_54 : Int32) : Option ((Int32 × Int32) ⊕ (Unit ⊕ Unit)) :=
  if x_54 < 0 then
    some (.inr (.inr ()))
  else
    bd1 (rd 15 a_on ((3 * p1) + x_54)) fun x_56 =>
    bd1 (rd 1593 a_all (23 + (x_56 - 1))) fun x_57 =>
    if x_53 ≤ x_57 then
      bd1 (rd 1593 a_all (15 + (x_56 - 1))) fun x_59 =>
      some (.inl ((x_53 + x_59), (x_54 + (-1))))
    else
      some (.inr (.inl ()))

noncomputable def FX8_isHeavy (a_all : Nat → Int32) (a_on : Nat → Int32) (p1 : Int32) (p2 : Int32) (p3 : Int32) : Option Bool :=
  bdS2 (loopC (fun s => FX8_isHeavy_b8 a_all a_on p1 s.1 s.2) (p3, (p2 - 1)))
    (un0 fun _ =>
      some true)
    (un0 fun _ =>
      some false)

noncomputable def FX8_isShut_b28 (a_all : Nat → Int32) (a_many : Nat → Int32) (x_50 : Int32) (x_55 : Int32) : Option (Int32 ⊕ (Unit ⊕ Unit)) :=
  if x_50 ≤ x_55 then
    some (.inr (.inr ()))
  else
    bd1 (rd 5 a_many x_55) fun x_57 =>
    bd1 (rd 1593 a_all 75) fun x_58 =>
    if x_57 < x_58 then
      some (.inl (x_55 + 1))
    else
      some (.inr (.inl ()))

noncomputable def FX8_isShut_j21 (a_all : Nat → Int32) (a_many : Nat → Int32) (x_48 : Int32) (x_50 : Int32) : Option Bool :=
  bdS2 (loopC (fun s => FX8_isShut_b28 a_all a_many x_50 s) (x_48 + 1))
    (un0 fun _ =>
      some true)
    (un0 fun _ =>
      some false)

noncomputable def FX8_isShut_j10 (a_all : Nat → Int32) (a_many : Nat → Int32) (p1 : Int32) (p2 : Int32) (x_48 : Int32) : Option Bool :=
  if p2 ≤ p1 then
    FX8_isShut_j21 a_all a_many x_48 p1
  else
    FX8_isShut_j21 a_all a_many x_48 p2

noncomputable def FX8_isShut (a_all : Nat → Int32) (a_many : Nat → Int32) (p1 : Int32) (p2 : Int32) : Option Bool :=
  if p2 ≤ p1 then
    FX8_isShut_j10 a_all a_many p1 p2 p2
  else
    FX8_isShut_j10 a_all a_many p1 p2 p1

noncomputable def FX8_topOf (a_on : Nat → Int32) (a_many : Nat → Int32) (p1 : Int32) : Option Int32 :=
  bd1 (rd 5 a_many p1) fun x_46 =>
  bd1 (rd 15 a_on (((3 * p1) + x_46) - 1)) fun x_47 =>
  some (x_47 - 1)

noncomputable def FX8_wasMoved (v_moved : Int32) (p1 : Int32) : Option Bool :=
  if ((v_moved >>> (p1 &&& 31)) &&& 1) = 1 then
    some true
  else
    some false

noncomputable def FX8_mayCarry_j166 (a_all : Nat → Int32) (v_moved : Int32) (p1 : Int32) (p2 : Int32) (a_pile_69 : Nat → Int32) (a_many_74 : Nat → Int32) (x_77 : Int32) : Option (Int32 × (Nat → Int32) × (Nat → Int32)) :=
  bd1 (rd 5 a_many_74 p1) fun x_78 =>
  bd1 (wrI 5 a_many_74 p1 (x_78 + 1)) fun a_many_79 =>
  bd1 (rd 5 a_many_79 p2) fun x_80 =>
  bd1 (wrI 5 a_many_79 p2 (x_80 - 1)) fun a_many_81 =>
  if x_77 = 0 then
    bd1 (FX8_bitsOf v_moved) fun x_83 =>
    bd1 (rd 1593 a_all 76) fun x_84 =>
    if x_83 < x_84 then
      some (0, a_many_81, a_pile_69)
    else
      some (9, a_many_81, a_pile_69)
  else
    some (8, a_many_81, a_pile_69)

noncomputable def FX8_mayCarry (a_all : Nat → Int32) (a_on : Nat → Int32) (a_many : Nat → Int32) (v_moved : Int32) (a_pile : Nat → Int32) (v_aside : Int32) (p1 : Int32) (p2 : Int32) : Option (Int32 × (Nat → Int32) × (Nat → Int32)) :=
  bd1 (FX8_isRow a_all p1) fun b_47 =>
  if (b2i b_47) = 0 then
    some (1, a_many, a_pile)
  else
    bd1 (FX8_isRow a_all p2) fun b_49 =>
    if (b2i b_49) = 0 then
      some (1, a_many, a_pile)
    else
      if p1 = p2 then
        some (1, a_many, a_pile)
      else
        bd1 (rd 5 a_many p1) fun x_52 =>
        if x_52 = 0 then
          some (2, a_many, a_pile)
        else
          bd1 (FX8_topOf a_on a_many p1) fun x_54 =>
          bd1 (FX8_wasMoved v_moved x_54) fun b_55 =>
          if (b2i b_55) = 0 then
            bd1 (rd 5 a_many p2) fun x_57 =>
            bd1 (rd 1593 a_all (1 + p2)) fun x_58 =>
            if x_57 = x_58 then
              some (4, a_many, a_pile)
            else
              bd1 (FX8_isShut a_all a_many p1 p2) fun b_60 =>
              if (b2i b_60) = 0 then
                bd1 (rd 5 a_many p2) fun x_62 =>
                bd1 (rd 1593 a_all (15 + x_54)) fun x_63 =>
                bd1 (FX8_isHeavy a_all a_on p2 x_62 x_63) fun b_64 =>
                if (b2i b_64) = 0 then
                  bd1 (rd 5 a_many p1) fun x_66 =>
                  bd1 (rd 5 a_many p2) fun x_67 =>
                  bd2 (FX8_isBarred a_all a_pile x_54 p1 p2 (x_66 - 1) x_67) fun b_68 a_pile_69 =>
                  if (b2i b_68) = 0 then
                    bd1 (rd 5 a_many p1) fun x_71 =>
                    bd1 (wrI 5 a_many p1 (x_71 - 1)) fun a_many_72 =>
                    bd1 (rd 5 a_many_72 p2) fun x_73 =>
                    bd1 (wrI 5 a_many_72 p2 (x_73 + 1)) fun a_many_74 =>
                    bd1 (FX8_brokenMust a_all a_many_74 v_aside) fun x_75 =>
                    if x_75 = (-1) then
                      FX8_mayCarry_j166 a_all v_moved p1 p2 a_pile_69 a_many_74 0
                    else
                      FX8_mayCarry_j166 a_all v_moved p1 p2 a_pile_69 a_many_74 1
                  else
                    some (7, a_many, a_pile_69)
                else
                  some (6, a_many, a_pile)
              else
                some (5, a_many, a_pile)
          else
            some (3, a_many, a_pile)

noncomputable def FX8_may (a_all : Nat → Int32) (a_on : Nat → Int32) (a_many : Nat → Int32) (a_pile : Nat → Int32) (v_aside : Int32) (p1 : Int32) (p2 : Int32) : Option (Int32 × (Nat → Int32) × (Nat → Int32) × Int32 × (Nat → Int32)) :=
  bd3 (FX8_looksNow a_all a_on a_many) fun a_on_47 a_many_48 v_moved_49 =>
  bd3 (FX8_mayCarry a_all a_on_47 a_many_48 v_moved_49 a_pile v_aside p1 p2) fun x_50 a_many_51 a_pile_52 =>
  some (x_50, a_on_47, a_many_51, v_moved_49, a_pile_52)

noncomputable def FX8_mayTurn (a_all : Nat → Int32) (a_on : Nat → Int32) (a_many : Nat → Int32) (v_moved : Int32) (a_pile : Nat → Int32) (p1 : Int32) (p2 : Int32) : Option (Int32 × (Nat → Int32)) :=
  bd1 (FX8_isRow a_all p1) fun b_47 =>
  if (b2i b_47) = 0 then
    some (1, a_pile)
  else
    bd1 (FX8_isRow a_all p2) fun b_49 =>
    if (b2i b_49) = 0 then
      some (1, a_pile)
    else
      if p1 = p2 then
        some (1, a_pile)
      else
        bd1 (rd 1593 a_all 77) fun x_52 =>
        if x_52 = 0 then
          some (1, a_pile)
        else
          bd1 (rd 5 a_many p1) fun x_54 =>
          if x_54 = 0 then
            some (2, a_pile)
          else
            bd1 (rd 5 a_many p2) fun x_56 =>
            if x_56 = 0 then
              some (2, a_pile)
            else
              bd1 (FX8_topOf a_on a_many p1) fun x_58 =>
              bd1 (FX8_topOf a_on a_many p2) fun x_59 =>
              bd1 (FX8_wasMoved v_moved x_58) fun b_60 =>
              if (b2i b_60) = 0 then
                bd1 (FX8_wasMoved v_moved x_59) fun b_62 =>
                if (b2i b_62) = 0 then
                  bd1 (FX8_isShut a_all a_many p1 p2) fun b_64 =>
                  if (b2i b_64) = 0 then
                    bd1 (rd 5 a_many p2) fun x_66 =>
                    bd1 (rd 1593 a_all (15 + x_58)) fun x_67 =>
                    bd1 (FX8_isHeavy a_all a_on p2 (x_66 - 1) x_67) fun b_68 =>
                    if (b2i b_68) = 0 then
                      bd1 (rd 5 a_many p1) fun x_70 =>
                      bd1 (rd 1593 a_all (15 + x_59)) fun x_71 =>
                      bd1 (FX8_isHeavy a_all a_on p1 (x_70 - 1) x_71) fun b_72 =>
                      if (b2i b_72) = 0 then
                        bd1 (rd 5 a_many p1) fun x_74 =>
                        bd1 (rd 5 a_many p2) fun x_75 =>
                        bd2 (FX8_isBarred a_all a_pile x_58 p1 p2 (x_74 - 1) (x_75 - 1)) fun b_76 a_pile_77 =>
                        if (b2i b_76) = 0 then
                          bd1 (rd 5 a_many p2) fun x_79 =>
                          bd1 (rd 5 a_many p1) fun x_80 =>
                          bd2 (FX8_isBarred a_all a_pile_77 x_59 p2 p1 (x_79 - 1) (x_80 - 1)) fun b_81 a_pile_82 =>
                          if (b2i b_81) = 0 then
                            bd1 (FX8_bitsOf v_moved) fun x_84 =>
                            bd1 (rd 1593 a_all 76) fun x_85 =>
                            if (x_84 + 2) ≤ x_85 then
                              some (0, a_pile_82)
                            else
                              some (9, a_pile_82)
                          else
                            some (7, a_pile_82)
                        else
                          some (7, a_pile_77)
                      else
                        some (6, a_pile)
                    else
                      some (6, a_pile)
                  else
                    some (5, a_pile)
                else
                  some (3, a_pile)
              else
                some (3, a_pile)

noncomputable def FX8_mayExchange (a_all : Nat → Int32) (a_on : Nat → Int32) (a_many : Nat → Int32) (a_pile : Nat → Int32) (p1 : Int32) (p2 : Int32) : Option (Int32 × (Nat → Int32) × (Nat → Int32) × Int32 × (Nat → Int32)) :=
  bd3 (FX8_looksNow a_all a_on a_many) fun a_on_47 a_many_48 v_moved_49 =>
  bd2 (FX8_mayTurn a_all a_on_47 a_many_48 v_moved_49 a_pile p1 p2) fun x_50 a_pile_51 =>
  some (x_50, a_on_47, a_many_48, v_moved_49, a_pile_51)

noncomputable def FX8_carries (a_on : Nat → Int32) (a_many : Nat → Int32) (v_moved : Int32) (p1 : Int32) (p2 : Int32) : Option ((Nat → Int32) × (Nat → Int32) × Int32) :=
  bd1 (rd 5 a_many p1) fun x_47 =>
  bd1 (rd 15 a_on (((3 * p1) + x_47) - 1)) fun x_48 =>
  bd1 (rd 5 a_many p1) fun x_49 =>
  bd1 (wrI 15 a_on (((3 * p1) + x_49) - 1) 0) fun a_on_50 =>
  bd1 (rd 5 a_many p2) fun x_51 =>
  bd1 (wrI 15 a_on_50 ((3 * p2) + x_51) x_48) fun a_on_52 =>
  bd1 (rd 5 a_many p1) fun x_53 =>
  bd1 (wrI 5 a_many p1 (x_53 - 1)) fun a_many_54 =>
  bd1 (rd 5 a_many_54 p2) fun x_55 =>
  bd1 (wrI 5 a_many_54 p2 (x_55 + 1)) fun a_many_56 =>
  some (a_on_52, a_many_56, (v_moved ||| ((1 : Int32) <<< ((x_48 - 1) &&& 31))))

noncomputable def FX8_counted (a_all : Nat → Int32) (p1 : Int32) : Option (Nat → Int32) :=
  bd1 (rd 1593 a_all (96 + p1)) fun x_46 =>
  bd1 (wrI 1593 a_all (96 + p1) (x_46 + 1)) fun a_all_47 =>
  bd1 (rd 1593 a_all_47 112) fun x_48 =>
  bd1 (wrI 1593 a_all_47 (104 + p1) x_48) fun a_all_49 =>
  some a_all_49

noncomputable def FX8_keepsNow_b2 (a_on : Nat → Int32) (x_48 : Int32) (a_all_49 : Nat → Int32) : Option ((Int32 × (Nat → Int32)) ⊕ (Nat → Int32)) :=
  if 15 ≤ x_48 then
    some (.inr a_all_49)
  else
    bd1 (rd 15 a_on x_48) fun x_51 =>
    bd1 (wrI 1593 a_all_49 (80 + x_48) x_51) fun a_all_52 =>
    some (.inl ((x_48 + 1), a_all_52))

noncomputable def FX8_keepsNow (a_all : Nat → Int32) (a_on : Nat → Int32) (v_moved : Int32) : Option (Nat → Int32) :=
  bd1 (loopC (fun s => FX8_keepsNow_b2 a_on s.1 s.2) (0, a_all)) fun a_all_53 =>
    bd1 (wrI 1593 a_all_53 95 v_moved) fun a_all_54 =>
    some a_all_54

noncomputable def FX8_carry (a_all : Nat → Int32) (a_on : Nat → Int32) (a_many : Nat → Int32) (a_pile : Nat → Int32) (v_aside : Int32) (p1 : Int32) (p2 : Int32) : Option (Int32 × (Nat → Int32) × (Nat → Int32) × (Nat → Int32) × Int32 × (Nat → Int32)) :=
  bd3 (FX8_looksNow a_all a_on a_many) fun a_on_47 a_many_48 v_moved_49 =>
  bd3 (FX8_mayCarry a_all a_on_47 a_many_48 v_moved_49 a_pile v_aside p1 p2) fun x_50 a_many_51 a_pile_52 =>
  if x_50 = 0 then
    bd1 (FX8_topOf a_on_47 a_many_51 p1) fun x_54 =>
    bd3 (FX8_carries a_on_47 a_many_51 v_moved_49 p1 p2) fun a_on_55 a_many_56 v_moved_57 =>
    bd1 (FX8_keepsNow a_all a_on_55 v_moved_57) fun a_all_58 =>
    bd1 (FX8_counted a_all_58 x_54) fun a_all_59 =>
    some (x_54, a_all_59, a_on_55, a_many_56, v_moved_57, a_pile_52)
  else
    some (((-10) - x_50), a_all, a_on_47, a_many_51, v_moved_49, a_pile_52)

noncomputable def FX8_turns (a_on : Nat → Int32) (a_many : Nat → Int32) (v_moved : Int32) (p1 : Int32) (p2 : Int32) : Option ((Nat → Int32) × Int32) :=
  bd1 (rd 5 a_many p1) fun x_47 =>
  bd1 (rd 5 a_many p2) fun x_48 =>
  bd1 (rd 15 a_on (((3 * p1) + x_47) - 1)) fun x_49 =>
  bd1 (rd 15 a_on (((3 * p2) + x_48) - 1)) fun x_50 =>
  bd1 (wrI 15 a_on (((3 * p1) + x_47) - 1) x_50) fun a_on_51 =>
  bd1 (wrI 15 a_on_51 (((3 * p2) + x_48) - 1) x_49) fun a_on_52 =>
  bd1 (rd 15 a_on_52 (((3 * p1) + x_47) - 1)) fun x_53 =>
  bd1 (rd 15 a_on_52 (((3 * p2) + x_48) - 1)) fun x_54 =>
  some (a_on_52, (v_moved ||| (((1 : Int32) <<< ((x_53 - 1) &&& 31)) ||| ((1 : Int32) <<< ((x_54 - 1) &&& 31)))))

noncomputable def FX8_exchange (a_all : Nat → Int32) (a_on : Nat → Int32) (a_many : Nat → Int32) (a_pile : Nat → Int32) (p1 : Int32) (p2 : Int32) : Option (Int32 × (Nat → Int32) × (Nat → Int32) × (Nat → Int32) × Int32 × (Nat → Int32)) :=
  bd3 (FX8_looksNow a_all a_on a_many) fun a_on_47 a_many_48 v_moved_49 =>
  bd2 (FX8_mayTurn a_all a_on_47 a_many_48 v_moved_49 a_pile p1 p2) fun x_50 a_pile_51 =>
  if x_50 = 0 then
    bd1 (FX8_topOf a_on_47 a_many_48 p1) fun x_53 =>
    bd1 (FX8_topOf a_on_47 a_many_48 p2) fun x_54 =>
    bd2 (FX8_turns a_on_47 a_many_48 v_moved_49 p1 p2) fun a_on_55 v_moved_56 =>
    bd1 (FX8_keepsNow a_all a_on_55 v_moved_56) fun a_all_57 =>
    bd1 (FX8_counted a_all_57 x_53) fun a_all_58 =>
    bd1 (FX8_counted a_all_58 x_54) fun a_all_59 =>
    some (x_53, a_all_59, a_on_55, a_many_48, v_moved_56, a_pile_51)
  else
    some (((-10) - x_50), a_all, a_on_47, a_many_48, v_moved_49, a_pile_51)

noncomputable def FX8_year (a_all : Nat → Int32) : Option (Int32 × (Nat → Int32)) :=
  bd1 (rd 1593 a_all 112) fun x_45 =>
  if x_45 = 999 then
    some ((-5), a_all)
  else
    bd1 (rd 1593 a_all 112) fun x_47 =>
    bd1 (wrI 1593 a_all 112 (x_47 + 1)) fun a_all_48 =>
    bd1 (wrI 1593 a_all_48 95 0) fun a_all_49 =>
    bd1 (rd 1593 a_all_49 112) fun x_50 =>
    some (x_50, a_all_49)

noncomputable def FX8_flood_j199 (x_110 : Int32) (a_all_111 : Nat → Int32) (a_on_112 : Nat → Int32) (a_many_113 : Nat → Int32) (x_117 : Int32) : Option (Int32 × (Nat → Int32) × (Nat → Int32) × (Nat → Int32) × Int32) :=
  bd1 (FX8_keepsNow a_all_111 a_on_112 x_117) fun a_all_118 =>
  some (x_110, a_all_118, a_on_112, a_many_113, x_117)

noncomputable def FX8_flood_j173 (x_78 : Int32) (x_104 : Int32) (x_105 : Int32) (a_all_106 : Nat → Int32) (a_on_107 : Nat → Int32) (a_many_108 : Nat → Int32) (v_moved_109 : Int32) : Option ((Int32 × Int32 × Int32 × (Nat → Int32) × (Nat → Int32) × (Nat → Int32) × Int32) ⊕ (Int32 × (Nat → Int32) × (Nat → Int32) × (Nat → Int32) × Int32)) :=
  some (.inl (x_104, x_105, (x_78 + 1), a_all_106, a_on_107, a_many_108, v_moved_109))

noncomputable def FX8_flood_j81 (x_76 : Int32) (x_77 : Int32) (x_78 : Int32) (a_all_79 : Nat → Int32) (a_on_80 : Nat → Int32) (a_many_81 : Nat → Int32) (v_moved_82 : Int32) (x_88 : Int32) : Option ((Int32 × Int32 × Int32 × (Nat → Int32) × (Nat → Int32) × (Nat → Int32) × Int32) ⊕ (Int32 × (Nat → Int32) × (Nat → Int32) × (Nat → Int32) × Int32)) :=
  if ((ushI ((1103515245 * x_76) + 12345) 16) - (ushI ((1103515245 * x_76) + 12345) 16) / 3 * 3) = 0 then
    FX8_flood_j173 x_78 ((1103515245 * x_76) + 12345) x_77 a_all_79 a_on_80 a_many_81 v_moved_82
  else
    bd1 (FX8_isRow a_all_79 x_88) fun b_90 =>
    if (b2i b_90) = 0 then
      FX8_flood_j173 x_78 ((1103515245 * x_76) + 12345) x_77 a_all_79 a_on_80 a_many_81 v_moved_82
    else
      bd1 (rd 5 a_many_81 x_88) fun x_92 =>
      bd1 (rd 1593 a_all_79 (1 + x_88)) fun x_93 =>
      if x_92 = x_93 then
        FX8_flood_j173 x_78 ((1103515245 * x_76) + 12345) x_77 a_all_79 a_on_80 a_many_81 v_moved_82
      else
        bd1 (FX8_topOf a_on_80 a_many_81 x_78) fun x_95 =>
        bd1 (rd 5 a_many_81 x_88) fun x_96 =>
        bd1 (rd 1593 a_all_79 (15 + x_95)) fun x_97 =>
        bd1 (FX8_isHeavy a_all_79 a_on_80 x_88 x_96 x_97) fun b_98 =>
        if (b2i b_98) = 0 then
          bd3 (FX8_carries a_on_80 a_many_81 v_moved_82 x_78 x_88) fun a_on_100 a_many_101 v_moved_102 =>
          bd1 (FX8_counted a_all_79 x_95) fun a_all_103 =>
          FX8_flood_j173 x_78 ((1103515245 * x_76) + 12345) (x_77 + 1) a_all_103 a_on_100 a_many_101 v_moved_102
        else
          FX8_flood_j173 x_78 ((1103515245 * x_76) + 12345) x_77 a_all_79 a_on_80 a_many_81 v_moved_82

noncomputable def FX8_flood_b22 (x_76 : Int32) (x_77 : Int32) (x_78 : Int32) (a_all_79 : Nat → Int32) (a_on_80 : Nat → Int32) (a_many_81 : Nat → Int32) (v_moved_82 : Int32) : Option ((Int32 × Int32 × Int32 × (Nat → Int32) × (Nat → Int32) × (Nat → Int32) × Int32) ⊕ (Int32 × (Nat → Int32) × (Nat → Int32) × (Nat → Int32) × Int32)) :=
  bd1 (rd 1593 a_all_79 0) fun x_83 =>
  if x_83 ≤ x_78 then
    some (.inr (x_77, a_all_79, a_on_80, a_many_81, v_moved_82))
  else
    bd1 (rd 5 a_many_81 x_78) fun x_85 =>
    if x_85 = 0 then
      FX8_flood_j173 x_78 x_76 x_77 a_all_79 a_on_80 a_many_81 v_moved_82
    else
      if ((ushI ((1103515245 * x_76) + 12345) 16) - (ushI ((1103515245 * x_76) + 12345) 16) / 3 * 3) = 1 then
        FX8_flood_j81 x_76 x_77 x_78 a_all_79 a_on_80 a_many_81 v_moved_82 (x_78 - 1)
      else
        FX8_flood_j81 x_76 x_77 x_78 a_all_79 a_on_80 a_many_81 v_moved_82 (x_78 + 1)

noncomputable def FX8_flood (a_all : Nat → Int32) (a_on : Nat → Int32) (a_many : Nat → Int32) (p1 : Int32) : Option (Int32 × (Nat → Int32) × (Nat → Int32) × (Nat → Int32) × Int32) :=
  bd3 (FX8_looksNow a_all a_on a_many) fun a_on_46 a_many_47 v_moved_48 =>
  bd5 (loopC (fun s => FX8_flood_b22 s.1 s.2.1 s.2.2.1 s.2.2.2.1 s.2.2.2.2.1 s.2.2.2.2.2.1 s.2.2.2.2.2.2) (p1, 0, 0, a_all, a_on_46, a_many_47, v_moved_48)) fun x_110 a_all_111 a_on_112 a_many_113 v_moved_114 =>
    bd1 (rd 1593 a_all_111 78) fun x_115 =>
    if x_115 = 1 then
      FX8_flood_j199 x_110 a_all_111 a_on_112 a_many_113 v_moved_114
    else
      FX8_flood_j199 x_110 a_all_111 a_on_112 a_many_113 v_moved_48

noncomputable def FX8_topPlace_j32 : Option Int32 :=
  some (-1)

noncomputable def FX8_topPlace (a_all : Nat → Int32) (p1 : Int32) : Option Int32 :=
  bd1 (FX8_placeOf a_all p1) fun x_46 =>
  if x_46 = (-1) then
    FX8_topPlace_j32
  else
    if 2 ≤ (x_46 - x_46 / 3 * 3) then
      some x_46
    else
      bd1 (rd 1593 a_all ((80 + x_46) + 1)) fun x_49 =>
      if x_49 ≤ 0 then
        some x_46
      else
        FX8_topPlace_j32

noncomputable def FX8_steal (a_all : Nat → Int32) (p1 : Int32) : Option (Int32 × (Nat → Int32)) :=
  bd1 (FX8_isStone a_all p1) fun b_46 =>
  if (b2i b_46) = 0 then
    some ((-2), a_all)
  else
    bd1 (FX8_placeOf a_all p1) fun x_48 =>
    if x_48 = (-1) then
      some ((-2), a_all)
    else
      bd1 (FX8_topPlace a_all p1) fun x_50 =>
      if x_50 = (-1) then
        some ((-5), a_all)
      else
        bd1 (wrI 1593 a_all (80 + x_50) 0) fun a_all_52 =>
        bd1 (rd 1593 a_all_52 95) fun x_53 =>
        bd1 (wrI 1593 a_all_52 95 (x_53 &&& (((1 : Int32) <<< (p1 &&& 31)) ^^^ (-1)))) fun a_all_54 =>
        some (x_50, a_all_54)

noncomputable def FX8_isRight (a_all : Nat → Int32) (a_on : Nat → Int32) (p1 : Int32) : Option Bool :=
  bd1 (rd 15 a_on p1) fun x_46 =>
  if x_46 ≤ 0 then
    some false
  else
    bd1 (rd 1593 a_all (41 + p1)) fun x_48 =>
    bd1 (rd 15 a_on p1) fun x_49 =>
    bd1 (rd 1593 a_all ((7 + x_49) - 1)) fun x_50 =>
    if x_48 = x_50 then
      some true
    else
      some false

noncomputable def FX8_isWished_j31 : Option Bool :=
  some true

noncomputable def FX8_isWished (a_all : Nat → Int32) (p1 : Int32) (p2 : Int32) : Option Bool :=
  bd1 (rd 1593 a_all (31 + p1)) fun x_47 =>
  if x_47 = (-1) then
    some false
  else
    if p2 = (-1) then
      FX8_isWished_j31
    else
      bd1 (rd 1593 a_all (36 + p1)) fun x_50 =>
      if x_50 = p2 then
        FX8_isWished_j31
      else
        some false

noncomputable def FX8_isDone_j76 (x_62 : Int32) : Option (Int32 ⊕ (Unit ⊕ (Unit ⊕ Unit))) :=
  some (.inl (x_62 + 1))

noncomputable def FX8_isDone_b46 (a_all : Nat → Int32) (a_on : Nat → Int32) (a_many : Nat → Int32) (x_62 : Int32) (x_74 : Int32) : Option (Int32 ⊕ (Unit ⊕ Unit)) :=
  bd1 (rd 5 a_many x_62) fun x_75 =>
  if x_75 ≤ x_74 then
    some (.inr (.inr ()))
  else
    bd1 (FX8_isRight a_all a_on ((3 * x_62) + x_74)) fun b_77 =>
    if (b2i b_77) = 0 then
      some (.inr (.inl ()))
    else
      some (.inl (x_74 + 1))

noncomputable def FX8_isDone_b2 (a_all : Nat → Int32) (a_on : Nat → Int32) (a_many : Nat → Int32) (p1 : Int32) (x_62 : Int32) : Option (Int32 ⊕ (Unit ⊕ (Unit ⊕ Unit))) :=
  bd1 (rd 1593 a_all 0) fun x_63 =>
  if x_63 ≤ x_62 then
    some (.inr (.inr (.inr ())))
  else
    bd1 (FX8_isWished a_all x_62 p1) fun b_65 =>
    if (b2i b_65) = 0 then
      FX8_isDone_j76 x_62
    else
      bd1 (rd 5 a_many x_62) fun x_67 =>
      bd1 (rd 1593 a_all (31 + x_62)) fun x_68 =>
      if x_67 = x_68 then
        bdS2 (loopC (fun s => FX8_isDone_b46 a_all a_on a_many x_62 s) 0)
          (un0 fun _ =>
            some (.inr (.inr (.inl ()))))
          (un0 fun _ =>
            FX8_isDone_j76 x_62)
      else
        some (.inr (.inl ()))

noncomputable def FX8_isDone (a_all : Nat → Int32) (a_on : Nat → Int32) (a_many : Nat → Int32) (p1 : Int32) : Option Bool :=
  bdS3 (loopC (fun s => FX8_isDone_b2 a_all a_on a_many p1 s) 0)
    (un0 fun _ =>
      some false)
    (un0 fun _ =>
      some false)
    (un0 fun _ =>
      some true)

noncomputable def FX8_isWho (p0 : Int32) : Option Bool :=
  bd1 (FX8_within (Int32.toInt64 p0) (-1) 1) fun b_46 =>
  some b_46

noncomputable def FX8_done (a_all : Nat → Int32) (a_on : Nat → Int32) (a_many : Nat → Int32) (v_moved : Int32) (p1 : Int32) : Option (Int32 × (Nat → Int32) × (Nat → Int32) × Int32) :=
  bd1 (FX8_isWho p1) fun b_46 =>
  if (b2i b_46) = 0 then
    some ((-2), a_on, a_many, v_moved)
  else
    bd3 (FX8_looksNow a_all a_on a_many) fun a_on_48 a_many_49 v_moved_50 =>
    bd1 (FX8_isDone a_all a_on_48 a_many_49 p1) fun b_51 =>
    if (b2i b_51) = 0 then
      some (0, a_on_48, a_many_49, v_moved_50)
    else
      some (1, a_on_48, a_many_49, v_moved_50)

noncomputable def FX8_rights_j35 (x_52 : Int32) (x_53 : Int32) (x_59 : Int32) : Option ((Int32 × Int32) ⊕ Int32) :=
  some (.inl ((x_52 + x_59), (x_53 + 1)))

noncomputable def FX8_rights_j34 (x_52 : Int32) (x_53 : Int32) : Option ((Int32 × Int32) ⊕ Int32) :=
  FX8_rights_j35 x_52 x_53 0

noncomputable def FX8_rights_b4 (a_all : Nat → Int32) (a_on : Nat → Int32) (p1 : Int32) (x_52 : Int32) (x_53 : Int32) : Option ((Int32 × Int32) ⊕ Int32) :=
  if 15 ≤ x_53 then
    some (.inr x_52)
  else
    bd1 (FX8_isWished a_all (x_53 / 3) p1) fun b_55 =>
    if (b2i b_55) = 0 then
      FX8_rights_j34 x_52 x_53
    else
      bd1 (FX8_isRight a_all a_on x_53) fun b_57 =>
      if (b2i b_57) = 0 then
        FX8_rights_j34 x_52 x_53
      else
        FX8_rights_j35 x_52 x_53 1

noncomputable def FX8_rights (a_all : Nat → Int32) (a_on : Nat → Int32) (p1 : Int32) : Option Int32 :=
  bd1 (loopC (fun s => FX8_rights_b4 a_all a_on p1 s.1 s.2) (0, 0)) fun x_60 =>
    some x_60

noncomputable def FX8_right (a_all : Nat → Int32) (a_on : Nat → Int32) (a_many : Nat → Int32) (v_moved : Int32) (p1 : Int32) : Option (Int32 × (Nat → Int32) × (Nat → Int32) × Int32) :=
  bd1 (FX8_isWho p1) fun b_46 =>
  if (b2i b_46) = 0 then
    some ((-2), a_on, a_many, v_moved)
  else
    bd3 (FX8_looksNow a_all a_on a_many) fun a_on_48 a_many_49 v_moved_50 =>
    bd1 (FX8_rights a_all a_on_48 p1) fun x_51 =>
    some (x_51, a_on_48, a_many_49, v_moved_50)

noncomputable def FX8_does_j116 (a_on : Nat → Int32) (v_moved : Int32) (v_judgedYear : Int32) (p1 : Int64) (x_56 : Int32) (a_many_57 : Nat → Int32) (a_pile_58 : Nat → Int32) : Option (Int32 × (Nat → Int32) × (Nat → Int32) × Int32 × (Nat → Int32) × Int32) :=
  if x_56 = 0 then
    bd2 (FX8_turns a_on a_many_57 v_moved (((Int64.toInt32 p1) - (Int64.toInt32 p1) / 100 * 100) / 10) ((Int64.toInt32 p1) - (Int64.toInt32 p1) / 10 * 10)) fun a_on_65 v_moved_66 =>
    some (x_56, a_on_65, a_many_57, v_moved_66, a_pile_58, v_judgedYear)
  else
    some (x_56, a_on, a_many_57, v_moved, a_pile_58, v_judgedYear)

noncomputable def FX8_does_j91 (a_on : Nat → Int32) (v_moved : Int32) (v_judgedYear : Int32) (p1 : Int64) (x_56 : Int32) (a_many_57 : Nat → Int32) (a_pile_58 : Nat → Int32) : Option (Int32 × (Nat → Int32) × (Nat → Int32) × Int32 × (Nat → Int32) × Int32) :=
  if x_56 = 0 then
    if 0 ≤ (lg_cmp p1 100) then
      FX8_does_j116 a_on v_moved v_judgedYear p1 x_56 a_many_57 a_pile_58
    else
      bd3 (FX8_carries a_on a_many_57 v_moved (((Int64.toInt32 p1) - (Int64.toInt32 p1) / 100 * 100) / 10) ((Int64.toInt32 p1) - (Int64.toInt32 p1) / 10 * 10)) fun a_on_61 a_many_62 v_moved_63 =>
      some (x_56, a_on_61, a_many_62, v_moved_63, a_pile_58, v_judgedYear)
  else
    FX8_does_j116 a_on v_moved v_judgedYear p1 x_56 a_many_57 a_pile_58

noncomputable def FX8_does (a_all : Nat → Int32) (a_on : Nat → Int32) (a_many : Nat → Int32) (v_moved : Int32) (a_pile : Nat → Int32) (v_aside : Int32) (v_judgedYear : Int32) (p1 : Int64) : Option (Int32 × (Nat → Int32) × (Nat → Int32) × Int32 × (Nat → Int32) × Int32) :=
  if (lg_cmp p1 (-1)) = 0 then
    if v_judgedYear = 999 then
      some (1, a_on, a_many, v_moved, a_pile, v_judgedYear)
    else
      some (0, a_on, a_many, 0, a_pile, (v_judgedYear + 1))
  else
    bd1 (FX8_within p1 0 199) fun b_48 =>
    if (b2i b_48) = 0 then
      some (1, a_on, a_many, v_moved, a_pile, v_judgedYear)
    else
      if 0 ≤ (lg_cmp p1 100) then
        bd2 (FX8_mayTurn a_all a_on a_many v_moved a_pile (((Int64.toInt32 p1) - (Int64.toInt32 p1) / 100 * 100) / 10) ((Int64.toInt32 p1) - (Int64.toInt32 p1) / 10 * 10)) fun x_54 a_pile_55 =>
        FX8_does_j91 a_on v_moved v_judgedYear p1 x_54 a_many a_pile_55
      else
        bd3 (FX8_mayCarry a_all a_on a_many v_moved a_pile v_aside (((Int64.toInt32 p1) - (Int64.toInt32 p1) / 100 * 100) / 10) ((Int64.toInt32 p1) - (Int64.toInt32 p1) / 10 * 10)) fun x_51 a_many_52 a_pile_53 =>
        FX8_does_j91 a_on v_moved v_judgedYear p1 x_51 a_many_52 a_pile_53

noncomputable def FX8_goes_b22 (a_all : Nat → Int32) (v_aside : Int32) (a_rowMany : Nat → Int32) (a_numbers : Nat → Int64) (p1 : Int32) (x_60 : Int32) (a_on_61 : Nat → Int32) (a_many_62 : Nat → Int32) (v_moved_63 : Int32) (a_pile_64 : Nat → Int32) (v_judgedBy_65 : Int32) (v_judgedYear_66 : Int32) : Option ((Int32 × (Nat → Int32) × (Nat → Int32) × Int32 × (Nat → Int32) × Int32 × Int32) ⊕ ((Int32 × (Nat → Int32) × (Nat → Int32) × Int32 × (Nat → Int32) × Int32 × Int32) ⊕ ((Nat → Int32) × (Nat → Int32) × Int32 × (Nat → Int32) × Int32 × Int32))) :=
  bd1 (rd 4 a_rowMany p1) fun x_67 =>
  if x_67 ≤ x_60 then
    some (.inr (.inr (a_on_61, a_many_62, v_moved_63, a_pile_64, v_judgedBy_65, v_judgedYear_66)))
  else
    bd1 (rd 160 a_numbers ((40 * p1) + x_60)) fun y_69 =>
    bd6 (FX8_does a_all a_on_61 a_many_62 v_moved_63 a_pile_64 v_aside v_judgedYear_66 y_69) fun x_70 a_on_71 a_many_72 v_moved_73 a_pile_74 v_judgedYear_75 =>
    if x_70 = 0 then
      some (.inl ((x_60 + 1), a_on_71, a_many_72, v_moved_73, a_pile_74, x_70, v_judgedYear_75))
    else
      some (.inr (.inl (x_60, a_on_71, a_many_72, v_moved_73, a_pile_74, x_70, v_judgedYear_75)))

noncomputable def FX8_goes (a_all : Nat → Int32) (a_on : Nat → Int32) (a_many : Nat → Int32) (a_pile : Nat → Int32) (v_aside : Int32) (a_rowMany : Nat → Int32) (a_numbers : Nat → Int64) (p1 : Int32) : Option (Int32 × (Nat → Int32) × (Nat → Int32) × Int32 × (Nat → Int32) × Int32 × Int32) :=
  bd3 (FX8_looksNow a_all a_on a_many) fun a_on_46 a_many_47 v_moved_48 =>
  bd1 (rd 1593 a_all 112) fun x_49 =>
  bdS2 (loopC (fun s => FX8_goes_b22 a_all v_aside a_rowMany a_numbers p1 s.1 s.2.1 s.2.2.1 s.2.2.2.1 s.2.2.2.2.1 s.2.2.2.2.2.1 s.2.2.2.2.2.2) (0, a_on_46, a_many_47, v_moved_48, a_pile, 0, x_49))
    (un7 fun x_77 a_on_78 a_many_79 v_moved_80 a_pile_81 v_judgedBy_82 v_judgedYear_83 =>
      some (x_77, a_on_78, a_many_79, v_moved_80, a_pile_81, v_judgedBy_82, v_judgedYear_83))
    (un6 fun a_on_84 a_many_85 v_moved_86 a_pile_87 v_judgedBy_88 v_judgedYear_89 =>
      bd1 (rd 4 a_rowMany p1) fun x_90 =>
      some (x_90, a_on_84, a_many_85, v_moved_86, a_pile_87, v_judgedBy_88, v_judgedYear_89))

noncomputable def FX8_judge (a_all : Nat → Int32) (a_on : Nat → Int32) (a_many : Nat → Int32) (v_moved : Int32) (a_pile : Nat → Int32) (v_aside : Int32) (v_judgedBy : Int32) (v_judgedYear : Int32) (a_rowSort : Nat → Int32) (a_rowMany : Nat → Int32) (a_numbers : Nat → Int64) (p1 : Int32) (p2 : Int32) : Option (Int32 × (Nat → Int32) × (Nat → Int32) × Int32 × (Nat → Int32) × Int32 × Int32) :=
  bd1 (FX8_within (Int32.toInt64 p1) 0 3) fun b_47 =>
  if (b2i b_47) = 0 then
    some ((-2), a_on, a_many, v_moved, a_pile, v_judgedBy, v_judgedYear)
  else
    bd1 (FX8_within (Int32.toInt64 p2) 0 3) fun b_49 =>
    if (b2i b_49) = 0 then
      some ((-2), a_on, a_many, v_moved, a_pile, v_judgedBy, v_judgedYear)
    else
      bd1 (rd 4 a_rowSort p1) fun x_51 =>
      if x_51 = (-1) then
        some ((-6), a_on, a_many, v_moved, a_pile, v_judgedBy, v_judgedYear)
      else
        bd7 (FX8_goes a_all a_on a_many a_pile v_aside a_rowMany a_numbers p1) fun x_53 a_on_54 a_many_55 v_moved_56 a_pile_57 v_judgedBy_58 v_judgedYear_59 =>
        if p2 = 0 then
          if v_judgedBy_58 = 0 then
            some ((-1), a_on_54, a_many_55, v_moved_56, a_pile_57, v_judgedBy_58, v_judgedYear_59)
          else
            some (x_53, a_on_54, a_many_55, v_moved_56, a_pile_57, v_judgedBy_58, v_judgedYear_59)
        else
          if p2 = 1 then
            some (v_judgedBy_58, a_on_54, a_many_55, v_moved_56, a_pile_57, v_judgedBy_58, v_judgedYear_59)
          else
            if p2 = 2 then
              bd1 (FX8_rights a_all a_on_54 (-1)) fun x_64 =>
              some (x_64, a_on_54, a_many_55, v_moved_56, a_pile_57, v_judgedBy_58, v_judgedYear_59)
            else
              bd1 (rd 1593 a_all 112) fun x_65 =>
              some ((v_judgedYear_59 - x_65), a_on_54, a_many_55, v_moved_56, a_pile_57, v_judgedBy_58, v_judgedYear_59)

noncomputable def FX8_perform_j125 (x_80 : Int32) (a_all_104 : Nat → Int32) (a_on_105 : Nat → Int32) (a_many_106 : Nat → Int32) (v_moved_107 : Int32) (a_pile_108 : Nat → Int32) : Option ((Int32 × (Nat → Int32) × (Nat → Int32) × (Nat → Int32) × Int32 × (Nat → Int32)) ⊕ ((Nat → Int32) × (Nat → Int32) × (Nat → Int32) × Int32 × (Nat → Int32))) :=
  some (.inl ((x_80 + 1), a_all_104, a_on_105, a_many_106, v_moved_107, a_pile_108))

noncomputable def FX8_perform_b41 (v_aside : Int32) (a_numbers : Nat → Int64) (p1 : Int32) (x_50 : Int32) (x_80 : Int32) (a_all_81 : Nat → Int32) (a_on_82 : Nat → Int32) (a_many_83 : Nat → Int32) (v_moved_84 : Int32) (a_pile_85 : Nat → Int32) : Option ((Int32 × (Nat → Int32) × (Nat → Int32) × (Nat → Int32) × Int32 × (Nat → Int32)) ⊕ ((Nat → Int32) × (Nat → Int32) × (Nat → Int32) × Int32 × (Nat → Int32))) :=
  if x_50 ≤ x_80 then
    some (.inr (a_all_81, a_on_82, a_many_83, v_moved_84, a_pile_85))
  else
    bd1 (rd 160 a_numbers ((40 * p1) + x_80)) fun y_87 =>
    if (lg_cmp y_87 (-1)) = 0 then
      bd2 (FX8_year a_all_81) fun x_89 a_all_90 =>
      FX8_perform_j125 x_80 a_all_90 a_on_82 a_many_83 v_moved_84 a_pile_85
    else
      if 0 ≤ (lg_cmp y_87 100) then
        bd6 (FX8_exchange a_all_81 a_on_82 a_many_83 a_pile_85 (((Int64.toInt32 y_87) - (Int64.toInt32 y_87) / 100 * 100) / 10) ((Int64.toInt32 y_87) - (Int64.toInt32 y_87) / 10 * 10)) fun x_98 a_all_99 a_on_100 a_many_101 v_moved_102 a_pile_103 =>
        FX8_perform_j125 x_80 a_all_99 a_on_100 a_many_101 v_moved_102 a_pile_103
      else
        bd6 (FX8_carry a_all_81 a_on_82 a_many_83 a_pile_85 v_aside ((Int64.toInt32 y_87) / 10) ((Int64.toInt32 y_87) - (Int64.toInt32 y_87) / 10 * 10)) fun x_92 a_all_93 a_on_94 a_many_95 v_moved_96 a_pile_97 =>
        FX8_perform_j125 x_80 a_all_93 a_on_94 a_many_95 v_moved_96 a_pile_97

noncomputable def FX8_perform (a_all : Nat → Int32) (a_on : Nat → Int32) (a_many : Nat → Int32) (v_moved : Int32) (a_pile : Nat → Int32) (v_aside : Int32) (v_judgedBy : Int32) (v_judgedYear : Int32) (a_rowSort : Nat → Int32) (a_rowMany : Nat → Int32) (a_numbers : Nat → Int64) (p1 : Int32) : Option (Int32 × (Nat → Int32) × (Nat → Int32) × (Nat → Int32) × Int32 × (Nat → Int32) × Int32 × Int32) :=
  bd1 (FX8_within (Int32.toInt64 p1) 0 3) fun b_46 =>
  if (b2i b_46) = 0 then
    some ((-2), a_all, a_on, a_many, v_moved, a_pile, v_judgedBy, v_judgedYear)
  else
    bd1 (rd 4 a_rowSort p1) fun x_48 =>
    if x_48 = (-1) then
      some ((-6), a_all, a_on, a_many, v_moved, a_pile, v_judgedBy, v_judgedYear)
    else
      bd7 (FX8_goes a_all a_on a_many a_pile v_aside a_rowMany a_numbers p1) fun x_50 a_on_51 a_many_52 v_moved_53 a_pile_54 v_judgedBy_55 v_judgedYear_56 =>
      bd5 (loopC (fun s => FX8_perform_b41 v_aside a_numbers p1 x_50 s.1 s.2.1 s.2.2.1 s.2.2.2.1 s.2.2.2.2.1 s.2.2.2.2.2) (0, a_all, a_on_51, a_many_52, v_moved_53, a_pile_54)) fun a_all_109 a_on_110 a_many_111 v_moved_112 a_pile_113 =>
        some (x_50, a_all_109, a_on_110, a_many_111, v_moved_112, a_pile_113, v_judgedBy_55, v_judgedYear_56)

noncomputable def FX8_isAway (a_all : Nat → Int32) (a_matched : Nat → Int32) (p1 : Int32) : Option Bool :=
  bd1 (rd 8 a_matched p1) fun x_46 =>
  if x_46 = (-1) then
    some false
  else
    bd1 (rd 8 a_matched p1) fun x_48 =>
    bd1 (FX8_placeOf a_all p1) fun x_49 =>
    if x_48 = x_49 then
      some false
    else
      some true

noncomputable def FX8_costOf_j42 (x_49 : Int32) (x_51 : Int32) : Option Int32 :=
  some (x_49 + x_51)

noncomputable def FX8_costOf_j22 (p2 : Int32) (p3 : Int32) (x_49 : Int32) : Option Int32 :=
  if (p3 / 3) ≤ (p2 / 3) then
    FX8_costOf_j42 x_49 ((p2 / 3) - (p3 / 3))
  else
    FX8_costOf_j42 x_49 ((p3 / 3) - (p2 / 3))

noncomputable def FX8_costOf (p1 : Int32) (p2 : Int32) (p3 : Int32) : Option Int32 :=
  if p2 = p3 then
    FX8_costOf_j22 p2 p3 0
  else
    FX8_costOf_j22 p2 p3 1000

noncomputable def FX8_matches_b2 (x_47 : Int32) (a_leastCost_48 : Nat → Int32) : Option ((Int32 × (Nat → Int32)) ⊕ (Nat → Int32)) :=
  if 32768 ≤ x_47 then
    some (.inr a_leastCost_48)
  else
    bd1 (wrI 294912 a_leastCost_48 (262144 + x_47) 0) fun a_leastCost_50 =>
    some (.inl ((x_47 + 1), a_leastCost_50))

noncomputable def FX8_matches_j185 (x_175 : Int32) (x_186 : Int32) : Option ((Int32 × Int32) ⊕ Int32) :=
  some (.inl (x_186, (x_175 + 1)))

noncomputable def FX8_matches_j183 (x_175 : Int32) (x_185 : Int32) : Option ((Int32 × Int32) ⊕ Int32) :=
  FX8_matches_j185 x_175 x_185

noncomputable def FX8_matches_b92 (a_all : Nat → Int32) (x_120 : Int32) (x_126 : Int32) (x_157 : Int32) (a_leastCost_158 : Nat → Int32) (x_174 : Int32) (x_175 : Int32) : Option ((Int32 × Int32) ⊕ Int32) :=
  if 15 ≤ x_175 then
    some (.inr x_174)
  else
    if x_126 = (-1) then
      some (.inr x_174)
    else
      if ((x_157 >>> (x_175 &&& 31)) &&& 1) = 1 then
        FX8_matches_j185 x_175 x_174
      else
        bd1 (rd 1593 a_all (41 + x_175)) fun x_179 =>
        bd1 (rd 1593 a_all (7 + x_120)) fun x_180 =>
        if x_179 = x_180 then
          bd1 (FX8_costOf x_120 x_175 x_126) fun x_182 =>
          bd1 (rd 294912 a_leastCost_158 (((x_120 + 1) * 32768) + (x_157 ||| ((1 : Int32) <<< (x_175 &&& 31))))) fun x_183 =>
          if x_174 ≤ (x_182 + x_183) then
            FX8_matches_j183 x_175 x_174
          else
            FX8_matches_j183 x_175 (x_182 + x_183)
        else
          FX8_matches_j185 x_175 x_174

noncomputable def FX8_matches_j86 (a_all : Nat → Int32) (x_120 : Int32) (x_126 : Int32) (x_157 : Int32) (a_leastCost_158 : Nat → Int32) (x_160 : Int32) (x_162 : Int32) : Option ((Int32 × (Nat → Int32)) ⊕ (Nat → Int32)) :=
  bd1 (loopC (fun s => FX8_matches_b92 a_all x_120 x_126 x_157 a_leastCost_158 s.1 s.2) ((x_160 + x_162), 0)) fun x_187 =>
    bd1 (wrI 294912 a_leastCost_158 ((x_120 * 32768) + x_157) x_187) fun a_leastCost_188 =>
    some (.inl ((x_157 + 1), a_leastCost_188))

noncomputable def FX8_matches_b53 (a_all : Nat → Int32) (x_120 : Int32) (x_126 : Int32) (x_157 : Int32) (a_leastCost_158 : Nat → Int32) : Option ((Int32 × (Nat → Int32)) ⊕ (Nat → Int32)) :=
  if 32768 ≤ x_157 then
    some (.inr a_leastCost_158)
  else
    bd1 (rd 294912 a_leastCost_158 (((x_120 + 1) * 32768) + x_157)) fun x_160 =>
    if x_126 = (-1) then
      FX8_matches_j86 a_all x_120 x_126 x_157 a_leastCost_158 x_160 0
    else
      FX8_matches_j86 a_all x_120 x_126 x_157 a_leastCost_158 x_160 1000000

noncomputable def FX8_matches_j50 (a_all : Nat → Int32) (x_120 : Int32) (a_leastCost_121 : Nat → Int32) (x_126 : Int32) : Option ((Int32 × (Nat → Int32)) ⊕ (Nat → Int32)) :=
  bd1 (loopC (fun s => FX8_matches_b53 a_all x_120 x_126 s.1 s.2) (0, a_leastCost_121)) fun a_leastCost_189 =>
    some (.inl ((x_120 + (-1)), a_leastCost_189))

noncomputable def FX8_matches_b29 (a_all : Nat → Int32) (x_120 : Int32) (a_leastCost_121 : Nat → Int32) : Option ((Int32 × (Nat → Int32)) ⊕ (Nat → Int32)) :=
  if x_120 < 0 then
    some (.inr a_leastCost_121)
  else
    bd1 (FX8_isStone a_all x_120) fun b_123 =>
    if (b2i b_123) = 0 then
      FX8_matches_j50 a_all x_120 a_leastCost_121 (-1)
    else
      bd1 (FX8_placeOf a_all x_120) fun x_125 =>
      FX8_matches_j50 a_all x_120 a_leastCost_121 x_125

noncomputable def FX8_matches_j392 (x_232 : Int32) (x_233 : Int32) (a_matched_271 : Nat → Int32) (x_275 : Int32) : Option ((Int32 × Int32 × (Nat → Int32)) ⊕ (Nat → Int32)) :=
  some (.inl ((x_232 ||| x_275), (x_233 + 1), a_matched_271))

noncomputable def FX8_matches_j363 (x_255 : Int32) (a_matched_270 : Nat → Int32) : Option ((Int32 × (Nat → Int32)) ⊕ (Nat → Int32)) :=
  some (.inl ((x_255 + 1), a_matched_270))

noncomputable def FX8_matches_b255 (a_all : Nat → Int32) (a_leastCost_190 : Nat → Int32) (x_232 : Int32) (x_233 : Int32) (x_239 : Int32) (x_255 : Int32) (a_matched_256 : Nat → Int32) : Option ((Int32 × (Nat → Int32)) ⊕ (Nat → Int32)) :=
  if 15 ≤ x_255 then
    some (.inr a_matched_256)
  else
    if x_239 = (-1) then
      some (.inr a_matched_256)
    else
      bd1 (rd 8 a_matched_256 x_233) fun x_259 =>
      if x_259 = (-1) then
        if ((x_232 >>> (x_255 &&& 31)) &&& 1) = 1 then
          FX8_matches_j363 x_255 a_matched_256
        else
          bd1 (rd 1593 a_all (41 + x_255)) fun x_262 =>
          bd1 (rd 1593 a_all (7 + x_233)) fun x_263 =>
          if x_262 = x_263 then
            bd1 (FX8_costOf x_233 x_255 x_239) fun x_265 =>
            bd1 (rd 294912 a_leastCost_190 (((x_233 + 1) * 32768) + (x_232 ||| ((1 : Int32) <<< (x_255 &&& 31))))) fun x_266 =>
            bd1 (rd 294912 a_leastCost_190 ((x_233 * 32768) + x_232)) fun x_267 =>
            if (x_265 + x_266) = x_267 then
              bd1 (wrI 8 a_matched_256 x_233 x_255) fun a_matched_269 =>
              FX8_matches_j363 x_255 a_matched_269
            else
              FX8_matches_j363 x_255 a_matched_256
          else
            FX8_matches_j363 x_255 a_matched_256
      else
        some (.inr a_matched_256)

noncomputable def FX8_matches_j244 (a_all : Nat → Int32) (a_leastCost_190 : Nat → Int32) (x_232 : Int32) (x_233 : Int32) (a_matched_234 : Nat → Int32) (x_239 : Int32) : Option ((Int32 × Int32 × (Nat → Int32)) ⊕ (Nat → Int32)) :=
  bd1 (wrI 8 a_matched_234 x_233 (-1)) fun a_matched_240 =>
  bd1 (loopC (fun s => FX8_matches_b255 a_all a_leastCost_190 x_232 x_233 x_239 s.1 s.2) (0, a_matched_240)) fun a_matched_271 =>
    bd1 (rd 8 a_matched_271 x_233) fun x_272 =>
    if x_272 = (-1) then
      FX8_matches_j392 x_232 x_233 a_matched_271 0
    else
      bd1 (rd 8 a_matched_271 x_233) fun x_274 =>
      FX8_matches_j392 x_232 x_233 a_matched_271 ((1 : Int32) <<< (x_274 &&& 31))

noncomputable def FX8_matches_b221 (a_all : Nat → Int32) (a_leastCost_190 : Nat → Int32) (x_232 : Int32) (x_233 : Int32) (a_matched_234 : Nat → Int32) : Option ((Int32 × Int32 × (Nat → Int32)) ⊕ (Nat → Int32)) :=
  if 8 ≤ x_233 then
    some (.inr a_matched_234)
  else
    bd1 (FX8_isStone a_all x_233) fun b_236 =>
    if (b2i b_236) = 0 then
      FX8_matches_j244 a_all a_leastCost_190 x_232 x_233 a_matched_234 (-1)
    else
      bd1 (FX8_placeOf a_all x_233) fun x_238 =>
      FX8_matches_j244 a_all a_leastCost_190 x_232 x_233 a_matched_234 x_238

noncomputable def FX8_matches (a_all : Nat → Int32) (a_leastCost : Nat → Int32) (a_matched : Nat → Int32) : Option ((Nat → Int32) × (Nat → Int32)) :=
  bd1 (loopC (fun s => FX8_matches_b2 s.1 s.2) (0, a_leastCost)) fun a_leastCost_51 =>
    bd1 (loopC (fun s => FX8_matches_b29 a_all s.1 s.2) (7, a_leastCost_51)) fun a_leastCost_190 =>
      bd1 (loopC (fun s => FX8_matches_b221 a_all a_leastCost_190 s.1 s.2.1 s.2.2) (0, 0, a_matched)) fun a_matched_276 =>
        some (a_leastCost_190, a_matched_276)

noncomputable def FX8_match_j66 (x_58 : Int32) (x_59 : Int32) (x_64 : Int32) : Option ((Int32 × Int32) ⊕ Int32) :=
  some (.inl ((x_58 + x_64), (x_59 + 1)))

noncomputable def FX8_match_b41 (a_all : Nat → Int32) (a_matched_50 : Nat → Int32) (x_58 : Int32) (x_59 : Int32) : Option ((Int32 × Int32) ⊕ Int32) :=
  bd1 (rd 1593 a_all 6) fun x_60 =>
  if x_60 ≤ x_59 then
    some (.inr x_58)
  else
    bd1 (FX8_isAway a_all a_matched_50 x_59) fun b_62 =>
    if (b2i b_62) = 0 then
      FX8_match_j66 x_58 x_59 0
    else
      FX8_match_j66 x_58 x_59 1

noncomputable def FX8_match_j21 (a_all : Nat → Int32) (a_leastCost : Nat → Int32) (a_matched : Nat → Int32) (p1 : Int32) : Option (Int32 × (Nat → Int32) × (Nat → Int32)) :=
  bd2 (FX8_matches a_all a_leastCost a_matched) fun a_leastCost_49 a_matched_50 =>
  if p1 = (-1) then
    bd1 (loopC (fun s => FX8_match_b41 a_all a_matched_50 s.1 s.2) (0, 0)) fun x_65 =>
      some (x_65, a_leastCost_49, a_matched_50)
  else
    bd1 (rd 8 a_matched_50 p1) fun x_52 =>
    some (x_52, a_leastCost_49, a_matched_50)

noncomputable def FX8_match (a_all : Nat → Int32) (a_leastCost : Nat → Int32) (a_matched : Nat → Int32) (p1 : Int32) : Option (Int32 × (Nat → Int32) × (Nat → Int32)) :=
  if p1 = (-1) then
    FX8_match_j21 a_all a_leastCost a_matched p1
  else
    bd1 (FX8_isStone a_all p1) fun b_47 =>
    if (b2i b_47) = 0 then
      some ((-2), a_leastCost, a_matched)
    else
      FX8_match_j21 a_all a_leastCost a_matched p1

noncomputable def FX8_looksAt_b3 (p1 : Int64) (x_49 : Int32) (a_on_50 : Nat → Int32) : Option ((Int32 × (Nat → Int32)) ⊕ (Nat → Int32)) :=
  if 15 ≤ x_49 then
    some (.inr a_on_50)
  else
    bd1 (wrI 15 a_on_50 x_49 (Int64.toInt32 ((shrL p1 (4 * x_49)) &&& 15))) fun a_on_52 =>
    some (.inl ((x_49 + 1), a_on_52))

noncomputable def FX8_looksAt (a_on : Nat → Int32) (a_many : Nat → Int32) (p1 : Int64) (p3 : Int32) : Option ((Nat → Int32) × (Nat → Int32) × Int32) :=
  bd1 (loopC (fun s => FX8_looksAt_b3 p1 s.1 s.2) (0, a_on)) fun a_on_53 =>
    bd1 (FX8_counts a_on_53 a_many) fun a_many_54 =>
    some (a_on_53, a_many_54, p3)

noncomputable def FX8_packed_b5 (a_on : Nat → Int32) (y_47 : Int64) (x_48 : Int32) : Option ((Int64 × Int32) ⊕ Int64) :=
  if x_48 < 0 then
    some (.inr y_47)
  else
    bd1 (rd 15 a_on x_48) fun x_50 =>
    some (.inl (((shlL y_47 4) ||| (Int32.toInt64 x_50)), (x_48 + (-1))))

noncomputable def FX8_packed (a_on : Nat → Int32) : Option Int64 :=
  bd1 (loopC (fun s => FX8_packed_b5 a_on s.1 s.2) (0, 14)) fun y_51 =>
    some y_51

noncomputable def FX8_orders_b_j171 (rf : (Nat → Int32) → (Nat → Int32) → (Nat → Int32) → Int32 → (Nat → Int32) → Int32 → (Nat → Int32) → (Nat → Int32) → Int32 → Int32 → Option (Bool × (Nat → Int32) × (Nat → Int32) × Int32 × (Nat → Int32) × (Nat → Int32))) (x_87 : Int32) (a_on_126 : Nat → Int32) (a_many_127 : Nat → Int32) (v_moved_128 : Int32) (a_pile_129 : Nat → Int32) (a_order_130 : Nat → Int32) : Option ((Int32 × (Nat → Int32) × (Nat → Int32) × Int32 × (Nat → Int32) × (Nat → Int32)) ⊕ (((Nat → Int32) × (Nat → Int32) × Int32 × (Nat → Int32) × (Nat → Int32)) ⊕ ((Nat → Int32) × (Nat → Int32) × Int32 × (Nat → Int32) × (Nat → Int32)))) :=
  some (.inl ((x_87 + 1), a_on_126, a_many_127, v_moved_128, a_pile_129, a_order_130))

noncomputable def FX8_orders_b_b24 (rf : (Nat → Int32) → (Nat → Int32) → (Nat → Int32) → Int32 → (Nat → Int32) → Int32 → (Nat → Int32) → (Nat → Int32) → Int32 → Int32 → Option (Bool × (Nat → Int32) × (Nat → Int32) × Int32 × (Nat → Int32) × (Nat → Int32))) (a_all : Nat → Int32) (v_moved : Int32) (v_aside : Int32) (a_matched : Nat → Int32) (p1 : Int32) (p2 : Int32) (y_48 : Int64) (x_87 : Int32) (a_on_88 : Nat → Int32) (a_many_89 : Nat → Int32) (v_moved_90 : Int32) (a_pile_91 : Nat → Int32) (a_order_92 : Nat → Int32) : Option ((Int32 × (Nat → Int32) × (Nat → Int32) × Int32 × (Nat → Int32) × (Nat → Int32)) ⊕ (((Nat → Int32) × (Nat → Int32) × Int32 × (Nat → Int32) × (Nat → Int32)) ⊕ ((Nat → Int32) × (Nat → Int32) × Int32 × (Nat → Int32) × (Nat → Int32)))) :=
  bd1 (rd 1593 a_all 6) fun x_93 =>
  if x_93 ≤ x_87 then
    some (.inr (.inr (a_on_88, a_many_89, v_moved_90, a_pile_91, a_order_92)))
  else
    bd1 (FX8_isAway a_all a_matched x_87) fun b_95 =>
    if (b2i b_95) = 0 then
      FX8_orders_b_j171 rf x_87 a_on_88 a_many_89 v_moved_90 a_pile_91 a_order_92
    else
      bd1 (FX8_wasMoved v_moved_90 x_87) fun b_97 =>
      if (b2i b_97) = 0 then
        bd1 (FX8_placeOf a_all x_87) fun x_99 =>
        bd1 (rd 8 a_matched x_87) fun x_100 =>
        bd1 (rd 5 a_many_89 (x_99 / 3)) fun x_101 =>
        if x_101 = 0 then
          FX8_orders_b_j171 rf x_87 a_on_88 a_many_89 v_moved_90 a_pile_91 a_order_92
        else
          bd1 (FX8_topOf a_on_88 a_many_89 (x_99 / 3)) fun x_103 =>
          if x_103 = x_87 then
            bd3 (FX8_mayCarry a_all a_on_88 a_many_89 v_moved_90 a_pile_91 v_aside (x_99 / 3) (x_100 / 3)) fun x_105 a_many_106 a_pile_107 =>
            if x_105 = 0 then
              bd1 (rd 5 a_many_106 (x_100 / 3)) fun x_109 =>
              bd1 (rd 8 a_matched x_87) fun x_110 =>
              if ((3 * (x_100 / 3)) + x_109) = x_110 then
                bd3 (FX8_carries a_on_88 a_many_106 v_moved_90 (x_99 / 3) (x_100 / 3)) fun a_on_112 a_many_113 v_moved_114 =>
                bd1 (wrI 8 a_order_92 p1 x_87) fun a_order_115 =>
                bd6 (rf a_all a_on_112 a_many_113 v_moved_114 a_pile_107 v_aside a_matched a_order_115 (p1 + 1) p2) fun b_116 a_on_117 a_many_118 v_moved_119 a_pile_120 a_order_121 =>
                if (b2i b_116) = 0 then
                  bd3 (FX8_looksAt a_on_117 a_many_118 y_48 v_moved) fun a_on_123 a_many_124 v_moved_125 =>
                  FX8_orders_b_j171 rf x_87 a_on_123 a_many_124 v_moved_125 a_pile_120 a_order_121
                else
                  some (.inr (.inl (a_on_117, a_many_118, v_moved_119, a_pile_120, a_order_121)))
              else
                FX8_orders_b_j171 rf x_87 a_on_88 a_many_106 v_moved_90 a_pile_107 a_order_92
            else
              FX8_orders_b_j171 rf x_87 a_on_88 a_many_106 v_moved_90 a_pile_107 a_order_92
          else
            FX8_orders_b_j171 rf x_87 a_on_88 a_many_89 v_moved_90 a_pile_91 a_order_92
      else
        FX8_orders_b_j171 rf x_87 a_on_88 a_many_89 v_moved_90 a_pile_91 a_order_92

noncomputable def FX8_orders_b (rf : (Nat → Int32) → (Nat → Int32) → (Nat → Int32) → Int32 → (Nat → Int32) → Int32 → (Nat → Int32) → (Nat → Int32) → Int32 → Int32 → Option (Bool × (Nat → Int32) × (Nat → Int32) × Int32 × (Nat → Int32) × (Nat → Int32))) (a_all : Nat → Int32) (a_on : Nat → Int32) (a_many : Nat → Int32) (v_moved : Int32) (a_pile : Nat → Int32) (v_aside : Int32) (a_matched : Nat → Int32) (a_order : Nat → Int32) (p1 : Int32) (p2 : Int32) : Option (Bool × (Nat → Int32) × (Nat → Int32) × Int32 × (Nat → Int32) × (Nat → Int32)) :=
  if p1 = p2 then
    some (true, a_on, a_many, v_moved, a_pile, a_order)
  else
    bd1 (FX8_packed a_on) fun y_48 =>
    bdS2 (loopC (fun s => FX8_orders_b_b24 rf a_all v_moved v_aside a_matched p1 p2 y_48 s.1 s.2.1 s.2.2.1 s.2.2.2.1 s.2.2.2.2.1 s.2.2.2.2.2) (0, a_on, a_many, v_moved, a_pile, a_order))
      (un5 fun a_on_131 a_many_132 v_moved_133 a_pile_134 a_order_135 =>
        some (true, a_on_131, a_many_132, v_moved_133, a_pile_134, a_order_135))
      (un5 fun a_on_136 a_many_137 v_moved_138 a_pile_139 a_order_140 =>
        some (false, a_on_136, a_many_137, v_moved_138, a_pile_139, a_order_140))

noncomputable def FX8_orders : Nat → (Nat → Int32) → (Nat → Int32) → (Nat → Int32) → Int32 → (Nat → Int32) → Int32 → (Nat → Int32) → (Nat → Int32) → Int32 → Int32 → Option (Bool × (Nat → Int32) × (Nat → Int32) × Int32 × (Nat → Int32) × (Nat → Int32))
  | 0 => fun _ _ _ _ _ _ _ _ _ _ => none
  | d + 1 => FX8_orders_b (FX8_orders d)

noncomputable def FX8_once_j38 (x_53 : Int32) (x_54 : Int32) (x_59 : Int32) : Option ((Int32 × Int32) ⊕ Int32) :=
  some (.inl ((x_53 + x_59), (x_54 + 1)))

noncomputable def FX8_once_b13 (a_all : Nat → Int32) (a_matched_47 : Nat → Int32) (x_53 : Int32) (x_54 : Int32) : Option ((Int32 × Int32) ⊕ Int32) :=
  bd1 (rd 1593 a_all 6) fun x_55 =>
  if x_55 ≤ x_54 then
    some (.inr x_53)
  else
    bd1 (FX8_isAway a_all a_matched_47 x_54) fun b_57 =>
    if (b2i b_57) = 0 then
      FX8_once_j38 x_53 x_54 0
    else
      FX8_once_j38 x_53 x_54 1

noncomputable def FX8_once (a_all : Nat → Int32) (a_on : Nat → Int32) (a_many : Nat → Int32) (a_pile : Nat → Int32) (v_aside : Int32) (a_leastCost : Nat → Int32) (a_matched : Nat → Int32) (a_order : Nat → Int32) (p1 : Int32) : Option (Int32 × (Nat → Int32) × (Nat → Int32) × Int32 × (Nat → Int32) × (Nat → Int32) × (Nat → Int32) × (Nat → Int32)) :=
  bd2 (FX8_matches a_all a_leastCost a_matched) fun a_leastCost_46 a_matched_47 =>
  bd1 (loopC (fun s => FX8_once_b13 a_all a_matched_47 s.1 s.2) (0, 0)) fun x_60 =>
    bd3 (FX8_looksNow a_all a_on a_many) fun a_on_61 a_many_62 v_moved_63 =>
    bd6 (FX8_orders 10 a_all a_on_61 a_many_62 0 a_pile v_aside a_matched_47 a_order 0 x_60) fun b_64 a_on_65 a_many_66 v_moved_67 a_pile_68 a_order_69 =>
    if (b2i b_64) = 0 then
      some ((-1), a_on_65, a_many_66, v_moved_67, a_pile_68, a_leastCost_46, a_matched_47, a_order_69)
    else
      if p1 = (-1) then
        some (x_60, a_on_65, a_many_66, v_moved_67, a_pile_68, a_leastCost_46, a_matched_47, a_order_69)
      else
        bd1 (FX8_within (Int32.toInt64 p1) 0 (Int32.toInt64 (x_60 - 1))) fun b_72 =>
        if (b2i b_72) = 0 then
          some ((-1), a_on_65, a_many_66, v_moved_67, a_pile_68, a_leastCost_46, a_matched_47, a_order_69)
        else
          bd1 (rd 8 a_order_69 p1) fun x_74 =>
          some (x_74, a_on_65, a_many_66, v_moved_67, a_pile_68, a_leastCost_46, a_matched_47, a_order_69)

noncomputable def FX8_isAhead_j110 (a_matched : Nat → Int32) (p2 : Int32) (x_51 : Int32) : Option Bool :=
  bd1 (rd 8 a_matched p2) fun x_64 =>
  if (x_51 / 3) = (x_64 / 3) then
    some true
  else
    some false

noncomputable def FX8_isAhead_j74 (a_matched : Nat → Int32) (p1 : Int32) (p2 : Int32) (x_51 : Int32) : Option Bool :=
  bd1 (rd 8 a_matched p1) fun x_58 =>
  bd1 (rd 8 a_matched p2) fun x_59 =>
  if (x_58 / 3) = (x_59 / 3) then
    bd1 (rd 8 a_matched p1) fun x_61 =>
    bd1 (rd 8 a_matched p2) fun x_62 =>
    if x_62 ≤ x_61 then
      FX8_isAhead_j110 a_matched p2 x_51
    else
      some true
  else
    FX8_isAhead_j110 a_matched p2 x_51

noncomputable def FX8_isAhead (a_all : Nat → Int32) (a_matched : Nat → Int32) (p1 : Int32) (p2 : Int32) : Option Bool :=
  bd1 (FX8_isAway a_all a_matched p1) fun b_47 =>
  if (b2i b_47) = 0 then
    some false
  else
    bd1 (FX8_isAway a_all a_matched p2) fun b_49 =>
    if (b2i b_49) = 0 then
      some false
    else
      bd1 (FX8_placeOf a_all p1) fun x_51 =>
      bd1 (FX8_placeOf a_all p2) fun x_52 =>
      if p1 = p2 then
        bd1 (rd 8 a_matched p1) fun x_54 =>
        if (x_54 / 3) = (x_51 / 3) then
          some true
        else
          some false
      else
        if (x_51 / 3) = (x_52 / 3) then
          if x_51 ≤ x_52 then
            FX8_isAhead_j74 a_matched p1 p2 x_51
          else
            some true
        else
          FX8_isAhead_j74 a_matched p1 p2 x_51

noncomputable def FX8_ahead (a_all : Nat → Int32) (a_leastCost : Nat → Int32) (a_matched : Nat → Int32) (p1 : Int32) (p2 : Int32) : Option (Int32 × (Nat → Int32) × (Nat → Int32)) :=
  bd1 (FX8_isStone a_all p1) fun b_47 =>
  if (b2i b_47) = 0 then
    some ((-2), a_leastCost, a_matched)
  else
    bd1 (FX8_isStone a_all p2) fun b_49 =>
    if (b2i b_49) = 0 then
      some ((-2), a_leastCost, a_matched)
    else
      bd2 (FX8_matches a_all a_leastCost a_matched) fun a_leastCost_51 a_matched_52 =>
      bd1 (FX8_isAhead a_all a_matched_52 p1 p2) fun b_53 =>
      if (b2i b_53) = 0 then
        some (0, a_leastCost_51, a_matched_52)
      else
        some (1, a_leastCost_51, a_matched_52)

noncomputable def FX8_isRing_j103 (x_117 : Int32) (x_136 : Int32) (x_137 : Int32) : Option ((Int32 × Int32 × Int32) ⊕ (Int32 × Int32)) :=
  some (.inl (x_136, x_137, (x_117 + 1)))

noncomputable def FX8_isRing_j76 (x_127 : Int32) (x_133 : Int32) : Option ((Int32 × Int32) ⊕ Int32) :=
  some (.inl (x_133, (x_127 + 1)))

noncomputable def FX8_isRing_j71 (x_127 : Int32) : Option ((Int32 × Int32) ⊕ Int32) :=
  FX8_isRing_j76 x_127 1

noncomputable def FX8_isRing_j75 (x_127 : Int32) : Option ((Int32 × Int32) ⊕ Int32) :=
  FX8_isRing_j76 x_127 0

noncomputable def FX8_isRing_b38 (a_all : Nat → Int32) (a_matched : Nat → Int32) (x_115 : Int32) (x_117 : Int32) (x_126 : Int32) (x_127 : Int32) : Option ((Int32 × Int32) ⊕ Int32) :=
  if 8 ≤ x_127 then
    some (.inr x_126)
  else
    if x_126 = 0 then
      if ((x_115 >>> (x_127 &&& 31)) &&& 1) = 1 then
        bd1 (FX8_isAhead a_all a_matched x_127 x_117) fun b_131 =>
        if (b2i b_131) = 0 then
          FX8_isRing_j75 x_127
        else
          FX8_isRing_j71 x_127
      else
        FX8_isRing_j75 x_127
    else
      FX8_isRing_j71 x_127

noncomputable def FX8_isRing_b13 (a_all : Nat → Int32) (a_matched : Nat → Int32) (x_115 : Int32) (x_116 : Int32) (x_117 : Int32) : Option ((Int32 × Int32 × Int32) ⊕ (Int32 × Int32)) :=
  if 8 ≤ x_117 then
    some (.inr (x_115, x_116))
  else
    if ((x_115 >>> (x_117 &&& 31)) &&& 1) = 0 then
      FX8_isRing_j103 x_117 x_115 x_116
    else
      bd1 (loopC (fun s => FX8_isRing_b38 a_all a_matched x_115 x_117 s.1 s.2) (0, 0)) fun x_134 =>
        if x_134 = 0 then
          FX8_isRing_j103 x_117 (x_115 &&& (((1 : Int32) <<< (x_117 &&& 31)) ^^^ (-1))) 1
        else
          FX8_isRing_j103 x_117 x_115 x_116

noncomputable def FX8_isRing_b4 (a_all : Nat → Int32) (a_matched : Nat → Int32) (x_92 : Int32) (x_93 : Int32) : Option ((Int32 × Int32) ⊕ Int32) :=
  if x_93 = 0 then
    some (.inr x_92)
  else
    bd2 (loopC (fun s => FX8_isRing_b13 a_all a_matched s.1 s.2.1 s.2.2) (x_92, 0, 0)) fun x_138 x_139 =>
      some (.inl (x_138, x_139))

noncomputable def FX8_isRing (a_all : Nat → Int32) (a_matched : Nat → Int32) (p1 : Int32) : Option Bool :=
  bd1 (loopC (fun s => FX8_isRing_b4 a_all a_matched s.1 s.2) (p1, 1)) fun x_140 =>
    if x_140 = 0 then
      some false
    else
      some true

noncomputable def FX8_aside_j53 (x_55 : Int32) (x_56 : Int32) (x_61 : Int32) : Option ((Int32 × Int32) ⊕ Int32) :=
  some (.inl ((x_55 ||| x_61), (x_56 + 1)))

noncomputable def FX8_aside_b26 (a_all : Nat → Int32) (a_matched_49 : Nat → Int32) (x_55 : Int32) (x_56 : Int32) : Option ((Int32 × Int32) ⊕ Int32) :=
  bd1 (rd 1593 a_all 6) fun x_57 =>
  if x_57 ≤ x_56 then
    some (.inr x_55)
  else
    bd1 (FX8_isAway a_all a_matched_49 x_56) fun b_59 =>
    if (b2i b_59) = 0 then
      FX8_aside_j53 x_55 x_56 0
    else
      FX8_aside_j53 x_55 x_56 ((1 : Int32) <<< (x_56 &&& 31))

noncomputable def FX8_aside_j114 (x_72 : Int32) (x_80 : Int32) : Option ((Int32 × Int32) ⊕ Int32) :=
  some (.inl (x_80, (x_72 + 1)))

noncomputable def FX8_aside_b66 (a_all : Nat → Int32) (a_matched_49 : Nat → Int32) (x_62 : Int32) (x_71 : Int32) (x_72 : Int32) : Option ((Int32 × Int32) ⊕ Int32) :=
  if 256 ≤ x_72 then
    some (.inr x_71)
  else
    if (x_72 &&& (x_62 ^^^ (-1))) = 0 then
      bd1 (FX8_bitsOf x_72) fun x_75 =>
      bd1 (FX8_bitsOf x_71) fun x_76 =>
      if x_76 ≤ x_75 then
        FX8_aside_j114 x_72 x_71
      else
        bd1 (FX8_isRing a_all a_matched_49 (x_62 &&& (x_72 ^^^ (-1)))) fun b_78 =>
        if (b2i b_78) = 0 then
          FX8_aside_j114 x_72 x_72
        else
          FX8_aside_j114 x_72 x_71
    else
      FX8_aside_j114 x_72 x_71

noncomputable def FX8_aside (a_all : Nat → Int32) (a_leastCost : Nat → Int32) (a_matched : Nat → Int32) (p1 : Int32) : Option (Int32 × (Nat → Int32) × (Nat → Int32)) :=
  bd1 (FX8_within (Int32.toInt64 p1) 0 1) fun b_46 =>
  if (b2i b_46) = 0 then
    some ((-2), a_leastCost, a_matched)
  else
    bd2 (FX8_matches a_all a_leastCost a_matched) fun a_leastCost_48 a_matched_49 =>
    bd1 (loopC (fun s => FX8_aside_b26 a_all a_matched_49 s.1 s.2) (0, 0)) fun x_62 =>
      bd1 (loopC (fun s => FX8_aside_b66 a_all a_matched_49 x_62 s.1 s.2) (x_62, 0)) fun x_81 =>
        if p1 = 0 then
          bd1 (FX8_bitsOf x_81) fun x_83 =>
          some (x_83, a_leastCost_48, a_matched_49)
        else
          some (x_81, a_leastCost_48, a_matched_49)

noncomputable def FX8_spot (p0 : Int64) (p2 : Int32) : Option Int32 :=
  some (Int64.toInt32 (ushL (((p0 * 256) + (Int32.toInt64 p2)) * (-7046029254386353131)) 50))

noncomputable def FX8_isBegun_b6 (a_beginTable : Nat → Int32) (a_beginMark : Nat → Int32) (v_beginsMark : Int32) (a_began : Nat → Int64) (p1 : Int64) (x_52 : Int32) : Option (Int32 ⊕ (Unit ⊕ Int32)) :=
  bd1 (rd 16384 a_beginMark x_52) fun x_53 =>
  if x_53 = v_beginsMark then
    bd1 (rd 16384 a_beginTable x_52) fun x_55 =>
    bd1 (rd 6002 a_began x_55) fun y_56 =>
    if (lg_cmp y_56 p1) = 0 then
      some (.inr (.inl ()))
    else
      some (.inl ((x_52 + 1) &&& 16383))
  else
    some (.inr (.inr x_52))

noncomputable def FX8_isBegun (a_beginTable : Nat → Int32) (a_beginMark : Nat → Int32) (v_beginsMark : Int32) (v_begins : Int32) (a_began : Nat → Int64) (p1 : Int64) : Option (Bool × (Nat → Int32) × (Nat → Int32) × Int32 × (Nat → Int64)) :=
  bd1 (FX8_spot p1 0) fun x_46 =>
  bdS2 (loopC (fun s => FX8_isBegun_b6 a_beginTable a_beginMark v_beginsMark a_began p1 s) x_46)
    (un0 fun _ =>
      some (false, a_beginTable, a_beginMark, v_begins, a_began))
    (un1 fun x_58 =>
      bd1 (wrI 16384 a_beginMark x_58 v_beginsMark) fun a_beginMark_59 =>
      bd1 (wrI 16384 a_beginTable x_58 v_begins) fun a_beginTable_60 =>
      bd1 (wrL 6002 a_began v_begins p1) fun a_began_61 =>
      some (true, a_beginTable_60, a_beginMark_59, (v_begins + 1), a_began_61))

noncomputable def FX8_takes_j55 (x_56 : Int32) : Option (Int32 ⊕ (Unit ⊕ Int32)) :=
  some (.inl ((x_56 + 1) &&& 16383))

noncomputable def FX8_takes_b7 (a_lies : Nat → Int64) (a_movedThen : Nat → Int32) (a_yearTable : Nat → Int32) (a_yearMark : Nat → Int32) (v_mark : Int32) (p1 : Int64) (p3 : Int32) (x_56 : Int32) : Option (Int32 ⊕ (Unit ⊕ Int32)) :=
  bd1 (rd 16384 a_yearMark x_56) fun x_57 =>
  if x_57 = v_mark then
    bd1 (rd 16384 a_yearTable x_56) fun x_59 =>
    bd1 (rd 6001 a_lies x_59) fun y_60 =>
    if (lg_cmp y_60 p1) = 0 then
      bd1 (rd 16384 a_yearTable x_56) fun x_62 =>
      bd1 (rd 6001 a_movedThen x_62) fun x_63 =>
      if x_63 = p3 then
        some (.inr (.inl ()))
      else
        FX8_takes_j55 x_56
    else
      FX8_takes_j55 x_56
  else
    some (.inr (.inr x_56))

noncomputable def FX8_takes (a_lies : Nat → Int64) (a_movedThen : Nat → Int32) (a_yearTable : Nat → Int32) (a_yearMark : Nat → Int32) (v_found : Int32) (v_mark : Int32) (v_isSpent : Int32) (p1 : Int64) (p3 : Int32) : Option ((Nat → Int64) × (Nat → Int32) × (Nat → Int32) × (Nat → Int32) × Int32 × Int32) :=
  bd1 (FX8_spot p1 p3) fun x_47 =>
  bdS2 (loopC (fun s => FX8_takes_b7 a_lies a_movedThen a_yearTable a_yearMark v_mark p1 p3 s) x_47)
    (un0 fun _ =>
      some (a_lies, a_movedThen, a_yearTable, a_yearMark, v_found, v_isSpent))
    (un1 fun x_65 =>
      if v_found = 6000 then
        some (a_lies, a_movedThen, a_yearTable, a_yearMark, v_found, 1)
      else
        bd1 (wrI 16384 a_yearMark x_65 v_mark) fun a_yearMark_67 =>
        bd1 (wrI 16384 a_yearTable x_65 v_found) fun a_yearTable_68 =>
        bd1 (wrL 6001 a_lies v_found p1) fun a_lies_69 =>
        bd1 (wrI 6001 a_movedThen v_found p3) fun a_movedThen_70 =>
        some (a_lies_69, a_movedThen_70, a_yearTable_68, a_yearMark_67, (v_found + 1), v_isSpent))

noncomputable def FX8_nextYear_j90 (v_found : Int32) (v_mark : Int32) (a_lies_100 : Nat → Int64) (a_movedThen_101 : Nat → Int32) (a_yearTable_102 : Nat → Int32) (a_yearMark_103 : Nat → Int32) (a_beginTable_104 : Nat → Int32) (a_beginMark_105 : Nat → Int32) (v_found_106 : Int32) (v_begins_107 : Int32) (a_began_108 : Nat → Int64) (v_isSpent_109 : Int32) : Option (Bool × (Nat → Int64) × (Nat → Int32) × (Nat → Int32) × (Nat → Int32) × (Nat → Int32) × (Nat → Int32) × Int32 × Int32 × Int32 × Int32 × (Nat → Int64) × Int32) :=
  some (true, a_lies_100, a_movedThen_101, a_yearTable_102, a_yearMark_103, a_beginTable_104, a_beginMark_105, v_found_106, v_found, (v_mark + 1), v_begins_107, a_began_108, v_isSpent_109)

noncomputable def FX8_nextYear_j66 (x_67 : Int32) (a_beginTable_82 : Nat → Int32) (a_beginMark_83 : Nat → Int32) (v_begins_84 : Int32) (a_began_85 : Nat → Int64) (a_lies_94 : Nat → Int64) (a_movedThen_95 : Nat → Int32) (a_yearTable_96 : Nat → Int32) (a_yearMark_97 : Nat → Int32) (v_found_98 : Int32) (v_isSpent_99 : Int32) : Option ((Int32 × (Nat → Int64) × (Nat → Int32) × (Nat → Int32) × (Nat → Int32) × (Nat → Int32) × (Nat → Int32) × Int32 × Int32 × (Nat → Int64) × Int32) ⊕ ((Nat → Int64) × (Nat → Int32) × (Nat → Int32) × (Nat → Int32) × (Nat → Int32) × (Nat → Int32) × Int32 × Int32 × (Nat → Int64) × Int32)) :=
  some (.inl ((x_67 + 1), a_lies_94, a_movedThen_95, a_yearTable_96, a_yearMark_97, a_beginTable_82, a_beginMark_83, v_found_98, v_begins_84, a_began_85, v_isSpent_99))

noncomputable def FX8_nextYear_b30 (v_found : Int32) (v_mark : Int32) (v_beginsMark : Int32) (x_67 : Int32) (a_lies_68 : Nat → Int64) (a_movedThen_69 : Nat → Int32) (a_yearTable_70 : Nat → Int32) (a_yearMark_71 : Nat → Int32) (a_beginTable_72 : Nat → Int32) (a_beginMark_73 : Nat → Int32) (v_found_74 : Int32) (v_begins_75 : Int32) (a_began_76 : Nat → Int64) (v_isSpent_77 : Int32) : Option ((Int32 × (Nat → Int64) × (Nat → Int32) × (Nat → Int32) × (Nat → Int32) × (Nat → Int32) × (Nat → Int32) × Int32 × Int32 × (Nat → Int64) × Int32) ⊕ ((Nat → Int64) × (Nat → Int32) × (Nat → Int32) × (Nat → Int32) × (Nat → Int32) × (Nat → Int32) × Int32 × Int32 × (Nat → Int64) × Int32)) :=
  if v_found ≤ x_67 then
    some (.inr (a_lies_68, a_movedThen_69, a_yearTable_70, a_yearMark_71, a_beginTable_72, a_beginMark_73, v_found_74, v_begins_75, a_began_76, v_isSpent_77))
  else
    if v_isSpent_77 = 0 then
      bd1 (rd 6001 a_lies_68 x_67) fun y_80 =>
      bd5 (FX8_isBegun a_beginTable_72 a_beginMark_73 v_beginsMark v_begins_75 a_began_76 y_80) fun b_81 a_beginTable_82 a_beginMark_83 v_begins_84 a_began_85 =>
      if (b2i b_81) = 0 then
        FX8_nextYear_j66 x_67 a_beginTable_82 a_beginMark_83 v_begins_84 a_began_85 a_lies_68 a_movedThen_69 a_yearTable_70 a_yearMark_71 v_found_74 v_isSpent_77
      else
        bd1 (rd 6001 a_lies_68 x_67) fun y_87 =>
        bd6 (FX8_takes a_lies_68 a_movedThen_69 a_yearTable_70 a_yearMark_71 v_found_74 (v_mark + 1) v_isSpent_77 y_87 0) fun a_lies_88 a_movedThen_89 a_yearTable_90 a_yearMark_91 v_found_92 v_isSpent_93 =>
        FX8_nextYear_j66 x_67 a_beginTable_82 a_beginMark_83 v_begins_84 a_began_85 a_lies_88 a_movedThen_89 a_yearTable_90 a_yearMark_91 v_found_92 v_isSpent_93
    else
      some (.inr (a_lies_68, a_movedThen_69, a_yearTable_70, a_yearMark_71, a_beginTable_72, a_beginMark_73, v_found_74, v_begins_75, a_began_76, v_isSpent_77))

noncomputable def FX8_nextYear (a_lies : Nat → Int64) (a_movedThen : Nat → Int32) (a_yearTable : Nat → Int32) (a_yearMark : Nat → Int32) (a_beginTable : Nat → Int32) (a_beginMark : Nat → Int32) (v_found : Int32) (v_yearFrom : Int32) (v_mark : Int32) (v_beginsMark : Int32) (v_begins : Int32) (a_began : Nat → Int64) (v_isSpent : Int32) : Option (Bool × (Nat → Int64) × (Nat → Int32) × (Nat → Int32) × (Nat → Int32) × (Nat → Int32) × (Nat → Int32) × Int32 × Int32 × Int32 × Int32 × (Nat → Int64) × Int32) :=
  bd10 (loopC (fun s => FX8_nextYear_b30 v_found v_mark v_beginsMark s.1 s.2.1 s.2.2.1 s.2.2.2.1 s.2.2.2.2.1 s.2.2.2.2.2.1 s.2.2.2.2.2.2.1 s.2.2.2.2.2.2.2.1 s.2.2.2.2.2.2.2.2.1 s.2.2.2.2.2.2.2.2.2.1 s.2.2.2.2.2.2.2.2.2.2) (v_yearFrom, a_lies, a_movedThen, a_yearTable, a_yearMark, a_beginTable, a_beginMark, v_found, v_begins, a_began, v_isSpent)) fun a_lies_100 a_movedThen_101 a_yearTable_102 a_yearMark_103 a_beginTable_104 a_beginMark_105 v_found_106 v_begins_107 a_began_108 v_isSpent_109 =>
    if v_found < v_found_106 then
      FX8_nextYear_j90 v_found v_mark a_lies_100 a_movedThen_101 a_yearTable_102 a_yearMark_103 a_beginTable_104 a_beginMark_105 v_found_106 v_begins_107 a_began_108 v_isSpent_109
    else
      if v_isSpent_109 = 0 then
        some (false, a_lies_100, a_movedThen_101, a_yearTable_102, a_yearMark_103, a_beginTable_104, a_beginMark_105, v_found_106, v_found, (v_mark + 1), v_begins_107, a_began_108, v_isSpent_109)
      else
        FX8_nextYear_j90 v_found v_mark a_lies_100 a_movedThen_101 a_yearTable_102 a_yearMark_103 a_beginTable_104 a_beginMark_105 v_found_106 v_begins_107 a_began_108 v_isSpent_109

noncomputable def FX8_spreads_j196 (x_557 : Int32) (a_on_614 : Nat → Int32) (a_many_615 : Nat → Int32) (a_pile_616 : Nat → Int32) (a_lies_617 : Nat → Int64) (a_movedThen_618 : Nat → Int32) (a_yearTable_619 : Nat → Int32) (a_yearMark_620 : Nat → Int32) (v_found_621 : Int32) (v_isSpent_622 : Int32) : Option ((Int32 × (Nat → Int32) × (Nat → Int32) × (Nat → Int32) × (Nat → Int64) × (Nat → Int32) × (Nat → Int32) × (Nat → Int32) × Int32 × Int32) ⊕ ((Nat → Int32) × (Nat → Int32) × (Nat → Int32) × (Nat → Int64) × (Nat → Int32) × (Nat → Int32) × (Nat → Int32) × Int32 × Int32)) :=
  some (.inl ((x_557 + 1), a_on_614, a_many_615, a_pile_616, a_lies_617, a_movedThen_618, a_yearTable_619, a_yearMark_620, v_found_621, v_isSpent_622))

noncomputable def FX8_spreads_j180 (v_mark : Int32) (x_489 : Int32) (x_557 : Int32) (a_many_590 : Nat → Int32) (a_lies_591 : Nat → Int64) (a_movedThen_592 : Nat → Int32) (a_yearTable_593 : Nat → Int32) (a_yearMark_594 : Nat → Int32) (v_found_595 : Int32) (v_isSpent_596 : Int32) (a_pile_599 : Nat → Int32) (a_on_601 : Nat → Int32) (v_moved_602 : Int32) (y_603 : Int64) (x_605 : Int32) : Option ((Int32 × (Nat → Int32) × (Nat → Int32) × (Nat → Int32) × (Nat → Int64) × (Nat → Int32) × (Nat → Int32) × (Nat → Int32) × Int32 × Int32) ⊕ ((Nat → Int32) × (Nat → Int32) × (Nat → Int32) × (Nat → Int64) × (Nat → Int32) × (Nat → Int32) × (Nat → Int32) × Int32 × Int32)) :=
  bd6 (FX8_takes a_lies_591 a_movedThen_592 a_yearTable_593 a_yearMark_594 v_found_595 v_mark v_isSpent_596 y_603 x_605) fun a_lies_606 a_movedThen_607 a_yearTable_608 a_yearMark_609 v_found_610 v_isSpent_611 =>
  bd2 (FX8_turns a_on_601 a_many_590 v_moved_602 x_489 x_557) fun a_on_612 v_moved_613 =>
  FX8_spreads_j196 x_557 a_on_612 a_many_590 a_pile_599 a_lies_606 a_movedThen_607 a_yearTable_608 a_yearMark_609 v_found_610 v_isSpent_611

noncomputable def FX8_spreads_j134 (a_all : Nat → Int32) (v_mark : Int32) (p1 : Int32) (v_moved_355 : Int32) (x_489 : Int32) (x_557 : Int32) (a_pile_572 : Nat → Int32) (a_on_589 : Nat → Int32) (a_many_590 : Nat → Int32) (a_lies_591 : Nat → Int64) (a_movedThen_592 : Nat → Int32) (a_yearTable_593 : Nat → Int32) (a_yearMark_594 : Nat → Int32) (v_found_595 : Int32) (v_isSpent_596 : Int32) : Option ((Int32 × (Nat → Int32) × (Nat → Int32) × (Nat → Int32) × (Nat → Int64) × (Nat → Int32) × (Nat → Int32) × (Nat → Int32) × Int32 × Int32) ⊕ ((Nat → Int32) × (Nat → Int32) × (Nat → Int32) × (Nat → Int64) × (Nat → Int32) × (Nat → Int32) × (Nat → Int32) × Int32 × Int32)) :=
  if x_557 ≤ x_489 then
    FX8_spreads_j196 x_557 a_on_589 a_many_590 a_pile_572 a_lies_591 a_movedThen_592 a_yearTable_593 a_yearMark_594 v_found_595 v_isSpent_596
  else
    bd2 (FX8_mayTurn a_all a_on_589 a_many_590 v_moved_355 a_pile_572 x_489 x_557) fun x_598 a_pile_599 =>
    if x_598 = 0 then
      bd2 (FX8_turns a_on_589 a_many_590 v_moved_355 x_489 x_557) fun a_on_601 v_moved_602 =>
      bd1 (FX8_packed a_on_601) fun y_603 =>
      if p1 = 0 then
        FX8_spreads_j180 v_mark x_489 x_557 a_many_590 a_lies_591 a_movedThen_592 a_yearTable_593 a_yearMark_594 v_found_595 v_isSpent_596 a_pile_599 a_on_601 v_moved_602 y_603 v_moved_602
      else
        FX8_spreads_j180 v_mark x_489 x_557 a_many_590 a_lies_591 a_movedThen_592 a_yearTable_593 a_yearMark_594 v_found_595 v_isSpent_596 a_pile_599 a_on_601 v_moved_602 y_603 0
    else
      FX8_spreads_j196 x_557 a_on_589 a_many_590 a_pile_599 a_lies_591 a_movedThen_592 a_yearTable_593 a_yearMark_594 v_found_595 v_isSpent_596

noncomputable def FX8_spreads_j118 (a_all : Nat → Int32) (v_mark : Int32) (p1 : Int32) (v_moved_355 : Int32) (x_489 : Int32) (x_557 : Int32) (a_lies_561 : Nat → Int64) (a_movedThen_562 : Nat → Int32) (a_yearTable_563 : Nat → Int32) (a_yearMark_564 : Nat → Int32) (v_found_565 : Int32) (v_isSpent_566 : Int32) (a_pile_572 : Nat → Int32) (a_on_574 : Nat → Int32) (a_many_575 : Nat → Int32) (v_moved_576 : Int32) (y_577 : Int64) (x_579 : Int32) : Option ((Int32 × (Nat → Int32) × (Nat → Int32) × (Nat → Int32) × (Nat → Int64) × (Nat → Int32) × (Nat → Int32) × (Nat → Int32) × Int32 × Int32) ⊕ ((Nat → Int32) × (Nat → Int32) × (Nat → Int32) × (Nat → Int64) × (Nat → Int32) × (Nat → Int32) × (Nat → Int32) × Int32 × Int32)) :=
  bd6 (FX8_takes a_lies_561 a_movedThen_562 a_yearTable_563 a_yearMark_564 v_found_565 v_mark v_isSpent_566 y_577 x_579) fun a_lies_580 a_movedThen_581 a_yearTable_582 a_yearMark_583 v_found_584 v_isSpent_585 =>
  bd3 (FX8_carries a_on_574 a_many_575 v_moved_576 x_557 x_489) fun a_on_586 a_many_587 v_moved_588 =>
  FX8_spreads_j134 a_all v_mark p1 v_moved_355 x_489 x_557 a_pile_572 a_on_586 a_many_587 a_lies_580 a_movedThen_581 a_yearTable_582 a_yearMark_583 v_found_584 v_isSpent_585

noncomputable def FX8_spreads_b58 (a_all : Nat → Int32) (v_aside : Int32) (v_mark : Int32) (p1 : Int32) (v_moved_355 : Int32) (x_489 : Int32) (x_557 : Int32) (a_on_558 : Nat → Int32) (a_many_559 : Nat → Int32) (a_pile_560 : Nat → Int32) (a_lies_561 : Nat → Int64) (a_movedThen_562 : Nat → Int32) (a_yearTable_563 : Nat → Int32) (a_yearMark_564 : Nat → Int32) (v_found_565 : Int32) (v_isSpent_566 : Int32) : Option ((Int32 × (Nat → Int32) × (Nat → Int32) × (Nat → Int32) × (Nat → Int64) × (Nat → Int32) × (Nat → Int32) × (Nat → Int32) × Int32 × Int32) ⊕ ((Nat → Int32) × (Nat → Int32) × (Nat → Int32) × (Nat → Int64) × (Nat → Int32) × (Nat → Int32) × (Nat → Int32) × Int32 × Int32)) :=
  bd1 (rd 1593 a_all 0) fun x_567 =>
  if x_567 ≤ x_557 then
    some (.inr (a_on_558, a_many_559, a_pile_560, a_lies_561, a_movedThen_562, a_yearTable_563, a_yearMark_564, v_found_565, v_isSpent_566))
  else
    if x_489 = x_557 then
      FX8_spreads_j196 x_557 a_on_558 a_many_559 a_pile_560 a_lies_561 a_movedThen_562 a_yearTable_563 a_yearMark_564 v_found_565 v_isSpent_566
    else
      bd3 (FX8_mayCarry a_all a_on_558 a_many_559 v_moved_355 a_pile_560 v_aside x_489 x_557) fun x_570 a_many_571 a_pile_572 =>
      if x_570 = 0 then
        bd3 (FX8_carries a_on_558 a_many_571 v_moved_355 x_489 x_557) fun a_on_574 a_many_575 v_moved_576 =>
        bd1 (FX8_packed a_on_574) fun y_577 =>
        if p1 = 0 then
          FX8_spreads_j118 a_all v_mark p1 v_moved_355 x_489 x_557 a_lies_561 a_movedThen_562 a_yearTable_563 a_yearMark_564 v_found_565 v_isSpent_566 a_pile_572 a_on_574 a_many_575 v_moved_576 y_577 v_moved_576
        else
          FX8_spreads_j118 a_all v_mark p1 v_moved_355 x_489 x_557 a_lies_561 a_movedThen_562 a_yearTable_563 a_yearMark_564 v_found_565 v_isSpent_566 a_pile_572 a_on_574 a_many_575 v_moved_576 y_577 0
      else
        FX8_spreads_j134 a_all v_mark p1 v_moved_355 x_489 x_557 a_pile_572 a_on_558 a_many_571 a_lies_561 a_movedThen_562 a_yearTable_563 a_yearMark_564 v_found_565 v_isSpent_566

noncomputable def FX8_spreads_b44 (a_all : Nat → Int32) (v_aside : Int32) (v_mark : Int32) (p1 : Int32) (v_moved_355 : Int32) (x_489 : Int32) (a_on_490 : Nat → Int32) (a_many_491 : Nat → Int32) (a_pile_492 : Nat → Int32) (a_lies_493 : Nat → Int64) (a_movedThen_494 : Nat → Int32) (a_yearTable_495 : Nat → Int32) (a_yearMark_496 : Nat → Int32) (v_found_497 : Int32) (v_isSpent_498 : Int32) : Option ((Int32 × (Nat → Int32) × (Nat → Int32) × (Nat → Int32) × (Nat → Int64) × (Nat → Int32) × (Nat → Int32) × (Nat → Int32) × Int32 × Int32) ⊕ ((Nat → Int32) × (Nat → Int32) × (Nat → Int32) × (Nat → Int64) × (Nat → Int32) × (Nat → Int32) × (Nat → Int32) × Int32 × Int32)) :=
  bd1 (rd 1593 a_all 0) fun x_499 =>
  if x_499 ≤ x_489 then
    some (.inr (a_on_490, a_many_491, a_pile_492, a_lies_493, a_movedThen_494, a_yearTable_495, a_yearMark_496, v_found_497, v_isSpent_498))
  else
    bd9 (loopC (fun s => FX8_spreads_b58 a_all v_aside v_mark p1 v_moved_355 x_489 s.1 s.2.1 s.2.2.1 s.2.2.2.1 s.2.2.2.2.1 s.2.2.2.2.2.1 s.2.2.2.2.2.2.1 s.2.2.2.2.2.2.2.1 s.2.2.2.2.2.2.2.2.1 s.2.2.2.2.2.2.2.2.2) (0, a_on_490, a_many_491, a_pile_492, a_lies_493, a_movedThen_494, a_yearTable_495, a_yearMark_496, v_found_497, v_isSpent_498)) fun a_on_623 a_many_624 a_pile_625 a_lies_626 a_movedThen_627 a_yearTable_628 a_yearMark_629 v_found_630 v_isSpent_631 =>
      some (.inl ((x_489 + 1), a_on_623, a_many_624, a_pile_625, a_lies_626, a_movedThen_627, a_yearTable_628, a_yearMark_629, v_found_630, v_isSpent_631))

noncomputable def FX8_spreads_b5 (a_all : Nat → Int32) (v_aside : Int32) (v_mark : Int32) (p1 : Int32) (x_338 : Int32) (a_on_339 : Nat → Int32) (a_many_340 : Nat → Int32) (v_moved_341 : Int32) (a_pile_342 : Nat → Int32) (a_lies_343 : Nat → Int64) (a_movedThen_344 : Nat → Int32) (a_yearTable_345 : Nat → Int32) (a_yearMark_346 : Nat → Int32) (v_found_347 : Int32) (v_isSpent_348 : Int32) : Option ((Int32 × (Nat → Int32) × (Nat → Int32) × Int32 × (Nat → Int32) × (Nat → Int64) × (Nat → Int32) × (Nat → Int32) × (Nat → Int32) × Int32 × Int32) ⊕ ((Nat → Int32) × (Nat → Int32) × Int32 × (Nat → Int32) × (Nat → Int64) × (Nat → Int32) × (Nat → Int32) × (Nat → Int32) × Int32 × Int32)) :=
  if v_found_347 ≤ x_338 then
    some (.inr (a_on_339, a_many_340, v_moved_341, a_pile_342, a_lies_343, a_movedThen_344, a_yearTable_345, a_yearMark_346, v_found_347, v_isSpent_348))
  else
    if v_isSpent_348 = 0 then
      bd1 (rd 6001 a_lies_343 x_338) fun y_351 =>
      bd1 (rd 6001 a_movedThen_344 x_338) fun x_352 =>
      bd3 (FX8_looksAt a_on_339 a_many_340 y_351 x_352) fun a_on_353 a_many_354 v_moved_355 =>
      bd9 (loopC (fun s => FX8_spreads_b44 a_all v_aside v_mark p1 v_moved_355 s.1 s.2.1 s.2.2.1 s.2.2.2.1 s.2.2.2.2.1 s.2.2.2.2.2.1 s.2.2.2.2.2.2.1 s.2.2.2.2.2.2.2.1 s.2.2.2.2.2.2.2.2.1 s.2.2.2.2.2.2.2.2.2) (0, a_on_353, a_many_354, a_pile_342, a_lies_343, a_movedThen_344, a_yearTable_345, a_yearMark_346, v_found_347, v_isSpent_348)) fun a_on_632 a_many_633 a_pile_634 a_lies_635 a_movedThen_636 a_yearTable_637 a_yearMark_638 v_found_639 v_isSpent_640 =>
        some (.inl ((x_338 + 1), a_on_632, a_many_633, v_moved_355, a_pile_634, a_lies_635, a_movedThen_636, a_yearTable_637, a_yearMark_638, v_found_639, v_isSpent_640))
    else
      some (.inr (a_on_339, a_many_340, v_moved_341, a_pile_342, a_lies_343, a_movedThen_344, a_yearTable_345, a_yearMark_346, v_found_347, v_isSpent_348))

noncomputable def FX8_spreads (a_all : Nat → Int32) (a_on : Nat → Int32) (a_many : Nat → Int32) (v_moved : Int32) (a_pile : Nat → Int32) (v_aside : Int32) (a_lies : Nat → Int64) (a_movedThen : Nat → Int32) (a_yearTable : Nat → Int32) (a_yearMark : Nat → Int32) (v_found : Int32) (v_yearFrom : Int32) (v_mark : Int32) (v_isSpent : Int32) (p1 : Int32) : Option ((Nat → Int32) × (Nat → Int32) × Int32 × (Nat → Int32) × (Nat → Int64) × (Nat → Int32) × (Nat → Int32) × (Nat → Int32) × Int32 × Int32) :=
  bd10 (loopC (fun s => FX8_spreads_b5 a_all v_aside v_mark p1 s.1 s.2.1 s.2.2.1 s.2.2.2.1 s.2.2.2.2.1 s.2.2.2.2.2.1 s.2.2.2.2.2.2.1 s.2.2.2.2.2.2.2.1 s.2.2.2.2.2.2.2.2.1 s.2.2.2.2.2.2.2.2.2.1 s.2.2.2.2.2.2.2.2.2.2) (v_yearFrom, a_on, a_many, v_moved, a_pile, a_lies, a_movedThen, a_yearTable, a_yearMark, v_found, v_isSpent)) fun a_on_641 a_many_642 v_moved_643 a_pile_644 a_lies_645 a_movedThen_646 a_yearTable_647 a_yearMark_648 v_found_649 v_isSpent_650 =>
    some (a_on_641, a_many_642, v_moved_643, a_pile_644, a_lies_645, a_movedThen_646, a_yearTable_647, a_yearMark_648, v_found_649, v_isSpent_650)

noncomputable def FX8_startsYears (a_on : Nat → Int32) (v_moved : Int32) (a_lies : Nat → Int64) (a_movedThen : Nat → Int32) (a_yearTable : Nat → Int32) (a_yearMark : Nat → Int32) (a_beginTable : Nat → Int32) (a_beginMark : Nat → Int32) (v_mark : Int32) (v_beginsMark : Int32) (a_began : Nat → Int64) : Option ((Nat → Int64) × (Nat → Int32) × (Nat → Int32) × (Nat → Int32) × (Nat → Int32) × (Nat → Int32) × Int32 × Int32 × Int32 × Int32 × Int32 × (Nat → Int64) × Int32) :=
  bd1 (FX8_packed a_on) fun y_45 =>
  bd6 (FX8_takes a_lies a_movedThen a_yearTable a_yearMark 0 (v_mark + 1) 0 y_45 v_moved) fun a_lies_46 a_movedThen_47 a_yearTable_48 a_yearMark_49 v_found_50 v_isSpent_51 =>
  if v_moved = 0 then
    bd1 (FX8_packed a_on) fun y_53 =>
    bd5 (FX8_isBegun a_beginTable a_beginMark (v_beginsMark + 1) 0 a_began y_53) fun b_54 a_beginTable_55 a_beginMark_56 v_begins_57 a_began_58 =>
    some (a_lies_46, a_movedThen_47, a_yearTable_48, a_yearMark_49, a_beginTable_55, a_beginMark_56, v_found_50, 0, (v_mark + 1), (v_beginsMark + 1), v_begins_57, a_began_58, v_isSpent_51)
  else
    some (a_lies_46, a_movedThen_47, a_yearTable_48, a_yearMark_49, a_beginTable, a_beginMark, v_found_50, 0, (v_mark + 1), (v_beginsMark + 1), 0, a_began, v_isSpent_51)

noncomputable def FX8_sought_b41 (a_all : Nat → Int32) (p1 : Int32) (a_lies_134 : Nat → Int64) (a_movedThen_135 : Nat → Int32) (v_found_138 : Int32) (x_149 : Int32) (a_on_150 : Nat → Int32) (a_many_151 : Nat → Int32) (v_moved_152 : Int32) : Option ((Int32 × (Nat → Int32) × (Nat → Int32) × Int32) ⊕ (((Nat → Int32) × (Nat → Int32) × Int32) ⊕ ((Nat → Int32) × (Nat → Int32) × Int32))) :=
  if v_found_138 ≤ x_149 then
    some (.inr (.inr (a_on_150, a_many_151, v_moved_152)))
  else
    bd1 (rd 6001 a_lies_134 x_149) fun y_154 =>
    bd1 (rd 6001 a_movedThen_135 x_149) fun x_155 =>
    bd3 (FX8_looksAt a_on_150 a_many_151 y_154 x_155) fun a_on_156 a_many_157 v_moved_158 =>
    bd1 (FX8_isDone a_all a_on_156 a_many_157 p1) fun b_159 =>
    if (b2i b_159) = 0 then
      some (.inl ((x_149 + 1), a_on_156, a_many_157, v_moved_158))
    else
      some (.inr (.inl (a_on_156, a_many_157, v_moved_158)))

noncomputable def FX8_sought_b21 (a_all : Nat → Int32) (v_aside : Int32) (p1 : Int32) (v_beginsMark_57 : Int32) (x_113 : Int32) (a_on_114 : Nat → Int32) (a_many_115 : Nat → Int32) (v_moved_116 : Int32) (a_pile_117 : Nat → Int32) (a_lies_118 : Nat → Int64) (a_movedThen_119 : Nat → Int32) (a_yearTable_120 : Nat → Int32) (a_yearMark_121 : Nat → Int32) (a_beginTable_122 : Nat → Int32) (a_beginMark_123 : Nat → Int32) (v_found_124 : Int32) (v_yearFrom_125 : Int32) (v_mark_126 : Int32) (v_begins_127 : Int32) (a_began_128 : Nat → Int64) (v_isSpent_129 : Int32) : Option ((Int32 × (Nat → Int32) × (Nat → Int32) × Int32 × (Nat → Int32) × (Nat → Int64) × (Nat → Int32) × (Nat → Int32) × (Nat → Int32) × (Nat → Int32) × (Nat → Int32) × Int32 × Int32 × Int32 × Int32 × (Nat → Int64) × Int32) ⊕ (((Nat → Int32) × (Nat → Int32) × Int32 × (Nat → Int32) × (Nat → Int64) × (Nat → Int32) × (Nat → Int32) × (Nat → Int32) × (Nat → Int32) × (Nat → Int32) × Int32 × Int32 × Int32 × Int32 × (Nat → Int64) × Int32) ⊕ ((Int32 × (Nat → Int32) × (Nat → Int32) × Int32 × (Nat → Int32) × (Nat → Int64) × (Nat → Int32) × (Nat → Int32) × (Nat → Int32) × (Nat → Int32) × (Nat → Int32) × Int32 × Int32 × Int32 × Int32 × (Nat → Int64) × Int32) ⊕ (((Nat → Int32) × (Nat → Int32) × Int32 × (Nat → Int32) × (Nat → Int64) × (Nat → Int32) × (Nat → Int32) × (Nat → Int32) × (Nat → Int32) × (Nat → Int32) × Int32 × Int32 × Int32 × Int32 × (Nat → Int64) × Int32) ⊕ ((Nat → Int32) × (Nat → Int32) × Int32 × (Nat → Int32) × (Nat → Int64) × (Nat → Int32) × (Nat → Int32) × (Nat → Int32) × (Nat → Int32) × (Nat → Int32) × Int32 × Int32 × Int32 × Int32 × (Nat → Int64) × Int32))))) :=
  bd10 (FX8_spreads a_all a_on_114 a_many_115 v_moved_116 a_pile_117 v_aside a_lies_118 a_movedThen_119 a_yearTable_120 a_yearMark_121 v_found_124 v_yearFrom_125 v_mark_126 v_isSpent_129 0) fun a_on_130 a_many_131 v_moved_132 a_pile_133 a_lies_134 a_movedThen_135 a_yearTable_136 a_yearMark_137 v_found_138 v_isSpent_139 =>
  if v_isSpent_139 = 0 then
    bdS2 (loopC (fun s => FX8_sought_b41 a_all p1 a_lies_134 a_movedThen_135 v_found_138 s.1 s.2.1 s.2.2.1 s.2.2.2) (v_yearFrom_125, a_on_130, a_many_131, v_moved_132))
      (un3 fun a_on_161 a_many_162 v_moved_163 =>
        some (.inr (.inr (.inl (x_113, a_on_161, a_many_162, v_moved_163, a_pile_133, a_lies_134, a_movedThen_135, a_yearTable_136, a_yearMark_137, a_beginTable_122, a_beginMark_123, v_found_138, v_yearFrom_125, v_mark_126, v_begins_127, a_began_128, v_isSpent_139)))))
      (un3 fun a_on_164 a_many_165 v_moved_166 =>
        bd13 (FX8_nextYear a_lies_134 a_movedThen_135 a_yearTable_136 a_yearMark_137 a_beginTable_122 a_beginMark_123 v_found_138 v_yearFrom_125 v_mark_126 v_beginsMark_57 v_begins_127 a_began_128 v_isSpent_139) fun b_167 a_lies_168 a_movedThen_169 a_yearTable_170 a_yearMark_171 a_beginTable_172 a_beginMark_173 v_found_174 v_yearFrom_175 v_mark_176 v_begins_177 a_began_178 v_isSpent_179 =>
        if (b2i b_167) = 0 then
          some (.inr (.inr (.inr (.inl (a_on_164, a_many_165, v_moved_166, a_pile_133, a_lies_168, a_movedThen_169, a_yearTable_170, a_yearMark_171, a_beginTable_172, a_beginMark_173, v_found_174, v_yearFrom_175, v_mark_176, v_begins_177, a_began_178, v_isSpent_179)))))
        else
          if v_isSpent_179 = 0 then
            some (.inl ((x_113 + 1), a_on_164, a_many_165, v_moved_166, a_pile_133, a_lies_168, a_movedThen_169, a_yearTable_170, a_yearMark_171, a_beginTable_172, a_beginMark_173, v_found_174, v_yearFrom_175, v_mark_176, v_begins_177, a_began_178, v_isSpent_179))
          else
            some (.inr (.inr (.inr (.inr (a_on_164, a_many_165, v_moved_166, a_pile_133, a_lies_168, a_movedThen_169, a_yearTable_170, a_yearMark_171, a_beginTable_172, a_beginMark_173, v_found_174, v_yearFrom_175, v_mark_176, v_begins_177, a_began_178, v_isSpent_179))))))
  else
    some (.inr (.inl (a_on_130, a_many_131, v_moved_132, a_pile_133, a_lies_134, a_movedThen_135, a_yearTable_136, a_yearMark_137, a_beginTable_122, a_beginMark_123, v_found_138, v_yearFrom_125, v_mark_126, v_begins_127, a_began_128, v_isSpent_139)))

noncomputable def FX8_sought (a_all : Nat → Int32) (a_on : Nat → Int32) (a_many : Nat → Int32) (v_moved : Int32) (a_pile : Nat → Int32) (v_aside : Int32) (a_lies : Nat → Int64) (a_movedThen : Nat → Int32) (a_yearTable : Nat → Int32) (a_yearMark : Nat → Int32) (a_beginTable : Nat → Int32) (a_beginMark : Nat → Int32) (v_yearFrom : Int32) (v_mark : Int32) (v_beginsMark : Int32) (v_begins : Int32) (a_began : Nat → Int64) (v_isSpent : Int32) (p1 : Int32) : Option (Int32 × (Nat → Int32) × (Nat → Int32) × Int32 × (Nat → Int32) × (Nat → Int64) × (Nat → Int32) × (Nat → Int32) × (Nat → Int32) × (Nat → Int32) × (Nat → Int32) × Int32 × Int32 × Int32 × Int32 × Int32 × (Nat → Int64) × Int32) :=
  bd1 (FX8_isDone a_all a_on a_many p1) fun b_46 =>
  if (b2i b_46) = 0 then
    bd13 (FX8_startsYears a_on v_moved a_lies a_movedThen a_yearTable a_yearMark a_beginTable a_beginMark v_mark v_beginsMark a_began) fun a_lies_48 a_movedThen_49 a_yearTable_50 a_yearMark_51 a_beginTable_52 a_beginMark_53 v_found_54 v_yearFrom_55 v_mark_56 v_beginsMark_57 v_begins_58 a_began_59 v_isSpent_60 =>
    bdS4 (loopC (fun s => FX8_sought_b21 a_all v_aside p1 v_beginsMark_57 s.1 s.2.1 s.2.2.1 s.2.2.2.1 s.2.2.2.2.1 s.2.2.2.2.2.1 s.2.2.2.2.2.2.1 s.2.2.2.2.2.2.2.1 s.2.2.2.2.2.2.2.2.1 s.2.2.2.2.2.2.2.2.2.1 s.2.2.2.2.2.2.2.2.2.2.1 s.2.2.2.2.2.2.2.2.2.2.2.1 s.2.2.2.2.2.2.2.2.2.2.2.2.1 s.2.2.2.2.2.2.2.2.2.2.2.2.2.1 s.2.2.2.2.2.2.2.2.2.2.2.2.2.2.1 s.2.2.2.2.2.2.2.2.2.2.2.2.2.2.2.1 s.2.2.2.2.2.2.2.2.2.2.2.2.2.2.2.2) (1, a_on, a_many, v_moved, a_pile, a_lies_48, a_movedThen_49, a_yearTable_50, a_yearMark_51, a_beginTable_52, a_beginMark_53, v_found_54, v_yearFrom_55, v_mark_56, v_begins_58, a_began_59, v_isSpent_60))
      (un16 fun a_on_182 a_many_183 v_moved_184 a_pile_185 a_lies_186 a_movedThen_187 a_yearTable_188 a_yearMark_189 a_beginTable_190 a_beginMark_191 v_found_192 v_yearFrom_193 v_mark_194 v_begins_195 a_began_196 v_isSpent_197 =>
        some ((-4), a_on_182, a_many_183, v_moved_184, a_pile_185, a_lies_186, a_movedThen_187, a_yearTable_188, a_yearMark_189, a_beginTable_190, a_beginMark_191, v_found_192, v_yearFrom_193, v_mark_194, v_beginsMark_57, v_begins_195, a_began_196, v_isSpent_197))
      (un17 fun x_198 a_on_199 a_many_200 v_moved_201 a_pile_202 a_lies_203 a_movedThen_204 a_yearTable_205 a_yearMark_206 a_beginTable_207 a_beginMark_208 v_found_209 v_yearFrom_210 v_mark_211 v_begins_212 a_began_213 v_isSpent_214 =>
        some (x_198, a_on_199, a_many_200, v_moved_201, a_pile_202, a_lies_203, a_movedThen_204, a_yearTable_205, a_yearMark_206, a_beginTable_207, a_beginMark_208, v_found_209, v_yearFrom_210, v_mark_211, v_beginsMark_57, v_begins_212, a_began_213, v_isSpent_214))
      (un16 fun a_on_215 a_many_216 v_moved_217 a_pile_218 a_lies_219 a_movedThen_220 a_yearTable_221 a_yearMark_222 a_beginTable_223 a_beginMark_224 v_found_225 v_yearFrom_226 v_mark_227 v_begins_228 a_began_229 v_isSpent_230 =>
        some ((-1), a_on_215, a_many_216, v_moved_217, a_pile_218, a_lies_219, a_movedThen_220, a_yearTable_221, a_yearMark_222, a_beginTable_223, a_beginMark_224, v_found_225, v_yearFrom_226, v_mark_227, v_beginsMark_57, v_begins_228, a_began_229, v_isSpent_230))
      (un16 fun a_on_231 a_many_232 v_moved_233 a_pile_234 a_lies_235 a_movedThen_236 a_yearTable_237 a_yearMark_238 a_beginTable_239 a_beginMark_240 v_found_241 v_yearFrom_242 v_mark_243 v_begins_244 a_began_245 v_isSpent_246 =>
        some ((-4), a_on_231, a_many_232, v_moved_233, a_pile_234, a_lies_235, a_movedThen_236, a_yearTable_237, a_yearMark_238, a_beginTable_239, a_beginMark_240, v_found_241, v_yearFrom_242, v_mark_243, v_beginsMark_57, v_begins_244, a_began_245, v_isSpent_246))
  else
    some (0, a_on, a_many, v_moved, a_pile, a_lies, a_movedThen, a_yearTable, a_yearMark, a_beginTable, a_beginMark, 0, v_yearFrom, v_mark, v_beginsMark, v_begins, a_began, v_isSpent)

noncomputable def FX8_years (a_all : Nat → Int32) (a_on : Nat → Int32) (a_many : Nat → Int32) (v_moved : Int32) (a_pile : Nat → Int32) (v_aside : Int32) (a_lies : Nat → Int64) (a_movedThen : Nat → Int32) (a_yearTable : Nat → Int32) (a_yearMark : Nat → Int32) (a_beginTable : Nat → Int32) (a_beginMark : Nat → Int32) (v_statesTold : Int32) (v_found : Int32) (v_yearFrom : Int32) (v_mark : Int32) (v_beginsMark : Int32) (v_begins : Int32) (a_began : Nat → Int64) (v_isSpent : Int32) (p1 : Int32) : Option (Int32 × (Nat → Int32) × (Nat → Int32) × Int32 × (Nat → Int32) × (Nat → Int64) × (Nat → Int32) × (Nat → Int32) × (Nat → Int32) × (Nat → Int32) × (Nat → Int32) × Int32 × Int32 × Int32 × Int32 × Int32 × Int32 × (Nat → Int64) × Int32) :=
  bd1 (FX8_isWho p1) fun b_46 =>
  if (b2i b_46) = 0 then
    some ((-2), a_on, a_many, v_moved, a_pile, a_lies, a_movedThen, a_yearTable, a_yearMark, a_beginTable, a_beginMark, v_statesTold, v_found, v_yearFrom, v_mark, v_beginsMark, v_begins, a_began, v_isSpent)
  else
    bd3 (FX8_looksNow a_all a_on a_many) fun a_on_48 a_many_49 v_moved_50 =>
    bd18 (FX8_sought a_all a_on_48 a_many_49 v_moved_50 a_pile v_aside a_lies a_movedThen a_yearTable a_yearMark a_beginTable a_beginMark v_yearFrom v_mark v_beginsMark v_begins a_began v_isSpent p1) fun x_51 a_on_52 a_many_53 v_moved_54 a_pile_55 a_lies_56 a_movedThen_57 a_yearTable_58 a_yearMark_59 a_beginTable_60 a_beginMark_61 v_found_62 v_yearFrom_63 v_mark_64 v_beginsMark_65 v_begins_66 a_began_67 v_isSpent_68 =>
    if x_51 = (-4) then
      some (x_51, a_on_52, a_many_53, v_moved_54, a_pile_55, a_lies_56, a_movedThen_57, a_yearTable_58, a_yearMark_59, a_beginTable_60, a_beginMark_61, v_statesTold, v_found_62, v_yearFrom_63, v_mark_64, v_beginsMark_65, v_begins_66, a_began_67, v_isSpent_68)
    else
      some (x_51, a_on_52, a_many_53, v_moved_54, a_pile_55, a_lies_56, a_movedThen_57, a_yearTable_58, a_yearMark_59, a_beginTable_60, a_beginMark_61, v_found_62, v_found_62, v_yearFrom_63, v_mark_64, v_beginsMark_65, v_begins_66, a_began_67, v_isSpent_68)

noncomputable def FX8_states (v_statesTold : Int32) : Option Int32 :=
  some v_statesTold

noncomputable def FX8_after (a_all : Nat → Int32) (a_on : Nat → Int32) (a_many : Nat → Int32) (a_pile : Nat → Int32) (v_aside : Int32) (a_lies : Nat → Int64) (a_movedThen : Nat → Int32) (a_yearTable : Nat → Int32) (a_yearMark : Nat → Int32) (a_beginTable : Nat → Int32) (a_beginMark : Nat → Int32) (v_found : Int32) (v_yearFrom : Int32) (v_mark : Int32) (v_beginsMark : Int32) (v_begins : Int32) (a_began : Nat → Int64) (v_isSpent : Int32) (p1 : Int32) (p2 : Int32) : Option (Int32 × (Nat → Int32) × (Nat → Int32) × Int32 × (Nat → Int32) × (Nat → Int64) × (Nat → Int32) × (Nat → Int32) × (Nat → Int32) × (Nat → Int32) × (Nat → Int32) × Int32 × Int32 × Int32 × Int32 × Int32 × (Nat → Int64) × Int32) :=
  bd3 (FX8_looksNow a_all a_on a_many) fun a_on_47 a_many_48 v_moved_49 =>
  bd3 (FX8_mayCarry a_all a_on_47 a_many_48 v_moved_49 a_pile v_aside p1 p2) fun x_50 a_many_51 a_pile_52 =>
  if x_50 = 0 then
    bd3 (FX8_carries a_on_47 a_many_51 v_moved_49 p1 p2) fun a_on_54 a_many_55 v_moved_56 =>
    bd18 (FX8_sought a_all a_on_54 a_many_55 v_moved_56 a_pile_52 v_aside a_lies a_movedThen a_yearTable a_yearMark a_beginTable a_beginMark v_yearFrom v_mark v_beginsMark v_begins a_began v_isSpent (-1)) fun x_57 a_on_58 a_many_59 v_moved_60 a_pile_61 a_lies_62 a_movedThen_63 a_yearTable_64 a_yearMark_65 a_beginTable_66 a_beginMark_67 v_found_68 v_yearFrom_69 v_mark_70 v_beginsMark_71 v_begins_72 a_began_73 v_isSpent_74 =>
    some (x_57, a_on_58, a_many_59, v_moved_60, a_pile_61, a_lies_62, a_movedThen_63, a_yearTable_64, a_yearMark_65, a_beginTable_66, a_beginMark_67, v_found_68, v_yearFrom_69, v_mark_70, v_beginsMark_71, v_begins_72, a_began_73, v_isSpent_74)
  else
    some ((-5), a_on_47, a_many_51, v_moved_49, a_pile_52, a_lies, a_movedThen, a_yearTable, a_yearMark, a_beginTable, a_beginMark, v_found, v_yearFrom, v_mark, v_beginsMark, v_begins, a_began, v_isSpent)

noncomputable def FX8_without (a_all : Nat → Int32) (a_on : Nat → Int32) (a_many : Nat → Int32) (v_moved : Int32) (a_pile : Nat → Int32) (v_aside : Int32) (a_lies : Nat → Int64) (a_movedThen : Nat → Int32) (a_yearTable : Nat → Int32) (a_yearMark : Nat → Int32) (a_beginTable : Nat → Int32) (a_beginMark : Nat → Int32) (v_found : Int32) (v_yearFrom : Int32) (v_mark : Int32) (v_beginsMark : Int32) (v_begins : Int32) (a_began : Nat → Int64) (v_isSpent : Int32) (p1 : Int32) : Option (Int32 × (Nat → Int32) × (Nat → Int32) × Int32 × (Nat → Int32) × Int32 × (Nat → Int64) × (Nat → Int32) × (Nat → Int32) × (Nat → Int32) × (Nat → Int32) × (Nat → Int32) × Int32 × Int32 × Int32 × Int32 × Int32 × (Nat → Int64) × Int32) :=
  bd1 (rd 1593 a_all 56) fun x_46 =>
  bd1 (FX8_within (Int32.toInt64 p1) 0 (Int32.toInt64 (x_46 - 1))) fun b_47 =>
  if (b2i b_47) = 0 then
    some ((-2), a_on, a_many, v_moved, a_pile, v_aside, a_lies, a_movedThen, a_yearTable, a_yearMark, a_beginTable, a_beginMark, v_found, v_yearFrom, v_mark, v_beginsMark, v_begins, a_began, v_isSpent)
  else
    bd3 (FX8_looksNow a_all a_on a_many) fun a_on_49 a_many_50 v_moved_51 =>
    bd18 (FX8_sought a_all a_on_49 a_many_50 v_moved_51 a_pile p1 a_lies a_movedThen a_yearTable a_yearMark a_beginTable a_beginMark v_yearFrom v_mark v_beginsMark v_begins a_began v_isSpent (-1)) fun x_52 a_on_53 a_many_54 v_moved_55 a_pile_56 a_lies_57 a_movedThen_58 a_yearTable_59 a_yearMark_60 a_beginTable_61 a_beginMark_62 v_found_63 v_yearFrom_64 v_mark_65 v_beginsMark_66 v_begins_67 a_began_68 v_isSpent_69 =>
    some (x_52, a_on_53, a_many_54, v_moved_55, a_pile_56, (-1), a_lies_57, a_movedThen_58, a_yearTable_59, a_yearMark_60, a_beginTable_61, a_beginMark_62, v_found_63, v_yearFrom_64, v_mark_65, v_beginsMark_66, v_begins_67, a_began_68, v_isSpent_69)

noncomputable def FX8_missing (a_all : Nat → Int32) (a_on : Nat → Int32) (a_many : Nat → Int32) (v_moved : Int32) (a_pile : Nat → Int32) (v_aside : Int32) (a_lies : Nat → Int64) (a_movedThen : Nat → Int32) (a_yearTable : Nat → Int32) (a_yearMark : Nat → Int32) (a_beginTable : Nat → Int32) (a_beginMark : Nat → Int32) (v_found : Int32) (v_yearFrom : Int32) (v_mark : Int32) (v_beginsMark : Int32) (v_begins : Int32) (a_began : Nat → Int64) (v_isSpent : Int32) (p1 : Int32) : Option (Int32 × (Nat → Int32) × (Nat → Int32) × Int32 × (Nat → Int32) × (Nat → Int64) × (Nat → Int32) × (Nat → Int32) × (Nat → Int32) × (Nat → Int32) × (Nat → Int32) × Int32 × Int32 × Int32 × Int32 × Int32 × (Nat → Int64) × Int32) :=
  bd1 (FX8_isStone a_all p1) fun b_46 =>
  if (b2i b_46) = 0 then
    some ((-2), a_on, a_many, v_moved, a_pile, a_lies, a_movedThen, a_yearTable, a_yearMark, a_beginTable, a_beginMark, v_found, v_yearFrom, v_mark, v_beginsMark, v_begins, a_began, v_isSpent)
  else
    bd1 (FX8_placeOf a_all p1) fun x_48 =>
    if x_48 = (-1) then
      some ((-2), a_on, a_many, v_moved, a_pile, a_lies, a_movedThen, a_yearTable, a_yearMark, a_beginTable, a_beginMark, v_found, v_yearFrom, v_mark, v_beginsMark, v_begins, a_began, v_isSpent)
    else
      bd1 (FX8_topPlace a_all p1) fun x_50 =>
      if x_50 = (-1) then
        some ((-5), a_on, a_many, v_moved, a_pile, a_lies, a_movedThen, a_yearTable, a_yearMark, a_beginTable, a_beginMark, v_found, v_yearFrom, v_mark, v_beginsMark, v_begins, a_began, v_isSpent)
      else
        bd3 (FX8_looksNow a_all a_on a_many) fun a_on_52 a_many_53 v_moved_54 =>
        bd1 (wrI 15 a_on_52 x_50 0) fun a_on_55 =>
        bd1 (FX8_counts a_on_55 a_many_53) fun a_many_56 =>
        bd18 (FX8_sought a_all a_on_55 a_many_56 (v_moved_54 &&& (((1 : Int32) <<< (p1 &&& 31)) ^^^ (-1))) a_pile v_aside a_lies a_movedThen a_yearTable a_yearMark a_beginTable a_beginMark v_yearFrom v_mark v_beginsMark v_begins a_began v_isSpent (-1)) fun x_57 a_on_58 a_many_59 v_moved_60 a_pile_61 a_lies_62 a_movedThen_63 a_yearTable_64 a_yearMark_65 a_beginTable_66 a_beginMark_67 v_found_68 v_yearFrom_69 v_mark_70 v_beginsMark_71 v_begins_72 a_began_73 v_isSpent_74 =>
        some (x_57, a_on_58, a_many_59, v_moved_60, a_pile_61, a_lies_62, a_movedThen_63, a_yearTable_64, a_yearMark_65, a_beginTable_66, a_beginMark_67, v_found_68, v_yearFrom_69, v_mark_70, v_beginsMark_71, v_begins_72, a_began_73, v_isSpent_74)

noncomputable def FX8_winters_j73 (x_119 : Int32) (a_on_138 : Nat → Int32) (a_many_139 : Nat → Int32) (v_moved_140 : Int32) (a_pile_141 : Nat → Int32) (x_176 : Int32) (a_lies_177 : Nat → Int64) (a_movedThen_178 : Nat → Int32) (a_yearTable_179 : Nat → Int32) (a_yearMark_180 : Nat → Int32) (a_beginTable_181 : Nat → Int32) (a_beginMark_182 : Nat → Int32) (v_found_183 : Int32) (v_yearFrom_184 : Int32) (v_mark_185 : Int32) (v_begins_186 : Int32) (a_began_187 : Nat → Int64) (v_isSpent_188 : Int32) : Option ((Int32 × Int32 × (Nat → Int32) × (Nat → Int32) × Int32 × (Nat → Int32) × (Nat → Int64) × (Nat → Int32) × (Nat → Int32) × (Nat → Int32) × (Nat → Int32) × (Nat → Int32) × Int32 × Int32 × Int32 × Int32 × (Nat → Int64) × Int32) ⊕ (((Nat → Int32) × (Nat → Int32) × Int32 × (Nat → Int32) × (Nat → Int64) × (Nat → Int32) × (Nat → Int32) × (Nat → Int32) × (Nat → Int32) × (Nat → Int32) × Int32 × Int32 × Int32 × Int32 × (Nat → Int64) × Int32) ⊕ (((Nat → Int32) × (Nat → Int32) × Int32 × (Nat → Int32) × (Nat → Int64) × (Nat → Int32) × (Nat → Int32) × (Nat → Int32) × (Nat → Int32) × (Nat → Int32) × Int32 × Int32 × Int32 × Int32 × (Nat → Int64) × Int32) ⊕ ((Nat → Int32) × (Nat → Int32) × Int32 × (Nat → Int32) × (Nat → Int64) × (Nat → Int32) × (Nat → Int32) × (Nat → Int32) × (Nat → Int32) × (Nat → Int32) × Int32 × Int32 × Int32 × Int32 × (Nat → Int64) × Int32)))) :=
  if v_isSpent_188 = 0 then
    some (.inl (x_176, (x_119 + 1), a_on_138, a_many_139, v_moved_140, a_pile_141, a_lies_177, a_movedThen_178, a_yearTable_179, a_yearMark_180, a_beginTable_181, a_beginMark_182, v_found_183, v_yearFrom_184, v_mark_185, v_begins_186, a_began_187, v_isSpent_188))
  else
    some (.inr (.inr (.inl (a_on_138, a_many_139, v_moved_140, a_pile_141, a_lies_177, a_movedThen_178, a_yearTable_179, a_yearMark_180, a_beginTable_181, a_beginMark_182, v_found_183, v_yearFrom_184, v_mark_185, v_begins_186, a_began_187, v_isSpent_188))))

noncomputable def FX8_winters_j72 (x_119 : Int32) (a_on_138 : Nat → Int32) (a_many_139 : Nat → Int32) (v_moved_140 : Int32) (a_pile_141 : Nat → Int32) (a_lies_164 : Nat → Int64) (a_movedThen_165 : Nat → Int32) (a_yearTable_166 : Nat → Int32) (a_yearMark_167 : Nat → Int32) (a_beginTable_168 : Nat → Int32) (a_beginMark_169 : Nat → Int32) (v_found_170 : Int32) (v_yearFrom_171 : Int32) (v_mark_172 : Int32) (v_begins_173 : Int32) (a_began_174 : Nat → Int64) (v_isSpent_175 : Int32) : Option ((Int32 × Int32 × (Nat → Int32) × (Nat → Int32) × Int32 × (Nat → Int32) × (Nat → Int64) × (Nat → Int32) × (Nat → Int32) × (Nat → Int32) × (Nat → Int32) × (Nat → Int32) × Int32 × Int32 × Int32 × Int32 × (Nat → Int64) × Int32) ⊕ (((Nat → Int32) × (Nat → Int32) × Int32 × (Nat → Int32) × (Nat → Int64) × (Nat → Int32) × (Nat → Int32) × (Nat → Int32) × (Nat → Int32) × (Nat → Int32) × Int32 × Int32 × Int32 × Int32 × (Nat → Int64) × Int32) ⊕ (((Nat → Int32) × (Nat → Int32) × Int32 × (Nat → Int32) × (Nat → Int64) × (Nat → Int32) × (Nat → Int32) × (Nat → Int32) × (Nat → Int32) × (Nat → Int32) × Int32 × Int32 × Int32 × Int32 × (Nat → Int64) × Int32) ⊕ ((Nat → Int32) × (Nat → Int32) × Int32 × (Nat → Int32) × (Nat → Int64) × (Nat → Int32) × (Nat → Int32) × (Nat → Int32) × (Nat → Int32) × (Nat → Int32) × Int32 × Int32 × Int32 × Int32 × (Nat → Int64) × Int32)))) :=
  FX8_winters_j73 x_119 a_on_138 a_many_139 v_moved_140 a_pile_141 0 a_lies_164 a_movedThen_165 a_yearTable_166 a_yearMark_167 a_beginTable_168 a_beginMark_169 v_found_170 v_yearFrom_171 v_mark_172 v_begins_173 a_began_174 v_isSpent_175

noncomputable def FX8_winters_b32 (a_all : Nat → Int32) (v_aside : Int32) (p1 : Int32) (v_beginsMark_60 : Int32) (x_118 : Int32) (x_119 : Int32) (a_on_120 : Nat → Int32) (a_many_121 : Nat → Int32) (v_moved_122 : Int32) (a_pile_123 : Nat → Int32) (a_lies_124 : Nat → Int64) (a_movedThen_125 : Nat → Int32) (a_yearTable_126 : Nat → Int32) (a_yearMark_127 : Nat → Int32) (a_beginTable_128 : Nat → Int32) (a_beginMark_129 : Nat → Int32) (v_found_130 : Int32) (v_yearFrom_131 : Int32) (v_mark_132 : Int32) (v_begins_133 : Int32) (a_began_134 : Nat → Int64) (v_isSpent_135 : Int32) : Option ((Int32 × Int32 × (Nat → Int32) × (Nat → Int32) × Int32 × (Nat → Int32) × (Nat → Int64) × (Nat → Int32) × (Nat → Int32) × (Nat → Int32) × (Nat → Int32) × (Nat → Int32) × Int32 × Int32 × Int32 × Int32 × (Nat → Int64) × Int32) ⊕ (((Nat → Int32) × (Nat → Int32) × Int32 × (Nat → Int32) × (Nat → Int64) × (Nat → Int32) × (Nat → Int32) × (Nat → Int32) × (Nat → Int32) × (Nat → Int32) × Int32 × Int32 × Int32 × Int32 × (Nat → Int64) × Int32) ⊕ (((Nat → Int32) × (Nat → Int32) × Int32 × (Nat → Int32) × (Nat → Int64) × (Nat → Int32) × (Nat → Int32) × (Nat → Int32) × (Nat → Int32) × (Nat → Int32) × Int32 × Int32 × Int32 × Int32 × (Nat → Int64) × Int32) ⊕ ((Nat → Int32) × (Nat → Int32) × Int32 × (Nat → Int32) × (Nat → Int64) × (Nat → Int32) × (Nat → Int32) × (Nat → Int32) × (Nat → Int32) × (Nat → Int32) × Int32 × Int32 × Int32 × Int32 × (Nat → Int64) × Int32)))) :=
  if p1 < x_119 then
    some (.inr (.inr (.inr (a_on_120, a_many_121, v_moved_122, a_pile_123, a_lies_124, a_movedThen_125, a_yearTable_126, a_yearMark_127, a_beginTable_128, a_beginMark_129, v_found_130, v_yearFrom_131, v_mark_132, v_begins_133, a_began_134, v_isSpent_135))))
  else
    if x_118 = 0 then
      some (.inr (.inr (.inr (a_on_120, a_many_121, v_moved_122, a_pile_123, a_lies_124, a_movedThen_125, a_yearTable_126, a_yearMark_127, a_beginTable_128, a_beginMark_129, v_found_130, v_yearFrom_131, v_mark_132, v_begins_133, a_began_134, v_isSpent_135))))
    else
      bd10 (FX8_spreads a_all a_on_120 a_many_121 v_moved_122 a_pile_123 v_aside a_lies_124 a_movedThen_125 a_yearTable_126 a_yearMark_127 v_found_130 v_yearFrom_131 v_mark_132 v_isSpent_135 0) fun a_on_138 a_many_139 v_moved_140 a_pile_141 a_lies_142 a_movedThen_143 a_yearTable_144 a_yearMark_145 v_found_146 v_isSpent_147 =>
      if v_isSpent_147 = 0 then
        if p1 ≤ x_119 then
          FX8_winters_j72 x_119 a_on_138 a_many_139 v_moved_140 a_pile_141 a_lies_142 a_movedThen_143 a_yearTable_144 a_yearMark_145 a_beginTable_128 a_beginMark_129 v_found_146 v_yearFrom_131 v_mark_132 v_begins_133 a_began_134 v_isSpent_147
        else
          bd13 (FX8_nextYear a_lies_142 a_movedThen_143 a_yearTable_144 a_yearMark_145 a_beginTable_128 a_beginMark_129 v_found_146 v_yearFrom_131 v_mark_132 v_beginsMark_60 v_begins_133 a_began_134 v_isSpent_147) fun b_150 a_lies_151 a_movedThen_152 a_yearTable_153 a_yearMark_154 a_beginTable_155 a_beginMark_156 v_found_157 v_yearFrom_158 v_mark_159 v_begins_160 a_began_161 v_isSpent_162 =>
          if (b2i b_150) = 0 then
            FX8_winters_j72 x_119 a_on_138 a_many_139 v_moved_140 a_pile_141 a_lies_151 a_movedThen_152 a_yearTable_153 a_yearMark_154 a_beginTable_155 a_beginMark_156 v_found_157 v_yearFrom_158 v_mark_159 v_begins_160 a_began_161 v_isSpent_162
          else
            FX8_winters_j73 x_119 a_on_138 a_many_139 v_moved_140 a_pile_141 1 a_lies_151 a_movedThen_152 a_yearTable_153 a_yearMark_154 a_beginTable_155 a_beginMark_156 v_found_157 v_yearFrom_158 v_mark_159 v_begins_160 a_began_161 v_isSpent_162
      else
        some (.inr (.inl (a_on_138, a_many_139, v_moved_140, a_pile_141, a_lies_142, a_movedThen_143, a_yearTable_144, a_yearMark_145, a_beginTable_128, a_beginMark_129, v_found_146, v_yearFrom_131, v_mark_132, v_begins_133, a_began_134, v_isSpent_147)))

noncomputable def FX8_winters_j141 (x_248 : Int32) (a_on_255 : Nat → Int32) (a_many_256 : Nat → Int32) (v_moved_257 : Int32) (x_260 : Int32) : Option ((Int32 × Int32 × (Nat → Int32) × (Nat → Int32) × Int32) ⊕ (Int32 × (Nat → Int32) × (Nat → Int32) × Int32)) :=
  some (.inl (x_260, (x_248 + 1), a_on_255, a_many_256, v_moved_257))

noncomputable def FX8_winters_b95 (a_all : Nat → Int32) (a_lies_226 : Nat → Int64) (a_movedThen_227 : Nat → Int32) (v_found_232 : Int32) (x_247 : Int32) (x_248 : Int32) (a_on_249 : Nat → Int32) (a_many_250 : Nat → Int32) (v_moved_251 : Int32) : Option ((Int32 × Int32 × (Nat → Int32) × (Nat → Int32) × Int32) ⊕ (Int32 × (Nat → Int32) × (Nat → Int32) × Int32)) :=
  if v_found_232 ≤ x_248 then
    some (.inr (x_247, a_on_249, a_many_250, v_moved_251))
  else
    bd1 (rd 6001 a_lies_226 x_248) fun y_253 =>
    bd1 (rd 6001 a_movedThen_227 x_248) fun x_254 =>
    bd3 (FX8_looksAt a_on_249 a_many_250 y_253 x_254) fun a_on_255 a_many_256 v_moved_257 =>
    bd1 (FX8_rights a_all a_on_255 (-1)) fun x_258 =>
    if x_258 ≤ x_247 then
      FX8_winters_j141 x_248 a_on_255 a_many_256 v_moved_257 x_247
    else
      FX8_winters_j141 x_248 a_on_255 a_many_256 v_moved_257 x_258

noncomputable def FX8_winters (a_all : Nat → Int32) (a_on : Nat → Int32) (a_many : Nat → Int32) (v_moved : Int32) (a_pile : Nat → Int32) (v_aside : Int32) (a_lies : Nat → Int64) (a_movedThen : Nat → Int32) (a_yearTable : Nat → Int32) (a_yearMark : Nat → Int32) (a_beginTable : Nat → Int32) (a_beginMark : Nat → Int32) (v_found : Int32) (v_yearFrom : Int32) (v_mark : Int32) (v_beginsMark : Int32) (v_begins : Int32) (a_began : Nat → Int64) (v_isSpent : Int32) (p1 : Int32) : Option (Int32 × (Nat → Int32) × (Nat → Int32) × Int32 × (Nat → Int32) × (Nat → Int64) × (Nat → Int32) × (Nat → Int32) × (Nat → Int32) × (Nat → Int32) × (Nat → Int32) × Int32 × Int32 × Int32 × Int32 × Int32 × (Nat → Int64) × Int32) :=
  bd1 (FX8_within (Int32.toInt64 p1) 1 3) fun b_46 =>
  if (b2i b_46) = 0 then
    some ((-3), a_on, a_many, v_moved, a_pile, a_lies, a_movedThen, a_yearTable, a_yearMark, a_beginTable, a_beginMark, v_found, v_yearFrom, v_mark, v_beginsMark, v_begins, a_began, v_isSpent)
  else
    bd3 (FX8_looksNow a_all a_on a_many) fun a_on_48 a_many_49 v_moved_50 =>
    bd13 (FX8_startsYears a_on_48 v_moved_50 a_lies a_movedThen a_yearTable a_yearMark a_beginTable a_beginMark v_mark v_beginsMark a_began) fun a_lies_51 a_movedThen_52 a_yearTable_53 a_yearMark_54 a_beginTable_55 a_beginMark_56 v_found_57 v_yearFrom_58 v_mark_59 v_beginsMark_60 v_begins_61 a_began_62 v_isSpent_63 =>
    bdS3 (loopC (fun s => FX8_winters_b32 a_all v_aside p1 v_beginsMark_60 s.1 s.2.1 s.2.2.1 s.2.2.2.1 s.2.2.2.2.1 s.2.2.2.2.2.1 s.2.2.2.2.2.2.1 s.2.2.2.2.2.2.2.1 s.2.2.2.2.2.2.2.2.1 s.2.2.2.2.2.2.2.2.2.1 s.2.2.2.2.2.2.2.2.2.2.1 s.2.2.2.2.2.2.2.2.2.2.2.1 s.2.2.2.2.2.2.2.2.2.2.2.2.1 s.2.2.2.2.2.2.2.2.2.2.2.2.2.1 s.2.2.2.2.2.2.2.2.2.2.2.2.2.2.1 s.2.2.2.2.2.2.2.2.2.2.2.2.2.2.2.1 s.2.2.2.2.2.2.2.2.2.2.2.2.2.2.2.2.1 s.2.2.2.2.2.2.2.2.2.2.2.2.2.2.2.2.2) (1, 1, a_on_48, a_many_49, v_moved_50, a_pile, a_lies_51, a_movedThen_52, a_yearTable_53, a_yearMark_54, a_beginTable_55, a_beginMark_56, v_found_57, v_yearFrom_58, v_mark_59, v_begins_61, a_began_62, v_isSpent_63))
      (un16 fun a_on_190 a_many_191 v_moved_192 a_pile_193 a_lies_194 a_movedThen_195 a_yearTable_196 a_yearMark_197 a_beginTable_198 a_beginMark_199 v_found_200 v_yearFrom_201 v_mark_202 v_begins_203 a_began_204 v_isSpent_205 =>
        some ((-4), a_on_190, a_many_191, v_moved_192, a_pile_193, a_lies_194, a_movedThen_195, a_yearTable_196, a_yearMark_197, a_beginTable_198, a_beginMark_199, v_found_200, v_yearFrom_201, v_mark_202, v_beginsMark_60, v_begins_203, a_began_204, v_isSpent_205))
      (un16 fun a_on_206 a_many_207 v_moved_208 a_pile_209 a_lies_210 a_movedThen_211 a_yearTable_212 a_yearMark_213 a_beginTable_214 a_beginMark_215 v_found_216 v_yearFrom_217 v_mark_218 v_begins_219 a_began_220 v_isSpent_221 =>
        some ((-4), a_on_206, a_many_207, v_moved_208, a_pile_209, a_lies_210, a_movedThen_211, a_yearTable_212, a_yearMark_213, a_beginTable_214, a_beginMark_215, v_found_216, v_yearFrom_217, v_mark_218, v_beginsMark_60, v_begins_219, a_began_220, v_isSpent_221))
      (un16 fun a_on_222 a_many_223 v_moved_224 a_pile_225 a_lies_226 a_movedThen_227 a_yearTable_228 a_yearMark_229 a_beginTable_230 a_beginMark_231 v_found_232 v_yearFrom_233 v_mark_234 v_begins_235 a_began_236 v_isSpent_237 =>
        bd4 (loopC (fun s => FX8_winters_b95 a_all a_lies_226 a_movedThen_227 v_found_232 s.1 s.2.1 s.2.2.1 s.2.2.2.1 s.2.2.2.2) (0, 0, a_on_222, a_many_223, v_moved_224)) fun x_261 a_on_262 a_many_263 v_moved_264 =>
          some (x_261, a_on_262, a_many_263, v_moved_264, a_pile_225, a_lies_226, a_movedThen_227, a_yearTable_228, a_yearMark_229, a_beginTable_230, a_beginMark_231, v_found_232, v_yearFrom_233, v_mark_234, v_beginsMark_60, v_begins_235, a_began_236, v_isSpent_237))

noncomputable def FX8_canBe_b30 (a_all : Nat → Int32) (p1 : Int32) (a_lies_66 : Nat → Int64) (v_found_70 : Int32) (x_80 : Int32) (a_on_81 : Nat → Int32) (a_many_82 : Nat → Int32) (v_moved_83 : Int32) : Option ((Int32 × (Nat → Int32) × (Nat → Int32) × Int32) ⊕ (((Nat → Int32) × (Nat → Int32) × Int32) ⊕ ((Nat → Int32) × (Nat → Int32) × Int32))) :=
  if v_found_70 ≤ x_80 then
    some (.inr (.inr (a_on_81, a_many_82, v_moved_83)))
  else
    bd1 (rd 6001 a_lies_66 x_80) fun y_85 =>
    bd3 (FX8_looksAt a_on_81 a_many_82 y_85 0) fun a_on_86 a_many_87 v_moved_88 =>
    bd1 (FX8_isDone a_all a_on_86 a_many_87 p1) fun b_89 =>
    if (b2i b_89) = 0 then
      some (.inl ((x_80 + 1), a_on_86, a_many_87, v_moved_88))
    else
      some (.inr (.inl (a_on_86, a_many_87, v_moved_88)))

noncomputable def FX8_canBe (a_all : Nat → Int32) (a_on : Nat → Int32) (a_many : Nat → Int32) (a_pile : Nat → Int32) (v_aside : Int32) (a_lies : Nat → Int64) (a_movedThen : Nat → Int32) (a_yearTable : Nat → Int32) (a_yearMark : Nat → Int32) (a_beginTable : Nat → Int32) (a_beginMark : Nat → Int32) (v_mark : Int32) (v_beginsMark : Int32) (a_began : Nat → Int64) (p1 : Int32) : Option (Int32 × (Nat → Int32) × (Nat → Int32) × Int32 × (Nat → Int32) × (Nat → Int64) × (Nat → Int32) × (Nat → Int32) × (Nat → Int32) × (Nat → Int32) × (Nat → Int32) × Int32 × Int32 × Int32 × Int32 × Int32 × (Nat → Int64) × Int32) :=
  bd3 (FX8_looksNow a_all a_on a_many) fun a_on_46 a_many_47 v_moved_48 =>
  bd13 (FX8_startsYears a_on_46 0 a_lies a_movedThen a_yearTable a_yearMark a_beginTable a_beginMark v_mark v_beginsMark a_began) fun a_lies_49 a_movedThen_50 a_yearTable_51 a_yearMark_52 a_beginTable_53 a_beginMark_54 v_found_55 v_yearFrom_56 v_mark_57 v_beginsMark_58 v_begins_59 a_began_60 v_isSpent_61 =>
  bd10 (FX8_spreads a_all a_on_46 a_many_47 0 a_pile v_aside a_lies_49 a_movedThen_50 a_yearTable_51 a_yearMark_52 v_found_55 v_yearFrom_56 v_mark_57 v_isSpent_61 1) fun a_on_62 a_many_63 v_moved_64 a_pile_65 a_lies_66 a_movedThen_67 a_yearTable_68 a_yearMark_69 v_found_70 v_isSpent_71 =>
  if v_isSpent_71 = 0 then
    bdS2 (loopC (fun s => FX8_canBe_b30 a_all p1 a_lies_66 v_found_70 s.1 s.2.1 s.2.2.1 s.2.2.2) (0, a_on_62, a_many_63, v_moved_64))
      (un3 fun a_on_91 a_many_92 v_moved_93 =>
        some (1, a_on_91, a_many_92, v_moved_93, a_pile_65, a_lies_66, a_movedThen_67, a_yearTable_68, a_yearMark_69, a_beginTable_53, a_beginMark_54, v_found_70, v_yearFrom_56, v_mark_57, v_beginsMark_58, v_begins_59, a_began_60, v_isSpent_71))
      (un3 fun a_on_94 a_many_95 v_moved_96 =>
        some (0, a_on_94, a_many_95, v_moved_96, a_pile_65, a_lies_66, a_movedThen_67, a_yearTable_68, a_yearMark_69, a_beginTable_53, a_beginMark_54, v_found_70, v_yearFrom_56, v_mark_57, v_beginsMark_58, v_begins_59, a_began_60, v_isSpent_71))
  else
    some ((-4), a_on_62, a_many_63, v_moved_64, a_pile_65, a_lies_66, a_movedThen_67, a_yearTable_68, a_yearMark_69, a_beginTable_53, a_beginMark_54, v_found_70, v_yearFrom_56, v_mark_57, v_beginsMark_58, v_begins_59, a_began_60, v_isSpent_71)

noncomputable def FX8_can (a_all : Nat → Int32) (a_on : Nat → Int32) (a_many : Nat → Int32) (v_moved : Int32) (a_pile : Nat → Int32) (v_aside : Int32) (a_lies : Nat → Int64) (a_movedThen : Nat → Int32) (a_yearTable : Nat → Int32) (a_yearMark : Nat → Int32) (a_beginTable : Nat → Int32) (a_beginMark : Nat → Int32) (v_found : Int32) (v_yearFrom : Int32) (v_mark : Int32) (v_beginsMark : Int32) (v_begins : Int32) (a_began : Nat → Int64) (v_isSpent : Int32) (p1 : Int32) : Option (Int32 × (Nat → Int32) × (Nat → Int32) × Int32 × (Nat → Int32) × (Nat → Int64) × (Nat → Int32) × (Nat → Int32) × (Nat → Int32) × (Nat → Int32) × (Nat → Int32) × Int32 × Int32 × Int32 × Int32 × Int32 × (Nat → Int64) × Int32) :=
  bd1 (FX8_isWho p1) fun b_46 =>
  if (b2i b_46) = 0 then
    some ((-2), a_on, a_many, v_moved, a_pile, a_lies, a_movedThen, a_yearTable, a_yearMark, a_beginTable, a_beginMark, v_found, v_yearFrom, v_mark, v_beginsMark, v_begins, a_began, v_isSpent)
  else
    bd18 (FX8_canBe a_all a_on a_many a_pile v_aside a_lies a_movedThen a_yearTable a_yearMark a_beginTable a_beginMark v_mark v_beginsMark a_began p1) fun x_48 a_on_49 a_many_50 v_moved_51 a_pile_52 a_lies_53 a_movedThen_54 a_yearTable_55 a_yearMark_56 a_beginTable_57 a_beginMark_58 v_found_59 v_yearFrom_60 v_mark_61 v_beginsMark_62 v_begins_63 a_began_64 v_isSpent_65 =>
    some (x_48, a_on_49, a_many_50, v_moved_51, a_pile_52, a_lies_53, a_movedThen_54, a_yearTable_55, a_yearMark_56, a_beginTable_57, a_beginMark_58, v_found_59, v_yearFrom_60, v_mark_61, v_beginsMark_62, v_begins_63, a_began_64, v_isSpent_65)

noncomputable def FX8_areTooFew_j55 (x_89 : Int32) (x_90 : Int32) (x_97 : Int32) : Option ((Int32 × Int32) ⊕ Int32) :=
  some (.inl ((x_89 + x_97), (x_90 + 1)))

noncomputable def FX8_areTooFew_j54 (x_89 : Int32) (x_90 : Int32) : Option ((Int32 × Int32) ⊕ Int32) :=
  FX8_areTooFew_j55 x_89 x_90 0

noncomputable def FX8_areTooFew_b13 (a_all : Nat → Int32) (x_80 : Int32) (x_89 : Int32) (x_90 : Int32) : Option ((Int32 × Int32) ⊕ Int32) :=
  bd1 (rd 1593 a_all 6) fun x_91 =>
  if x_91 ≤ x_90 then
    some (.inr x_89)
  else
    bd1 (rd 1593 a_all (7 + x_90)) fun x_93 =>
    if x_93 = x_80 then
      bd1 (FX8_placeOf a_all x_90) fun x_95 =>
      if x_95 = (-1) then
        FX8_areTooFew_j54 x_89 x_90
      else
        FX8_areTooFew_j55 x_89 x_90 1
    else
      FX8_areTooFew_j54 x_89 x_90

noncomputable def FX8_areTooFew_j105 (x_105 : Int32) (x_106 : Int32) (x_112 : Int32) : Option ((Int32 × Int32) ⊕ Int32) :=
  some (.inl ((x_105 - x_112), (x_106 + 1)))

noncomputable def FX8_areTooFew_j104 (x_105 : Int32) (x_106 : Int32) : Option ((Int32 × Int32) ⊕ Int32) :=
  FX8_areTooFew_j105 x_105 x_106 0

noncomputable def FX8_areTooFew_b66 (a_all : Nat → Int32) (p1 : Int32) (x_80 : Int32) (x_105 : Int32) (x_106 : Int32) : Option ((Int32 × Int32) ⊕ Int32) :=
  if 15 ≤ x_106 then
    some (.inr x_105)
  else
    bd1 (FX8_isWished a_all (x_106 / 3) p1) fun b_108 =>
    if (b2i b_108) = 0 then
      FX8_areTooFew_j104 x_105 x_106
    else
      bd1 (rd 1593 a_all (41 + x_106)) fun x_110 =>
      if x_110 = x_80 then
        FX8_areTooFew_j105 x_105 x_106 1
      else
        FX8_areTooFew_j104 x_105 x_106

noncomputable def FX8_areTooFew_b2 (a_all : Nat → Int32) (p1 : Int32) (x_80 : Int32) : Option (Int32 ⊕ (Unit ⊕ Unit)) :=
  if 8 ≤ x_80 then
    some (.inr (.inr ()))
  else
    bd1 (loopC (fun s => FX8_areTooFew_b13 a_all x_80 s.1 s.2) (0, 0)) fun x_98 =>
      bd1 (loopC (fun s => FX8_areTooFew_b66 a_all p1 x_80 s.1 s.2) (x_98, 0)) fun x_113 =>
        if 0 ≤ x_113 then
          some (.inl (x_80 + 1))
        else
          some (.inr (.inl ()))

noncomputable def FX8_areTooFew (a_all : Nat → Int32) (p1 : Int32) : Option Bool :=
  bdS2 (loopC (fun s => FX8_areTooFew_b2 a_all p1 s) 0)
    (un0 fun _ =>
      some true)
    (un0 fun _ =>
      some false)

noncomputable def FX8_breaksMust_j94 (x_59 : Int32) : Option (Int32 ⊕ (Unit ⊕ (Unit ⊕ Unit))) :=
  some (.inl (x_59 + 1))

noncomputable def FX8_breaksMust_b2 (a_all : Nat → Int32) (p1 : Int32) (x_59 : Int32) : Option (Int32 ⊕ (Unit ⊕ (Unit ⊕ Unit))) :=
  bd1 (rd 1593 a_all 56) fun x_60 =>
  if x_60 ≤ x_59 then
    some (.inr (.inr (.inr ())))
  else
    bd1 (rd 1593 a_all (63 + x_59)) fun x_62 =>
    bd1 (FX8_isWished a_all x_62 p1) fun b_63 =>
    if (b2i b_63) = 0 then
      FX8_breaksMust_j94 x_59
    else
      bd1 (rd 1593 a_all (57 + x_59)) fun x_65 =>
      if x_65 = 0 then
        bd1 (rd 1593 a_all (31 + x_62)) fun x_67 =>
        bd1 (rd 1593 a_all (69 + x_59)) fun x_68 =>
        if x_68 ≤ x_67 then
          FX8_breaksMust_j94 x_59
        else
          some (.inr (.inl ()))
      else
        bd1 (rd 1593 a_all (31 + x_62)) fun x_70 =>
        bd1 (rd 1593 a_all (69 + x_59)) fun x_71 =>
        if x_70 ≤ x_71 then
          FX8_breaksMust_j94 x_59
        else
          some (.inr (.inr (.inl ())))

noncomputable def FX8_breaksMust (a_all : Nat → Int32) (p1 : Int32) : Option Bool :=
  bdS3 (loopC (fun s => FX8_breaksMust_b2 a_all p1 s) 0)
    (un0 fun _ =>
      some true)
    (un0 fun _ =>
      some true)
    (un0 fun _ =>
      some false)

noncomputable def FX8_why (a_all : Nat → Int32) (a_on : Nat → Int32) (a_many : Nat → Int32) (v_moved : Int32) (a_pile : Nat → Int32) (v_aside : Int32) (a_lies : Nat → Int64) (a_movedThen : Nat → Int32) (a_yearTable : Nat → Int32) (a_yearMark : Nat → Int32) (a_beginTable : Nat → Int32) (a_beginMark : Nat → Int32) (v_found : Int32) (v_yearFrom : Int32) (v_mark : Int32) (v_beginsMark : Int32) (v_begins : Int32) (a_began : Nat → Int64) (v_isSpent : Int32) (p1 : Int32) : Option (Int32 × (Nat → Int32) × (Nat → Int32) × Int32 × (Nat → Int32) × (Nat → Int64) × (Nat → Int32) × (Nat → Int32) × (Nat → Int32) × (Nat → Int32) × (Nat → Int32) × Int32 × Int32 × Int32 × Int32 × Int32 × (Nat → Int64) × Int32) :=
  bd1 (FX8_isWho p1) fun b_46 =>
  if (b2i b_46) = 0 then
    some ((-2), a_on, a_many, v_moved, a_pile, a_lies, a_movedThen, a_yearTable, a_yearMark, a_beginTable, a_beginMark, v_found, v_yearFrom, v_mark, v_beginsMark, v_begins, a_began, v_isSpent)
  else
    bd18 (FX8_canBe a_all a_on a_many a_pile v_aside a_lies a_movedThen a_yearTable a_yearMark a_beginTable a_beginMark v_mark v_beginsMark a_began p1) fun x_48 a_on_49 a_many_50 v_moved_51 a_pile_52 a_lies_53 a_movedThen_54 a_yearTable_55 a_yearMark_56 a_beginTable_57 a_beginMark_58 v_found_59 v_yearFrom_60 v_mark_61 v_beginsMark_62 v_begins_63 a_began_64 v_isSpent_65 =>
    if x_48 = 1 then
      some (0, a_on_49, a_many_50, v_moved_51, a_pile_52, a_lies_53, a_movedThen_54, a_yearTable_55, a_yearMark_56, a_beginTable_57, a_beginMark_58, v_found_59, v_yearFrom_60, v_mark_61, v_beginsMark_62, v_begins_63, a_began_64, v_isSpent_65)
    else
      bd1 (FX8_areTooFew a_all p1) fun b_67 =>
      if (b2i b_67) = 0 then
        bd1 (FX8_breaksMust a_all p1) fun b_69 =>
        if (b2i b_69) = 0 then
          if x_48 = (-4) then
            some ((-4), a_on_49, a_many_50, v_moved_51, a_pile_52, a_lies_53, a_movedThen_54, a_yearTable_55, a_yearMark_56, a_beginTable_57, a_beginMark_58, v_found_59, v_yearFrom_60, v_mark_61, v_beginsMark_62, v_begins_63, a_began_64, v_isSpent_65)
          else
            some (3, a_on_49, a_many_50, v_moved_51, a_pile_52, a_lies_53, a_movedThen_54, a_yearTable_55, a_yearMark_56, a_beginTable_57, a_beginMark_58, v_found_59, v_yearFrom_60, v_mark_61, v_beginsMark_62, v_begins_63, a_began_64, v_isSpent_65)
        else
          some (2, a_on_49, a_many_50, v_moved_51, a_pile_52, a_lies_53, a_movedThen_54, a_yearTable_55, a_yearMark_56, a_beginTable_57, a_beginMark_58, v_found_59, v_yearFrom_60, v_mark_61, v_beginsMark_62, v_begins_63, a_began_64, v_isSpent_65)
      else
        some (1, a_on_49, a_many_50, v_moved_51, a_pile_52, a_lies_53, a_movedThen_54, a_yearTable_55, a_yearMark_56, a_beginTable_57, a_beginMark_58, v_found_59, v_yearFrom_60, v_mark_61, v_beginsMark_62, v_begins_63, a_began_64, v_isSpent_65)

noncomputable def FX8_swaps (a_all : Nat → Int32) (p1 : Int32) (p2 : Int32) : Option (Nat → Int32) :=
  bd1 (rd 1593 a_all (41 + p1)) fun x_47 =>
  bd1 (rd 1593 a_all (41 + p2)) fun x_48 =>
  bd1 (wrI 1593 a_all (41 + p1) x_48) fun a_all_49 =>
  bd1 (wrI 1593 a_all_49 (41 + p2) x_47) fun a_all_50 =>
  some a_all_50

noncomputable def FX8_easier_j181 (x_305 : Int32) (x_358 : Int32) (x_359 : Int32) (x_360 : Int32) (a_all_361 : Nat → Int32) (a_on_362 : Nat → Int32) (a_many_363 : Nat → Int32) (v_moved_364 : Int32) (a_pile_365 : Nat → Int32) (a_lies_366 : Nat → Int64) (a_movedThen_367 : Nat → Int32) (a_yearTable_368 : Nat → Int32) (a_yearMark_369 : Nat → Int32) (a_beginTable_370 : Nat → Int32) (a_beginMark_371 : Nat → Int32) (v_found_372 : Int32) (v_yearFrom_373 : Int32) (v_mark_374 : Int32) (v_beginsMark_375 : Int32) (v_begins_376 : Int32) (a_began_377 : Nat → Int64) (v_isSpent_378 : Int32) : Option ((Int32 × Int32 × Int32 × Int32 × (Nat → Int32) × (Nat → Int32) × (Nat → Int32) × Int32 × (Nat → Int32) × (Nat → Int64) × (Nat → Int32) × (Nat → Int32) × (Nat → Int32) × (Nat → Int32) × (Nat → Int32) × Int32 × Int32 × Int32 × Int32 × Int32 × (Nat → Int64) × Int32) ⊕ (Int32 × Int32 × Int32 × (Nat → Int32) × (Nat → Int32) × (Nat → Int32) × Int32 × (Nat → Int32) × (Nat → Int64) × (Nat → Int32) × (Nat → Int32) × (Nat → Int32) × (Nat → Int32) × (Nat → Int32) × Int32 × Int32 × Int32 × Int32 × Int32 × (Nat → Int64) × Int32)) :=
  some (.inl (x_358, x_359, x_360, (x_305 + 1), a_all_361, a_on_362, a_many_363, v_moved_364, a_pile_365, a_lies_366, a_movedThen_367, a_yearTable_368, a_yearMark_369, a_beginTable_370, a_beginMark_371, v_found_372, v_yearFrom_373, v_mark_374, v_beginsMark_375, v_begins_376, a_began_377, v_isSpent_378))

noncomputable def FX8_easier_j170 (x_227 : Int32) (x_305 : Int32) (x_336 : Int32) (a_on_337 : Nat → Int32) (a_many_338 : Nat → Int32) (v_moved_339 : Int32) (a_pile_340 : Nat → Int32) (a_lies_341 : Nat → Int64) (a_movedThen_342 : Nat → Int32) (a_yearTable_343 : Nat → Int32) (a_yearMark_344 : Nat → Int32) (a_beginTable_345 : Nat → Int32) (a_beginMark_346 : Nat → Int32) (v_found_347 : Int32) (v_yearFrom_348 : Int32) (v_mark_349 : Int32) (v_beginsMark_350 : Int32) (v_begins_351 : Int32) (a_began_352 : Nat → Int64) (v_isSpent_353 : Int32) (a_all_354 : Nat → Int32) : Option ((Int32 × Int32 × Int32 × Int32 × (Nat → Int32) × (Nat → Int32) × (Nat → Int32) × Int32 × (Nat → Int32) × (Nat → Int64) × (Nat → Int32) × (Nat → Int32) × (Nat → Int32) × (Nat → Int32) × (Nat → Int32) × Int32 × Int32 × Int32 × Int32 × Int32 × (Nat → Int64) × Int32) ⊕ (Int32 × Int32 × Int32 × (Nat → Int32) × (Nat → Int32) × (Nat → Int32) × Int32 × (Nat → Int32) × (Nat → Int64) × (Nat → Int32) × (Nat → Int32) × (Nat → Int32) × (Nat → Int32) × (Nat → Int32) × Int32 × Int32 × Int32 × Int32 × Int32 × (Nat → Int64) × Int32)) :=
  FX8_easier_j181 x_305 x_336 x_227 x_305 a_all_354 a_on_337 a_many_338 v_moved_339 a_pile_340 a_lies_341 a_movedThen_342 a_yearTable_343 a_yearMark_344 a_beginTable_345 a_beginMark_346 v_found_347 v_yearFrom_348 v_mark_349 v_beginsMark_350 v_begins_351 a_began_352 v_isSpent_353

noncomputable def FX8_easier_b63 (v_aside : Int32) (x_227 : Int32) (x_302 : Int32) (x_303 : Int32) (x_304 : Int32) (x_305 : Int32) (a_all_306 : Nat → Int32) (a_on_307 : Nat → Int32) (a_many_308 : Nat → Int32) (v_moved_309 : Int32) (a_pile_310 : Nat → Int32) (a_lies_311 : Nat → Int64) (a_movedThen_312 : Nat → Int32) (a_yearTable_313 : Nat → Int32) (a_yearMark_314 : Nat → Int32) (a_beginTable_315 : Nat → Int32) (a_beginMark_316 : Nat → Int32) (v_found_317 : Int32) (v_yearFrom_318 : Int32) (v_mark_319 : Int32) (v_beginsMark_320 : Int32) (v_begins_321 : Int32) (a_began_322 : Nat → Int64) (v_isSpent_323 : Int32) : Option ((Int32 × Int32 × Int32 × Int32 × (Nat → Int32) × (Nat → Int32) × (Nat → Int32) × Int32 × (Nat → Int32) × (Nat → Int64) × (Nat → Int32) × (Nat → Int32) × (Nat → Int32) × (Nat → Int32) × (Nat → Int32) × Int32 × Int32 × Int32 × Int32 × Int32 × (Nat → Int64) × Int32) ⊕ (Int32 × Int32 × Int32 × (Nat → Int32) × (Nat → Int32) × (Nat → Int32) × Int32 × (Nat → Int32) × (Nat → Int64) × (Nat → Int32) × (Nat → Int32) × (Nat → Int32) × (Nat → Int32) × (Nat → Int32) × Int32 × Int32 × Int32 × Int32 × Int32 × (Nat → Int64) × Int32)) :=
  if 15 ≤ x_305 then
    some (.inr (x_302, x_303, x_304, a_all_306, a_on_307, a_many_308, v_moved_309, a_pile_310, a_lies_311, a_movedThen_312, a_yearTable_313, a_yearMark_314, a_beginTable_315, a_beginMark_316, v_found_317, v_yearFrom_318, v_mark_319, v_beginsMark_320, v_begins_321, a_began_322, v_isSpent_323))
  else
    bd1 (rd 1593 a_all_306 (41 + x_227)) fun x_325 =>
    if x_325 = (-1) then
      FX8_easier_j181 x_305 x_302 x_303 x_304 a_all_306 a_on_307 a_many_308 v_moved_309 a_pile_310 a_lies_311 a_movedThen_312 a_yearTable_313 a_yearMark_314 a_beginTable_315 a_beginMark_316 v_found_317 v_yearFrom_318 v_mark_319 v_beginsMark_320 v_begins_321 a_began_322 v_isSpent_323
    else
      bd1 (rd 1593 a_all_306 (41 + x_305)) fun x_327 =>
      if x_327 = (-1) then
        FX8_easier_j181 x_305 x_302 x_303 x_304 a_all_306 a_on_307 a_many_308 v_moved_309 a_pile_310 a_lies_311 a_movedThen_312 a_yearTable_313 a_yearMark_314 a_beginTable_315 a_beginMark_316 v_found_317 v_yearFrom_318 v_mark_319 v_beginsMark_320 v_begins_321 a_began_322 v_isSpent_323
      else
        bd1 (rd 1593 a_all_306 (41 + x_227)) fun x_329 =>
        bd1 (rd 1593 a_all_306 (41 + x_305)) fun x_330 =>
        if x_329 = x_330 then
          FX8_easier_j181 x_305 x_302 x_303 x_304 a_all_306 a_on_307 a_many_308 v_moved_309 a_pile_310 a_lies_311 a_movedThen_312 a_yearTable_313 a_yearMark_314 a_beginTable_315 a_beginMark_316 v_found_317 v_yearFrom_318 v_mark_319 v_beginsMark_320 v_begins_321 a_began_322 v_isSpent_323
        else
          bd1 (FX8_swaps a_all_306 x_227 x_305) fun a_all_332 =>
          bd3 (FX8_looksNow a_all_332 a_on_307 a_many_308) fun a_on_333 a_many_334 v_moved_335 =>
          bd18 (FX8_sought a_all_332 a_on_333 a_many_334 v_moved_335 a_pile_310 v_aside a_lies_311 a_movedThen_312 a_yearTable_313 a_yearMark_314 a_beginTable_315 a_beginMark_316 v_yearFrom_318 v_mark_319 v_beginsMark_320 v_begins_321 a_began_322 v_isSpent_323 (-1)) fun x_336 a_on_337 a_many_338 v_moved_339 a_pile_340 a_lies_341 a_movedThen_342 a_yearTable_343 a_yearMark_344 a_beginTable_345 a_beginMark_346 v_found_347 v_yearFrom_348 v_mark_349 v_beginsMark_350 v_begins_351 a_began_352 v_isSpent_353 =>
          bd1 (FX8_swaps a_all_332 x_227 x_305) fun a_all_354 =>
          if x_336 < 0 then
            FX8_easier_j181 x_305 x_302 x_303 x_304 a_all_354 a_on_337 a_many_338 v_moved_339 a_pile_340 a_lies_341 a_movedThen_342 a_yearTable_343 a_yearMark_344 a_beginTable_345 a_beginMark_346 v_found_347 v_yearFrom_348 v_mark_349 v_beginsMark_350 v_begins_351 a_began_352 v_isSpent_353
          else
            if x_302 = (-1) then
              FX8_easier_j170 x_227 x_305 x_336 a_on_337 a_many_338 v_moved_339 a_pile_340 a_lies_341 a_movedThen_342 a_yearTable_343 a_yearMark_344 a_beginTable_345 a_beginMark_346 v_found_347 v_yearFrom_348 v_mark_349 v_beginsMark_350 v_begins_351 a_began_352 v_isSpent_353 a_all_354
            else
              if x_336 < x_302 then
                FX8_easier_j170 x_227 x_305 x_336 a_on_337 a_many_338 v_moved_339 a_pile_340 a_lies_341 a_movedThen_342 a_yearTable_343 a_yearMark_344 a_beginTable_345 a_beginMark_346 v_found_347 v_yearFrom_348 v_mark_349 v_beginsMark_350 v_begins_351 a_began_352 v_isSpent_353 a_all_354
              else
                FX8_easier_j181 x_305 x_302 x_303 x_304 a_all_354 a_on_337 a_many_338 v_moved_339 a_pile_340 a_lies_341 a_movedThen_342 a_yearTable_343 a_yearMark_344 a_beginTable_345 a_beginMark_346 v_found_347 v_yearFrom_348 v_mark_349 v_beginsMark_350 v_begins_351 a_began_352 v_isSpent_353

noncomputable def FX8_easier_b50 (v_aside : Int32) (x_224 : Int32) (x_225 : Int32) (x_226 : Int32) (x_227 : Int32) (a_all_228 : Nat → Int32) (a_on_229 : Nat → Int32) (a_many_230 : Nat → Int32) (v_moved_231 : Int32) (a_pile_232 : Nat → Int32) (a_lies_233 : Nat → Int64) (a_movedThen_234 : Nat → Int32) (a_yearTable_235 : Nat → Int32) (a_yearMark_236 : Nat → Int32) (a_beginTable_237 : Nat → Int32) (a_beginMark_238 : Nat → Int32) (v_found_239 : Int32) (v_yearFrom_240 : Int32) (v_mark_241 : Int32) (v_beginsMark_242 : Int32) (v_begins_243 : Int32) (a_began_244 : Nat → Int64) (v_isSpent_245 : Int32) : Option ((Int32 × Int32 × Int32 × Int32 × (Nat → Int32) × (Nat → Int32) × (Nat → Int32) × Int32 × (Nat → Int32) × (Nat → Int64) × (Nat → Int32) × (Nat → Int32) × (Nat → Int32) × (Nat → Int32) × (Nat → Int32) × Int32 × Int32 × Int32 × Int32 × Int32 × (Nat → Int64) × Int32) ⊕ (Int32 × Int32 × Int32 × (Nat → Int32) × (Nat → Int32) × (Nat → Int32) × Int32 × (Nat → Int32) × (Nat → Int64) × (Nat → Int32) × (Nat → Int32) × (Nat → Int32) × (Nat → Int32) × (Nat → Int32) × Int32 × Int32 × Int32 × Int32 × Int32 × (Nat → Int64) × Int32)) :=
  if 15 ≤ x_227 then
    some (.inr (x_224, x_225, x_226, a_all_228, a_on_229, a_many_230, v_moved_231, a_pile_232, a_lies_233, a_movedThen_234, a_yearTable_235, a_yearMark_236, a_beginTable_237, a_beginMark_238, v_found_239, v_yearFrom_240, v_mark_241, v_beginsMark_242, v_begins_243, a_began_244, v_isSpent_245))
  else
    bd21 (loopC (fun s => FX8_easier_b63 v_aside x_227 s.1 s.2.1 s.2.2.1 s.2.2.2.1 s.2.2.2.2.1 s.2.2.2.2.2.1 s.2.2.2.2.2.2.1 s.2.2.2.2.2.2.2.1 s.2.2.2.2.2.2.2.2.1 s.2.2.2.2.2.2.2.2.2.1 s.2.2.2.2.2.2.2.2.2.2.1 s.2.2.2.2.2.2.2.2.2.2.2.1 s.2.2.2.2.2.2.2.2.2.2.2.2.1 s.2.2.2.2.2.2.2.2.2.2.2.2.2.1 s.2.2.2.2.2.2.2.2.2.2.2.2.2.2.1 s.2.2.2.2.2.2.2.2.2.2.2.2.2.2.2.1 s.2.2.2.2.2.2.2.2.2.2.2.2.2.2.2.2.1 s.2.2.2.2.2.2.2.2.2.2.2.2.2.2.2.2.2.1 s.2.2.2.2.2.2.2.2.2.2.2.2.2.2.2.2.2.2.1 s.2.2.2.2.2.2.2.2.2.2.2.2.2.2.2.2.2.2.2.1 s.2.2.2.2.2.2.2.2.2.2.2.2.2.2.2.2.2.2.2.2.1 s.2.2.2.2.2.2.2.2.2.2.2.2.2.2.2.2.2.2.2.2.2) (x_224, x_225, x_226, (x_227 + 1), a_all_228, a_on_229, a_many_230, v_moved_231, a_pile_232, a_lies_233, a_movedThen_234, a_yearTable_235, a_yearMark_236, a_beginTable_237, a_beginMark_238, v_found_239, v_yearFrom_240, v_mark_241, v_beginsMark_242, v_begins_243, a_began_244, v_isSpent_245)) fun x_379 x_380 x_381 a_all_382 a_on_383 a_many_384 v_moved_385 a_pile_386 a_lies_387 a_movedThen_388 a_yearTable_389 a_yearMark_390 a_beginTable_391 a_beginMark_392 v_found_393 v_yearFrom_394 v_mark_395 v_beginsMark_396 v_begins_397 a_began_398 v_isSpent_399 =>
      some (.inl (x_379, x_380, x_381, (x_227 + 1), a_all_382, a_on_383, a_many_384, v_moved_385, a_pile_386, a_lies_387, a_movedThen_388, a_yearTable_389, a_yearMark_390, a_beginTable_391, a_beginMark_392, v_found_393, v_yearFrom_394, v_mark_395, v_beginsMark_396, v_begins_397, a_began_398, v_isSpent_399))

noncomputable def FX8_easier (a_all : Nat → Int32) (a_on : Nat → Int32) (a_many : Nat → Int32) (v_moved : Int32) (a_pile : Nat → Int32) (v_aside : Int32) (a_lies : Nat → Int64) (a_movedThen : Nat → Int32) (a_yearTable : Nat → Int32) (a_yearMark : Nat → Int32) (a_beginTable : Nat → Int32) (a_beginMark : Nat → Int32) (v_found : Int32) (v_yearFrom : Int32) (v_mark : Int32) (v_beginsMark : Int32) (v_begins : Int32) (a_began : Nat → Int64) (v_isSpent : Int32) (p1 : Int32) : Option (Int32 × (Nat → Int32) × (Nat → Int32) × (Nat → Int32) × Int32 × (Nat → Int32) × (Nat → Int64) × (Nat → Int32) × (Nat → Int32) × (Nat → Int32) × (Nat → Int32) × (Nat → Int32) × Int32 × Int32 × Int32 × Int32 × Int32 × (Nat → Int64) × Int32) :=
  bd1 (FX8_within (Int32.toInt64 p1) 0 2) fun b_46 =>
  if (b2i b_46) = 0 then
    some ((-2), a_all, a_on, a_many, v_moved, a_pile, a_lies, a_movedThen, a_yearTable, a_yearMark, a_beginTable, a_beginMark, v_found, v_yearFrom, v_mark, v_beginsMark, v_begins, a_began, v_isSpent)
  else
    bd3 (FX8_looksNow a_all a_on a_many) fun a_on_48 a_many_49 v_moved_50 =>
    bd18 (FX8_sought a_all a_on_48 a_many_49 v_moved_50 a_pile v_aside a_lies a_movedThen a_yearTable a_yearMark a_beginTable a_beginMark v_yearFrom v_mark v_beginsMark v_begins a_began v_isSpent (-1)) fun x_51 a_on_52 a_many_53 v_moved_54 a_pile_55 a_lies_56 a_movedThen_57 a_yearTable_58 a_yearMark_59 a_beginTable_60 a_beginMark_61 v_found_62 v_yearFrom_63 v_mark_64 v_beginsMark_65 v_begins_66 a_began_67 v_isSpent_68 =>
    if x_51 = (-4) then
      some ((-4), a_all, a_on_52, a_many_53, v_moved_54, a_pile_55, a_lies_56, a_movedThen_57, a_yearTable_58, a_yearMark_59, a_beginTable_60, a_beginMark_61, v_found_62, v_yearFrom_63, v_mark_64, v_beginsMark_65, v_begins_66, a_began_67, v_isSpent_68)
    else
      bd21 (loopC (fun s => FX8_easier_b50 v_aside s.1 s.2.1 s.2.2.1 s.2.2.2.1 s.2.2.2.2.1 s.2.2.2.2.2.1 s.2.2.2.2.2.2.1 s.2.2.2.2.2.2.2.1 s.2.2.2.2.2.2.2.2.1 s.2.2.2.2.2.2.2.2.2.1 s.2.2.2.2.2.2.2.2.2.2.1 s.2.2.2.2.2.2.2.2.2.2.2.1 s.2.2.2.2.2.2.2.2.2.2.2.2.1 s.2.2.2.2.2.2.2.2.2.2.2.2.2.1 s.2.2.2.2.2.2.2.2.2.2.2.2.2.2.1 s.2.2.2.2.2.2.2.2.2.2.2.2.2.2.2.1 s.2.2.2.2.2.2.2.2.2.2.2.2.2.2.2.2.1 s.2.2.2.2.2.2.2.2.2.2.2.2.2.2.2.2.2.1 s.2.2.2.2.2.2.2.2.2.2.2.2.2.2.2.2.2.2.1 s.2.2.2.2.2.2.2.2.2.2.2.2.2.2.2.2.2.2.2.1 s.2.2.2.2.2.2.2.2.2.2.2.2.2.2.2.2.2.2.2.2.1 s.2.2.2.2.2.2.2.2.2.2.2.2.2.2.2.2.2.2.2.2.2) (x_51, (-1), (-1), 0, a_all, a_on_52, a_many_53, v_moved_54, a_pile_55, a_lies_56, a_movedThen_57, a_yearTable_58, a_yearMark_59, a_beginTable_60, a_beginMark_61, v_found_62, v_yearFrom_63, v_mark_64, v_beginsMark_65, v_begins_66, a_began_67, v_isSpent_68)) fun x_400 x_401 x_402 a_all_403 a_on_404 a_many_405 v_moved_406 a_pile_407 a_lies_408 a_movedThen_409 a_yearTable_410 a_yearMark_411 a_beginTable_412 a_beginMark_413 v_found_414 v_yearFrom_415 v_mark_416 v_beginsMark_417 v_begins_418 a_began_419 v_isSpent_420 =>
        if x_401 = (-1) then
          some ((-1), a_all_403, a_on_404, a_many_405, v_moved_406, a_pile_407, a_lies_408, a_movedThen_409, a_yearTable_410, a_yearMark_411, a_beginTable_412, a_beginMark_413, v_found_414, v_yearFrom_415, v_mark_416, v_beginsMark_417, v_begins_418, a_began_419, v_isSpent_420)
        else
          if p1 = 0 then
            some (x_400, a_all_403, a_on_404, a_many_405, v_moved_406, a_pile_407, a_lies_408, a_movedThen_409, a_yearTable_410, a_yearMark_411, a_beginTable_412, a_beginMark_413, v_found_414, v_yearFrom_415, v_mark_416, v_beginsMark_417, v_begins_418, a_began_419, v_isSpent_420)
          else
            if p1 = 1 then
              some (x_401, a_all_403, a_on_404, a_many_405, v_moved_406, a_pile_407, a_lies_408, a_movedThen_409, a_yearTable_410, a_yearMark_411, a_beginTable_412, a_beginMark_413, v_found_414, v_yearFrom_415, v_mark_416, v_beginsMark_417, v_begins_418, a_began_419, v_isSpent_420)
            else
              some (x_402, a_all_403, a_on_404, a_many_405, v_moved_406, a_pile_407, a_lies_408, a_movedThen_409, a_yearTable_410, a_yearMark_411, a_beginTable_412, a_beginMark_413, v_found_414, v_yearFrom_415, v_mark_416, v_beginsMark_417, v_begins_418, a_began_419, v_isSpent_420)

noncomputable def FX8_laysWall_b46 (a_numbers : Nat → Int64) (p1 : Int32) (p2 : Int32) (y_59 : Int64) (x_60 : Int32) (a_wants_61 : Nat → Int32) : Option ((Int64 × Int32 × (Nat → Int32)) ⊕ ((Nat → Int32) ⊕ (Nat → Int32))) :=
  if p2 ≤ x_60 then
    some (.inr (.inr a_wants_61))
  else
    bd1 (rd 160 a_numbers ((40 * p1) + x_60)) fun y_63 =>
    bd1 (FX8_within y_63 0 (Int32.toInt64 (p2 - 1))) fun b_64 =>
    if (b2i b_64) = 0 then
      some (.inr (.inl a_wants_61))
    else
      if (lg_cmp ((shrL y_59 (Int64.toInt32 y_63)) &&& 1) 1) = 0 then
        some (.inr (.inl a_wants_61))
      else
        bd1 (wrI 40 a_wants_61 x_60 (Int64.toInt32 y_63)) fun a_wants_67 =>
        some (.inl ((y_59 ||| (shlL 1 (Int64.toInt32 y_63))), (x_60 + 1), a_wants_67))

noncomputable def FX8_laysWall (a_wants : Nat → Int32) (a_rowSort : Nat → Int32) (a_rowMany : Nat → Int32) (a_numbers : Nat → Int64) (p1 : Int32) (p2 : Int32) : Option (Int32 × (Nat → Int32)) :=
  bd1 (FX8_within (Int32.toInt64 p2) 1 40) fun b_47 =>
  if (b2i b_47) = 0 then
    some ((-3), a_wants)
  else
    bd1 (rd 4 a_rowSort p1) fun x_49 =>
    if x_49 = (-1) then
      some ((-6), a_wants)
    else
      bd1 (rd 4 a_rowMany p1) fun x_51 =>
      if p2 ≤ x_51 then
        bdS2 (loopC (fun s => FX8_laysWall_b46 a_numbers p1 p2 s.1 s.2.1 s.2.2) (0, 0, a_wants))
          (un1 fun a_wants_68 =>
            some ((-3), a_wants_68))
          (un1 fun a_wants_69 =>
            some (0, a_wants_69))
      else
        some ((-7), a_wants)

noncomputable def FX8_wallYears_j57 (x_57 : Int32) (x_67 : Int32) : Option ((Int32 × Int32) ⊕ Int32) :=
  some (.inl (x_67, (x_57 + 1)))

noncomputable def FX8_wallYears_j56 (x_57 : Int32) (x_66 : Int32) : Option ((Int32 × Int32) ⊕ Int32) :=
  FX8_wallYears_j57 x_57 x_66

noncomputable def FX8_wallYears_j42 (x_56 : Int32) (x_57 : Int32) (x_64 : Int32) : Option ((Int32 × Int32) ⊕ Int32) :=
  if x_64 ≤ x_56 then
    FX8_wallYears_j56 x_57 x_56
  else
    FX8_wallYears_j56 x_57 x_64

noncomputable def FX8_wallYears_b4 (a_wants : Nat → Int32) (p1 : Int32) (x_56 : Int32) (x_57 : Int32) : Option ((Int32 × Int32) ⊕ Int32) :=
  if p1 ≤ x_57 then
    some (.inr x_56)
  else
    bd1 (rd 40 a_wants x_57) fun x_59 =>
    if x_59 = x_57 then
      FX8_wallYears_j57 x_57 x_56
    else
      bd1 (rd 40 a_wants x_57) fun x_61 =>
      bd1 (rd 40 a_wants x_61) fun x_62 =>
      if x_62 = x_57 then
        FX8_wallYears_j42 x_56 x_57 1
      else
        FX8_wallYears_j42 x_56 x_57 2

noncomputable def FX8_wallYears (a_wants : Nat → Int32) (p1 : Int32) : Option Int32 :=
  bd1 (loopC (fun s => FX8_wallYears_b4 a_wants p1 s.1 s.2) (0, 0)) fun x_68 =>
    some x_68

noncomputable def FX8_wall (a_wants : Nat → Int32) (a_rowSort : Nat → Int32) (a_rowMany : Nat → Int32) (a_numbers : Nat → Int64) (p1 : Int32) (p2 : Int32) : Option (Int32 × (Nat → Int32)) :=
  bd1 (FX8_within (Int32.toInt64 p1) 0 3) fun b_47 =>
  if (b2i b_47) = 0 then
    some ((-2), a_wants)
  else
    bd2 (FX8_laysWall a_wants a_rowSort a_rowMany a_numbers p1 p2) fun x_49 a_wants_50 =>
    if x_49 = 0 then
      bd1 (FX8_wallYears a_wants_50 p2) fun x_52 =>
      some (x_52, a_wants_50)
    else
      some (x_49, a_wants_50)

noncomputable def FX8_partner_b242 (a_wants_56 : Nat → Int32) (x_93 : Int32) (x_96 : Int32) (x_97 : Int32) : Option ((Int32 × Int32) ⊕ Int32) :=
  if x_93 ≤ x_97 then
    some (.inr x_96)
  else
    bd1 (rd 40 a_wants_56 x_96) fun x_99 =>
    some (.inl (x_99, (x_97 + 1)))

noncomputable def FX8_partner_j233 (p4 : Int32) (a_wants_56 : Nat → Int32) (x_75 : Int32) (x_93 : Int32) : Option (Int32 × (Nat → Int32)) :=
  bd1 (loopC (fun s => FX8_partner_b242 a_wants_56 x_93 s.1 s.2) (x_75, 0)) fun x_100 =>
    if x_100 = p4 then
      some ((-1), a_wants_56)
    else
      some (x_100, a_wants_56)

noncomputable def FX8_partner_j134 (a_wants_56 : Nat → Int32) (x_70 : Int32) (x_73 : Int32) : Option ((Int32 × Int32) ⊕ Int32) :=
  bd1 (rd 40 a_wants_56 x_70) fun x_74 =>
  some (.inl (x_73, x_74))

noncomputable def FX8_partner_b113 (p4 : Int32) (a_wants_56 : Nat → Int32) (x_69 : Int32) (x_70 : Int32) : Option ((Int32 × Int32) ⊕ Int32) :=
  if x_70 = p4 then
    some (.inr x_69)
  else
    if x_69 ≤ x_70 then
      FX8_partner_j134 a_wants_56 x_70 x_69
    else
      FX8_partner_j134 a_wants_56 x_70 x_70

noncomputable def FX8_partner_j184 (a_wants_56 : Nat → Int32) (x_81 : Int32) (x_83 : Int32) (x_86 : Int32) : Option ((Int32 × Int32 × Int32) ⊕ (Int32 × Int32)) :=
  bd1 (rd 40 a_wants_56 x_83) fun x_87 =>
  some (.inl ((x_81 + 1), x_86, x_87))

noncomputable def FX8_partner_b163 (p4 : Int32) (a_wants_56 : Nat → Int32) (x_75 : Int32) (x_81 : Int32) (x_82 : Int32) (x_83 : Int32) : Option ((Int32 × Int32 × Int32) ⊕ (Int32 × Int32)) :=
  if x_83 = x_75 then
    some (.inr (x_81, x_82))
  else
    if x_83 = p4 then
      FX8_partner_j184 a_wants_56 x_81 x_83 x_81
    else
      FX8_partner_j184 a_wants_56 x_81 x_83 x_82

noncomputable def FX8_partner (a_wants : Nat → Int32) (a_rowSort : Nat → Int32) (a_rowMany : Nat → Int32) (a_numbers : Nat → Int64) (p1 : Int32) (p2 : Int32) (p3 : Int32) (p4 : Int32) : Option (Int32 × (Nat → Int32)) :=
  bd1 (FX8_within (Int32.toInt64 p1) 0 3) fun b_49 =>
  if (b2i b_49) = 0 then
    some ((-2), a_wants)
  else
    bd1 (FX8_within (Int32.toInt64 p3) 1 2) fun b_51 =>
    if (b2i b_51) = 0 then
      some ((-2), a_wants)
    else
      if p4 < 0 then
        some ((-2), a_wants)
      else
        if p4 < p2 then
          bd2 (FX8_laysWall a_wants a_rowSort a_rowMany a_numbers p1 p2) fun x_55 a_wants_56 =>
          if x_55 = 0 then
            bd1 (FX8_wallYears a_wants_56 p2) fun x_58 =>
            if x_58 < p3 then
              some ((-1), a_wants_56)
            else
              bd1 (rd 40 a_wants_56 p4) fun x_60 =>
              if x_60 = p4 then
                some ((-1), a_wants_56)
              else
                if x_58 = 1 then
                  bd1 (rd 40 a_wants_56 p4) fun x_63 =>
                  some (x_63, a_wants_56)
                else
                  bd1 (rd 40 a_wants_56 p4) fun x_64 =>
                  bd1 (loopC (fun s => FX8_partner_b113 p4 a_wants_56 s.1 s.2) (p4, x_64)) fun x_75 =>
                    bd1 (rd 40 a_wants_56 x_75) fun x_76 =>
                    bd2 (loopC (fun s => FX8_partner_b163 p4 a_wants_56 x_75 s.1 s.2.1 s.2.2) (1, 0, x_76)) fun x_88 x_89 =>
                      if p3 = 1 then
                        if x_89 = 0 then
                          FX8_partner_j233 p4 a_wants_56 x_75 0
                        else
                          FX8_partner_j233 p4 a_wants_56 x_75 (x_88 - x_89)
                      else
                        bd0 (nzI x_88) <|
                        FX8_partner_j233 p4 a_wants_56 x_75 (((1 - x_89) + x_88) - ((1 - x_89) + x_88) / x_88 * x_88)
          else
            some (x_55, a_wants_56)
        else
          some ((-2), a_wants)

noncomputable def FX8_threshold_b63 (a_all : Nat → Int32) (p2 : Int32) (a_many_54 : Nat → Int32) (x_58 : Int32) (x_63 : Int32) (x_64 : Int32) : Option ((Int32 × Int32) ⊕ (Unit ⊕ Int32)) :=
  if x_64 = p2 then
    some (.inr (.inr x_63))
  else
    bd1 (rd 5 a_many_54 (x_64 + x_58)) fun x_66 =>
    bd1 (rd 1593 a_all ((1 + x_64) + x_58)) fun x_67 =>
    if x_66 < x_67 then
      some (.inl ((x_63 + 1), (x_64 + x_58)))
    else
      some (.inr (.inl ()))

noncomputable def FX8_threshold_j55 (a_all : Nat → Int32) (p2 : Int32) (a_on_53 : Nat → Int32) (a_many_54 : Nat → Int32) (v_moved_55 : Int32) (x_56 : Int32) (x_58 : Int32) : Option (Int32 × (Nat → Int32) × (Nat → Int32) × Int32) :=
  bdS2 (loopC (fun s => FX8_threshold_b63 a_all p2 a_many_54 x_58 s.1 s.2) (0, (x_56 / 3)))
    (un0 fun _ =>
      some ((-1), a_on_53, a_many_54, v_moved_55))
    (un1 fun x_69 =>
      some (x_69, a_on_53, a_many_54, v_moved_55))

noncomputable def FX8_threshold (a_all : Nat → Int32) (a_on : Nat → Int32) (a_many : Nat → Int32) (v_moved : Int32) (p1 : Int32) (p2 : Int32) : Option (Int32 × (Nat → Int32) × (Nat → Int32) × Int32) :=
  bd1 (FX8_isStone a_all p1) fun b_47 =>
  if (b2i b_47) = 0 then
    some ((-2), a_on, a_many, v_moved)
  else
    bd1 (FX8_placeOf a_all p1) fun x_49 =>
    if x_49 = (-1) then
      some ((-2), a_on, a_many, v_moved)
    else
      bd1 (FX8_isRow a_all p2) fun b_51 =>
      if (b2i b_51) = 0 then
        some ((-2), a_on, a_many, v_moved)
      else
        bd3 (FX8_looksNow a_all a_on a_many) fun a_on_53 a_many_54 v_moved_55 =>
        bd1 (FX8_placeOf a_all p1) fun x_56 =>
        if p2 ≤ (x_56 / 3) then
          FX8_threshold_j55 a_all p2 a_on_53 a_many_54 v_moved_55 x_56 (-1)
        else
          FX8_threshold_j55 a_all p2 a_on_53 a_many_54 v_moved_55 x_56 1

noncomputable def FX8_numbers_b64 (p1 : Int32) (p3 : Int32) (x_58 : Int32) (a_numbers_59 : Nat → Int64) : Option ((Int32 × (Nat → Int64)) ⊕ (Nat → Int64)) :=
  if p3 ≤ x_58 then
    some (.inr a_numbers_59)
  else
    bd1 (wrL 160 a_numbers_59 ((40 * p1) + x_58) 0) fun a_numbers_61 =>
    some (.inl ((x_58 + 1), a_numbers_61))

noncomputable def FX8_numbers (a_rowSort : Nat → Int32) (a_rowMany : Nat → Int32) (a_numbers : Nat → Int64) (p1 : Int32) (p2 : Int32) (p3 : Int32) : Option (Int32 × (Nat → Int32) × (Nat → Int32) × (Nat → Int64)) :=
  bd1 (FX8_within (Int32.toInt64 p1) 0 3) fun b_48 =>
  if (b2i b_48) = 0 then
    some ((-2), a_rowSort, a_rowMany, a_numbers)
  else
    bd1 (FX8_within (Int32.toInt64 p2) 0 3) fun b_50 =>
    if (b2i b_50) = 0 then
      some ((-2), a_rowSort, a_rowMany, a_numbers)
    else
      bd1 (FX8_within (Int32.toInt64 p3) 0 40) fun b_52 =>
      if (b2i b_52) = 0 then
        some ((-3), a_rowSort, a_rowMany, a_numbers)
      else
        bd1 (wrI 4 a_rowSort p1 p2) fun a_rowSort_54 =>
        bd1 (wrI 4 a_rowMany p1 p3) fun a_rowMany_55 =>
        bd1 (loopC (fun s => FX8_numbers_b64 p1 p3 s.1 s.2) (0, a_numbers)) fun a_numbers_62 =>
          some (0, a_rowSort_54, a_rowMany_55, a_numbers_62)

noncomputable def FX8_cut (p0 : Int64) (p2 : Int32) : Option Int64 :=
  if p2 = 0 then
    some (Int32.toInt64 (cvB (Int64.toInt32 p0)))
  else
    if p2 = 1 then
      some (Int32.toInt64 (cvS (Int64.toInt32 p0)))
    else
      if p2 = 2 then
        some (Int32.toInt64 (Int64.toInt32 p0))
      else
        some p0

noncomputable def FX8_write (a_rowSort : Nat → Int32) (a_rowMany : Nat → Int32) (a_numbers : Nat → Int64) (p1 : Int32) (p2 : Int32) (p3 : Int64) : Option (Int64 × (Nat → Int64)) :=
  bd1 (FX8_within (Int32.toInt64 p1) 0 3) fun b_48 =>
  if (b2i b_48) = 0 then
    some ((-2), a_numbers)
  else
    bd1 (rd 4 a_rowSort p1) fun x_50 =>
    if x_50 = (-1) then
      some ((-6), a_numbers)
    else
      bd1 (rd 4 a_rowMany p1) fun x_52 =>
      bd1 (FX8_within (Int32.toInt64 p2) 0 (Int32.toInt64 (x_52 - 1))) fun b_53 =>
      if (b2i b_53) = 0 then
        some ((-7), a_numbers)
      else
        bd1 (rd 4 a_rowSort p1) fun x_55 =>
        bd1 (FX8_cut p3 x_55) fun y_56 =>
        bd1 (wrL 160 a_numbers ((40 * p1) + p2) y_56) fun a_numbers_57 =>
        bd1 (rd 160 a_numbers_57 ((40 * p1) + p2)) fun y_58 =>
        some (y_58, a_numbers_57)

noncomputable def FX8_image_b20 (p1 : Int32) (x_51 : Int32) (a_all_52 : Nat → Int32) : Option ((Int32 × (Nat → Int32)) ⊕ (Nat → Int32)) :=
  if 531 ≤ x_51 then
    some (.inr a_all_52)
  else
    bd1 (rd 1593 a_all_52 x_51) fun x_54 =>
    bd1 (wrI 1593 a_all_52 ((531 * (p1 + 1)) + x_51) x_54) fun a_all_55 =>
    some (.inl ((x_51 + 1), a_all_55))

noncomputable def FX8_image (a_all : Nat → Int32) (a_hasImage : Nat → Int32) (p1 : Int32) : Option (Int32 × (Nat → Int32) × (Nat → Int32)) :=
  bd1 (FX8_within (Int32.toInt64 p1) 0 1) fun b_46 =>
  if (b2i b_46) = 0 then
    some ((-2), a_all, a_hasImage)
  else
    bd1 (loopC (fun s => FX8_image_b20 p1 s.1 s.2) (0, a_all)) fun a_all_56 =>
      bd1 (wrI 2 a_hasImage p1 (vp_nar .boolean 1)) fun a_hasImage_57 =>
      some (0, a_all_56, a_hasImage_57)

noncomputable def FX8_restore_b32 (p1 : Int32) (x_53 : Int32) (a_all_54 : Nat → Int32) : Option ((Int32 × (Nat → Int32)) ⊕ (Nat → Int32)) :=
  if 531 ≤ x_53 then
    some (.inr a_all_54)
  else
    bd1 (rd 1593 a_all_54 ((531 * (p1 + 1)) + x_53)) fun x_56 =>
    bd1 (wrI 1593 a_all_54 x_53 x_56) fun a_all_57 =>
    some (.inl ((x_53 + 1), a_all_57))

noncomputable def FX8_restore (a_all : Nat → Int32) (a_hasImage : Nat → Int32) (p1 : Int32) : Option (Int32 × (Nat → Int32)) :=
  bd1 (FX8_within (Int32.toInt64 p1) 0 1) fun b_46 =>
  if (b2i b_46) = 0 then
    some ((-2), a_all)
  else
    bd1 (rd 2 a_hasImage p1) fun x_48 =>
    if x_48 = 0 then
      some ((-5), a_all)
    else
      bd1 (loopC (fun s => FX8_restore_b32 p1 s.1 s.2) (0, a_all)) fun a_all_58 =>
        some (0, a_all_58)

noncomputable def FX8_count (a_all : Nat → Int32) (v_taped : Int32) (p1 : Int32) : Option Int32 :=
  if p1 = 0 then
    bd1 (rd 1593 a_all 0) fun x_58 =>
    some x_58
  else
  if p1 = 1 then
    bd1 (rd 1593 a_all 6) fun x_57 =>
    some x_57
  else
  if p1 = 2 then
    bd1 (rd 1593 a_all 56) fun x_56 =>
    some x_56
  else
  if p1 = 3 then
    bd1 (rd 1593 a_all 114) fun x_55 =>
    some x_55
  else
  if p1 = 4 then
    bd1 (rd 1593 a_all 112) fun x_54 =>
    some x_54
  else
  if p1 = 5 then
    bd1 (rd 1593 a_all 95) fun x_52 =>
    bd1 (FX8_bitsOf x_52) fun x_53 =>
    some x_53
  else
  if p1 = 6 then
    bd1 (rd 1593 a_all 75) fun x_51 =>
    some x_51
  else
  if p1 = 7 then
    bd1 (rd 1593 a_all 76) fun x_50 =>
    some x_50
  else
  if p1 = 8 then
    bd1 (rd 1593 a_all 77) fun x_49 =>
    some x_49
  else
  if p1 = 9 then
    bd1 (rd 1593 a_all 78) fun x_48 =>
    some x_48
  else
  if p1 = 10 then
    some v_taped
  else
  if p1 = 11 then
    bd1 (rd 1593 a_all 79) fun x_47 =>
    some x_47
  else
    some (-1)
