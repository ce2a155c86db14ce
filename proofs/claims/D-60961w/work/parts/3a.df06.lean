/-! the functions: printed by gen_meth.py -/
set_option maxRecDepth 100000
noncomputable section
def du_X40_writeHead_101 (s : jS) (x0 y0 y1 y2 : Int) : Option (jS × Int) :=
  (m_X40_write4 s y2 y1 y0).bind fun q1 =>
  (m_X40_write2 q1.1 x0 40 52).bind fun q2 =>
  (m_X40_write2 q2.1 x0 46 40).bind fun q3 =>
  (m_X40_write2 q3.1 x0 48 (jf q3.1 44 x0 40)).bind fun q4 =>
  (jlt q4.1 1000 (x0 + 26) 11 10).bind fun v5 =>
  (m_X40_write2 q4.1 x0 50 v5).bind fun q6 =>
  some (q6.1, 0)
noncomputable def u_X40_writeHead_101 : jS → Int → Int → Int → Int → Option (jS × Int) := Classical.choose (⟨du_X40_writeHead_101, rfl⟩ : ∃ f, f = du_X40_writeHead_101)
theorem eu_X40_writeHead_101 : u_X40_writeHead_101 = du_X40_writeHead_101 := Classical.choose_spec (⟨du_X40_writeHead_101, rfl⟩ : ∃ f, f = du_X40_writeHead_101)
def du_X40_writeHead_89 (s : jS) (x0 x2 : Int) : Option (jS × Int) :=
  if 0 < x2 then
    u_X40_writeHead_101 s x0 1 36 x0
  else
    u_X40_writeHead_101 s x0 0 36 x0
noncomputable def u_X40_writeHead_89 : jS → Int → Int → Option (jS × Int) := Classical.choose (⟨du_X40_writeHead_89, rfl⟩ : ∃ f, f = du_X40_writeHead_89)
theorem eu_X40_writeHead_89 : u_X40_writeHead_89 = du_X40_writeHead_89 := Classical.choose_spec (⟨du_X40_writeHead_89, rfl⟩ : ∃ f, f = du_X40_writeHead_89)
def du_X40_writeHead_81 (s : jS) (x0 x3 y0 y1 : Int) : Option ((jS × List Int) ⊕ (jS × Int)) :=
  jlet (W32 (y1 + y0)) fun v1 =>
  some (.inl (s, [x0, v1, W32 (x3 + 1)]))
noncomputable def u_X40_writeHead_81 : jS → Int → Int → Int → Int → Option ((jS × List Int) ⊕ (jS × Int)) := Classical.choose (⟨du_X40_writeHead_81, rfl⟩ : ∃ f, f = du_X40_writeHead_81)
theorem eu_X40_writeHead_81 : u_X40_writeHead_81 = du_X40_writeHead_81 := Classical.choose_spec (⟨du_X40_writeHead_81, rfl⟩ : ∃ f, f = du_X40_writeHead_81)
def b_X40_writeHead_48 (s : jS) (x0 x2 x3 : Int) : Option ((jS × List Int) ⊕ (jS × Int)) :=
  (jlt s 1000 (x0 + 5) 2 0).bind fun v1 =>
  if x3 < v1 then
    (jlt s 1000 (x0 + 4) 2048 x3).bind fun v2 =>
    (jlt s 1000 (x0 + 1) 12288 v2).bind fun v3 =>
    (m_X40_isShort s v3).bind fun v4 =>
    if v4 = 0 then
      u_X40_writeHead_81 s x0 x3 0 x2
    else
      u_X40_writeHead_81 s x0 x3 1 x2
  else
    jinr (u_X40_writeHead_89 s x0 x2)
def du_X40_writeHead_48 (s : jS) (x0 x2 x3 : Int) : Option (jS × Int) := jlpW (jc3 b_X40_writeHead_48) [x0, x2, x3] s
noncomputable def u_X40_writeHead_48 : jS → Int → Int → Int → Option (jS × Int) := Classical.choose (⟨du_X40_writeHead_48, rfl⟩ : ∃ f, f = du_X40_writeHead_48)
theorem eu_X40_writeHead_48 : u_X40_writeHead_48 = du_X40_writeHead_48 := Classical.choose_spec (⟨du_X40_writeHead_48, rfl⟩ : ∃ f, f = du_X40_writeHead_48)
def dm_X40_writeHead (s : jS) (x0 x1 : Int) : Option (jS × Int) :=
  (m_X40_write4 s x0 0 1179403647).bind fun q1 =>
  (m_X40_write4 q1.1 x0 4 65793).bind fun q2 =>
  (m_X40_write2 q2.1 x0 16 1).bind fun q3 =>
  (m_X40_write2 q3.1 x0 18 243).bind fun q4 =>
  (m_X40_write4 q4.1 x0 20 1).bind fun q5 =>
  (m_X40_write4 q5.1 x0 32 x1).bind fun q6 =>
  u_X40_writeHead_48 q6.1 x0 0 0
noncomputable def m_X40_writeHead : jS → Int → Int → Option (jS × Int) := Classical.choose (⟨dm_X40_writeHead, rfl⟩ : ∃ f, f = dm_X40_writeHead)
theorem em_X40_writeHead : m_X40_writeHead = dm_X40_writeHead := Classical.choose_spec (⟨dm_X40_writeHead, rfl⟩ : ∃ f, f = dm_X40_writeHead)
def du_X41_leastOf_104 (s : jS) (x4 x6 : Int) : Option (Int) :=
  if x6 = 0 then
    some 8
  else
    if (L_cmp x4 (-1048576)) < 0 then
      some 8
    else
      if 0 < (L_cmp x4 1048574) then
        some 8
      else
        some 4
noncomputable def u_X41_leastOf_104 : jS → Int → Int → Option (Int) := Classical.choose (⟨du_X41_leastOf_104, rfl⟩ : ∃ f, f = du_X41_leastOf_104)
theorem eu_X41_leastOf_104 : u_X41_leastOf_104 = du_X41_leastOf_104 := Classical.choose_spec (⟨du_X41_leastOf_104, rfl⟩ : ∃ f, f = du_X41_leastOf_104)
def du_X41_leastOf_78 (s : jS) (x0 x1 x4 y0 : Int) : Option (Int) :=
  (jlt s 1002 (x0 + 18) 256 x1).bind fun v1 =>
  if v1 = 0 then
    u_X41_leastOf_104 s x4 y0
  else
    if y0 = 0 then
      u_X41_leastOf_104 s x4 y0
    else
      (m_X41_isNear s x4).bind fun v2 =>
      if v2 = 0 then
        u_X41_leastOf_104 s x4 y0
      else
        some 2
noncomputable def u_X41_leastOf_78 : jS → Int → Int → Int → Int → Option (Int) := Classical.choose (⟨du_X41_leastOf_78, rfl⟩ : ∃ f, f = du_X41_leastOf_78)
theorem eu_X41_leastOf_78 : u_X41_leastOf_78 = du_X41_leastOf_78 := Classical.choose_spec (⟨du_X41_leastOf_78, rfl⟩ : ∃ f, f = du_X41_leastOf_78)
def dm_X41_leastOf (s : jS) (x0 x1 : Int) : Option (Int) :=
  (m_X41_hasAim s x0 x1).bind fun v1 =>
  if v1 = 0 then
    (m_X41_shrinks s x0 x1).bind fun v2 =>
    if v2 = 0 then
      (jlt s 1000 (x0 + 13) 256 x1).bind fun v3 =>
      some v3
    else
      (jlt s 1000 (x0 + 11) 256 x1).bind fun v4 =>
      (m_X41_greatest s v4).bind fun v5 =>
      some v5
  else
    (m_X41_aimOf s x0 x1).bind fun v6 =>
    (jlt s 1000 (x0 + 11) 256 x1).bind fun v7 =>
    if v7 = 1 then
      (jlt s 1000 (x0 + 20) 256 x1).bind fun v8 =>
      jlet (W64 (v6 - v8)) fun v9 =>
      (jdv 2 (L_rem v9 2)).bind fun v10 =>
      if (L_cmp v10 0) = 0 then
        u_X41_leastOf_78 s x0 x1 v9 1
      else
        u_X41_leastOf_78 s x0 x1 v9 0
    else
      (m_X41_isNear s v6).bind fun v11 =>
      if v11 = 0 then
        (jlt s 1000 (x0 + 2) 4 2).bind fun v12 =>
        (m_X41_isNear s (W64 ((W64 (v6 - v12)) - 2048))).bind fun v13 =>
        if v13 = 0 then
          jlet (W64 (v6 + 2048)) fun v14 =>
          (jlt s 1000 (x0 + 11) 256 x1).bind fun v15 =>
          if v15 = 2 then
            (jlt s 1002 (x0 + 18) 256 x1).bind fun v16 =>
            if v16 = 0 then
              some 4
            else
              if (L_cmp v14 4096) < 0 then
                some 4
              else
                if (L_cmp v14 131072) < 0 then
                  some 2
                else
                  some 4
          else
            some 4
        else
          some 0
      else
        some 0
noncomputable def m_X41_leastOf : jS → Int → Int → Option (Int) := Classical.choose (⟨dm_X41_leastOf, rfl⟩ : ∃ f, f = dm_X41_leastOf)
theorem em_X41_leastOf : m_X41_leastOf = dm_X41_leastOf := Classical.choose_spec (⟨dm_X41_leastOf, rfl⟩ : ∃ f, f = dm_X41_leastOf)
def dm_X41_isTight (s : jS) (x0 x1 : Int) : Option (Int) :=
  (m_X41_shrinks s x0 x1).bind fun v1 =>
  if v1 = 0 then
    some (Wz 0)
  else
    (m_X41_isGone s x0 x1).bind fun v2 =>
    if v2 = 0 then
      (jlt s 1000 (x0 + 13) 256 x1).bind fun v3 =>
      (m_X41_leastOf s x0 x1).bind fun v4 =>
      if v3 < v4 then
        some (Wz 1)
      else
        some (Wz 0)
    else
      some (Wz 0)
noncomputable def m_X41_isTight : jS → Int → Int → Option (Int) := Classical.choose (⟨dm_X41_isTight, rfl⟩ : ∃ f, f = dm_X41_isTight)
theorem em_X41_isTight : m_X41_isTight = dm_X41_isTight := Classical.choose_spec (⟨dm_X41_isTight, rfl⟩ : ∃ f, f = dm_X41_isTight)
def du_X42_wrongMark_35 (s : jS) (x0 x1 x2 : Int) : Option (List Int ⊕ (Int)) :=
  some (.inl [x0, x1, W32 (x2 + 1)])
noncomputable def u_X42_wrongMark_35 : jS → Int → Int → Int → Option (List Int ⊕ (Int)) := Classical.choose (⟨du_X42_wrongMark_35, rfl⟩ : ∃ f, f = du_X42_wrongMark_35)
theorem eu_X42_wrongMark_35 : u_X42_wrongMark_35 = du_X42_wrongMark_35 := Classical.choose_spec (⟨du_X42_wrongMark_35, rfl⟩ : ∃ f, f = du_X42_wrongMark_35)
def b_X42_wrongMark_2 (s : jS) (x0 x1 x2 : Int) : Option (List Int ⊕ (Int)) :=
  if x2 < 2048 then
    (jlt s 1002 (x0 + 6) 4096 (W32 ((W32 (2048 * x1)) + x2))).bind fun v1 =>
    if v1 = 0 then
      u_X42_wrongMark_35 s x0 x1 x2
    else
      (m_X42_isRight s x0 x1 x2).bind fun v2 =>
      if v2 = 0 then
        jinr (some x2)
      else
        u_X42_wrongMark_35 s x0 x1 x2
  else
    jinr (some (-1))
def du_X42_wrongMark_2 (s : jS) (x0 x1 x2 : Int) : Option (Int) := jlpR (jc3 b_X42_wrongMark_2) [x0, x1, x2] s
noncomputable def u_X42_wrongMark_2 : jS → Int → Int → Int → Option (Int) := Classical.choose (⟨du_X42_wrongMark_2, rfl⟩ : ∃ f, f = du_X42_wrongMark_2)
theorem eu_X42_wrongMark_2 : u_X42_wrongMark_2 = du_X42_wrongMark_2 := Classical.choose_spec (⟨du_X42_wrongMark_2, rfl⟩ : ∃ f, f = du_X42_wrongMark_2)
def dm_X42_wrongMark (s : jS) (x0 x1 : Int) : Option (Int) :=
  u_X42_wrongMark_2 s x0 x1 0
noncomputable def m_X42_wrongMark : jS → Int → Int → Option (Int) := Classical.choose (⟨dm_X42_wrongMark, rfl⟩ : ∃ f, f = dm_X42_wrongMark)
theorem em_X42_wrongMark : m_X42_wrongMark = dm_X42_wrongMark := Classical.choose_spec (⟨dm_X42_wrongMark, rfl⟩ : ∃ f, f = dm_X42_wrongMark)
def du_X42_imageFault_136 (s : jS) (x0 x1 y0 : Int) : Option (jS × Int) :=
  if y0 = 0 then
    (jlt s 1000 (x0 + 10) 4 3).bind fun v1 =>
    if v1 = (-1) then
      (m_X42_fault s x0 24 44).bind fun q2 =>
      some (q2.1, q2.2)
    else
      (jlt s 1000 (x0 + 10) 4 3).bind fun v3 =>
      (m_X42_number s x0 v3 1).bind fun v4 =>
      (jlt s 1000 (x0 + 10) 4 3).bind fun v5 =>
      (m_X42_number s x0 v5 4).bind fun v6 =>
      (m_X42_number s x0 x1 4).bind fun v7 =>
      (m_X42_noteFault s x0 (L2i v4) (L2i v6) (L2i v7)).bind fun q8 =>
      some (q8.1, q8.2)
  else
    some (s, y0)
noncomputable def u_X42_imageFault_136 : jS → Int → Int → Int → Option (jS × Int) := Classical.choose (⟨du_X42_imageFault_136, rfl⟩ : ∃ f, f = du_X42_imageFault_136)
theorem eu_X42_imageFault_136 : u_X42_imageFault_136 = du_X42_imageFault_136 := Classical.choose_spec (⟨du_X42_imageFault_136, rfl⟩ : ∃ f, f = du_X42_imageFault_136)
def du_X42_imageFault_121 (s : jS) (x0 x1 y0 : Int) : Option (jS × Int) :=
  if y0 = 0 then
    (m_X42_meetFault s x0 1 2).bind fun q1 =>
    u_X42_imageFault_136 q1.1 x0 x1 q1.2
  else
    u_X42_imageFault_136 s x0 x1 y0
noncomputable def u_X42_imageFault_121 : jS → Int → Int → Int → Option (jS × Int) := Classical.choose (⟨du_X42_imageFault_121, rfl⟩ : ∃ f, f = du_X42_imageFault_121)
theorem eu_X42_imageFault_121 : u_X42_imageFault_121 = du_X42_imageFault_121 := Classical.choose_spec (⟨du_X42_imageFault_121, rfl⟩ : ∃ f, f = du_X42_imageFault_121)
def du_X42_imageFault_100 (s : jS) (x0 x1 : Int) : Option (jS × Int) :=
  (m_X42_meetFault s x0 0 1).bind fun q1 =>
  if q1.2 = 0 then
    (m_X42_meetFault q1.1 x0 0 2).bind fun q2 =>
    u_X42_imageFault_121 q2.1 x0 x1 q2.2
  else
    u_X42_imageFault_121 q1.1 x0 x1 q1.2
noncomputable def u_X42_imageFault_100 : jS → Int → Int → Option (jS × Int) := Classical.choose (⟨du_X42_imageFault_100, rfl⟩ : ∃ f, f = du_X42_imageFault_100)
theorem eu_X42_imageFault_100 : u_X42_imageFault_100 = du_X42_imageFault_100 := Classical.choose_spec (⟨du_X42_imageFault_100, rfl⟩ : ∃ f, f = du_X42_imageFault_100)
def du_X42_imageFault_76 (s : jS) (x0 x2 : Int) : Option (jS × Int) :=
  (jlt s 1000 (x0 + 10) 4 x2).bind fun v1 =>
  (m_X42_spot s x0 v1 5).bind fun v2 =>
  (m_X42_fault s x0 22 v2).bind fun q3 =>
  some (q3.1, q3.2)
noncomputable def u_X42_imageFault_76 : jS → Int → Int → Option (jS × Int) := Classical.choose (⟨du_X42_imageFault_76, rfl⟩ : ∃ f, f = du_X42_imageFault_76)
theorem eu_X42_imageFault_76 : u_X42_imageFault_76 = du_X42_imageFault_76 := Classical.choose_spec (⟨du_X42_imageFault_76, rfl⟩ : ∃ f, f = du_X42_imageFault_76)
def du_X42_imageFault_94 (s : jS) (x0 x1 x2 : Int) : Option ((jS × List Int) ⊕ (jS × Int)) :=
  some (.inl (s, [x0, x1, W32 (x2 + 1)]))
noncomputable def u_X42_imageFault_94 : jS → Int → Int → Int → Option ((jS × List Int) ⊕ (jS × Int)) := Classical.choose (⟨du_X42_imageFault_94, rfl⟩ : ∃ f, f = du_X42_imageFault_94)
theorem eu_X42_imageFault_94 : u_X42_imageFault_94 = du_X42_imageFault_94 := Classical.choose_spec (⟨du_X42_imageFault_94, rfl⟩ : ∃ f, f = du_X42_imageFault_94)
def b_X42_imageFault_49 (s : jS) (x0 x1 x2 : Int) : Option ((jS × List Int) ⊕ (jS × Int)) :=
  if x2 < 3 then
    (jlt s 1000 (x0 + 10) 4 x2).bind fun v1 =>
    if v1 = (-1) then
      u_X42_imageFault_94 s x0 x1 x2
    else
      (m_X42_endIn s x0 x2).bind fun v2 =>
      if 0 < (L_cmp v2 131072) then
        jinr (u_X42_imageFault_76 s x0 x2)
      else
        u_X42_imageFault_94 s x0 x1 x2
  else
    jinr (u_X42_imageFault_100 s x0 x1)
def du_X42_imageFault_49 (s : jS) (x0 x1 x2 : Int) : Option (jS × Int) := jlpW (jc3 b_X42_imageFault_49) [x0, x1, x2] s
noncomputable def u_X42_imageFault_49 : jS → Int → Int → Int → Option (jS × Int) := Classical.choose (⟨du_X42_imageFault_49, rfl⟩ : ∃ f, f = du_X42_imageFault_49)
theorem eu_X42_imageFault_49 : u_X42_imageFault_49 = du_X42_imageFault_49 := Classical.choose_spec (⟨du_X42_imageFault_49, rfl⟩ : ∃ f, f = du_X42_imageFault_49)
def du_X42_imageFault_38 (s : jS) (x0 : Int) : Option (jS × Int) :=
  (m_X42_fault s x0 21 44).bind fun q1 =>
  some (q1.1, q1.2)
noncomputable def u_X42_imageFault_38 : jS → Int → Option (jS × Int) := Classical.choose (⟨du_X42_imageFault_38, rfl⟩ : ∃ f, f = du_X42_imageFault_38)
theorem eu_X42_imageFault_38 : u_X42_imageFault_38 = du_X42_imageFault_38 := Classical.choose_spec (⟨du_X42_imageFault_38, rfl⟩ : ∃ f, f = du_X42_imageFault_38)
def dm_X42_imageFault (s : jS) (x0 : Int) : Option (jS × Int) :=
  (jlt s 1000 (x0 + 10) 4 0).bind fun v1 =>
  if v1 = (-1) then
    u_X42_imageFault_38 s x0
  else
    (m_X42_number s x0 v1 4).bind fun v2 =>
    if (L_cmp v2 0) = 0 then
      u_X42_imageFault_38 s x0
    else
      (m_X42_number s x0 v1 4).bind fun v3 =>
      (jdv 2 (L_rem v3 2)).bind fun v4 =>
      if (L_cmp v4 0) = 0 then
        u_X42_imageFault_49 s x0 v1 0
      else
        u_X42_imageFault_38 s x0
noncomputable def m_X42_imageFault : jS → Int → Option (jS × Int) := Classical.choose (⟨dm_X42_imageFault, rfl⟩ : ∃ f, f = dm_X42_imageFault)
theorem em_X42_imageFault : m_X42_imageFault = dm_X42_imageFault := Classical.choose_spec (⟨dm_X42_imageFault, rfl⟩ : ∃ f, f = dm_X42_imageFault)
def du_X43_take_210 (s : jS) (x0 x1 : Int) : Option (jS × Int) :=
  (m_X43_areGood s x0 x1).bind fun v1 =>
  some (s, Wz v1)
noncomputable def u_X43_take_210 : jS → Int → Int → Option (jS × Int) := Classical.choose (⟨du_X43_take_210, rfl⟩ : ∃ f, f = du_X43_take_210)
theorem eu_X43_take_210 : u_X43_take_210 = du_X43_take_210 := Classical.choose_spec (⟨du_X43_take_210, rfl⟩ : ∃ f, f = du_X43_take_210)
def du_X43_take_189 (s : jS) (x0 x1 : Int) : Option (jS × Int) :=
  if x1 = 56 then
    (jlt s 1000 (x0 + 2) 4 3).bind fun v1 =>
    (jst s 1000 (x0 + 2) 4 3 (I_and v1 1048575)).bind fun s2 =>
    u_X43_take_210 s2 x0 x1
  else
    u_X43_take_210 s x0 x1
noncomputable def u_X43_take_189 : jS → Int → Int → Option (jS × Int) := Classical.choose (⟨du_X43_take_189, rfl⟩ : ∃ f, f = du_X43_take_189)
theorem eu_X43_take_189 : u_X43_take_189 = du_X43_take_189 := Classical.choose_spec (⟨du_X43_take_189, rfl⟩ : ∃ f, f = du_X43_take_189)
def du_X43_take_158 (s : jS) (x0 x1 : Int) : Option (jS × Int) :=
  (m_X43_signOf s x1).bind fun v1 =>
  if v1 < 0 then
    u_X43_take_189 s x0 x1
  else
    (jlt s 1000 (x0 + 2) 4 3).bind fun v2 =>
    (jst s 1000 (x0 + 2) 4 3 (I_shr (I_shl v2 (W32 (31 - v1))) (W32 (31 - v1)))).bind fun s3 =>
    u_X43_take_189 s3 x0 x1
noncomputable def u_X43_take_158 : jS → Int → Int → Option (jS × Int) := Classical.choose (⟨du_X43_take_158, rfl⟩ : ∃ f, f = du_X43_take_158)
theorem eu_X43_take_158 : u_X43_take_158 = du_X43_take_158 := Classical.choose_spec (⟨du_X43_take_158, rfl⟩ : ∃ f, f = du_X43_take_158)
def du_X43_take_152 (s : jS) (x0 x1 x2 x3 : Int) : Option ((jS × List Int) ⊕ (jS × Int)) :=
  some (.inl (s, [x0, x1, x2, W32 (x3 + 1)]))
noncomputable def u_X43_take_152 : jS → Int → Int → Int → Int → Option ((jS × List Int) ⊕ (jS × Int)) := Classical.choose (⟨du_X43_take_152, rfl⟩ : ∃ f, f = du_X43_take_152)
theorem eu_X43_take_152 : u_X43_take_152 = du_X43_take_152 := Classical.choose_spec (⟨du_X43_take_152, rfl⟩ : ∃ f, f = du_X43_take_152)
def du_X43_take_121 (s : jS) (x0 x1 x2 x3 x4 x5 : Int) : Option ((jS × List Int) ⊕ (jS × Int)) :=
  if x4 < 500 then
    u_X43_take_152 s x0 x1 x2 x3
  else
    (jdv 100 (I_div x4 100)).bind fun v1 =>
    (jlt s 1000 (x0 + 2) 4 (W32 (v1 - 5))).bind fun v2 =>
    (jdv 100 (I_rem x4 100)).bind fun v3 =>
    (jst s 1000 (x0 + 2) 4 (W32 (v1 - 5)) (W32 (v2 + (I_shl x5 v3)))).bind fun s4 =>
    u_X43_take_152 s4 x0 x1 x2 x3
noncomputable def u_X43_take_121 : jS → Int → Int → Int → Int → Int → Int → Option ((jS × List Int) ⊕ (jS × Int)) := Classical.choose (⟨du_X43_take_121, rfl⟩ : ∃ f, f = du_X43_take_121)
theorem eu_X43_take_121 : u_X43_take_121 = du_X43_take_121 := Classical.choose_spec (⟨du_X43_take_121, rfl⟩ : ∃ f, f = du_X43_take_121)
def du_X43_take_84 (s : jS) (x0 x1 x2 x3 x4 x5 : Int) : Option ((jS × List Int) ⊕ (jS × Int)) :=
  if 1 < x4 then
    if x4 < 500 then
      (jdv 100 (I_div x4 100)).bind fun v1 =>
      (jlt s 1000 (x0 + 2) 4 (W32 (v1 - 1))).bind fun v2 =>
      (jdv 100 (I_rem x4 100)).bind fun v3 =>
      (jst s 1000 (x0 + 2) 4 (W32 (v1 - 1)) (W32 (v2 + (I_shl x5 v3)))).bind fun s4 =>
      u_X43_take_121 s4 x0 x1 x2 x3 x4 x5
    else
      u_X43_take_121 s x0 x1 x2 x3 x4 x5
  else
    u_X43_take_121 s x0 x1 x2 x3 x4 x5
noncomputable def u_X43_take_84 : jS → Int → Int → Int → Int → Int → Int → Option ((jS × List Int) ⊕ (jS × Int)) := Classical.choose (⟨du_X43_take_84, rfl⟩ : ∃ f, f = du_X43_take_84)
theorem eu_X43_take_84 : u_X43_take_84 = du_X43_take_84 := Classical.choose_spec (⟨du_X43_take_84, rfl⟩ : ∃ f, f = du_X43_take_84)
def b_X43_take_41 (s : jS) (x0 x1 x2 x3 : Int) : Option ((jS × List Int) ⊕ (jS × Int)) :=
  (m_X43_bitsOf s x1).bind fun v1 =>
  if x3 < v1 then
    (jlt s 1000 (x0 + 1) 2400 (W32 ((W32 (32 * x1)) + x3))).bind fun v2 =>
    jlet (I_and (I_shr x2 x3) 1) fun v3 =>
    if v2 < 2 then
      if v2 = v3 then
        u_X43_take_84 s x0 x1 x2 x3 v2 v3
      else
        jinr (some (s, Wz 0))
    else
      u_X43_take_84 s x0 x1 x2 x3 v2 v3
  else
    jinr (u_X43_take_158 s x0 x1)
def du_X43_take_41 (s : jS) (x0 x1 x2 x3 : Int) : Option (jS × Int) := jlpW (jc4 b_X43_take_41) [x0, x1, x2, x3] s
noncomputable def u_X43_take_41 : jS → Int → Int → Int → Int → Option (jS × Int) := Classical.choose (⟨du_X43_take_41, rfl⟩ : ∃ f, f = du_X43_take_41)
theorem eu_X43_take_41 : u_X43_take_41 = du_X43_take_41 := Classical.choose_spec (⟨du_X43_take_41, rfl⟩ : ∃ f, f = du_X43_take_41)
def du_X43_take_39 (s : jS) (x0 x1 x2 : Int) : Option (jS × Int) :=
  u_X43_take_41 s x0 x1 x2 0
noncomputable def u_X43_take_39 : jS → Int → Int → Int → Option (jS × Int) := Classical.choose (⟨du_X43_take_39, rfl⟩ : ∃ f, f = du_X43_take_39)
theorem eu_X43_take_39 : u_X43_take_39 = du_X43_take_39 := Classical.choose_spec (⟨du_X43_take_39, rfl⟩ : ∃ f, f = du_X43_take_39)
def du_X43_take_32 (s : jS) (x0 x1 x2 x3 y0 y1 y2 : Int) : Option ((jS × List Int) ⊕ (jS × Int)) :=
  (jst s 1000 y2 4 y1 y0).bind fun s1 =>
  some (.inl (s1, [x0, x1, x2, W32 (x3 + 1)]))
noncomputable def u_X43_take_32 : jS → Int → Int → Int → Int → Int → Int → Int → Option ((jS × List Int) ⊕ (jS × Int)) := Classical.choose (⟨du_X43_take_32, rfl⟩ : ∃ f, f = du_X43_take_32)
theorem eu_X43_take_32 : u_X43_take_32 = du_X43_take_32 := Classical.choose_spec (⟨du_X43_take_32, rfl⟩ : ∃ f, f = du_X43_take_32)
def du_X43_take_31 (s : jS) (x0 x1 x2 x3 y0 y1 : Int) : Option ((jS × List Int) ⊕ (jS × Int)) :=
  u_X43_take_32 s x0 x1 x2 x3 0 y0 y1
noncomputable def u_X43_take_31 : jS → Int → Int → Int → Int → Int → Int → Option ((jS × List Int) ⊕ (jS × Int)) := Classical.choose (⟨du_X43_take_31, rfl⟩ : ∃ f, f = du_X43_take_31)
theorem eu_X43_take_31 : u_X43_take_31 = du_X43_take_31 := Classical.choose_spec (⟨du_X43_take_31, rfl⟩ : ∃ f, f = du_X43_take_31)
def b_X43_take_2 (s : jS) (x0 x1 x2 x3 : Int) : Option ((jS × List Int) ⊕ (jS × Int)) :=
  if x3 < 4 then
    if x3 < 3 then
      (m_X43_isShortPart s x0 x1 x3).bind fun v1 =>
      if v1 = 0 then
        u_X43_take_31 s x0 x1 x2 x3 x3 (x0 + 2)
      else
        u_X43_take_32 s x0 x1 x2 x3 8 x3 (x0 + 2)
    else
      u_X43_take_31 s x0 x1 x2 x3 x3 (x0 + 2)
  else
    jinr (u_X43_take_39 s x0 x1 x2)
def du_X43_take_2 (s : jS) (x0 x1 x2 x3 : Int) : Option (jS × Int) := jlpW (jc4 b_X43_take_2) [x0, x1, x2, x3] s
noncomputable def u_X43_take_2 : jS → Int → Int → Int → Int → Option (jS × Int) := Classical.choose (⟨du_X43_take_2, rfl⟩ : ∃ f, f = du_X43_take_2)
theorem eu_X43_take_2 : u_X43_take_2 = du_X43_take_2 := Classical.choose_spec (⟨du_X43_take_2, rfl⟩ : ∃ f, f = du_X43_take_2)
def dm_X43_take (s : jS) (x0 x1 x2 : Int) : Option (jS × Int) :=
  u_X43_take_2 s x0 x1 x2 0
noncomputable def m_X43_take : jS → Int → Int → Int → Option (jS × Int) := Classical.choose (⟨dm_X43_take, rfl⟩ : ∃ f, f = dm_X43_take)
theorem em_X43_take : m_X43_take = dm_X43_take := Classical.choose_spec (⟨dm_X43_take, rfl⟩ : ∃ f, f = dm_X43_take)
def du_X37_bind_62 (s : jS) (x0 x1 x2 : Int) : Option (jS × Int) :=
  (jst s 1000 (x0 + 147) 100 x2 x1).bind fun s1 =>
  some (s1, Wz 1)
noncomputable def u_X37_bind_62 : jS → Int → Int → Int → Option (jS × Int) := Classical.choose (⟨du_X37_bind_62, rfl⟩ : ∃ f, f = du_X37_bind_62)
theorem eu_X37_bind_62 : u_X37_bind_62 = du_X37_bind_62 := Classical.choose_spec (⟨du_X37_bind_62, rfl⟩ : ∃ f, f = du_X37_bind_62)
def du_X37_bind_16 (s : jS) (x0 : Int) : Option (jS × Int) :=
  (m_X37_fail s x0 12).bind fun q1 =>
  some (q1.1, Wz q1.2)
noncomputable def u_X37_bind_16 : jS → Int → Option (jS × Int) := Classical.choose (⟨du_X37_bind_16, rfl⟩ : ∃ f, f = du_X37_bind_16)
theorem eu_X37_bind_16 : u_X37_bind_16 = du_X37_bind_16 := Classical.choose_spec (⟨du_X37_bind_16, rfl⟩ : ∃ f, f = du_X37_bind_16)
def dm_X37_bind (s : jS) (x0 x1 : Int) : Option (jS × Int) :=
  if (jf s 41 x0 46) = 1 then
    (m_X37_isName s x0 0).bind fun q1 =>
    if q1.2 = 0 then
      u_X37_bind_16 q1.1 x0
    else
      (m_X37_nameAt q1.1 x0 0).bind fun q2 =>
      (m_X37_symbolOfName q2.1 x0 q2.2).bind fun q3 =>
      if q3.2 = (-1) then
        some (q3.1, Wz 0)
      else
        if x1 = 2 then
          (jlt q3.1 1000 (x0 + 144) 100 q3.2).bind fun v4 =>
          if v4 = 5 then
            (m_X37_fail q3.1 x0 16).bind fun q5 =>
            some (q5.1, Wz q5.2)
          else
            u_X37_bind_62 q3.1 x0 x1 q3.2
        else
          u_X37_bind_62 q3.1 x0 x1 q3.2
  else
    u_X37_bind_16 s x0
noncomputable def m_X37_bind : jS → Int → Int → Option (jS × Int) := Classical.choose (⟨dm_X37_bind, rfl⟩ : ∃ f, f = dm_X37_bind)
theorem em_X37_bind : m_X37_bind = dm_X37_bind := Classical.choose_spec (⟨dm_X37_bind, rfl⟩ : ∃ f, f = dm_X37_bind)
def du_X37_evaluate_142 (s : jS) (x0 : Int) : Option (jS × Int) :=
  (jlt s 1000 (x0 + 163) 64 0).bind fun v1 =>
  jls (jp s 41 x0 52 v1) fun s2 =>
  (jlt s2 1000 (x0 + 164) 64 0).bind fun v3 =>
  jls (jp s2 41 x0 53 v3) fun s4 =>
  (jlt s4 1000 (x0 + 165) 64 0).bind fun v5 =>
  jls (jp s4 41 x0 54 v5) fun s6 =>
  some (s6, Wz 1)
noncomputable def u_X37_evaluate_142 : jS → Int → Option (jS × Int) := Classical.choose (⟨du_X37_evaluate_142, rfl⟩ : ∃ f, f = du_X37_evaluate_142)
theorem eu_X37_evaluate_142 : u_X37_evaluate_142 = du_X37_evaluate_142 := Classical.choose_spec (⟨du_X37_evaluate_142, rfl⟩ : ∃ f, f = du_X37_evaluate_142)
def du_X37_evaluate_106 (s : jS) (x0 x1 : Int) : Option (jS × Int) :=
  (m_X37_placeOf s x0 x1).bind fun q1 =>
  (m_X37_fail_2 q1.1 x0 14 q1.2).bind fun q2 =>
  some (q2.1, Wz q2.2)
noncomputable def u_X37_evaluate_106 : jS → Int → Int → Option (jS × Int) := Classical.choose (⟨du_X37_evaluate_106, rfl⟩ : ∃ f, f = du_X37_evaluate_106)
theorem eu_X37_evaluate_106 : u_X37_evaluate_106 = du_X37_evaluate_106 := Classical.choose_spec (⟨du_X37_evaluate_106, rfl⟩ : ∃ f, f = du_X37_evaluate_106)
def du_X37_evaluate_136 (s : jS) (x0 x1 x2 x3 x4 x5 : Int) : Option ((jS × List Int) ⊕ (jS × Int)) :=
  some (.inl (s, [x0, x1, x2, x3, x4, W32 (x5 + 1)]))
noncomputable def u_X37_evaluate_136 : jS → Int → Int → Int → Int → Int → Int → Option ((jS × List Int) ⊕ (jS × Int)) := Classical.choose (⟨du_X37_evaluate_136, rfl⟩ : ∃ f, f = du_X37_evaluate_136)
theorem eu_X37_evaluate_136 : u_X37_evaluate_136 = du_X37_evaluate_136 := Classical.choose_spec (⟨du_X37_evaluate_136, rfl⟩ : ∃ f, f = du_X37_evaluate_136)
def du_X37_evaluate_134 (s : jS) (x0 x1 x2 x3 x5 y0 : Int) : Option ((jS × List Int) ⊕ (jS × Int)) :=
  u_X37_evaluate_136 s x0 x1 x2 x3 y0 x5
noncomputable def u_X37_evaluate_134 : jS → Int → Int → Int → Int → Int → Int → Option ((jS × List Int) ⊕ (jS × Int)) := Classical.choose (⟨du_X37_evaluate_134, rfl⟩ : ∃ f, f = du_X37_evaluate_134)
theorem eu_X37_evaluate_134 : u_X37_evaluate_134 = du_X37_evaluate_134 := Classical.choose_spec (⟨du_X37_evaluate_134, rfl⟩ : ∃ f, f = du_X37_evaluate_134)
def b_X37_evaluate_36 (s : jS) (x0 x1 x2 x3 x4 x5 : Int) : Option ((jS × List Int) ⊕ (jS × Int)) :=
  if x5 < (W32 (x2 + x3)) then
    (m_X39_item s (x0 + 8) x5 0).bind fun q1 =>
    if q1.2 < 10 then
      (m_X39_item q1.1 (x0 + 8) x5 1).bind fun q2 =>
      (m_X37_push q2.1 x0 q1.2 q2.2 x4 x1).bind fun q3 =>
      if q3.2 = 0 then
        jinr (some (q3.1, Wz 0))
      else
        u_X37_evaluate_136 q3.1 x0 x1 x2 x3 (W32 (x4 + 1)) x5
    else
      (m_X37_apply q1.1 x0 q1.2 (W32 (x4 - 1))).bind fun q4 =>
      if q4.2 = 0 then
        jinr (u_X37_evaluate_106 q4.1 x0 x1)
      else
        if q1.2 < 12 then
          u_X37_evaluate_134 q4.1 x0 x1 x2 x3 x5 x4
        else
          jlet (W32 (x4 - 1)) fun v5 =>
          u_X37_evaluate_134 q4.1 x0 x1 x2 x3 x5 v5
  else
    jinr (u_X37_evaluate_142 s x0)
def du_X37_evaluate_36 (s : jS) (x0 x1 x2 x3 x4 x5 : Int) : Option (jS × Int) := jlpW (jc6 b_X37_evaluate_36) [x0, x1, x2, x3, x4, x5] s
noncomputable def u_X37_evaluate_36 : jS → Int → Int → Int → Int → Int → Int → Option (jS × Int) := Classical.choose (⟨du_X37_evaluate_36, rfl⟩ : ∃ f, f = du_X37_evaluate_36)
theorem eu_X37_evaluate_36 : u_X37_evaluate_36 = du_X37_evaluate_36 := Classical.choose_spec (⟨du_X37_evaluate_36, rfl⟩ : ∃ f, f = du_X37_evaluate_36)
def dm_X37_evaluate (s : jS) (x0 x1 : Int) : Option (jS × Int) :=
  (m_X37_areLocalsThere s x0 x1).bind fun q1 =>
  if q1.2 = 0 then
    some (q1.1, Wz 0)
  else
    (m_X39_operand q1.1 (x0 + 8) x1 3).bind fun q2 =>
    (m_X39_operand q2.1 (x0 + 8) x1 4).bind fun q3 =>
    u_X37_evaluate_36 q3.1 x0 x1 q2.2 q3.2 0 q2.2
noncomputable def m_X37_evaluate : jS → Int → Int → Option (jS × Int) := Classical.choose (⟨dm_X37_evaluate, rfl⟩ : ∃ f, f = dm_X37_evaluate)
theorem em_X37_evaluate : m_X37_evaluate = dm_X37_evaluate := Classical.choose_spec (⟨dm_X37_evaluate, rfl⟩ : ∃ f, f = dm_X37_evaluate)
def du_X37_data_420 (s : jS) (x0 x1 x3 : Int) : Option ((jS × List Int) ⊕ (jS × Int)) :=
  some (.inl (s, [x0, x1, W32 (x3 + 1)]))
noncomputable def u_X37_data_420 : jS → Int → Int → Int → Option ((jS × List Int) ⊕ (jS × Int)) := Classical.choose (⟨du_X37_data_420, rfl⟩ : ∃ f, f = du_X37_data_420)
theorem eu_X37_data_420 : u_X37_data_420 = du_X37_data_420 := Classical.choose_spec (⟨du_X37_data_420, rfl⟩ : ∃ f, f = du_X37_data_420)
def du_X37_data_361 (s : jS) (x0 x1 x3 x4 y0 : Int) : Option ((jS × List Int) ⊕ (jS × Int)) :=
  (jlt s 1000 (x0 + 167) 800 x3).bind fun v1 =>
  (jlt s 1000 (x0 + 166) 800 x3).bind fun v2 =>
  (m_X37_move s x0 x4 y0 v1 v2).bind fun q3 =>
  if q3.2 = 0 then
    jinr (some (q3.1, Wz 0))
  else
    (jlt q3.1 1000 (x0 + 168) 800 x3).bind fun v4 =>
    if v4 = (-1) then
      u_X37_data_420 q3.1 x0 x1 x3
    else
      (jlt q3.1 1000 (x0 + 168) 800 x3).bind fun v5 =>
      (m_X37_move q3.1 x0 x4 (W32 (y0 + 4)) v5 0).bind fun q6 =>
      if q6.2 = 0 then
        jinr (some (q6.1, Wz 0))
      else
        u_X37_data_420 q6.1 x0 x1 x3
noncomputable def u_X37_data_361 : jS → Int → Int → Int → Int → Int → Option ((jS × List Int) ⊕ (jS × Int)) := Classical.choose (⟨du_X37_data_361, rfl⟩ : ∃ f, f = du_X37_data_361)
theorem eu_X37_data_361 : u_X37_data_361 = du_X37_data_361 := Classical.choose_spec (⟨du_X37_data_361, rfl⟩ : ∃ f, f = du_X37_data_361)
def du_X37_data_308 (s : jS) (x0 x1 x3 x4 x5 y0 y1 : Int) : Option ((jS × List Int) ⊕ (jS × Int)) :=
  (m_X37_putBytes s y1 y0 x1).bind fun q1 =>
  if q1.2 = 0 then
    jinr (some (q1.1, Wz 0))
  else
    if x5 = 0 then
      (jlt q1.1 1000 (x0 + 168) 800 x3).bind fun v2 =>
      if v2 = (-1) then
        u_X37_data_361 q1.1 x0 x1 x3 x4 1
      else
        if x1 = 1 then
          u_X37_data_361 q1.1 x0 x1 x3 x4 33
        else
          if x1 = 2 then
            u_X37_data_361 q1.1 x0 x1 x3 x4 34
          else
            u_X37_data_361 q1.1 x0 x1 x3 x4 35
    else
      u_X37_data_420 q1.1 x0 x1 x3
noncomputable def u_X37_data_308 : jS → Int → Int → Int → Int → Int → Int → Int → Option ((jS × List Int) ⊕ (jS × Int)) := Classical.choose (⟨du_X37_data_308, rfl⟩ : ∃ f, f = du_X37_data_308)
theorem eu_X37_data_308 : u_X37_data_308 = du_X37_data_308 := Classical.choose_spec (⟨du_X37_data_308, rfl⟩ : ∃ f, f = du_X37_data_308)
def du_X37_data_290 (s : jS) (x0 x1 x3 x4 y0 : Int) : Option ((jS × List Int) ⊕ (jS × Int)) :=
  if y0 = 0 then
    u_X37_data_308 s x0 x1 x3 x4 y0 0 x0
  else
    (jlt s 1000 (x0 + 166) 800 x3).bind fun v1 =>
    u_X37_data_308 s x0 x1 x3 x4 y0 v1 x0
noncomputable def u_X37_data_290 : jS → Int → Int → Int → Int → Int → Option ((jS × List Int) ⊕ (jS × Int)) := Classical.choose (⟨du_X37_data_290, rfl⟩ : ∃ f, f = du_X37_data_290)
theorem eu_X37_data_290 : u_X37_data_290 = du_X37_data_290 := Classical.choose_spec (⟨du_X37_data_290, rfl⟩ : ∃ f, f = du_X37_data_290)
def b_X37_data_256 (s : jS) (x0 x1 x3 : Int) : Option ((jS × List Int) ⊕ (jS × Int)) :=
  if x3 < (jf s 41 x0 46) then
    (jlt s 1000 (x0 + 153) 4 (jf s 41 x0 34)).bind fun v1 =>
    (jlt s 1000 (x0 + 167) 800 x3).bind fun v2 =>
    if v2 = (-1) then
      u_X37_data_290 s x0 x1 x3 v1 1
    else
      u_X37_data_290 s x0 x1 x3 v1 0
  else
    jinr (some (s, Wz 1))
def du_X37_data_256 (s : jS) (x0 x1 x3 : Int) : Option (jS × Int) := jlpW (jc3 b_X37_data_256) [x0, x1, x3] s
noncomputable def u_X37_data_256 : jS → Int → Int → Int → Option (jS × Int) := Classical.choose (⟨du_X37_data_256, rfl⟩ : ∃ f, f = du_X37_data_256)
theorem eu_X37_data_256 : u_X37_data_256 = du_X37_data_256 := Classical.choose_spec (⟨du_X37_data_256, rfl⟩ : ∃ f, f = du_X37_data_256)
def du_X37_data_254 (s : jS) (x0 x1 : Int) : Option (jS × Int) :=
  u_X37_data_256 s x0 x1 0
noncomputable def u_X37_data_254 : jS → Int → Int → Option (jS × Int) := Classical.choose (⟨du_X37_data_254, rfl⟩ : ∃ f, f = du_X37_data_254)
theorem eu_X37_data_254 : u_X37_data_254 = du_X37_data_254 := Classical.choose_spec (⟨du_X37_data_254, rfl⟩ : ∃ f, f = du_X37_data_254)
def du_X37_data_205 (s : jS) (x0 x4 : Int) : Option (jS × Int) :=
  (m_X37_placeOf s x0 x4).bind fun q1 =>
  (m_X37_fail_2 q1.1 x0 15 q1.2).bind fun q2 =>
  some (q2.1, Wz q2.2)
noncomputable def u_X37_data_205 : jS → Int → Int → Option (jS × Int) := Classical.choose (⟨du_X37_data_205, rfl⟩ : ∃ f, f = du_X37_data_205)
theorem eu_X37_data_205 : u_X37_data_205 = du_X37_data_205 := Classical.choose_spec (⟨du_X37_data_205, rfl⟩ : ∃ f, f = du_X37_data_205)
def du_X37_data_131 (s : jS) (x0 x4 : Int) : Option (jS × Int) :=
  (m_X37_placeOf s x0 x4).bind fun q1 =>
  (m_X37_fail_2 q1.1 x0 14 q1.2).bind fun q2 =>
  some (q2.1, Wz q2.2)
noncomputable def u_X37_data_131 : jS → Int → Int → Option (jS × Int) := Classical.choose (⟨du_X37_data_131, rfl⟩ : ∃ f, f = du_X37_data_131)
theorem eu_X37_data_131 : u_X37_data_131 = du_X37_data_131 := Classical.choose_spec (⟨du_X37_data_131, rfl⟩ : ∃ f, f = du_X37_data_131)
def du_X37_data_218 (s : jS) (x0 x1 x3 : Int) : Option ((jS × List Int) ⊕ (jS × Int)) :=
  (jst s 1000 (x0 + 166) 800 x3 (jf s 41 x0 52)).bind fun s1 =>
  (jst s1 1000 (x0 + 167) 800 x3 (jf s1 41 x0 53)).bind fun s2 =>
  (jst s2 1000 (x0 + 168) 800 x3 (jf s2 41 x0 54)).bind fun s3 =>
  some (.inl (s3, [x0, x1, W32 (x3 + 1)]))
noncomputable def u_X37_data_218 : jS → Int → Int → Int → Option ((jS × List Int) ⊕ (jS × Int)) := Classical.choose (⟨du_X37_data_218, rfl⟩ : ∃ f, f = du_X37_data_218)
theorem eu_X37_data_218 : u_X37_data_218 = du_X37_data_218 := Classical.choose_spec (⟨du_X37_data_218, rfl⟩ : ∃ f, f = du_X37_data_218)
def du_X37_data_173 (s : jS) (x0 x1 x3 x4 x5 y0 : Int) : Option ((jS × List Int) ⊕ (jS × Int)) :=
  (m_X37_isPlain s x0).bind fun v1 =>
  if v1 = 0 then
    u_X37_data_218 s x0 x1 x3
  else
    if x1 < 4 then
      if (jf s 41 x0 52) < x5 then
        jinr (u_X37_data_205 s x0 x4)
      else
        if y0 < (jf s 41 x0 52) then
          jinr (u_X37_data_205 s x0 x4)
        else
          u_X37_data_218 s x0 x1 x3
    else
      u_X37_data_218 s x0 x1 x3
noncomputable def u_X37_data_173 : jS → Int → Int → Int → Int → Int → Int → Option ((jS × List Int) ⊕ (jS × Int)) := Classical.choose (⟨du_X37_data_173, rfl⟩ : ∃ f, f = du_X37_data_173)
theorem eu_X37_data_173 : u_X37_data_173 = du_X37_data_173 := Classical.choose_spec (⟨du_X37_data_173, rfl⟩ : ∃ f, f = du_X37_data_173)
def du_X37_data_157 (s : jS) (x0 x1 x3 x4 y0 : Int) : Option ((jS × List Int) ⊕ (jS × Int)) :=
  if x1 = 1 then
    u_X37_data_173 s x0 x1 x3 x4 y0 255
  else
    u_X37_data_173 s x0 x1 x3 x4 y0 65535
noncomputable def u_X37_data_157 : jS → Int → Int → Int → Int → Int → Option ((jS × List Int) ⊕ (jS × Int)) := Classical.choose (⟨du_X37_data_157, rfl⟩ : ∃ f, f = du_X37_data_157)
theorem eu_X37_data_157 : u_X37_data_157 = du_X37_data_157 := Classical.choose_spec (⟨du_X37_data_157, rfl⟩ : ∃ f, f = du_X37_data_157)
def du_X37_data_144 (s : jS) (x0 x1 x3 x4 : Int) : Option ((jS × List Int) ⊕ (jS × Int)) :=
  if x1 = 1 then
    u_X37_data_157 s x0 x1 x3 x4 (-128)
  else
    u_X37_data_157 s x0 x1 x3 x4 (-32768)
noncomputable def u_X37_data_144 : jS → Int → Int → Int → Int → Option ((jS × List Int) ⊕ (jS × Int)) := Classical.choose (⟨du_X37_data_144, rfl⟩ : ∃ f, f = du_X37_data_144)
theorem eu_X37_data_144 : u_X37_data_144 = du_X37_data_144 := Classical.choose_spec (⟨du_X37_data_144, rfl⟩ : ∃ f, f = du_X37_data_144)
def du_X37_data_119 (s : jS) (x0 x1 x3 x4 : Int) : Option ((jS × List Int) ⊕ (jS × Int)) :=
  (m_X37_isPlaced s x0).bind fun v1 =>
  if v1 = 0 then
    u_X37_data_144 s x0 x1 x3 x4
  else
    if x1 < 4 then
      jinr (u_X37_data_131 s x0 x4)
    else
      u_X37_data_144 s x0 x1 x3 x4
noncomputable def u_X37_data_119 : jS → Int → Int → Int → Int → Option ((jS × List Int) ⊕ (jS × Int)) := Classical.choose (⟨du_X37_data_119, rfl⟩ : ∃ f, f = du_X37_data_119)
theorem eu_X37_data_119 : u_X37_data_119 = du_X37_data_119 := Classical.choose_spec (⟨du_X37_data_119, rfl⟩ : ∃ f, f = du_X37_data_119)
def b_X37_data_76 (s : jS) (x0 x1 x3 : Int) : Option ((jS × List Int) ⊕ (jS × Int)) :=
  if x3 < (jf s 41 x0 46) then
    jlet (W32 ((jf s 41 x0 45) + x3)) fun v1 =>
    (m_X37_evaluate s x0 v1).bind fun q2 =>
    if q2.2 = 0 then
      jinr (some (q2.1, Wz 0))
    else
      if (jf q2.1 41 x0 53) = (-1) then
        if (jf q2.1 41 x0 54) = (-1) then
          u_X37_data_119 q2.1 x0 x1 x3 v1
        else
          jinr (u_X37_data_131 q2.1 x0 v1)
      else
        u_X37_data_119 q2.1 x0 x1 x3 v1
  else
    jinr (u_X37_data_254 s x0 x1)
def du_X37_data_76 (s : jS) (x0 x1 x3 : Int) : Option (jS × Int) := jlpW (jc3 b_X37_data_76) [x0, x1, x3] s
noncomputable def u_X37_data_76 : jS → Int → Int → Int → Option (jS × Int) := Classical.choose (⟨du_X37_data_76, rfl⟩ : ∃ f, f = du_X37_data_76)
theorem eu_X37_data_76 : u_X37_data_76 = du_X37_data_76 := Classical.choose_spec (⟨du_X37_data_76, rfl⟩ : ∃ f, f = du_X37_data_76)
def du_X37_data_63 (s : jS) (x0 x1 x2 : Int) : Option (jS × Int) :=
  if x2 = 0 then
    (m_X37_fail s x0 12).bind fun q1 =>
    some (q1.1, Wz q1.2)
  else
    u_X37_data_76 s x0 x1 0
noncomputable def u_X37_data_63 : jS → Int → Int → Int → Option (jS × Int) := Classical.choose (⟨du_X37_data_63, rfl⟩ : ∃ f, f = du_X37_data_63)
theorem eu_X37_data_63 : u_X37_data_63 = du_X37_data_63 := Classical.choose_spec (⟨du_X37_data_63, rfl⟩ : ∃ f, f = du_X37_data_63)
def du_X37_data_56 (s : jS) (x0 x1 x3 y0 : Int) : Option ((jS × List Int) ⊕ (jS × Int)) :=
  some (.inl (s, [x0, x1, y0, W32 (x3 + 1)]))
noncomputable def u_X37_data_56 : jS → Int → Int → Int → Int → Option ((jS × List Int) ⊕ (jS × Int)) := Classical.choose (⟨du_X37_data_56, rfl⟩ : ∃ f, f = du_X37_data_56)
theorem eu_X37_data_56 : u_X37_data_56 = du_X37_data_56 := Classical.choose_spec (⟨du_X37_data_56, rfl⟩ : ∃ f, f = du_X37_data_56)
def du_X37_data_55 (s : jS) (x0 x1 x3 : Int) : Option ((jS × List Int) ⊕ (jS × Int)) :=
  u_X37_data_56 s x0 x1 x3 0
noncomputable def u_X37_data_55 : jS → Int → Int → Int → Option ((jS × List Int) ⊕ (jS × Int)) := Classical.choose (⟨du_X37_data_55, rfl⟩ : ∃ f, f = du_X37_data_55)
theorem eu_X37_data_55 : u_X37_data_55 = du_X37_data_55 := Classical.choose_spec (⟨du_X37_data_55, rfl⟩ : ∃ f, f = du_X37_data_55)
def b_X37_data_30 (s : jS) (x0 x1 x2 x3 : Int) : Option ((jS × List Int) ⊕ (jS × Int)) :=
  if x3 < (jf s 41 x0 46) then
    if x2 = 0 then
      u_X37_data_55 s x0 x1 x3
    else
      (m_X37_isSort s x0 x3 0).bind fun q1 =>
      if q1.2 = 0 then
        u_X37_data_55 q1.1 x0 x1 x3
      else
        u_X37_data_56 q1.1 x0 x1 x3 1
  else
    jinr (u_X37_data_63 s x0 x1 x2)
def du_X37_data_30 (s : jS) (x0 x1 x2 x3 : Int) : Option (jS × Int) := jlpW (jc4 b_X37_data_30) [x0, x1, x2, x3] s
noncomputable def u_X37_data_30 : jS → Int → Int → Int → Int → Option (jS × Int) := Classical.choose (⟨du_X37_data_30, rfl⟩ : ∃ f, f = du_X37_data_30)
theorem eu_X37_data_30 : u_X37_data_30 = du_X37_data_30 := Classical.choose_spec (⟨du_X37_data_30, rfl⟩ : ∃ f, f = du_X37_data_30)
def du_X37_data_27 (s : jS) (x0 x1 y0 : Int) : Option (jS × Int) :=
  u_X37_data_30 s x0 x1 y0 0
noncomputable def u_X37_data_27 : jS → Int → Int → Int → Option (jS × Int) := Classical.choose (⟨du_X37_data_27, rfl⟩ : ∃ f, f = du_X37_data_27)
theorem eu_X37_data_27 : u_X37_data_27 = du_X37_data_27 := Classical.choose_spec (⟨du_X37_data_27, rfl⟩ : ∃ f, f = du_X37_data_27)
def dm_X37_data (s : jS) (x0 x1 : Int) : Option (jS × Int) :=
  if (jf s 41 x0 34) = 3 then
    (m_X37_fail s x0 10).bind fun q1 =>
    some (q1.1, Wz q1.2)
  else
    if 0 < (jf s 41 x0 46) then
      u_X37_data_27 s x0 x1 1
    else
      u_X37_data_27 s x0 x1 0
noncomputable def m_X37_data : jS → Int → Int → Option (jS × Int) := Classical.choose (⟨dm_X37_data, rfl⟩ : ∃ f, f = dm_X37_data)
theorem em_X37_data : m_X37_data = dm_X37_data := Classical.choose_spec (⟨dm_X37_data, rfl⟩ : ∃ f, f = dm_X37_data)
def dm_X37_placed (s : jS) (x0 x1 : Int) : Option (jS × Int) :=
  (m_X37_evaluate s x0 x1).bind fun q1 =>
  if q1.2 = 0 then
    some (q1.1, Wz 0)
  else
    (m_X37_isPlaced q1.1 x0).bind fun v2 =>
    if v2 = 0 then
      (m_X37_placeOf q1.1 x0 x1).bind fun q3 =>
      (m_X37_fail_2 q3.1 x0 14 q3.2).bind fun q4 =>
      if q4.2 = 0 then
        some (q4.1, Wz 0)
      else
        some (q4.1, Wz 1)
    else
      some (q1.1, Wz 1)
noncomputable def m_X37_placed : jS → Int → Int → Option (jS × Int) := Classical.choose (⟨dm_X37_placed, rfl⟩ : ∃ f, f = dm_X37_placed)
theorem em_X37_placed : m_X37_placed = dm_X37_placed := Classical.choose_spec (⟨dm_X37_placed, rfl⟩ : ∃ f, f = dm_X37_placed)
def dm_X37_word (s : jS) (x0 x1 x2 x3 x4 x5 : Int) : Option (jS × Int) :=
  (m_X38_word s (x0 + 4) x1 x2 x3 x4 x5).bind fun q1 =>
  some (q1.1, q1.2)
noncomputable def m_X37_word : jS → Int → Int → Int → Int → Int → Int → Option (jS × Int) := Classical.choose (⟨dm_X37_word, rfl⟩ : ∃ f, f = dm_X37_word)
theorem em_X37_word : m_X37_word = dm_X37_word := Classical.choose_spec (⟨dm_X37_word, rfl⟩ : ∃ f, f = dm_X37_word)
def dm_X37_pair (s : jS) (x0 x1 x2 x3 : Int) : Option (jS × Int) :=
  (m_X37_symbolHere s x0).bind fun q1 =>
  if q1.2 = (-1) then
    some (q1.1, Wz 0)
  else
    (m_X37_begun q1.1 x0).bind fun q2 =>
    if q2.2 = 0 then
      some (q2.1, Wz 0)
    else
      (m_X37_word q2.1 x0 1 x1 0 0 0).bind fun q3 =>
      (m_X37_putMoved q3.1 x0 q3.2 23 (jf s 41 x0 53) (jf s 41 x0 52)).bind fun q4 =>
      if q4.2 = 0 then
        some (q4.1, Wz 0)
      else
        (m_X37_putMoved q4.1 x0 x2 x3 q1.2 0).bind fun q5 =>
        if q5.2 = 0 then
          some (q5.1, Wz 0)
        else
          some (q5.1, Wz 1)
noncomputable def m_X37_pair : jS → Int → Int → Int → Int → Option (jS × Int) := Classical.choose (⟨dm_X37_pair, rfl⟩ : ∃ f, f = dm_X37_pair)
theorem em_X37_pair : m_X37_pair = dm_X37_pair := Classical.choose_spec (⟨dm_X37_pair, rfl⟩ : ∃ f, f = dm_X37_pair)
def du_X37_takeNumber_229 (s : jS) (x0 x1 x2 y0 y1 y2 : Int) : Option (jS × Int) :=
  (jst s 1000 y2 4 y1 y0).bind fun s1 =>
  (jlt s1 1000 (x0 + 169) 4 3).bind fun v2 =>
  (m_X38_may s1 (x0 + 4) x1 v2).bind fun q3 =>
  if q3.2 = 0 then
    (m_X37_placeOf q3.1 x0 x2).bind fun q4 =>
    (m_X37_fail_2 q4.1 x0 15 q4.2).bind fun q5 =>
    if q5.2 = 0 then
      some (q5.1, Wz 0)
    else
      some (q5.1, Wz 1)
  else
    some (q3.1, Wz 1)
noncomputable def u_X37_takeNumber_229 : jS → Int → Int → Int → Int → Int → Int → Option (jS × Int) := Classical.choose (⟨du_X37_takeNumber_229, rfl⟩ : ∃ f, f = du_X37_takeNumber_229)
theorem eu_X37_takeNumber_229 : u_X37_takeNumber_229 = du_X37_takeNumber_229 := Classical.choose_spec (⟨du_X37_takeNumber_229, rfl⟩ : ∃ f, f = du_X37_takeNumber_229)
def du_X37_takeNumber_172 (s : jS) (x0 x1 x2 x3 : Int) : Option (jS × Int) :=
  (m_X37_isPlain s x0).bind fun v1 =>
  if v1 = 0 then
    (m_X37_placeOf s x0 x2).bind fun q2 =>
    (m_X37_fail_2 q2.1 x0 14 q2.2).bind fun q3 =>
    some (q3.1, Wz q3.2)
  else
    if x3 = 0 then
      u_X37_takeNumber_229 s x0 x1 x2 (jf s 41 x0 52) 3 (x0 + 169)
    else
      if x3 = 1 then
        (m_X37_highOf s (jf s 41 x0 52)).bind fun v4 =>
        u_X37_takeNumber_229 s x0 x1 x2 v4 3 (x0 + 169)
      else
        (m_X37_lowOf s (jf s 41 x0 52)).bind fun v5 =>
        u_X37_takeNumber_229 s x0 x1 x2 v5 3 (x0 + 169)
noncomputable def u_X37_takeNumber_172 : jS → Int → Int → Int → Int → Option (jS × Int) := Classical.choose (⟨du_X37_takeNumber_172, rfl⟩ : ∃ f, f = du_X37_takeNumber_172)
theorem eu_X37_takeNumber_172 : u_X37_takeNumber_172 = du_X37_takeNumber_172 := Classical.choose_spec (⟨du_X37_takeNumber_172, rfl⟩ : ∃ f, f = du_X37_takeNumber_172)
def du_X37_takeNumber_168 (s : jS) (y0 y1 : Int) : Option (jS × Int) :=
  (m_X37_relocated s y1 y0).bind fun q1 =>
  some (q1.1, Wz q1.2)
noncomputable def u_X37_takeNumber_168 : jS → Int → Int → Option (jS × Int) := Classical.choose (⟨du_X37_takeNumber_168, rfl⟩ : ∃ f, f = du_X37_takeNumber_168)
theorem eu_X37_takeNumber_168 : u_X37_takeNumber_168 = du_X37_takeNumber_168 := Classical.choose_spec (⟨du_X37_takeNumber_168, rfl⟩ : ∃ f, f = du_X37_takeNumber_168)
def du_X37_takeNumber_114 (s : jS) (x0 x2 : Int) : Option (jS × Int) :=
  (m_X37_placeOf s x0 x2).bind fun q1 =>
  (m_X37_fail_2 q1.1 x0 14 q1.2).bind fun q2 =>
  if q2.2 = 0 then
    some (q2.1, Wz 0)
  else
    some (q2.1, Wz 1)
noncomputable def u_X37_takeNumber_114 : jS → Int → Int → Option (jS × Int) := Classical.choose (⟨du_X37_takeNumber_114, rfl⟩ : ∃ f, f = du_X37_takeNumber_114)
theorem eu_X37_takeNumber_114 : u_X37_takeNumber_114 = du_X37_takeNumber_114 := Classical.choose_spec (⟨du_X37_takeNumber_114, rfl⟩ : ∃ f, f = du_X37_takeNumber_114)
def du_X37_takeNumber_108 (s : jS) (x0 x2 y0 y1 : Int) : Option (jS × Int) :=
  (m_X37_relocated s y1 y0).bind fun q1 =>
  if q1.2 = 0 then
    u_X37_takeNumber_114 q1.1 x0 x2
  else
    some (q1.1, Wz 1)
noncomputable def u_X37_takeNumber_108 : jS → Int → Int → Int → Int → Option (jS × Int) := Classical.choose (⟨du_X37_takeNumber_108, rfl⟩ : ∃ f, f = du_X37_takeNumber_108)
theorem eu_X37_takeNumber_108 : u_X37_takeNumber_108 = du_X37_takeNumber_108 := Classical.choose_spec (⟨du_X37_takeNumber_108, rfl⟩ : ∃ f, f = du_X37_takeNumber_108)
def du_X37_takeNumber_56 (s : jS) (x0 x2 : Int) : Option (jS × Int) :=
  (m_X37_placeOf s x0 x2).bind fun q1 =>
  (m_X37_fail_2 q1.1 x0 14 q1.2).bind fun q2 =>
  if q2.2 = 0 then
    some (q2.1, Wz 0)
  else
    some (q2.1, Wz 1)
noncomputable def u_X37_takeNumber_56 : jS → Int → Int → Option (jS × Int) := Classical.choose (⟨du_X37_takeNumber_56, rfl⟩ : ∃ f, f = du_X37_takeNumber_56)
theorem eu_X37_takeNumber_56 : u_X37_takeNumber_56 = du_X37_takeNumber_56 := Classical.choose_spec (⟨du_X37_takeNumber_56, rfl⟩ : ∃ f, f = du_X37_takeNumber_56)
def du_X37_takeNumber_33 (s : jS) (x0 x1 x2 x3 y0 : Int) : Option (jS × Int) :=
  if x3 = 3 then
    (m_X37_isPlaced s x0).bind fun v1 =>
    if v1 = 0 then
      u_X37_takeNumber_56 s x0 x2
    else
      (m_X37_relocated s x0 23).bind fun q2 =>
      if q2.2 = 0 then
        u_X37_takeNumber_56 q2.1 x0 x2
      else
        some (q2.1, Wz 1)
  else
    if x3 = 4 then
      (m_X37_isPlaced s x0).bind fun v3 =>
      if v3 = 0 then
        u_X37_takeNumber_114 s x0 x2
      else
        if (jf s 41 x0 52) = 0 then
          if y0 = 0 then
            u_X37_takeNumber_108 s x0 x2 24 x0
          else
            u_X37_takeNumber_108 s x0 x2 25 x0
        else
          u_X37_takeNumber_114 s x0 x2
    else
      if 0 < x3 then
        (m_X37_isPlaced s x0).bind fun v4 =>
        if v4 = 0 then
          u_X37_takeNumber_172 s x0 x1 x2 x3
        else
          if x3 = 1 then
            u_X37_takeNumber_168 s 26 x0
          else
            if y0 = 0 then
              u_X37_takeNumber_168 s 27 x0
            else
              u_X37_takeNumber_168 s 28 x0
      else
        u_X37_takeNumber_172 s x0 x1 x2 x3
noncomputable def u_X37_takeNumber_33 : jS → Int → Int → Int → Int → Int → Option (jS × Int) := Classical.choose (⟨du_X37_takeNumber_33, rfl⟩ : ∃ f, f = du_X37_takeNumber_33)
theorem eu_X37_takeNumber_33 : u_X37_takeNumber_33 = du_X37_takeNumber_33 := Classical.choose_spec (⟨du_X37_takeNumber_33, rfl⟩ : ∃ f, f = du_X37_takeNumber_33)
def du_X37_takeNumber_32 (s : jS) (x0 x1 x2 x3 : Int) : Option (jS × Int) :=
  u_X37_takeNumber_33 s x0 x1 x2 x3 0
noncomputable def u_X37_takeNumber_32 : jS → Int → Int → Int → Int → Option (jS × Int) := Classical.choose (⟨du_X37_takeNumber_32, rfl⟩ : ∃ f, f = du_X37_takeNumber_32)
theorem eu_X37_takeNumber_32 : u_X37_takeNumber_32 = du_X37_takeNumber_32 := Classical.choose_spec (⟨du_X37_takeNumber_32, rfl⟩ : ∃ f, f = du_X37_takeNumber_32)
def dm_X37_takeNumber (s : jS) (x0 x1 x2 : Int) : Option (jS × Int) :=
  (m_X37_markOf s x0 x2).bind fun q1 =>
  (m_X37_evaluate q1.1 x0 x2).bind fun q2 =>
  if q2.2 = 0 then
    some (q2.1, Wz 0)
  else
    if x1 < 15 then
      u_X37_takeNumber_32 q2.1 x0 x1 x2 q1.2
    else
      if 17 < x1 then
        u_X37_takeNumber_32 q2.1 x0 x1 x2 q1.2
      else
        u_X37_takeNumber_33 q2.1 x0 x1 x2 q1.2 1
noncomputable def m_X37_takeNumber : jS → Int → Int → Int → Option (jS × Int) := Classical.choose (⟨dm_X37_takeNumber, rfl⟩ : ∃ f, f = dm_X37_takeNumber)
theorem em_X37_takeNumber : m_X37_takeNumber = dm_X37_takeNumber := Classical.choose_spec (⟨dm_X37_takeNumber, rfl⟩ : ∃ f, f = dm_X37_takeNumber)
def dm_X37_takeMemory (s : jS) (x0 x1 x2 x3 : Int) : Option (jS × Int) :=
  (m_X37_takeNumber s x0 x1 x2).bind fun q1 =>
  if q1.2 = 0 then
    some (q1.1, Wz 0)
  else
    if x3 = 0 then
      (m_X37_takeRegister q1.1 x0 x1 1 x2).bind fun q2 =>
      if q2.2 = 0 then
        some (q2.1, Wz 0)
      else
        some (q2.1, Wz 1)
    else
      some (q1.1, Wz 1)
noncomputable def m_X37_takeMemory : jS → Int → Int → Int → Int → Option (jS × Int) := Classical.choose (⟨dm_X37_takeMemory, rfl⟩ : ∃ f, f = dm_X37_takeMemory)
theorem em_X37_takeMemory : m_X37_takeMemory = dm_X37_takeMemory := Classical.choose_spec (⟨dm_X37_takeMemory, rfl⟩ : ∃ f, f = dm_X37_takeMemory)
def du_X37_takeTarget_51 (s : jS) (y0 y1 : Int) : Option (jS × Int) :=
  (m_X37_relocated s y1 y0).bind fun q1 =>
  some (q1.1, Wz q1.2)
noncomputable def u_X37_takeTarget_51 : jS → Int → Int → Option (jS × Int) := Classical.choose (⟨du_X37_takeTarget_51, rfl⟩ : ∃ f, f = du_X37_takeTarget_51)
theorem eu_X37_takeTarget_51 : u_X37_takeTarget_51 = du_X37_takeTarget_51 := Classical.choose_spec (⟨du_X37_takeTarget_51, rfl⟩ : ∃ f, f = du_X37_takeTarget_51)
def du_X37_takeTarget_44 (s : jS) (y0 : Int) : Option (jS × Int) :=
  u_X37_takeTarget_51 s 45 y0
noncomputable def u_X37_takeTarget_44 : jS → Int → Option (jS × Int) := Classical.choose (⟨du_X37_takeTarget_44, rfl⟩ : ∃ f, f = du_X37_takeTarget_44)
theorem eu_X37_takeTarget_44 : u_X37_takeTarget_44 = du_X37_takeTarget_44 := Classical.choose_spec (⟨du_X37_takeTarget_44, rfl⟩ : ∃ f, f = du_X37_takeTarget_44)
def dm_X37_takeTarget (s : jS) (x0 x1 x2 : Int) : Option (jS × Int) :=
  (m_X37_placed s x0 x2).bind fun q1 =>
  if q1.2 = 0 then
    some (q1.1, Wz 0)
  else
    if x1 = 2 then
      u_X37_takeTarget_51 q1.1 17 x0
    else
      if x1 < 10 then
        u_X37_takeTarget_51 q1.1 16 x0
      else
        if x1 = 53 then
          u_X37_takeTarget_44 q1.1 x0
        else
          if x1 = 64 then
            u_X37_takeTarget_44 q1.1 x0
          else
            u_X37_takeTarget_51 q1.1 44 x0
noncomputable def m_X37_takeTarget : jS → Int → Int → Int → Option (jS × Int) := Classical.choose (⟨dm_X37_takeTarget, rfl⟩ : ∃ f, f = dm_X37_takeTarget)
theorem em_X37_takeTarget : m_X37_takeTarget = dm_X37_takeTarget := Classical.choose_spec (⟨dm_X37_takeTarget, rfl⟩ : ∃ f, f = dm_X37_takeTarget)
def du_X37_calls_85 (s : jS) (x0 x2 x3 y0 y1 y2 y3 : Int) : Option (jS × Int) :=
  (m_X37_word s y2 y1 y0 x2 0 0).bind fun q1 =>
  (m_X37_putBytes q1.1 y3 q1.2 4).bind fun q2 =>
  if q2.2 = 0 then
    some (q2.1, Wz 0)
  else
    (m_X37_wordMove q2.1 x0 x3 19 (jf q2.1 41 x0 53) (jf q2.1 41 x0 52)).bind fun q3 =>
    if q3.2 = 0 then
      some (q3.1, Wz 0)
    else
      some (q3.1, Wz 1)
noncomputable def u_X37_calls_85 : jS → Int → Int → Int → Int → Int → Int → Int → Option (jS × Int) := Classical.choose (⟨du_X37_calls_85, rfl⟩ : ∃ f, f = du_X37_calls_85)
theorem eu_X37_calls_85 : u_X37_calls_85 = du_X37_calls_85 := Classical.choose_spec (⟨du_X37_calls_85, rfl⟩ : ∃ f, f = du_X37_calls_85)
def du_X37_calls_41 (s : jS) (x0 x1 y0 : Int) : Option (jS × Int) :=
  (jlt s 1000 (x0 + 153) 4 0).bind fun v1 =>
  (m_X37_begun s x0).bind fun q2 =>
  if q2.2 = 0 then
    some (q2.1, Wz 0)
  else
    (m_X37_word q2.1 x0 1 y0 0 0 0).bind fun q3 =>
    (m_X37_putBytes q3.1 x0 q3.2 4).bind fun q4 =>
    if q4.2 = 0 then
      some (q4.1, Wz 0)
    else
      if x1 = 0 then
        u_X37_calls_85 q4.1 x0 y0 v1 1 3 x0 x0
      else
        u_X37_calls_85 q4.1 x0 y0 v1 0 3 x0 x0
noncomputable def u_X37_calls_41 : jS → Int → Int → Int → Option (jS × Int) := Classical.choose (⟨du_X37_calls_41, rfl⟩ : ∃ f, f = du_X37_calls_41)
theorem eu_X37_calls_41 : u_X37_calls_41 = du_X37_calls_41 := Classical.choose_spec (⟨du_X37_calls_41, rfl⟩ : ∃ f, f = du_X37_calls_41)
def dm_X37_calls (s : jS) (x0 x1 : Int) : Option (jS × Int) :=
  (m_X37_are s x0 1 0 0 0).bind fun q1 =>
  if q1.2 = 0 then
    (m_X37_fail q1.1 x0 12).bind fun q2 =>
    some (q2.1, Wz q2.2)
  else
    (m_X37_placed q1.1 x0 (jf q1.1 41 x0 45)).bind fun q3 =>
    if q3.2 = 0 then
      some (q3.1, Wz 0)
    else
      if x1 = 0 then
        u_X37_calls_41 q3.1 x0 x1 1
      else
        u_X37_calls_41 q3.1 x0 x1 6
noncomputable def m_X37_calls : jS → Int → Int → Option (jS × Int) := Classical.choose (⟨dm_X37_calls, rfl⟩ : ∃ f, f = dm_X37_calls)
theorem em_X37_calls : m_X37_calls = dm_X37_calls := Classical.choose_spec (⟨dm_X37_calls, rfl⟩ : ∃ f, f = dm_X37_calls)
def du_X37_takenPiece_385 (s : jS) (x0 x2 x3 x4 x5 x12 : Int) : Option (jS × Int) :=
  (m_X37_added s x0 x12 x2 x4 x5 x3).bind fun q1 =>
  some (q1.1, Wz q1.2)
noncomputable def u_X37_takenPiece_385 : jS → Int → Int → Int → Int → Int → Int → Option (jS × Int) := Classical.choose (⟨du_X37_takenPiece_385, rfl⟩ : ∃ f, f = du_X37_takenPiece_385)
theorem eu_X37_takenPiece_385 : u_X37_takenPiece_385 = du_X37_takenPiece_385 := Classical.choose_spec (⟨du_X37_takenPiece_385, rfl⟩ : ∃ f, f = du_X37_takenPiece_385)
def du_X37_takenPiece_380 (s : jS) (x0 x2 x3 x4 x5 y0 y1 y2 y3 y4 : Int) : Option (jS × Int) :=
  (m_X41_upper s y4 y3 y2 y1 y0).bind fun q1 =>
  u_X37_takenPiece_385 q1.1 x0 x2 x3 x4 x5 q1.2
noncomputable def u_X37_takenPiece_380 : jS → Int → Int → Int → Int → Int → Int → Int → Int → Int → Int → Option (jS × Int) := Classical.choose (⟨du_X37_takenPiece_380, rfl⟩ : ∃ f, f = du_X37_takenPiece_380)
theorem eu_X37_takenPiece_380 : u_X37_takenPiece_380 = du_X37_takenPiece_380 := Classical.choose_spec (⟨du_X37_takenPiece_380, rfl⟩ : ∃ f, f = du_X37_takenPiece_380)
def du_X37_takenPiece_379 (s : jS) (x0 x2 x3 x4 x5 y0 y1 y2 y3 : Int) : Option (jS × Int) :=
  u_X37_takenPiece_380 s x0 x2 x3 x4 x5 0 y0 y1 y2 y3
noncomputable def u_X37_takenPiece_379 : jS → Int → Int → Int → Int → Int → Int → Int → Int → Int → Option (jS × Int) := Classical.choose (⟨du_X37_takenPiece_379, rfl⟩ : ∃ f, f = du_X37_takenPiece_379)
theorem eu_X37_takenPiece_379 : u_X37_takenPiece_379 = du_X37_takenPiece_379 := Classical.choose_spec (⟨du_X37_takenPiece_379, rfl⟩ : ∃ f, f = du_X37_takenPiece_379)
def du_X37_takenPiece_302 (s : jS) (x0 x2 x3 x4 x5 y0 y1 y2 y3 y4 : Int) : Option (jS × Int) :=
  (m_X41_call s y4 y3 y2 y1 y0).bind fun q1 =>
  u_X37_takenPiece_385 q1.1 x0 x2 x3 x4 x5 q1.2
noncomputable def u_X37_takenPiece_302 : jS → Int → Int → Int → Int → Int → Int → Int → Int → Int → Int → Option (jS × Int) := Classical.choose (⟨du_X37_takenPiece_302, rfl⟩ : ∃ f, f = du_X37_takenPiece_302)
theorem eu_X37_takenPiece_302 : u_X37_takenPiece_302 = du_X37_takenPiece_302 := Classical.choose_spec (⟨du_X37_takenPiece_302, rfl⟩ : ∃ f, f = du_X37_takenPiece_302)
def du_X37_takenPiece_301 (s : jS) (x0 x2 x3 x4 x5 y0 y1 y2 y3 : Int) : Option (jS × Int) :=
  u_X37_takenPiece_302 s x0 x2 x3 x4 x5 0 y0 y1 y2 y3
noncomputable def u_X37_takenPiece_301 : jS → Int → Int → Int → Int → Int → Int → Int → Int → Int → Option (jS × Int) := Classical.choose (⟨du_X37_takenPiece_301, rfl⟩ : ∃ f, f = du_X37_takenPiece_301)
theorem eu_X37_takenPiece_301 : u_X37_takenPiece_301 = du_X37_takenPiece_301 := Classical.choose_spec (⟨du_X37_takenPiece_301, rfl⟩ : ∃ f, f = du_X37_takenPiece_301)
def du_X37_takenPiece_252 (s : jS) (x0 x1 x2 x3 x4 x5 x10 y0 y1 : Int) : Option (jS × Int) :=
  (m_X38_part s y1 y0 0).bind fun q1 =>
  (jlt q1.1 1000 (x0 + 186) 1800 x3).bind fun v2 =>
  if v2 = 19 then
    (jlt q1.1 1000 (x0 + 188) 1800 x3).bind fun v3 =>
    (jlt q1.1 1002 (x0 + 175) 6 x1).bind fun v4 =>
    if v4 = 0 then
      u_X37_takenPiece_301 q1.1 x0 x2 x3 x4 x5 v3 x10 x2 (x0 + 93)
    else
      if q1.2 < 2 then
        u_X37_takenPiece_302 q1.1 x0 x2 x3 x4 x5 1 v3 x10 x2 (x0 + 93)
      else
        u_X37_takenPiece_301 q1.1 x0 x2 x3 x4 x5 v3 x10 x2 (x0 + 93)
  else
    (jlt q1.1 1000 (x0 + 186) 1800 x3).bind fun v5 =>
    if v5 = 23 then
      (jlt q1.1 1000 (x0 + 188) 1800 x3).bind fun v6 =>
      (m_X41_near q1.1 (x0 + 93) x2 x10 v6).bind fun q7 =>
      u_X37_takenPiece_385 q7.1 x0 x2 x3 x4 x5 q7.2
    else
      (jlt q1.1 1000 (x0 + 188) 1800 x3).bind fun v8 =>
      (jlt q1.1 1002 (x0 + 175) 6 x1).bind fun v9 =>
      if v9 = 0 then
        u_X37_takenPiece_379 q1.1 x0 x2 x3 x4 x5 v8 x10 x2 (x0 + 93)
      else
        if q1.2 = 0 then
          u_X37_takenPiece_379 q1.1 x0 x2 x3 x4 x5 v8 x10 x2 (x0 + 93)
        else
          if q1.2 = 2 then
            u_X37_takenPiece_379 q1.1 x0 x2 x3 x4 x5 v8 x10 x2 (x0 + 93)
          else
            u_X37_takenPiece_380 q1.1 x0 x2 x3 x4 x5 1 v8 x10 x2 (x0 + 93)
noncomputable def u_X37_takenPiece_252 : jS → Int → Int → Int → Int → Int → Int → Int → Int → Int → Option (jS × Int) := Classical.choose (⟨du_X37_takenPiece_252, rfl⟩ : ∃ f, f = du_X37_takenPiece_252)
theorem eu_X37_takenPiece_252 : u_X37_takenPiece_252 = du_X37_takenPiece_252 := Classical.choose_spec (⟨du_X37_takenPiece_252, rfl⟩ : ∃ f, f = du_X37_takenPiece_252)
def du_X37_takenPiece_192 (s : jS) (x0 x1 x2 x3 x4 x5 x6 x9 y0 : Int) : Option (jS × Int) :=
  if y0 = 0 then
    (m_X37_refuse s x0 7 x1 (W32 (x3 - (W32 (300 * x1))))).bind fun q1 =>
    some (q1.1, Wz q1.2)
  else
    (m_X37_labelFor s x0 x1 x3).bind fun q2 =>
    if q2.2 = (-1) then
      some (q2.1, Wz 0)
    else
      (jlt q2.1 1000 (x0 + 186) 1800 x3).bind fun v3 =>
      if v3 = 19 then
        u_X37_takenPiece_252 q2.1 x0 x1 x2 x3 x4 x5 q2.2 x9 (x0 + 4)
      else
        u_X37_takenPiece_252 q2.1 x0 x1 x2 x3 x4 x5 q2.2 x6 (x0 + 4)
noncomputable def u_X37_takenPiece_192 : jS → Int → Int → Int → Int → Int → Int → Int → Int → Int → Option (jS × Int) := Classical.choose (⟨du_X37_takenPiece_192, rfl⟩ : ∃ f, f = du_X37_takenPiece_192)
theorem eu_X37_takenPiece_192 : u_X37_takenPiece_192 = du_X37_takenPiece_192 := Classical.choose_spec (⟨du_X37_takenPiece_192, rfl⟩ : ∃ f, f = du_X37_takenPiece_192)
def du_X37_takenPiece_191 (s : jS) (x0 x1 x2 x3 x4 x5 x6 x9 : Int) : Option (jS × Int) :=
  u_X37_takenPiece_192 s x0 x1 x2 x3 x4 x5 x6 x9 0
noncomputable def u_X37_takenPiece_191 : jS → Int → Int → Int → Int → Int → Int → Int → Int → Option (jS × Int) := Classical.choose (⟨du_X37_takenPiece_191, rfl⟩ : ∃ f, f = du_X37_takenPiece_191)
theorem eu_X37_takenPiece_191 : u_X37_takenPiece_191 = du_X37_takenPiece_191 := Classical.choose_spec (⟨du_X37_takenPiece_191, rfl⟩ : ∃ f, f = du_X37_takenPiece_191)
def du_X37_takenPiece_187 (s : jS) (x0 x1 x2 x3 x4 x5 x6 x9 : Int) : Option (jS × Int) :=
  u_X37_takenPiece_192 s x0 x1 x2 x3 x4 x5 x6 x9 1
noncomputable def u_X37_takenPiece_187 : jS → Int → Int → Int → Int → Int → Int → Int → Int → Option (jS × Int) := Classical.choose (⟨du_X37_takenPiece_187, rfl⟩ : ∃ f, f = du_X37_takenPiece_187)
theorem eu_X37_takenPiece_187 : u_X37_takenPiece_187 = du_X37_takenPiece_187 := Classical.choose_spec (⟨du_X37_takenPiece_187, rfl⟩ : ∃ f, f = du_X37_takenPiece_187)
def du_X37_takenPiece_156 (s : jS) (x0 x1 x2 x3 x4 x5 x6 x8 y0 : Int) : Option (jS × Int) :=
  if x8 = 0 then
    u_X37_takenPiece_191 s x0 x1 x2 x3 x4 x5 x6 y0
  else
    (jlt s 1000 (x0 + 186) 1800 x3).bind fun v1 =>
    if v1 = 19 then
      (m_X38_kind s (x0 + 4) y0).bind fun q2 =>
      if q2.2 = 3 then
        u_X37_takenPiece_187 q2.1 x0 x1 x2 x3 x4 x5 x6 y0
      else
        u_X37_takenPiece_191 q2.1 x0 x1 x2 x3 x4 x5 x6 y0
    else
      u_X37_takenPiece_187 s x0 x1 x2 x3 x4 x5 x6 y0
noncomputable def u_X37_takenPiece_156 : jS → Int → Int → Int → Int → Int → Int → Int → Int → Int → Option (jS × Int) := Classical.choose (⟨du_X37_takenPiece_156, rfl⟩ : ∃ f, f = du_X37_takenPiece_156)
theorem eu_X37_takenPiece_156 : u_X37_takenPiece_156 = du_X37_takenPiece_156 := Classical.choose_spec (⟨du_X37_takenPiece_156, rfl⟩ : ∃ f, f = du_X37_takenPiece_156)
def du_X37_takenPiece_130 (s : jS) (x0 x1 x2 x3 x4 x5 x6 y0 : Int) : Option (jS × Int) :=
  (jlt s 1000 (x0 + 186) 1800 x3).bind fun v1 =>
  if v1 = 19 then
    (m_X37_unitWord s x0 x1 (W32 (x4 + 4))).bind fun v2 =>
    u_X37_takenPiece_156 s x0 x1 x2 x3 x4 x5 x6 y0 v2
  else
    u_X37_takenPiece_156 s x0 x1 x2 x3 x4 x5 x6 y0 0
noncomputable def u_X37_takenPiece_130 : jS → Int → Int → Int → Int → Int → Int → Int → Int → Option (jS × Int) := Classical.choose (⟨du_X37_takenPiece_130, rfl⟩ : ∃ f, f = du_X37_takenPiece_130)
theorem eu_X37_takenPiece_130 : u_X37_takenPiece_130 = du_X37_takenPiece_130 := Classical.choose_spec (⟨du_X37_takenPiece_130, rfl⟩ : ∃ f, f = du_X37_takenPiece_130)
def du_X37_takenPiece_48 (s : jS) (x0 x2 x3 x4 x5 x6 : Int) : Option (jS × Int) :=
  (jlt s 1000 (x0 + 188) 1800 x3).bind fun v1 =>
  (m_X41_fill s (x0 + 93) x2 x6 v1).bind fun q2 =>
  (m_X37_added q2.1 x0 q2.2 x2 x4 x5 x3).bind fun q3 =>
  some (q3.1, Wz q3.2)
noncomputable def u_X37_takenPiece_48 : jS → Int → Int → Int → Int → Int → Int → Option (jS × Int) := Classical.choose (⟨du_X37_takenPiece_48, rfl⟩ : ∃ f, f = du_X37_takenPiece_48)
theorem eu_X37_takenPiece_48 : u_X37_takenPiece_48 = du_X37_takenPiece_48 := Classical.choose_spec (⟨du_X37_takenPiece_48, rfl⟩ : ∃ f, f = du_X37_takenPiece_48)
def b_X37_takenPiece_29 (s : jS) (x0 x2 x3 x4 x5 x6 : Int) : Option ((jS × List Int) ⊕ (jS × Int)) :=
  (jlt s 1000 (x0 + 188) 1800 x3).bind fun v1 =>
  if v1 < (I_shl 1 x6) then
    jinr (u_X37_takenPiece_48 s x0 x2 x3 x4 x5 x6)
  else
    some (.inl (s, [x0, x2, x3, x4, x5, W32 (x6 + 1)]))
def du_X37_takenPiece_29 (s : jS) (x0 x2 x3 x4 x5 x6 : Int) : Option (jS × Int) := jlpW (jc6 b_X37_takenPiece_29) [x0, x2, x3, x4, x5, x6] s
noncomputable def u_X37_takenPiece_29 : jS → Int → Int → Int → Int → Int → Int → Option (jS × Int) := Classical.choose (⟨du_X37_takenPiece_29, rfl⟩ : ∃ f, f = du_X37_takenPiece_29)
theorem eu_X37_takenPiece_29 : u_X37_takenPiece_29 = du_X37_takenPiece_29 := Classical.choose_spec (⟨du_X37_takenPiece_29, rfl⟩ : ∃ f, f = du_X37_takenPiece_29)
def dm_X37_takenPiece (s : jS) (x0 x1 x2 x3 : Int) : Option (jS × Int) :=
  (jlt s 1000 (x0 + 185) 1800 x3).bind fun v1 =>
  (m_X37_widthOf s x0 x3).bind fun v2 =>
  (jlt s 1000 (x0 + 186) 1800 x3).bind fun v3 =>
  if v3 = 43 then
    u_X37_takenPiece_29 s x0 x2 x3 v1 v2 0
  else
    (m_X37_unitWord s x0 x1 v1).bind fun v4 =>
    (m_X38_kind s (x0 + 4) v4).bind fun q5 =>
    (jlt q5.1 1000 (x0 + 186) 1800 x3).bind fun v6 =>
    if v6 = 26 then
      if q5.2 = 0 then
        u_X37_takenPiece_130 q5.1 x0 x1 x2 x3 v1 v2 v4 1
      else
        u_X37_takenPiece_130 q5.1 x0 x1 x2 x3 v1 v2 v4 0
    else
      if q5.2 = 1 then
        u_X37_takenPiece_130 q5.1 x0 x1 x2 x3 v1 v2 v4 1
      else
        u_X37_takenPiece_130 q5.1 x0 x1 x2 x3 v1 v2 v4 0
noncomputable def m_X37_takenPiece : jS → Int → Int → Int → Int → Option (jS × Int) := Classical.choose (⟨dm_X37_takenPiece, rfl⟩ : ∃ f, f = dm_X37_takenPiece)
theorem em_X37_takenPiece : m_X37_takenPiece = dm_X37_takenPiece := Classical.choose_spec (⟨dm_X37_takenPiece, rfl⟩ : ∃ f, f = dm_X37_takenPiece)
def dm_X37_formed (s : jS) (x0 x1 x2 x3 x4 x5 x6 : Int) : Option (jS × Int) :=
  (m_X38_may s (x0 + 4) x2 x6).bind fun q1 =>
  if q1.2 = 0 then
    (m_X37_wrong q1.1 x0 8 x1).bind fun q2 =>
    some (q2.1, Wz q2.2)
  else
    (m_X37_word q1.1 x0 x2 x3 x4 x5 (L2i x6)).bind fun q3 =>
    (m_X37_storeWord q3.1 x0 (jf q1.1 41 x0 115) q3.2).bind fun q4 =>
    some (q4.1, Wz 1)
noncomputable def m_X37_formed : jS → Int → Int → Int → Int → Int → Int → Int → Option (jS × Int) := Classical.choose (⟨dm_X37_formed, rfl⟩ : ∃ f, f = dm_X37_formed)
theorem em_X37_formed : m_X37_formed = dm_X37_formed := Classical.choose_spec (⟨dm_X37_formed, rfl⟩ : ∃ f, f = dm_X37_formed)
def dm_X37_fitted (s : jS) (x0 x1 x2 x3 x4 : Int) : Option (jS × Int) :=
  (m_X38_fit s (x0 + 4) x3 x4).bind fun q1 =>
  (m_X38_thrown q1.1 (x0 + 4)).bind fun v2 =>
  if v2 = 0 then
    (m_X37_storeWord q1.1 x0 x2 q1.2).bind fun q3 =>
    some (q3.1, Wz 1)
  else
    (m_X37_wrong q1.1 x0 8 x1).bind fun q4 =>
    some (q4.1, Wz q4.2)
noncomputable def m_X37_fitted : jS → Int → Int → Int → Int → Int → Option (jS × Int) := Classical.choose (⟨dm_X37_fitted, rfl⟩ : ∃ f, f = dm_X37_fitted)
theorem em_X37_fitted : m_X37_fitted = dm_X37_fitted := Classical.choose_spec (⟨dm_X37_fitted, rfl⟩ : ∃ f, f = dm_X37_fitted)
def du_X37_lowWord_61 (s : jS) (x3 x8 y0 y1 y2 y3 y4 : Int) : Option (jS × Int) :=
  (m_X37_formed s y4 y3 y2 y1 y0 x8 x3).bind fun q1 =>
  some (q1.1, Wz q1.2)
noncomputable def u_X37_lowWord_61 : jS → Int → Int → Int → Int → Int → Int → Int → Option (jS × Int) := Classical.choose (⟨du_X37_lowWord_61, rfl⟩ : ∃ f, f = du_X37_lowWord_61)
theorem eu_X37_lowWord_61 : u_X37_lowWord_61 = du_X37_lowWord_61 := Classical.choose_spec (⟨du_X37_lowWord_61, rfl⟩ : ∃ f, f = du_X37_lowWord_61)
def dm_X37_lowWord (s : jS) (x0 x1 x2 x3 x5 : Int) : Option (jS × Int) :=
  (m_X38_kind s (x0 + 4) x2).bind fun q1 =>
  (m_X38_part q1.1 (x0 + 4) x2 0).bind fun q2 =>
  (m_X38_part q2.1 (x0 + 4) x2 2).bind fun q3 =>
  (m_X38_part q3.1 (x0 + 4) x2 1).bind fun q4 =>
  if x5 < 0 then
    u_X37_lowWord_61 q4.1 x3 q3.2 q4.2 q2.2 q1.2 x1 x0
  else
    u_X37_lowWord_61 q4.1 x3 q3.2 x5 q2.2 q1.2 x1 x0
noncomputable def m_X37_lowWord : jS → Int → Int → Int → Int → Int → Option (jS × Int) := Classical.choose (⟨dm_X37_lowWord, rfl⟩ : ∃ f, f = dm_X37_lowWord)
theorem em_X37_lowWord : m_X37_lowWord = dm_X37_lowWord := Classical.choose_spec (⟨dm_X37_lowWord, rfl⟩ : ∃ f, f = dm_X37_lowWord)
def du_X37_tell_97 (s : jS) (x0 x1 x2 : Int) : Option (jS × Int) :=
  (m_X38_tell s (x0 + 4) x2 x1).bind fun q1 =>
  some (q1.1, q1.2)
noncomputable def u_X37_tell_97 : jS → Int → Int → Int → Option (jS × Int) := Classical.choose (⟨du_X37_tell_97, rfl⟩ : ∃ f, f = du_X37_tell_97)
theorem eu_X37_tell_97 : u_X37_tell_97 = du_X37_tell_97 := Classical.choose_spec (⟨du_X37_tell_97, rfl⟩ : ∃ f, f = du_X37_tell_97)
def dm_X37_tell (s : jS) (x0 x1 : Int) : Option (jS × Int) :=
  jls (jp s 41 x0 4 0) fun s1 =>
  if x1 < 0 then
    some (s1, (-1))
  else
    if x1 < 131072 then
      (jdv 2 (I_rem x1 2)).bind fun v2 =>
      if v2 = 0 then
        (jlt s1 1000 ((x0 + 130) + 3) 131072 x1).bind fun v3 =>
        (jlt s1 1000 ((x0 + 130) + 3) 131072 (W32 (x1 + 1))).bind fun v4 =>
        jlet (I_or v3 (I_shl v4 8)) fun v5 =>
        if (I_and v5 3) = 3 then
          if 131072 < (W32 (x1 + 4)) then
            u_X37_tell_97 s1 x0 x1 v5
          else
            (jlt s1 1000 ((x0 + 130) + 3) 131072 (W32 (x1 + 2))).bind fun v6 =>
            (jlt s1 1000 ((x0 + 130) + 3) 131072 (W32 (x1 + 3))).bind fun v7 =>
            jlet (I_or (I_or v5 (I_shl v6 16)) (I_shl v7 24)) fun v8 =>
            u_X37_tell_97 s1 x0 x1 v8
        else
          u_X37_tell_97 s1 x0 x1 v5
      else
        some (s1, (-1))
    else
      some (s1, (-1))
noncomputable def m_X37_tell : jS → Int → Int → Option (jS × Int) := Classical.choose (⟨dm_X37_tell, rfl⟩ : ∃ f, f = dm_X37_tell)
theorem em_X37_tell : m_X37_tell = dm_X37_tell := Classical.choose_spec (⟨dm_X37_tell, rfl⟩ : ∃ f, f = dm_X37_tell)
def du_X38_shrink_63 (s : jS) (x0 x1 x2 : Int) : Option ((jS × List Int) ⊕ (jS × Int)) :=
  some (.inl (s, [x0, x1, W32 (x2 + 1)]))
noncomputable def u_X38_shrink_63 : jS → Int → Int → Int → Option ((jS × List Int) ⊕ (jS × Int)) := Classical.choose (⟨du_X38_shrink_63, rfl⟩ : ∃ f, f = du_X38_shrink_63)
theorem eu_X38_shrink_63 : u_X38_shrink_63 = du_X38_shrink_63 := Classical.choose_spec (⟨du_X38_shrink_63, rfl⟩ : ∃ f, f = du_X38_shrink_63)
def b_X38_shrink_3 (s : jS) (x0 x1 x2 : Int) : Option ((jS × List Int) ⊕ (jS × Int)) :=
  if x2 < 75 then
    (m_X38_find s x0 x1).bind fun q1 =>
    (m_X38_longKind q1.1 x2).bind fun v2 =>
    if q1.2 = v2 then
      (m_X38_areGood q1.1 x0 x2).bind fun v3 =>
      if v3 = 0 then
        u_X38_shrink_63 q1.1 x0 x1 x2
      else
        (m_X38_put q1.1 x0 x2).bind fun v4 =>
        (m_X38_find q1.1 x0 v4).bind fun q5 =>
        if q5.2 = x2 then
          (m_X38_stretch q5.1 x0 x2).bind fun q6 =>
          if q6.2 = x1 then
            jinr (some (q6.1, v4))
          else
            u_X38_shrink_63 q6.1 x0 x1 x2
        else
          u_X38_shrink_63 q5.1 x0 x1 x2
    else
      u_X38_shrink_63 q1.1 x0 x1 x2
  else
    jinr (some (s, (-1)))
def du_X38_shrink_3 (s : jS) (x0 x1 x2 : Int) : Option (jS × Int) := jlpW (jc3 b_X38_shrink_3) [x0, x1, x2] s
noncomputable def u_X38_shrink_3 : jS → Int → Int → Int → Option (jS × Int) := Classical.choose (⟨du_X38_shrink_3, rfl⟩ : ∃ f, f = du_X38_shrink_3)
theorem eu_X38_shrink_3 : u_X38_shrink_3 = du_X38_shrink_3 := Classical.choose_spec (⟨du_X38_shrink_3, rfl⟩ : ∃ f, f = du_X38_shrink_3)
def dm_X38_shrink (s : jS) (x0 x1 : Int) : Option (jS × Int) :=
  u_X38_shrink_3 s x0 x1 48
noncomputable def m_X38_shrink : jS → Int → Int → Option (jS × Int) := Classical.choose (⟨dm_X38_shrink, rfl⟩ : ∃ f, f = dm_X38_shrink)
theorem em_X38_shrink : m_X38_shrink = dm_X38_shrink := Classical.choose_spec (⟨dm_X38_shrink, rfl⟩ : ∃ f, f = dm_X38_shrink)
def dm_X39_based (s : jS) (x0 x1 : Int) : Option (jS × Int) :=
  (m_X39_next s x0).bind fun q1 =>
  (m_X39_register q1.1 x0).bind fun v2 =>
  if v2 = (-1) then
    (m_X39_fail q1.1 x0 5).bind fun q3 =>
    some (q3.1, Wz q3.2)
  else
    (jst q1.1 1000 (x0 + 5) 11200 x1 2).bind fun s4 =>
    (jst s4 1000 (x0 + 5) 11200 (W32 (x1 + 1)) v2).bind fun s5 =>
    (m_X39_next s5 x0).bind fun q6 =>
    (m_X39_closes q6.1 x0).bind fun q7 =>
    some (q7.1, Wz q7.2)
noncomputable def m_X39_based : jS → Int → Int → Option (jS × Int) := Classical.choose (⟨dm_X39_based, rfl⟩ : ∃ f, f = dm_X39_based)
theorem em_X39_based : m_X39_based = dm_X39_based := Classical.choose_spec (⟨dm_X39_based, rfl⟩ : ∃ f, f = dm_X39_based)
def du_X39_expression_196 (s : jS) (x0 : Int) : Option (jS × Int) :=
  (m_X39_reduce s x0 0).bind fun q1 =>
  some (q1.1, Wz 1)
noncomputable def u_X39_expression_196 : jS → Int → Option (jS × Int) := Classical.choose (⟨du_X39_expression_196, rfl⟩ : ∃ f, f = du_X39_expression_196)
theorem eu_X39_expression_196 : u_X39_expression_196 = du_X39_expression_196 := Classical.choose_spec (⟨du_X39_expression_196, rfl⟩ : ∃ f, f = du_X39_expression_196)
def du_X39_expression_185 (s : jS) (x0 : Int) : Option (jS × Int) :=
  (m_X39_fail s x0 5).bind fun q1 =>
  some (q1.1, Wz q1.2)
noncomputable def u_X39_expression_185 : jS → Int → Option (jS × Int) := Classical.choose (⟨du_X39_expression_185, rfl⟩ : ∃ f, f = du_X39_expression_185)
theorem eu_X39_expression_185 : u_X39_expression_185 = du_X39_expression_185 := Classical.choose_spec (⟨du_X39_expression_185, rfl⟩ : ∃ f, f = du_X39_expression_185)
def du_X39_expression_193 (s : jS) (x0 x1 x2 : Int) : Option ((jS × List Int) ⊕ (jS × Int)) :=
  some (.inl (s, [x0, x1, x2]))
noncomputable def u_X39_expression_193 : jS → Int → Int → Int → Option ((jS × List Int) ⊕ (jS × Int)) := Classical.choose (⟨du_X39_expression_193, rfl⟩ : ∃ f, f = du_X39_expression_193)
theorem eu_X39_expression_193 : u_X39_expression_193 = du_X39_expression_193 := Classical.choose_spec (⟨du_X39_expression_193, rfl⟩ : ∃ f, f = du_X39_expression_193)
def du_X39_expression_169 (s : jS) (x0 x1 : Int) : Option ((jS × List Int) ⊕ (jS × Int)) :=
  if 0 < (jf s 43 x0 27) then
    jinr (u_X39_expression_185 s x0)
  else
    if (jf s 43 x0 15) = 6 then
      jinr (u_X39_expression_185 s x0)
    else
      u_X39_expression_193 s x0 x1 0
noncomputable def u_X39_expression_169 : jS → Int → Int → Option ((jS × List Int) ⊕ (jS × Int)) := Classical.choose (⟨du_X39_expression_169, rfl⟩ : ∃ f, f = du_X39_expression_169)
theorem eu_X39_expression_169 : u_X39_expression_169 = du_X39_expression_169 := Classical.choose_spec (⟨du_X39_expression_169, rfl⟩ : ∃ f, f = du_X39_expression_169)
def du_X39_expression_48 (s : jS) (x0 x2 y0 : Int) : Option ((jS × List Int) ⊕ (jS × Int)) :=
  some (.inl (s, [x0, y0, x2]))
noncomputable def u_X39_expression_48 : jS → Int → Int → Int → Option ((jS × List Int) ⊕ (jS × Int)) := Classical.choose (⟨du_X39_expression_48, rfl⟩ : ∃ f, f = du_X39_expression_48)
theorem eu_X39_expression_48 : u_X39_expression_48 = du_X39_expression_48 := Classical.choose_spec (⟨du_X39_expression_48, rfl⟩ : ∃ f, f = du_X39_expression_48)
def b_X39_expression_19 (s : jS) (x0 x1 x2 : Int) : Option ((jS × List Int) ⊕ (jS × Int)) :=
  if x2 = 0 then
    jinr (u_X39_expression_196 s x0)
  else
    if x1 = 0 then
      (m_X39_operator s x0).bind fun v1 =>
      if 0 < v1 then
        (m_X39_binds s v1).bind fun v2 =>
        (m_X39_reduce s x0 v2).bind fun q3 =>
        (m_X39_tally q3.1 x0).bind fun q4 =>
        if q4.2 = 0 then
          jinr (some (q4.1, Wz 0))
        else
          (jst q4.1 1000 (x0 + 10) 2100 (jf q4.1 43 x0 23) v1).bind fun s5 =>
          jls (jp s5 43 x0 23 (W32 ((jf s5 43 x0 23) + 1))) fun s6 =>
          (m_X39_next s6 x0).bind fun q7 =>
          u_X39_expression_193 q7.1 x0 1 x2
      else
        (m_X39_isSign s x0 41).bind fun v8 =>
        if v8 = 0 then
          u_X39_expression_169 s x0 x1
        else
          if 0 < (jf s 43 x0 27) then
            (m_X39_reduce s x0 0).bind fun q9 =>
            jls (jp q9.1 43 x0 23 (W32 ((jf q9.1 43 x0 23) - 1))) fun s10 =>
            jls (jp s10 43 x0 27 (W32 ((jf s10 43 x0 27) - 1))) fun s11 =>
            jls (jp s11 43 x0 26 (W32 ((jf s11 43 x0 26) - 1))) fun s12 =>
            (m_X39_ahead s12 x0).bind fun q13 =>
            (m_X39_next q13.1 x0).bind fun q14 =>
            u_X39_expression_193 q14.1 x0 x1 x2
          else
            u_X39_expression_169 s x0 x1
    else
      (m_X39_wanted s x0).bind fun q15 =>
      if q15.2 = 0 then
        jinr (some (q15.1, Wz 0))
      else
        if q15.2 = 2 then
          u_X39_expression_48 q15.1 x0 x2 1
        else
          u_X39_expression_48 q15.1 x0 x2 0
def du_X39_expression_19 (s : jS) (x0 x1 x2 : Int) : Option (jS × Int) := jlpW (jc3 b_X39_expression_19) [x0, x1, x2] s
noncomputable def u_X39_expression_19 : jS → Int → Int → Int → Option (jS × Int) := Classical.choose (⟨du_X39_expression_19, rfl⟩ : ∃ f, f = du_X39_expression_19)
theorem eu_X39_expression_19 : u_X39_expression_19 = du_X39_expression_19 := Classical.choose_spec (⟨du_X39_expression_19, rfl⟩ : ∃ f, f = du_X39_expression_19)
def dm_X39_expression (s : jS) (x0 : Int) : Option (jS × Int) :=
  jls (jp s 43 x0 23 0) fun s1 =>
  jls (jp s1 43 x0 27 0) fun s2 =>
  jls (jp s2 43 x0 26 1) fun s3 =>
  u_X39_expression_19 s3 x0 1 1
noncomputable def m_X39_expression : jS → Int → Option (jS × Int) := Classical.choose (⟨dm_X39_expression, rfl⟩ : ∃ f, f = dm_X39_expression)
theorem em_X39_expression : m_X39_expression = dm_X39_expression := Classical.choose_spec (⟨dm_X39_expression, rfl⟩ : ∃ f, f = dm_X39_expression)
def du_X40_read_287 (s : jS) (x0 x2 : Int) : Option ((jS × List Int) ⊕ (jS × Int)) :=
  some (.inl (s, [x0, W32 (x2 + 1)]))
noncomputable def u_X40_read_287 : jS → Int → Int → Option ((jS × List Int) ⊕ (jS × Int)) := Classical.choose (⟨du_X40_read_287, rfl⟩ : ∃ f, f = du_X40_read_287)
theorem eu_X40_read_287 : u_X40_read_287 = du_X40_read_287 := Classical.choose_spec (⟨du_X40_read_287, rfl⟩ : ∃ f, f = du_X40_read_287)
def b_X40_read_257 (s : jS) (x0 x2 x3 x4 : Int) : Option ((jS × List Int) ⊕ ((jS × List Int) ⊕ (jS × Int))) :=
  if x4 < x3 then
    (m_X40_from s x0 (W32 (5 + x2))).bind fun v1 =>
    (m_X40_takeRelocation s x0 x2 (W32 (v1 + (W32 (12 * x4))))).bind fun q2 =>
    some (.inl (q2.1, [x0, x2, x3, W32 (x4 + 1)]))
  else
    jinr (u_X40_read_287 s x0 x2)
def du_X40_read_257 (s : jS) (x0 x2 x3 x4 : Int) : Option ((jS × List Int) ⊕ (jS × Int)) := jlpW (jc4 b_X40_read_257) [x0, x2, x3, x4] s
noncomputable def u_X40_read_257 : jS → Int → Int → Int → Int → Option ((jS × List Int) ⊕ (jS × Int)) := Classical.choose (⟨du_X40_read_257, rfl⟩ : ∃ f, f = du_X40_read_257)
theorem eu_X40_read_257 : u_X40_read_257 = du_X40_read_257 := Classical.choose_spec (⟨du_X40_read_257, rfl⟩ : ∃ f, f = du_X40_read_257)
def b_X40_read_236 (s : jS) (x0 x2 : Int) : Option ((jS × List Int) ⊕ (jS × Int)) :=
  if x2 < 3 then
    (m_X40_bytesOf s x0 (W32 (5 + x2))).bind fun v1 =>
    (jdv 12 (L_div v1 12)).bind fun v2 =>
    jlet (L2i v2) fun v3 =>
    u_X40_read_257 s x0 x2 v3 0
  else
    jinr (some (s, 0))
def du_X40_read_236 (s : jS) (x0 x2 : Int) : Option (jS × Int) := jlpW (jc2 b_X40_read_236) [x0, x2] s
noncomputable def u_X40_read_236 : jS → Int → Int → Option (jS × Int) := Classical.choose (⟨du_X40_read_236, rfl⟩ : ∃ f, f = du_X40_read_236)
theorem eu_X40_read_236 : u_X40_read_236 = du_X40_read_236 := Classical.choose_spec (⟨du_X40_read_236, rfl⟩ : ∃ f, f = du_X40_read_236)
def du_X40_read_227 (s : jS) (x0 : Int) : Option (jS × Int) :=
  (jst s 1000 (x0 + 19) 2 1 0).bind fun s1 =>
  u_X40_read_236 s1 x0 0
noncomputable def u_X40_read_227 : jS → Int → Option (jS × Int) := Classical.choose (⟨du_X40_read_227, rfl⟩ : ∃ f, f = du_X40_read_227)
theorem eu_X40_read_227 : u_X40_read_227 = du_X40_read_227 := Classical.choose_spec (⟨du_X40_read_227, rfl⟩ : ∃ f, f = du_X40_read_227)
def b_X40_read_200 (s : jS) (x0 x2 : Int) : Option ((jS × List Int) ⊕ (jS × Int)) :=
  (jlt s 1000 (x0 + 13) 2 1).bind fun v1 =>
  if x2 < v1 then
    (m_X40_takeSymbol s x0 (W32 (100 + x2)) (W32 (1 + x2))).bind fun q2 =>
    some (.inl (q2.1, [x0, W32 (x2 + 1)]))
  else
    jinr (u_X40_read_227 s x0)
def du_X40_read_200 (s : jS) (x0 x2 : Int) : Option (jS × Int) := jlpW (jc2 b_X40_read_200) [x0, x2] s
noncomputable def u_X40_read_200 : jS → Int → Int → Option (jS × Int) := Classical.choose (⟨du_X40_read_200, rfl⟩ : ∃ f, f = du_X40_read_200)
theorem eu_X40_read_200 : u_X40_read_200 = du_X40_read_200 := Classical.choose_spec (⟨du_X40_read_200, rfl⟩ : ∃ f, f = du_X40_read_200)
def du_X40_read_186 (s : jS) (x0 : Int) : Option (jS × Int) :=
  (m_X40_symbolsIn s x0).bind fun v1 =>
  (jst s 1000 (x0 + 13) 2 1 (W32 (v1 - 1))).bind fun s2 =>
  u_X40_read_200 s2 x0 0
noncomputable def u_X40_read_186 : jS → Int → Option (jS × Int) := Classical.choose (⟨du_X40_read_186, rfl⟩ : ∃ f, f = du_X40_read_186)
theorem eu_X40_read_186 : u_X40_read_186 = du_X40_read_186 := Classical.choose_spec (⟨du_X40_read_186, rfl⟩ : ∃ f, f = du_X40_read_186)
def b_X40_read_147 (s : jS) (x0 x2 : Int) : Option ((jS × List Int) ⊕ (jS × Int)) :=
  (jlt s 1000 (x0 + 5) 2 1).bind fun v1 =>
  if x2 < v1 then
    (m_X40_from s x0 4).bind fun v2 =>
    (m_X40_read2 s x0 (W32 (v2 + (W32 (2 * x2))))).bind fun v3 =>
    (jst s 1000 (x0 + 4) 2048 (W32 (1024 + x2)) v3).bind fun s4 =>
    some (.inl (s4, [x0, W32 (x2 + 1)]))
  else
    jinr (u_X40_read_186 s x0)
def du_X40_read_147 (s : jS) (x0 x2 : Int) : Option (jS × Int) := jlpW (jc2 b_X40_read_147) [x0, x2] s
noncomputable def u_X40_read_147 : jS → Int → Int → Option (jS × Int) := Classical.choose (⟨du_X40_read_147, rfl⟩ : ∃ f, f = du_X40_read_147)
theorem eu_X40_read_147 : u_X40_read_147 = du_X40_read_147 := Classical.choose_spec (⟨du_X40_read_147, rfl⟩ : ∃ f, f = du_X40_read_147)
def du_X40_read_131 (s : jS) (x0 : Int) : Option (jS × Int) :=
  (m_X40_bytesOf s x0 4).bind fun v1 =>
  (jdv 2 (I_div (L2i v1) 2)).bind fun v2 =>
  (jst s 1000 (x0 + 5) 2 1 v2).bind fun s3 =>
  u_X40_read_147 s3 x0 0
noncomputable def u_X40_read_131 : jS → Int → Option (jS × Int) := Classical.choose (⟨du_X40_read_131, rfl⟩ : ∃ f, f = du_X40_read_131)
theorem eu_X40_read_131 : u_X40_read_131 = du_X40_read_131 := Classical.choose_spec (⟨du_X40_read_131, rfl⟩ : ∃ f, f = du_X40_read_131)
def du_X40_read_125 (s : jS) (x0 x2 : Int) : Option ((jS × List Int) ⊕ (jS × Int)) :=
  some (.inl (s, [x0, W32 (x2 + 1)]))
noncomputable def u_X40_read_125 : jS → Int → Int → Option ((jS × List Int) ⊕ (jS × Int)) := Classical.choose (⟨du_X40_read_125, rfl⟩ : ∃ f, f = du_X40_read_125)
theorem eu_X40_read_125 : u_X40_read_125 = du_X40_read_125 := Classical.choose_spec (⟨du_X40_read_125, rfl⟩ : ∃ f, f = du_X40_read_125)
def b_X40_read_71 (s : jS) (x0 x2 x4 : Int) : Option ((jS × List Int) ⊕ ((jS × List Int) ⊕ (jS × Int))) :=
  (jlt s 1000 (x0 + 2) 8 (W32 (4 + x2))).bind fun v1 =>
  if x4 < v1 then
    if x2 < 3 then
      (m_X40_from s x0 x2).bind fun v2 =>
      (jlt s 1000 (x0 + 21) 8192 (W32 (v2 + x4))).bind fun v3 =>
      (jst s 1000 (x0 + 1) 12288 (W32 ((W32 (6144 + (W32 (2048 * x2)))) + x4)) v3).bind fun s4 =>
      some (.inl (s4, [x0, x2, W32 (x4 + 1)]))
    else
      jinr (u_X40_read_125 s x0 x2)
  else
    jinr (u_X40_read_125 s x0 x2)
def du_X40_read_71 (s : jS) (x0 x2 x4 : Int) : Option ((jS × List Int) ⊕ (jS × Int)) := jlpW (jc3 b_X40_read_71) [x0, x2, x4] s
noncomputable def u_X40_read_71 : jS → Int → Int → Int → Option ((jS × List Int) ⊕ (jS × Int)) := Classical.choose (⟨du_X40_read_71, rfl⟩ : ∃ f, f = du_X40_read_71)
theorem eu_X40_read_71 : u_X40_read_71 = du_X40_read_71 := Classical.choose_spec (⟨du_X40_read_71, rfl⟩ : ∃ f, f = du_X40_read_71)
def du_X40_read_67 (s : jS) (x0 x2 y0 y1 y2 : Int) : Option ((jS × List Int) ⊕ (jS × Int)) :=
  (jst s 1000 y2 8 y1 y0).bind fun s1 =>
  u_X40_read_71 s1 x0 x2 0
noncomputable def u_X40_read_67 : jS → Int → Int → Int → Int → Int → Option ((jS × List Int) ⊕ (jS × Int)) := Classical.choose (⟨du_X40_read_67, rfl⟩ : ∃ f, f = du_X40_read_67)
theorem eu_X40_read_67 : u_X40_read_67 = du_X40_read_67 := Classical.choose_spec (⟨du_X40_read_67, rfl⟩ : ∃ f, f = du_X40_read_67)
def b_X40_read_18 (s : jS) (x0 x2 : Int) : Option ((jS × List Int) ⊕ (jS × Int)) :=
  if x2 < 4 then
    (jlt s 1000 (x0 + 32) 11 x2).bind fun v1 =>
    (m_X40_bytesOf s x0 x2).bind fun v2 =>
    (jst s 1000 (x0 + 2) 8 (W32 (4 + x2)) (L2i v2)).bind fun s3 =>
    if v1 = 0 then
      u_X40_read_67 s3 x0 x2 1 (W32 (4 + x2)) (x0 + 3)
    else
      (m_X40_told s3 x0 v1 8).bind fun v4 =>
      u_X40_read_67 s3 x0 x2 (L2i v4) (W32 (4 + x2)) (x0 + 3)
  else
    jinr (u_X40_read_131 s x0)
def du_X40_read_18 (s : jS) (x0 x2 : Int) : Option (jS × Int) := jlpW (jc2 b_X40_read_18) [x0, x2] s
noncomputable def u_X40_read_18 : jS → Int → Int → Option (jS × Int) := Classical.choose (⟨du_X40_read_18, rfl⟩ : ∃ f, f = du_X40_read_18)
theorem eu_X40_read_18 : u_X40_read_18 = du_X40_read_18 := Classical.choose_spec (⟨du_X40_read_18, rfl⟩ : ∃ f, f = du_X40_read_18)
def dm_X40_read (s : jS) (x0 : Int) : Option (jS × Int) :=
  (m_X40_allFaults s x0).bind fun q1 =>
  if q1.2 = 0 then
    jls (jp q1.1 44 x0 23 (-1)) fun s2 =>
    u_X40_read_18 s2 x0 0
  else
    some (q1.1, q1.2)
noncomputable def m_X40_read : jS → Int → Option (jS × Int) := Classical.choose (⟨dm_X40_read, rfl⟩ : ∃ f, f = dm_X40_read)
theorem em_X40_read : m_X40_read = dm_X40_read := Classical.choose_spec (⟨dm_X40_read, rfl⟩ : ∃ f, f = dm_X40_read)
def du_X40_write_348 (s : jS) (x0 : Int) : Option (jS × Int) :=
  some (s, jf s 44 x0 22)
noncomputable def u_X40_write_348 : jS → Int → Option (jS × Int) := Classical.choose (⟨du_X40_write_348, rfl⟩ : ∃ f, f = du_X40_write_348)
theorem eu_X40_write_348 : u_X40_write_348 = du_X40_write_348 := Classical.choose_spec (⟨du_X40_write_348, rfl⟩ : ∃ f, f = du_X40_write_348)
def du_X40_write_342 (s : jS) (x0 x2 x3 x5 : Int) : Option ((jS × List Int) ⊕ (jS × Int)) :=
  some (.inl (s, [x0, x2, x3, W32 (x5 + 1)]))
noncomputable def u_X40_write_342 : jS → Int → Int → Int → Int → Option ((jS × List Int) ⊕ (jS × Int)) := Classical.choose (⟨du_X40_write_342, rfl⟩ : ∃ f, f = du_X40_write_342)
theorem eu_X40_write_342 : u_X40_write_342 = du_X40_write_342 := Classical.choose_spec (⟨du_X40_write_342, rfl⟩ : ∃ f, f = du_X40_write_342)
def b_X40_write_306 (s : jS) (x0 x2 x3 x5 : Int) : Option ((jS × List Int) ⊕ (jS × Int)) :=
  if x5 < 11 then
    (jlt s 1000 (x0 + 26) 11 x5).bind fun v1 =>
    if 0 < v1 then
      (jlt s 1000 (x0 + 26) 11 x5).bind fun v2 =>
      (m_X40_writeEntry s x0 x5 (W32 (x2 + (W32 (40 * v2)))) x3).bind fun q3 =>
      u_X40_write_342 q3.1 x0 x2 x3 x5
    else
      u_X40_write_342 s x0 x2 x3 x5
  else
    jinr (u_X40_write_348 s x0)
def du_X40_write_306 (s : jS) (x0 x2 x3 x5 : Int) : Option (jS × Int) := jlpW (jc4 b_X40_write_306) [x0, x2, x3, x5] s
noncomputable def u_X40_write_306 : jS → Int → Int → Int → Int → Option (jS × Int) := Classical.choose (⟨du_X40_write_306, rfl⟩ : ∃ f, f = du_X40_write_306)
theorem eu_X40_write_306 : u_X40_write_306 = du_X40_write_306 := Classical.choose_spec (⟨du_X40_write_306, rfl⟩ : ∃ f, f = du_X40_write_306)
def du_X40_write_303 (s : jS) (x0 x2 x3 : Int) : Option (jS × Int) :=
  u_X40_write_306 s x0 x2 x3 0
noncomputable def u_X40_write_303 : jS → Int → Int → Int → Option (jS × Int) := Classical.choose (⟨du_X40_write_303, rfl⟩ : ∃ f, f = du_X40_write_303)
theorem eu_X40_write_303 : u_X40_write_303 = du_X40_write_303 := Classical.choose_spec (⟨du_X40_write_303, rfl⟩ : ∃ f, f = du_X40_write_303)
def b_X40_write_268 (s : jS) (x0 x2 x3 x4 x5 : Int) : Option ((jS × List Int) ⊕ (jS × Int)) :=
  if x5 < x4 then
    (jlt s 1000 (x0 + 24) 11 9).bind fun v1 =>
    (jlt s 1000 (x0 + 27) 2048 x5).bind fun v2 =>
    (jst s 1000 (x0 + 21) 8192 (W32 (v1 + x5)) v2).bind fun s3 =>
    some (.inl (s3, [x0, x2, x3, x4, W32 (x5 + 1)]))
  else
    jinr (u_X40_write_303 s x0 x2 x3)
def du_X40_write_268 (s : jS) (x0 x2 x3 x4 x5 : Int) : Option (jS × Int) := jlpW (jc5 b_X40_write_268) [x0, x2, x3, x4, x5] s
noncomputable def u_X40_write_268 : jS → Int → Int → Int → Int → Int → Option (jS × Int) := Classical.choose (⟨du_X40_write_268, rfl⟩ : ∃ f, f = du_X40_write_268)
theorem eu_X40_write_268 : u_X40_write_268 = du_X40_write_268 := Classical.choose_spec (⟨du_X40_write_268, rfl⟩ : ∃ f, f = du_X40_write_268)
def du_X40_write_259 (s : jS) (x0 x2 x3 : Int) : Option (jS × Int) :=
  (m_X40_sizeOfSymbolNames s x0).bind fun q1 =>
  u_X40_write_268 q1.1 x0 x2 x3 q1.2 0
noncomputable def u_X40_write_259 : jS → Int → Int → Int → Option (jS × Int) := Classical.choose (⟨du_X40_write_259, rfl⟩ : ∃ f, f = du_X40_write_259)
theorem eu_X40_write_259 : u_X40_write_259 = du_X40_write_259 := Classical.choose_spec (⟨du_X40_write_259, rfl⟩ : ∃ f, f = du_X40_write_259)
def b_X40_write_224 (s : jS) (x0 x2 x3 x4 x5 : Int) : Option ((jS × List Int) ⊕ (jS × Int)) :=
  if x5 < x4 then
    (jlt s 1000 (x0 + 24) 11 10).bind fun v1 =>
    (jlt s 1000 (x0 + 27) 2048 x5).bind fun v2 =>
    (jst s 1000 (x0 + 21) 8192 (W32 (v1 + x5)) v2).bind fun s3 =>
    some (.inl (s3, [x0, x2, x3, x4, W32 (x5 + 1)]))
  else
    jinr (u_X40_write_259 s x0 x2 x3)
def du_X40_write_224 (s : jS) (x0 x2 x3 x4 x5 : Int) : Option (jS × Int) := jlpW (jc5 b_X40_write_224) [x0, x2, x3, x4, x5] s
noncomputable def u_X40_write_224 : jS → Int → Int → Int → Int → Int → Option (jS × Int) := Classical.choose (⟨du_X40_write_224, rfl⟩ : ∃ f, f = du_X40_write_224)
theorem eu_X40_write_224 : u_X40_write_224 = du_X40_write_224 := Classical.choose_spec (⟨du_X40_write_224, rfl⟩ : ∃ f, f = du_X40_write_224)
def du_X40_write_211 (s : jS) (x0 x2 x3 : Int) : Option (jS × Int) :=
  (m_X40_writeSymbols s x0).bind fun q1 =>
  (m_X40_sizeOfTitles q1.1 x0).bind fun q2 =>
  u_X40_write_224 q2.1 x0 x2 x3 q2.2 0
noncomputable def u_X40_write_211 : jS → Int → Int → Int → Option (jS × Int) := Classical.choose (⟨du_X40_write_211, rfl⟩ : ∃ f, f = du_X40_write_211)
theorem eu_X40_write_211 : u_X40_write_211 = du_X40_write_211 := Classical.choose_spec (⟨du_X40_write_211, rfl⟩ : ∃ f, f = du_X40_write_211)
def b_X40_write_193 (s : jS) (x0 x2 x3 x4 : Int) : Option ((jS × List Int) ⊕ (jS × Int)) :=
  if x4 < 3 then
    (m_X40_writeRelocations s x0 x4).bind fun q1 =>
    some (.inl (q1.1, [x0, x2, x3, W32 (x4 + 1)]))
  else
    jinr (u_X40_write_211 s x0 x2 x3)
def du_X40_write_193 (s : jS) (x0 x2 x3 x4 : Int) : Option (jS × Int) := jlpW (jc4 b_X40_write_193) [x0, x2, x3, x4] s
noncomputable def u_X40_write_193 : jS → Int → Int → Int → Int → Option (jS × Int) := Classical.choose (⟨du_X40_write_193, rfl⟩ : ∃ f, f = du_X40_write_193)
theorem eu_X40_write_193 : u_X40_write_193 = du_X40_write_193 := Classical.choose_spec (⟨du_X40_write_193, rfl⟩ : ∃ f, f = du_X40_write_193)
def du_X40_write_190 (s : jS) (x0 x2 x3 : Int) : Option (jS × Int) :=
  u_X40_write_193 s x0 x2 x3 0
noncomputable def u_X40_write_190 : jS → Int → Int → Int → Option (jS × Int) := Classical.choose (⟨du_X40_write_190, rfl⟩ : ∃ f, f = du_X40_write_190)
theorem eu_X40_write_190 : u_X40_write_190 = du_X40_write_190 := Classical.choose_spec (⟨du_X40_write_190, rfl⟩ : ∃ f, f = du_X40_write_190)
def b_X40_write_151 (s : jS) (x0 x2 x3 x4 : Int) : Option ((jS × List Int) ⊕ (jS × Int)) :=
  (jlt s 1000 (x0 + 5) 2 0).bind fun v1 =>
  if x4 < v1 then
    (jlt s 1000 (x0 + 24) 11 4).bind fun v2 =>
    (jlt s 1000 (x0 + 4) 2048 x4).bind fun v3 =>
    (m_X40_write2 s x0 (W32 (v2 + (W32 (2 * x4)))) v3).bind fun q4 =>
    some (.inl (q4.1, [x0, x2, x3, W32 (x4 + 1)]))
  else
    jinr (u_X40_write_190 s x0 x2 x3)
def du_X40_write_151 (s : jS) (x0 x2 x3 x4 : Int) : Option (jS × Int) := jlpW (jc4 b_X40_write_151) [x0, x2, x3, x4] s
noncomputable def u_X40_write_151 : jS → Int → Int → Int → Int → Option (jS × Int) := Classical.choose (⟨du_X40_write_151, rfl⟩ : ∃ f, f = du_X40_write_151)
theorem eu_X40_write_151 : u_X40_write_151 = du_X40_write_151 := Classical.choose_spec (⟨du_X40_write_151, rfl⟩ : ∃ f, f = du_X40_write_151)
def du_X40_write_148 (s : jS) (x0 x2 x3 : Int) : Option (jS × Int) :=
  u_X40_write_151 s x0 x2 x3 0
noncomputable def u_X40_write_148 : jS → Int → Int → Int → Option (jS × Int) := Classical.choose (⟨du_X40_write_148, rfl⟩ : ∃ f, f = du_X40_write_148)
theorem eu_X40_write_148 : u_X40_write_148 = du_X40_write_148 := Classical.choose_spec (⟨du_X40_write_148, rfl⟩ : ∃ f, f = du_X40_write_148)
def du_X40_write_142 (s : jS) (x0 x2 x3 x4 : Int) : Option ((jS × List Int) ⊕ (jS × Int)) :=
  some (.inl (s, [x0, x2, x3, W32 (x4 + 1)]))
noncomputable def u_X40_write_142 : jS → Int → Int → Int → Int → Option ((jS × List Int) ⊕ (jS × Int)) := Classical.choose (⟨du_X40_write_142, rfl⟩ : ∃ f, f = du_X40_write_142)
theorem eu_X40_write_142 : u_X40_write_142 = du_X40_write_142 := Classical.choose_spec (⟨du_X40_write_142, rfl⟩ : ∃ f, f = du_X40_write_142)
def b_X40_write_95 (s : jS) (x0 x2 x3 x4 x5 : Int) : Option ((jS × List Int) ⊕ ((jS × List Int) ⊕ (jS × Int))) :=
  (jlt s 1000 (x0 + 2) 8 x4).bind fun v1 =>
  if x5 < v1 then
    (jlt s 1000 (x0 + 24) 11 x4).bind fun v2 =>
    (jlt s 1000 (x0 + 1) 12288 (W32 ((W32 (2048 * x4)) + x5))).bind fun v3 =>
    (jst s 1000 (x0 + 21) 8192 (W32 (v2 + x5)) v3).bind fun s4 =>
    some (.inl (s4, [x0, x2, x3, x4, W32 (x5 + 1)]))
  else
    jinr (u_X40_write_142 s x0 x2 x3 x4)
def du_X40_write_95 (s : jS) (x0 x2 x3 x4 x5 : Int) : Option ((jS × List Int) ⊕ (jS × Int)) := jlpW (jc5 b_X40_write_95) [x0, x2, x3, x4, x5] s
noncomputable def u_X40_write_95 : jS → Int → Int → Int → Int → Int → Option ((jS × List Int) ⊕ (jS × Int)) := Classical.choose (⟨du_X40_write_95, rfl⟩ : ∃ f, f = du_X40_write_95)
theorem eu_X40_write_95 : u_X40_write_95 = du_X40_write_95 := Classical.choose_spec (⟨du_X40_write_95, rfl⟩ : ∃ f, f = du_X40_write_95)
def b_X40_write_86 (s : jS) (x0 x2 x3 x4 : Int) : Option ((jS × List Int) ⊕ (jS × Int)) :=
  if x4 < 3 then
    u_X40_write_95 s x0 x2 x3 x4 0
  else
    jinr (u_X40_write_148 s x0 x2 x3)
def du_X40_write_86 (s : jS) (x0 x2 x3 x4 : Int) : Option (jS × Int) := jlpW (jc4 b_X40_write_86) [x0, x2, x3, x4] s
noncomputable def u_X40_write_86 : jS → Int → Int → Int → Int → Option (jS × Int) := Classical.choose (⟨du_X40_write_86, rfl⟩ : ∃ f, f = du_X40_write_86)
theorem eu_X40_write_86 : u_X40_write_86 = du_X40_write_86 := Classical.choose_spec (⟨du_X40_write_86, rfl⟩ : ∃ f, f = du_X40_write_86)
def du_X40_write_78 (s : jS) (x0 x2 x3 : Int) : Option (jS × Int) :=
  (m_X40_writeHead s x0 x2).bind fun q1 =>
  u_X40_write_86 q1.1 x0 x2 x3 0
noncomputable def u_X40_write_78 : jS → Int → Int → Int → Option (jS × Int) := Classical.choose (⟨du_X40_write_78, rfl⟩ : ∃ f, f = du_X40_write_78)
theorem eu_X40_write_78 : u_X40_write_78 = du_X40_write_78 := Classical.choose_spec (⟨du_X40_write_78, rfl⟩ : ∃ f, f = du_X40_write_78)
def b_X40_write_55 (s : jS) (x0 x2 x3 x4 : Int) : Option ((jS × List Int) ⊕ (jS × Int)) :=
  if x4 < (jf s 44 x0 22) then
    (jst s 1000 (x0 + 21) 8192 x4 0).bind fun s1 =>
    some (.inl (s1, [x0, x2, x3, W32 (x4 + 1)]))
  else
    jinr (u_X40_write_78 s x0 x2 x3)
def du_X40_write_55 (s : jS) (x0 x2 x3 x4 : Int) : Option (jS × Int) := jlpW (jc4 b_X40_write_55) [x0, x2, x3, x4] s
noncomputable def u_X40_write_55 : jS → Int → Int → Int → Int → Option (jS × Int) := Classical.choose (⟨du_X40_write_55, rfl⟩ : ∃ f, f = du_X40_write_55)
theorem eu_X40_write_55 : u_X40_write_55 = du_X40_write_55 := Classical.choose_spec (⟨du_X40_write_55, rfl⟩ : ∃ f, f = du_X40_write_55)
def dm_X40_write (s : jS) (x0 : Int) : Option (jS × Int) :=
  (m_X40_unfit s x0).bind fun v1 =>
  if v1 = 0 then
    (m_X40_lay s x0).bind fun q2 =>
    if 8192 < (W32 (q2.2 + (W32 (40 * (jf q2.1 44 x0 40))))) then
      some (q2.1, (-4))
    else
      (m_X40_order q2.1 x0).bind fun q3 =>
      jls (jp q3.1 44 x0 22 (W32 (q2.2 + (W32 (40 * (jf q3.1 44 x0 40)))))) fun s4 =>
      u_X40_write_55 s4 x0 q2.2 q3.2 0
  else
    some (s, v1)
noncomputable def m_X40_write : jS → Int → Option (jS × Int) := Classical.choose (⟨dm_X40_write, rfl⟩ : ∃ f, f = dm_X40_write)
theorem em_X40_write : m_X40_write = dm_X40_write := Classical.choose_spec (⟨dm_X40_write, rfl⟩ : ∃ f, f = dm_X40_write)
def du_X41_pass_101 (s : jS) (x0 x1 x2 : Int) : Option ((jS × List Int) ⊕ (jS × Int)) :=
  some (.inl (s, [x0, x1, W32 (x2 + 1)]))
noncomputable def u_X41_pass_101 : jS → Int → Int → Int → Option ((jS × List Int) ⊕ (jS × Int)) := Classical.choose (⟨du_X41_pass_101, rfl⟩ : ∃ f, f = du_X41_pass_101)
theorem eu_X41_pass_101 : u_X41_pass_101 = du_X41_pass_101 := Classical.choose_spec (⟨du_X41_pass_101, rfl⟩ : ∃ f, f = du_X41_pass_101)
def b_X41_pass_35 (s : jS) (x0 x1 x2 : Int) : Option ((jS × List Int) ⊕ (jS × Int)) :=
  if x2 < (jf s 45 x0 12) then
    (m_X41_shrinks s x0 x2).bind fun v1 =>
    if v1 = 0 then
      u_X41_pass_101 s x0 x1 x2
    else
      (m_X41_isGone s x0 x2).bind fun v2 =>
      if v2 = 0 then
        (jlt s 1002 (x0 + 19) 256 x2).bind fun v3 =>
        if v3 = 0 then
          (jlt s 1000 (x0 + 22) 256 x2).bind fun v4 =>
          (jlt s 1000 (x0 + 13) 256 x2).bind fun v5 =>
          if v4 < v5 then
            (jlt s 1000 (x0 + 22) 256 x2).bind fun v6 =>
            (jst s 1000 (x0 + 13) 256 x2 v6).bind fun s7 =>
            u_X41_pass_101 s7 x0 (W32 (x1 + 1)) x2
          else
            u_X41_pass_101 s x0 x1 x2
        else
          u_X41_pass_101 s x0 x1 x2
      else
        u_X41_pass_101 s x0 x1 x2
  else
    jinr (some (s, x1))
def du_X41_pass_35 (s : jS) (x0 x1 x2 : Int) : Option (jS × Int) := jlpW (jc3 b_X41_pass_35) [x0, x1, x2] s
noncomputable def u_X41_pass_35 : jS → Int → Int → Int → Option (jS × Int) := Classical.choose (⟨du_X41_pass_35, rfl⟩ : ∃ f, f = du_X41_pass_35)
theorem eu_X41_pass_35 : u_X41_pass_35 = du_X41_pass_35 := Classical.choose_spec (⟨du_X41_pass_35, rfl⟩ : ∃ f, f = du_X41_pass_35)
def du_X41_pass_31 (s : jS) (x0 : Int) : Option (jS × Int) :=
  u_X41_pass_35 s x0 0 0
noncomputable def u_X41_pass_31 : jS → Int → Option (jS × Int) := Classical.choose (⟨du_X41_pass_31, rfl⟩ : ∃ f, f = du_X41_pass_31)
theorem eu_X41_pass_31 : u_X41_pass_31 = du_X41_pass_31 := Classical.choose_spec (⟨du_X41_pass_31, rfl⟩ : ∃ f, f = du_X41_pass_31)
def b_X41_pass_6 (s : jS) (x0 x1 : Int) : Option ((jS × List Int) ⊕ (jS × Int)) :=
  if x1 < (jf s 45 x0 12) then
    (m_X41_leastOf s x0 x1).bind fun v1 =>
    (jst s 1000 (x0 + 22) 256 x1 v1).bind fun s2 =>
    some (.inl (s2, [x0, W32 (x1 + 1)]))
  else
    jinr (u_X41_pass_31 s x0)
def du_X41_pass_6 (s : jS) (x0 x1 : Int) : Option (jS × Int) := jlpW (jc2 b_X41_pass_6) [x0, x1] s
noncomputable def u_X41_pass_6 : jS → Int → Int → Option (jS × Int) := Classical.choose (⟨du_X41_pass_6, rfl⟩ : ∃ f, f = du_X41_pass_6)
theorem eu_X41_pass_6 : u_X41_pass_6 = du_X41_pass_6 := Classical.choose_spec (⟨du_X41_pass_6, rfl⟩ : ∃ f, f = du_X41_pass_6)
def dm_X41_pass (s : jS) (x0 : Int) : Option (jS × Int) :=
  (m_X41_reckon s x0).bind fun q1 =>
  u_X41_pass_6 q1.1 x0 0
noncomputable def m_X41_pass : jS → Int → Option (jS × Int) := Classical.choose (⟨dm_X41_pass, rfl⟩ : ∃ f, f = dm_X41_pass)
theorem em_X41_pass : m_X41_pass = dm_X41_pass := Classical.choose_spec (⟨dm_X41_pass, rfl⟩ : ∃ f, f = dm_X41_pass)
def du_X42_bad_71 (s : jS) (x0 x1 x2 : Int) : Option (Int) :=
  (m_X42_meets s x0 x2 (W32 (x2 + 1))).bind fun v1 =>
  if v1 = 0 then
    (m_X42_meets s x0 x2 (W32 (x2 + 2))).bind fun v2 =>
    if v2 = 0 then
      (m_X42_meets s x0 (W32 (x2 + 1)) (W32 (x2 + 2))).bind fun v3 =>
      if v3 = 0 then
        (m_X42_wrongMark s x0 x1).bind fun v4 =>
        if v4 = (-1) then
          (jlt s 1000 (x0 + 7) 2 x1).bind fun v5 =>
          (m_X42_isMarkAt s x0 x1 v5).bind fun v6 =>
          if v6 = 0 then
            some 5
          else
            some 0
        else
          some 4
      else
        some 3
    else
      some 3
  else
    some 3
noncomputable def u_X42_bad_71 : jS → Int → Int → Int → Option (Int) := Classical.choose (⟨du_X42_bad_71, rfl⟩ : ∃ f, f = du_X42_bad_71)
theorem eu_X42_bad_71 : u_X42_bad_71 = du_X42_bad_71 := Classical.choose_spec (⟨du_X42_bad_71, rfl⟩ : ∃ f, f = du_X42_bad_71)
def du_X42_bad_65 (s : jS) (x0 x1 x2 x3 : Int) : Option (List Int ⊕ (Int)) :=
  some (.inl [x0, x1, x2, W32 (x3 + 1)])
noncomputable def u_X42_bad_65 : jS → Int → Int → Int → Int → Option (List Int ⊕ (Int)) := Classical.choose (⟨du_X42_bad_65, rfl⟩ : ∃ f, f = du_X42_bad_65)
theorem eu_X42_bad_65 : u_X42_bad_65 = du_X42_bad_65 := Classical.choose_spec (⟨du_X42_bad_65, rfl⟩ : ∃ f, f = du_X42_bad_65)
def b_X42_bad_37 (s : jS) (x0 x1 x2 x3 : Int) : Option (List Int ⊕ (Int)) :=
  if x3 < (W32 (x2 + 3)) then
    (jlt s 1002 (x0 + 1) 6 x3).bind fun v1 =>
    if v1 = 0 then
      u_X42_bad_65 s x0 x1 x2 x3
    else
      (m_X42_endOf s x0 x3).bind fun v2 =>
      if 131072 < v2 then
        jinr (some 2)
      else
        u_X42_bad_65 s x0 x1 x2 x3
  else
    jinr (u_X42_bad_71 s x0 x1 x2)
def du_X42_bad_37 (s : jS) (x0 x1 x2 x3 : Int) : Option (Int) := jlpR (jc4 b_X42_bad_37) [x0, x1, x2, x3] s
noncomputable def u_X42_bad_37 : jS → Int → Int → Int → Int → Option (Int) := Classical.choose (⟨du_X42_bad_37, rfl⟩ : ∃ f, f = du_X42_bad_37)
theorem eu_X42_bad_37 : u_X42_bad_37 = du_X42_bad_37 := Classical.choose_spec (⟨du_X42_bad_37, rfl⟩ : ∃ f, f = du_X42_bad_37)
def dm_X42_bad (s : jS) (x0 x1 : Int) : Option (Int) :=
  jlet (W32 (3 * x1)) fun v1 =>
  (jlt s 1002 (x0 + 1) 6 v1).bind fun v2 =>
  if v2 = 0 then
    some 1
  else
    (jlt s 1000 (x0 + 4) 6 v1).bind fun v3 =>
    if v3 = 0 then
      some 1
    else
      (jlt s 1000 (x0 + 4) 6 v1).bind fun v4 =>
      (jdv 2 (I_rem v4 2)).bind fun v5 =>
      if v5 = 0 then
        u_X42_bad_37 s x0 x1 v1 v1
      else
        some 1
noncomputable def m_X42_bad : jS → Int → Int → Option (Int) := Classical.choose (⟨dm_X42_bad, rfl⟩ : ∃ f, f = dm_X42_bad)
theorem em_X42_bad : m_X42_bad = dm_X42_bad := Classical.choose_spec (⟨dm_X42_bad, rfl⟩ : ∃ f, f = dm_X42_bad)
def du_X42_read_355 (s : jS) (x0 x2 y0 y1 y2 : Int) : Option ((jS × List Int) ⊕ (jS × Int)) :=
  (jst s 1002 y2 4096 y1 (Wz y0)).bind fun s1 =>
  some (.inl (s1, [x0, W32 (x2 + 2)]))
noncomputable def u_X42_read_355 : jS → Int → Int → Int → Int → Int → Option ((jS × List Int) ⊕ (jS × Int)) := Classical.choose (⟨du_X42_read_355, rfl⟩ : ∃ f, f = du_X42_read_355)
theorem eu_X42_read_355 : u_X42_read_355 = du_X42_read_355 := Classical.choose_spec (⟨du_X42_read_355, rfl⟩ : ∃ f, f = du_X42_read_355)
def du_X42_read_354 (s : jS) (x0 x2 y0 y1 : Int) : Option ((jS × List Int) ⊕ (jS × Int)) :=
  u_X42_read_355 s x0 x2 0 y0 y1
noncomputable def u_X42_read_354 : jS → Int → Int → Int → Int → Option ((jS × List Int) ⊕ (jS × Int)) := Classical.choose (⟨du_X42_read_354, rfl⟩ : ∃ f, f = du_X42_read_354)
theorem eu_X42_read_354 : u_X42_read_354 = du_X42_read_354 := Classical.choose_spec (⟨du_X42_read_354, rfl⟩ : ∃ f, f = du_X42_read_354)
def b_X42_read_314 (s : jS) (x0 x2 : Int) : Option ((jS × List Int) ⊕ (jS × Int)) :=
  if x2 < 4096 then
    (jdv 2 (I_div x2 2)).bind fun v1 =>
    (jlt s 1000 (x0 + 4) 6 3).bind fun v2 =>
    if x2 < v2 then
      (m_X42_isMarkIn s x0 x2).bind fun v3 =>
      if v3 = 0 then
        u_X42_read_354 s x0 x2 (W32 (2048 + v1)) (x0 + 6)
      else
        u_X42_read_355 s x0 x2 1 (W32 (2048 + v1)) (x0 + 6)
    else
      u_X42_read_354 s x0 x2 (W32 (2048 + v1)) (x0 + 6)
  else
    jinr (some (s, 0))
def du_X42_read_314 (s : jS) (x0 x2 : Int) : Option (jS × Int) := jlpW (jc2 b_X42_read_314) [x0, x2] s
noncomputable def u_X42_read_314 : jS → Int → Int → Option (jS × Int) := Classical.choose (⟨du_X42_read_314, rfl⟩ : ∃ f, f = du_X42_read_314)
theorem eu_X42_read_314 : u_X42_read_314 = du_X42_read_314 := Classical.choose_spec (⟨du_X42_read_314, rfl⟩ : ∃ f, f = du_X42_read_314)
def du_X42_read_312 (s : jS) (x0 : Int) : Option (jS × Int) :=
  u_X42_read_314 s x0 0
noncomputable def u_X42_read_312 : jS → Int → Option (jS × Int) := Classical.choose (⟨du_X42_read_312, rfl⟩ : ∃ f, f = du_X42_read_312)
theorem eu_X42_read_312 : u_X42_read_312 = du_X42_read_312 := Classical.choose_spec (⟨du_X42_read_312, rfl⟩ : ∃ f, f = du_X42_read_312)
def du_X42_read_306 (s : jS) (x0 x2 : Int) : Option ((jS × List Int) ⊕ (jS × Int)) :=
  some (.inl (s, [x0, W32 (x2 + 1)]))
noncomputable def u_X42_read_306 : jS → Int → Int → Option ((jS × List Int) ⊕ (jS × Int)) := Classical.choose (⟨du_X42_read_306, rfl⟩ : ∃ f, f = du_X42_read_306)
theorem eu_X42_read_306 : u_X42_read_306 = du_X42_read_306 := Classical.choose_spec (⟨du_X42_read_306, rfl⟩ : ∃ f, f = du_X42_read_306)
def du_X42_read_305 (s : jS) (x0 x2 y0 y1 y2 : Int) : Option ((jS × List Int) ⊕ (jS × Int)) :=
  (jst s 1000 y2 2 y1 y0).bind fun s1 =>
  u_X42_read_306 s1 x0 x2
noncomputable def u_X42_read_305 : jS → Int → Int → Int → Int → Int → Option ((jS × List Int) ⊕ (jS × Int)) := Classical.choose (⟨du_X42_read_305, rfl⟩ : ∃ f, f = du_X42_read_305)
theorem eu_X42_read_305 : u_X42_read_305 = du_X42_read_305 := Classical.choose_spec (⟨du_X42_read_305, rfl⟩ : ∃ f, f = du_X42_read_305)
def du_X42_read_265 (s : jS) (x0 x2 x3 : Int) : Option ((jS × List Int) ⊕ (jS × Int)) :=
  (m_X42_number s x0 x3 7).bind fun v1 =>
  (jlt s 1000 (x0 + 8) 2 1).bind fun v2 =>
  if 0 < (L_cmp v1 v2) then
    (m_X42_number s x0 x3 7).bind fun v3 =>
    u_X42_read_305 s x0 x2 (L2i v3) 1 (x0 + 8)
  else
    (jlt s 1000 (x0 + 8) 2 1).bind fun v4 =>
    u_X42_read_305 s x0 x2 v4 1 (x0 + 8)
noncomputable def u_X42_read_265 : jS → Int → Int → Int → Option ((jS × List Int) ⊕ (jS × Int)) := Classical.choose (⟨du_X42_read_265, rfl⟩ : ∃ f, f = du_X42_read_265)
theorem eu_X42_read_265 : u_X42_read_265 = du_X42_read_265 := Classical.choose_spec (⟨du_X42_read_265, rfl⟩ : ∃ f, f = du_X42_read_265)
def b_X42_read_216 (s : jS) (x0 x2 x3 x4 : Int) : Option ((jS × List Int) ⊕ ((jS × List Int) ⊕ (jS × Int))) :=
  (jlt s 1000 (x0 + 4) 6 (W32 (3 + x2))).bind fun v1 =>
  if x4 < v1 then
    (m_X42_number s x0 x3 1).bind fun v2 =>
    (jlt s 1000 (x0 + 9) 16384 (W32 ((L2i v2) + x4))).bind fun v3 =>
    (jst s 1000 (x0 + 5) 24576 (W32 ((W32 (4096 * (W32 (3 + x2)))) + x4)) v3).bind fun s4 =>
    some (.inl (s4, [x0, x2, x3, W32 (x4 + 1)]))
  else
    jinr (u_X42_read_265 s x0 x2 x3)
def du_X42_read_216 (s : jS) (x0 x2 x3 x4 : Int) : Option ((jS × List Int) ⊕ (jS × Int)) := jlpW (jc4 b_X42_read_216) [x0, x2, x3, x4] s
noncomputable def u_X42_read_216 : jS → Int → Int → Int → Int → Option ((jS × List Int) ⊕ (jS × Int)) := Classical.choose (⟨du_X42_read_216, rfl⟩ : ∃ f, f = du_X42_read_216)
theorem eu_X42_read_216 : u_X42_read_216 = du_X42_read_216 := Classical.choose_spec (⟨du_X42_read_216, rfl⟩ : ∃ f, f = du_X42_read_216)
def du_X42_read_152 (s : jS) (x0 x2 x3 y0 y1 y2 : Int) : Option ((jS × List Int) ⊕ (jS × Int)) :=
  (jst s 1002 y2 6 y1 (Wz y0)).bind fun s1 =>
  if x3 = (-1) then
    u_X42_read_306 s1 x0 x2
  else
    (m_X42_number s1 x0 x3 2).bind fun v2 =>
    (jst s1 1000 (x0 + 2) 6 (W32 (3 + x2)) (L2i v2)).bind fun s3 =>
    (m_X42_number s3 x0 x3 4).bind fun v4 =>
    (jst s3 1000 (x0 + 4) 6 (W32 (3 + x2)) (L2i v4)).bind fun s5 =>
    (m_X42_number s5 x0 x3 5).bind fun v6 =>
    (m_X42_number s5 x0 x3 4).bind fun v7 =>
    (jst s5 1000 (x0 + 3) 6 (W32 (3 + x2)) (L2i (W64 (v6 - v7)))).bind fun s8 =>
    u_X42_read_216 s8 x0 x2 x3 0
noncomputable def u_X42_read_152 : jS → Int → Int → Int → Int → Int → Int → Option ((jS × List Int) ⊕ (jS × Int)) := Classical.choose (⟨du_X42_read_152, rfl⟩ : ∃ f, f = du_X42_read_152)
theorem eu_X42_read_152 : u_X42_read_152 = du_X42_read_152 := Classical.choose_spec (⟨du_X42_read_152, rfl⟩ : ∃ f, f = du_X42_read_152)
def b_X42_read_123 (s : jS) (x0 x2 : Int) : Option ((jS × List Int) ⊕ (jS × Int)) :=
  if x2 < 3 then
    (jlt s 1000 (x0 + 10) 4 x2).bind fun v1 =>
    if v1 = (-1) then
      u_X42_read_152 s x0 x2 v1 0 (W32 (3 + x2)) (x0 + 1)
    else
      u_X42_read_152 s x0 x2 v1 1 (W32 (3 + x2)) (x0 + 1)
  else
    jinr (u_X42_read_312 s x0)
def du_X42_read_123 (s : jS) (x0 x2 : Int) : Option (jS × Int) := jlpW (jc2 b_X42_read_123) [x0, x2] s
noncomputable def u_X42_read_123 : jS → Int → Int → Option (jS × Int) := Classical.choose (⟨du_X42_read_123, rfl⟩ : ∃ f, f = du_X42_read_123)
theorem eu_X42_read_123 : u_X42_read_123 = du_X42_read_123 := Classical.choose_spec (⟨du_X42_read_123, rfl⟩ : ∃ f, f = du_X42_read_123)
def du_X42_read_89 (s : jS) (x0 y0 : Int) : Option (jS × Int) :=
  if y0 = 0 then
    jls (jp s 46 x0 10 (-1)) fun s1 =>
    (m_X42_read4 s1 x0 24).bind fun v2 =>
    (jst s1 1000 (x0 + 7) 2 1 (L2i v2)).bind fun s3 =>
    (jst s3 1000 (x0 + 8) 2 1 1).bind fun s4 =>
    u_X42_read_123 s4 x0 0
  else
    some (s, y0)
noncomputable def u_X42_read_89 : jS → Int → Int → Option (jS × Int) := Classical.choose (⟨du_X42_read_89, rfl⟩ : ∃ f, f = du_X42_read_89)
theorem eu_X42_read_89 : u_X42_read_89 = du_X42_read_89 := Classical.choose_spec (⟨du_X42_read_89, rfl⟩ : ∃ f, f = du_X42_read_89)
def du_X42_read_76 (s : jS) (x0 y0 : Int) : Option (jS × Int) :=
  if y0 = 0 then
    (m_X42_lastFaults s x0).bind fun q1 =>
    u_X42_read_89 q1.1 x0 q1.2
  else
    u_X42_read_89 s x0 y0
noncomputable def u_X42_read_76 : jS → Int → Int → Option (jS × Int) := Classical.choose (⟨du_X42_read_76, rfl⟩ : ∃ f, f = du_X42_read_76)
theorem eu_X42_read_76 : u_X42_read_76 = du_X42_read_76 := Classical.choose_spec (⟨du_X42_read_76, rfl⟩ : ∃ f, f = du_X42_read_76)
def du_X42_read_63 (s : jS) (x0 y0 : Int) : Option (jS × Int) :=
  if y0 = 0 then
    (m_X42_markFaults s x0).bind fun q1 =>
    u_X42_read_76 q1.1 x0 q1.2
  else
    u_X42_read_76 s x0 y0
noncomputable def u_X42_read_63 : jS → Int → Int → Option (jS × Int) := Classical.choose (⟨du_X42_read_63, rfl⟩ : ∃ f, f = du_X42_read_63)
theorem eu_X42_read_63 : u_X42_read_63 = du_X42_read_63 := Classical.choose_spec (⟨du_X42_read_63, rfl⟩ : ∃ f, f = du_X42_read_63)
def du_X42_read_51 (s : jS) (x0 x1 : Int) : Option (jS × Int) :=
  if x1 = 0 then
    (m_X42_imageFault s x0).bind fun q1 =>
    u_X42_read_63 q1.1 x0 q1.2
  else
    u_X42_read_63 s x0 x1
noncomputable def u_X42_read_51 : jS → Int → Int → Option (jS × Int) := Classical.choose (⟨du_X42_read_51, rfl⟩ : ∃ f, f = du_X42_read_51)
theorem eu_X42_read_51 : u_X42_read_51 = du_X42_read_51 := Classical.choose_spec (⟨du_X42_read_51, rfl⟩ : ∃ f, f = du_X42_read_51)
def b_X42_read_27 (s : jS) (x0 x1 x2 : Int) : Option ((jS × List Int) ⊕ (jS × Int)) :=
  if x1 = 0 then
    if x2 < (jf s 46 x0 12) then
      (m_X42_rowFault s x0 x2).bind fun q1 =>
      some (.inl (q1.1, [x0, q1.2, W32 (x2 + 1)]))
    else
      jinr (u_X42_read_51 s x0 x1)
  else
    jinr (u_X42_read_51 s x0 x1)
def du_X42_read_27 (s : jS) (x0 x1 x2 : Int) : Option (jS × Int) := jlpW (jc3 b_X42_read_27) [x0, x1, x2] s
noncomputable def u_X42_read_27 : jS → Int → Int → Int → Option (jS × Int) := Classical.choose (⟨du_X42_read_27, rfl⟩ : ∃ f, f = du_X42_read_27)
theorem eu_X42_read_27 : u_X42_read_27 = du_X42_read_27 := Classical.choose_spec (⟨du_X42_read_27, rfl⟩ : ∃ f, f = du_X42_read_27)
def du_X42_read_25 (s : jS) (x0 x1 : Int) : Option (jS × Int) :=
  u_X42_read_27 s x0 x1 0
noncomputable def u_X42_read_25 : jS → Int → Int → Option (jS × Int) := Classical.choose (⟨du_X42_read_25, rfl⟩ : ∃ f, f = du_X42_read_25)
theorem eu_X42_read_25 : u_X42_read_25 = du_X42_read_25 := Classical.choose_spec (⟨du_X42_read_25, rfl⟩ : ∃ f, f = du_X42_read_25)
def b_X42_read_7 (s : jS) (x0 x1 x2 : Int) : Option ((jS × List Int) ⊕ (jS × Int)) :=
  if x2 < 4 then
    (jst s 1000 (x0 + 10) 4 x2 (-1)).bind fun s1 =>
    some (.inl (s1, [x0, x1, W32 (x2 + 1)]))
  else
    jinr (u_X42_read_25 s x0 x1)
def du_X42_read_7 (s : jS) (x0 x1 x2 : Int) : Option (jS × Int) := jlpW (jc3 b_X42_read_7) [x0, x1, x2] s
noncomputable def u_X42_read_7 : jS → Int → Int → Int → Option (jS × Int) := Classical.choose (⟨du_X42_read_7, rfl⟩ : ∃ f, f = du_X42_read_7)
theorem eu_X42_read_7 : u_X42_read_7 = du_X42_read_7 := Classical.choose_spec (⟨du_X42_read_7, rfl⟩ : ∃ f, f = du_X42_read_7)
def dm_X42_read (s : jS) (x0 : Int) : Option (jS × Int) :=
  (m_X42_headFault s x0).bind fun q1 =>
  u_X42_read_7 q1.1 x0 q1.2 0
noncomputable def m_X42_read : jS → Int → Option (jS × Int) := Classical.choose (⟨dm_X42_read, rfl⟩ : ∃ f, f = dm_X42_read)
theorem em_X42_read : m_X42_read = dm_X42_read := Classical.choose_spec (⟨dm_X42_read, rfl⟩ : ∃ f, f = dm_X42_read)
def b_X43_find_32 (s : jS) (x0 x1 x3 x4 : Int) : Option ((jS × List Int) ⊕ (jS × Int)) :=
  if x4 < x3 then
    (m_X43_take s x0 x4 x1).bind fun q1 =>
    if q1.2 = 0 then
      some (.inl (q1.1, [x0, x1, x3, W32 (x4 + 1)]))
    else
      jinr (some (q1.1, x4))
  else
    jinr (some (s, (-1)))
def du_X43_find_32 (s : jS) (x0 x1 x3 x4 : Int) : Option (jS × Int) := jlpW (jc4 b_X43_find_32) [x0, x1, x3, x4] s
noncomputable def u_X43_find_32 : jS → Int → Int → Int → Int → Option (jS × Int) := Classical.choose (⟨du_X43_find_32, rfl⟩ : ∃ f, f = du_X43_find_32)
theorem eu_X43_find_32 : u_X43_find_32 = du_X43_find_32 := Classical.choose_spec (⟨du_X43_find_32, rfl⟩ : ∃ f, f = du_X43_find_32)
def du_X43_find_28 (s : jS) (x0 x1 x2 y0 : Int) : Option (jS × Int) :=
  u_X43_find_32 s x0 x1 y0 x2
noncomputable def u_X43_find_28 : jS → Int → Int → Int → Int → Option (jS × Int) := Classical.choose (⟨du_X43_find_28, rfl⟩ : ∃ f, f = du_X43_find_28)
theorem eu_X43_find_28 : u_X43_find_28 = du_X43_find_28 := Classical.choose_spec (⟨du_X43_find_28, rfl⟩ : ∃ f, f = du_X43_find_28)
def du_X43_find_13 (s : jS) (x0 x1 y0 : Int) : Option (jS × Int) :=
  (m_X43_isLong s x1).bind fun v1 =>
  if v1 = 0 then
    u_X43_find_28 s x0 x1 y0 75
  else
    u_X43_find_28 s x0 x1 y0 48
noncomputable def u_X43_find_13 : jS → Int → Int → Int → Option (jS × Int) := Classical.choose (⟨du_X43_find_13, rfl⟩ : ∃ f, f = du_X43_find_13)
theorem eu_X43_find_13 : u_X43_find_13 = du_X43_find_13 := Classical.choose_spec (⟨du_X43_find_13, rfl⟩ : ∃ f, f = du_X43_find_13)
def dm_X43_find (s : jS) (x0 x1 : Int) : Option (jS × Int) :=
  (m_X43_isLong s x1).bind fun v1 =>
  if v1 = 0 then
    u_X43_find_13 s x0 x1 48
  else
    u_X43_find_13 s x0 x1 0
noncomputable def m_X43_find : jS → Int → Int → Option (jS × Int) := Classical.choose (⟨dm_X43_find, rfl⟩ : ∃ f, f = dm_X43_find)
theorem em_X43_find : m_X43_find = dm_X43_find := Classical.choose_spec (⟨dm_X43_find, rfl⟩ : ∃ f, f = dm_X43_find)
def du_X37_check_13 (s : jS) (x0 x1 y0 y1 : Int) : Option (jS × Int) :=
  jls (jp s 41 y1 4 y0) fun s1 =>
  if (jf s1 41 x0 4) = 0 then
    (m_X37_give s1 x0 (x0 + 59) x1).bind fun q2 =>
    (m_X40_read q2.1 (x0 + 59)).bind fun q3 =>
    some (q3.1, q3.2)
  else
    some (s1, 0)
noncomputable def u_X37_check_13 : jS → Int → Int → Int → Int → Option (jS × Int) := Classical.choose (⟨du_X37_check_13, rfl⟩ : ∃ f, f = du_X37_check_13)
theorem eu_X37_check_13 : u_X37_check_13 = du_X37_check_13 := Classical.choose_spec (⟨du_X37_check_13, rfl⟩ : ∃ f, f = du_X37_check_13)
def dm_X37_check (s : jS) (x0 x1 : Int) : Option (jS × Int) :=
  (m_X37_isUnit s x1).bind fun v1 =>
  if v1 = 0 then
    u_X37_check_13 s x0 x1 1 x0
  else
    u_X37_check_13 s x0 x1 0 x0
noncomputable def m_X37_check : jS → Int → Int → Option (jS × Int) := Classical.choose (⟨dm_X37_check, rfl⟩ : ∃ f, f = dm_X37_check)
theorem em_X37_check : m_X37_check = dm_X37_check := Classical.choose_spec (⟨dm_X37_check, rfl⟩ : ∃ f, f = dm_X37_check)
def dm_X37_plain (s : jS) (x0 x1 : Int) : Option (jS × Int) :=
  (m_X37_evaluate s x0 x1).bind fun q1 =>
  if q1.2 = 0 then
    some (q1.1, Wz 0)
  else
    (m_X37_isPlain q1.1 x0).bind fun v2 =>
    if v2 = 0 then
      (m_X37_placeOf q1.1 x0 x1).bind fun q3 =>
      (m_X37_fail_2 q3.1 x0 14 q3.2).bind fun q4 =>
      if q4.2 = 0 then
        some (q4.1, Wz 0)
      else
        some (q4.1, Wz 1)
    else
      some (q1.1, Wz 1)
noncomputable def m_X37_plain : jS → Int → Int → Option (jS × Int) := Classical.choose (⟨dm_X37_plain, rfl⟩ : ∃ f, f = dm_X37_plain)
theorem em_X37_plain : m_X37_plain = dm_X37_plain := Classical.choose_spec (⟨dm_X37_plain, rfl⟩ : ∃ f, f = dm_X37_plain)
def du_X37_within_24 (s : jS) (x0 x1 : Int) : Option (jS × Int) :=
  (m_X37_placeOf s x0 x1).bind fun q1 =>
  (m_X37_fail_2 q1.1 x0 15 q1.2).bind fun q2 =>
  if q2.2 = 0 then
    some (q2.1, Wz 0)
  else
    some (q2.1, Wz 1)
noncomputable def u_X37_within_24 : jS → Int → Int → Option (jS × Int) := Classical.choose (⟨du_X37_within_24, rfl⟩ : ∃ f, f = du_X37_within_24)
theorem eu_X37_within_24 : u_X37_within_24 = du_X37_within_24 := Classical.choose_spec (⟨du_X37_within_24, rfl⟩ : ∃ f, f = du_X37_within_24)
def dm_X37_within (s : jS) (x0 x1 x2 x3 : Int) : Option (jS × Int) :=
  (m_X37_plain s x0 x1).bind fun q1 =>
  if q1.2 = 0 then
    some (q1.1, Wz 0)
  else
    if (jf q1.1 41 x0 52) < x2 then
      u_X37_within_24 q1.1 x0 x1
    else
      if x3 < (jf q1.1 41 x0 52) then
        u_X37_within_24 q1.1 x0 x1
      else
        some (q1.1, Wz 1)
noncomputable def m_X37_within : jS → Int → Int → Int → Int → Option (jS × Int) := Classical.choose (⟨dm_X37_within, rfl⟩ : ∃ f, f = dm_X37_within)
theorem em_X37_within : m_X37_within = dm_X37_within := Classical.choose_spec (⟨dm_X37_within, rfl⟩ : ∃ f, f = dm_X37_within)
def b_X37_zeros_40 (s : jS) (x0 x1 : Int) : Option ((jS × List Int) ⊕ (jS × Int)) :=
  if 0 < x1 then
    (m_X37_putByte s x0 0).bind fun q1 =>
    if q1.2 = 0 then
      jinr (some (q1.1, Wz 0))
    else
      some (.inl (q1.1, [x0, W32 (x1 + (-1))]))
  else
    jinr (some (s, Wz 1))
def du_X37_zeros_40 (s : jS) (x0 x1 : Int) : Option (jS × Int) := jlpW (jc2 b_X37_zeros_40) [x0, x1] s
noncomputable def u_X37_zeros_40 : jS → Int → Int → Option (jS × Int) := Classical.choose (⟨du_X37_zeros_40, rfl⟩ : ∃ f, f = du_X37_zeros_40)
theorem eu_X37_zeros_40 : u_X37_zeros_40 = du_X37_zeros_40 := Classical.choose_spec (⟨du_X37_zeros_40, rfl⟩ : ∃ f, f = du_X37_zeros_40)
def dm_X37_zeros (s : jS) (x0 : Int) : Option (jS × Int) :=
  (m_X37_are s x0 1 0 0 0).bind fun q1 =>
  if q1.2 = 0 then
    (m_X37_fail q1.1 x0 12).bind fun q2 =>
    some (q2.1, Wz q2.2)
  else
    (m_X37_within q1.1 x0 (jf q1.1 41 x0 45) 0 4096).bind fun q3 =>
    if q3.2 = 0 then
      some (q3.1, Wz 0)
    else
      u_X37_zeros_40 q3.1 x0 (jf q3.1 41 x0 52)
noncomputable def m_X37_zeros : jS → Int → Option (jS × Int) := Classical.choose (⟨dm_X37_zeros, rfl⟩ : ∃ f, f = dm_X37_zeros)
theorem em_X37_zeros : m_X37_zeros = dm_X37_zeros := Classical.choose_spec (⟨dm_X37_zeros, rfl⟩ : ∃ f, f = dm_X37_zeros)
def b_X37_align_175 (s : jS) (x0 x1 : Int) : Option ((jS × List Int) ⊕ (jS × Int)) :=
  (jlt s 1000 (x0 + 153) 4 (jf s 41 x0 34)).bind fun v1 =>
  (jdv x1 (I_rem v1 x1)).bind fun v2 =>
  if v2 = 0 then
    jinr (some (s, Wz 1))
  else
    (m_X37_putByte s x0 0).bind fun q3 =>
    if q3.2 = 0 then
      jinr (some (q3.1, Wz 0))
    else
      some (.inl (q3.1, [x0, x1]))
def du_X37_align_175 (s : jS) (x0 x1 : Int) : Option (jS × Int) := jlpW (jc2 b_X37_align_175) [x0, x1] s
noncomputable def u_X37_align_175 : jS → Int → Int → Option (jS × Int) := Classical.choose (⟨du_X37_align_175, rfl⟩ : ∃ f, f = du_X37_align_175)
theorem eu_X37_align_175 : u_X37_align_175 = du_X37_align_175 := Classical.choose_spec (⟨du_X37_align_175, rfl⟩ : ∃ f, f = du_X37_align_175)
def du_X37_align_164 (s : jS) (x0 x3 x4 : Int) : Option (jS × Int) :=
  (m_X37_move s x0 x3 43 (-1) x4).bind fun q1 =>
  some (q1.1, Wz q1.2)
noncomputable def u_X37_align_164 : jS → Int → Int → Int → Option (jS × Int) := Classical.choose (⟨du_X37_align_164, rfl⟩ : ∃ f, f = du_X37_align_164)
theorem eu_X37_align_164 : u_X37_align_164 = du_X37_align_164 := Classical.choose_spec (⟨du_X37_align_164, rfl⟩ : ∃ f, f = du_X37_align_164)
def du_X37_align_145 (s : jS) (x0 x3 x4 : Int) : Option (jS × Int) :=
  (jdv 4 (I_rem x4 4)).bind fun v1 =>
  if v1 = 2 then
    (m_X37_putBytes s x0 1 2).bind fun q2 =>
    if q2.2 = 0 then
      some (q2.1, Wz 0)
    else
      u_X37_align_164 q2.1 x0 x3 x4
  else
    u_X37_align_164 s x0 x3 x4
noncomputable def u_X37_align_145 : jS → Int → Int → Int → Option (jS × Int) := Classical.choose (⟨du_X37_align_145, rfl⟩ : ∃ f, f = du_X37_align_145)
theorem eu_X37_align_145 : u_X37_align_145 = du_X37_align_145 := Classical.choose_spec (⟨du_X37_align_145, rfl⟩ : ∃ f, f = du_X37_align_145)
def b_X37_align_118 (s : jS) (x0 x3 x4 x5 : Int) : Option ((jS × List Int) ⊕ (jS × Int)) :=
  (jdv 4 (I_div x4 4)).bind fun v1 =>
  if x5 < v1 then
    (m_X37_putBytes s x0 19 4).bind fun q2 =>
    if q2.2 = 0 then
      jinr (some (q2.1, Wz 0))
    else
      some (.inl (q2.1, [x0, x3, x4, W32 (x5 + 1)]))
  else
    jinr (u_X37_align_145 s x0 x3 x4)
def du_X37_align_118 (s : jS) (x0 x3 x4 x5 : Int) : Option (jS × Int) := jlpW (jc4 b_X37_align_118) [x0, x3, x4, x5] s
noncomputable def u_X37_align_118 : jS → Int → Int → Int → Int → Option (jS × Int) := Classical.choose (⟨du_X37_align_118, rfl⟩ : ∃ f, f = du_X37_align_118)
theorem eu_X37_align_118 : u_X37_align_118 = du_X37_align_118 := Classical.choose_spec (⟨du_X37_align_118, rfl⟩ : ∃ f, f = du_X37_align_118)
def du_X37_align_88 (s : jS) (x0 x1 y0 : Int) : Option (jS × Int) :=
  if (jf s 41 x0 34) = 0 then
    (jlt s 1000 (x0 + 153) 4 0).bind fun v1 =>
    jlet (W32 (x1 - y0)) fun v2 =>
    if 0 < v2 then
      u_X37_align_118 s x0 v1 v2 0
    else
      some (s, Wz 1)
  else
    u_X37_align_175 s x0 x1
noncomputable def u_X37_align_88 : jS → Int → Int → Int → Option (jS × Int) := Classical.choose (⟨du_X37_align_88, rfl⟩ : ∃ f, f = du_X37_align_88)
theorem eu_X37_align_88 : u_X37_align_88 = du_X37_align_88 := Classical.choose_spec (⟨du_X37_align_88, rfl⟩ : ∃ f, f = du_X37_align_88)
def du_X37_align_75 (s : jS) (x0 x1 y0 y1 y2 : Int) : Option (jS × Int) :=
  (jst s 1000 y2 4 y1 y0).bind fun s1 =>
  if (jf s1 41 x0 35) = 0 then
    u_X37_align_88 s1 x0 x1 4
  else
    u_X37_align_88 s1 x0 x1 2
noncomputable def u_X37_align_75 : jS → Int → Int → Int → Int → Int → Option (jS × Int) := Classical.choose (⟨du_X37_align_75, rfl⟩ : ∃ f, f = du_X37_align_75)
theorem eu_X37_align_75 : u_X37_align_75 = du_X37_align_75 := Classical.choose_spec (⟨du_X37_align_75, rfl⟩ : ∃ f, f = du_X37_align_75)
def dm_X37_align (s : jS) (x0 : Int) : Option (jS × Int) :=
  (m_X37_are s x0 1 0 0 0).bind fun q1 =>
  if q1.2 = 0 then
    (m_X37_fail q1.1 x0 12).bind fun q2 =>
    some (q2.1, Wz q2.2)
  else
    (m_X37_within q1.1 x0 (jf q1.1 41 x0 45) 0 6).bind fun q3 =>
    if q3.2 = 0 then
      some (q3.1, Wz 0)
    else
      jlet (I_shl 1 (jf q3.1 41 x0 52)) fun v4 =>
      (jlt q3.1 1000 (x0 + 154) 4 (jf q3.1 41 x0 34)).bind fun v5 =>
      if v5 < v4 then
        u_X37_align_75 q3.1 x0 v4 v4 (jf q3.1 41 x0 34) (x0 + 154)
      else
        (jlt q3.1 1000 (x0 + 154) 4 (jf q3.1 41 x0 34)).bind fun v6 =>
        u_X37_align_75 q3.1 x0 v4 v6 (jf q3.1 41 x0 34) (x0 + 154)
noncomputable def m_X37_align : jS → Int → Option (jS × Int) := Classical.choose (⟨dm_X37_align, rfl⟩ : ∃ f, f = dm_X37_align)
theorem em_X37_align : m_X37_align = dm_X37_align := Classical.choose_spec (⟨dm_X37_align, rfl⟩ : ∃ f, f = dm_X37_align)
def dm_X37_oneMoved (s : jS) (x0 x1 x2 x3 x4 x5 : Int) : Option (jS × Int) :=
  (m_X37_begun s x0).bind fun q1 =>
  if q1.2 = 0 then
    some (q1.1, Wz 0)
  else
    (m_X37_word q1.1 x0 x1 x2 x3 x4 0).bind fun q2 =>
    (m_X37_putMoved q2.1 x0 q2.2 x5 (jf q2.1 41 x0 53) (jf q2.1 41 x0 52)).bind fun q3 =>
    if q3.2 = 0 then
      some (q3.1, Wz 0)
    else
      some (q3.1, Wz 1)
noncomputable def m_X37_oneMoved : jS → Int → Int → Int → Int → Int → Int → Option (jS × Int) := Classical.choose (⟨dm_X37_oneMoved, rfl⟩ : ∃ f, f = dm_X37_oneMoved)
theorem em_X37_oneMoved : m_X37_oneMoved = dm_X37_oneMoved := Classical.choose_spec (⟨dm_X37_oneMoved, rfl⟩ : ∃ f, f = dm_X37_oneMoved)
def du_X37_takeOperands_260 (s : jS) (x0 x1 x3 : Int) : Option (jS × Int) :=
  (m_X37_takeRegister s x0 x1 0 x3).bind fun q1 =>
  if q1.2 = 0 then
    some (q1.1, Wz 0)
  else
    (m_X37_takeNumber q1.1 x0 x1 (W32 (x3 + 1))).bind fun q2 =>
    if q2.2 = 0 then
      some (q2.1, Wz 0)
    else
      some (q2.1, Wz 1)
noncomputable def u_X37_takeOperands_260 : jS → Int → Int → Int → Option (jS × Int) := Classical.choose (⟨du_X37_takeOperands_260, rfl⟩ : ∃ f, f = du_X37_takeOperands_260)
theorem eu_X37_takeOperands_260 : u_X37_takeOperands_260 = du_X37_takeOperands_260 := Classical.choose_spec (⟨du_X37_takeOperands_260, rfl⟩ : ∃ f, f = du_X37_takeOperands_260)
def dm_X37_takeOperands (s : jS) (x0 x1 x2 : Int) : Option (jS × Int) :=
  if x2 = 0 then
    some (s, Wz 1)
  else
  if x2 = 1 then
    (m_X37_takeRegister s x0 x1 0 (jf s 41 x0 45)).bind fun q1 =>
    if q1.2 = 0 then
      some (q1.1, Wz 0)
    else
      (m_X37_takeRegister q1.1 x0 x1 1 (W32 ((jf s 41 x0 45) + 1))).bind fun q2 =>
      if q2.2 = 0 then
        some (q2.1, Wz 0)
      else
        (m_X37_takeRegister q2.1 x0 x1 2 (W32 ((jf s 41 x0 45) + 2))).bind fun q3 =>
        if q3.2 = 0 then
          some (q3.1, Wz 0)
        else
          some (q3.1, Wz 1)
  else
  if x2 = 2 then
    (m_X37_takeRegister s x0 x1 0 (jf s 41 x0 45)).bind fun q4 =>
    if q4.2 = 0 then
      some (q4.1, Wz 0)
    else
      (m_X37_takeRegister q4.1 x0 x1 1 (W32 ((jf s 41 x0 45) + 1))).bind fun q5 =>
      if q5.2 = 0 then
        some (q5.1, Wz 0)
      else
        (m_X37_takeNumber q5.1 x0 x1 (W32 ((jf s 41 x0 45) + 2))).bind fun q6 =>
        if q6.2 = 0 then
          some (q6.1, Wz 0)
        else
          some (q6.1, Wz 1)
  else
  if x2 = 3 then
    (m_X37_takeRegister s x0 x1 0 (jf s 41 x0 45)).bind fun q7 =>
    if q7.2 = 0 then
      some (q7.1, Wz 0)
    else
      (m_X37_takeMemory q7.1 x0 x1 (W32 ((jf s 41 x0 45) + 1)) 0).bind fun q8 =>
      if q8.2 = 0 then
        some (q8.1, Wz 0)
      else
        some (q8.1, Wz 1)
  else
  if x2 = 4 then
    (m_X37_takeRegister s x0 x1 2 (jf s 41 x0 45)).bind fun q9 =>
    if q9.2 = 0 then
      some (q9.1, Wz 0)
    else
      (m_X37_takeMemory q9.1 x0 x1 (W32 ((jf s 41 x0 45) + 1)) 0).bind fun q10 =>
      if q10.2 = 0 then
        some (q10.1, Wz 0)
      else
        some (q10.1, Wz 1)
  else
  if x2 = 5 then
    (m_X37_takeRegister s x0 x1 1 (jf s 41 x0 45)).bind fun q11 =>
    if q11.2 = 0 then
      some (q11.1, Wz 0)
    else
      (m_X37_takeRegister q11.1 x0 x1 2 (W32 ((jf s 41 x0 45) + 1))).bind fun q12 =>
      if q12.2 = 0 then
        some (q12.1, Wz 0)
      else
        (m_X37_takeTarget q12.1 x0 x1 (W32 ((jf s 41 x0 45) + 2))).bind fun q13 =>
        if q13.2 = 0 then
          some (q13.1, Wz 0)
        else
          some (q13.1, Wz 1)
  else
  if x2 = 6 then
    u_X37_takeOperands_260 s x0 x1 (jf s 41 x0 45)
  else
  if x2 = 7 then
    (m_X37_takeRegister s x0 x1 0 (jf s 41 x0 45)).bind fun q14 =>
    if q14.2 = 0 then
      some (q14.1, Wz 0)
    else
      (m_X37_takeTarget q14.1 x0 x1 (W32 ((jf s 41 x0 45) + 1))).bind fun q15 =>
      if q15.2 = 0 then
        some (q15.1, Wz 0)
      else
        some (q15.1, Wz 1)
  else
  if x2 = 8 then
    (m_X37_takeTarget s x0 x1 (jf s 41 x0 45)).bind fun q16 =>
    some (q16.1, Wz q16.2)
  else
  if x2 = 9 then
    (m_X37_takeRegister s x0 x1 1 (jf s 41 x0 45)).bind fun q17 =>
    if q17.2 = 0 then
      some (q17.1, Wz 0)
    else
      (m_X37_takeTarget q17.1 x0 x1 (W32 ((jf s 41 x0 45) + 1))).bind fun q18 =>
      if q18.2 = 0 then
        some (q18.1, Wz 0)
      else
        some (q18.1, Wz 1)
  else
  if x2 = 10 then
    (m_X37_takeRegister s x0 x1 0 (jf s 41 x0 45)).bind fun q19 =>
    if q19.2 = 0 then
      some (q19.1, Wz 0)
    else
      (m_X37_takeRegister q19.1 x0 x1 2 (W32 ((jf s 41 x0 45) + 1))).bind fun q20 =>
      if q20.2 = 0 then
        some (q20.1, Wz 0)
      else
        some (q20.1, Wz 1)
  else
  if x2 = 11 then
    (m_X37_takeRegister s x0 x1 1 (jf s 41 x0 45)).bind fun q21 =>
    some (q21.1, Wz q21.2)
  else
  if x2 = 12 then
    u_X37_takeOperands_260 s x0 x1 (jf s 41 x0 45)
  else
  if x2 = 13 then
    (m_X37_takeRegister s x0 x1 0 (jf s 41 x0 45)).bind fun q22 =>
    if q22.2 = 0 then
      some (q22.1, Wz 0)
    else
      (m_X37_takeMemory q22.1 x0 x1 (W32 ((jf s 41 x0 45) + 1)) 1).bind fun q23 =>
      if q23.2 = 0 then
        some (q23.1, Wz 0)
      else
        some (q23.1, Wz 1)
  else
  if x2 = 14 then
    (m_X37_takeRegister s x0 x1 2 (jf s 41 x0 45)).bind fun q24 =>
    if q24.2 = 0 then
      some (q24.1, Wz 0)
    else
      (m_X37_takeMemory q24.1 x0 x1 (W32 ((jf s 41 x0 45) + 1)) 1).bind fun q25 =>
      if q25.2 = 0 then
        some (q25.1, Wz 0)
      else
        some (q25.1, Wz 1)
  else
  if x2 = 15 then
    (m_X37_takeRegister s x0 x1 0 (jf s 41 x0 45)).bind fun q26 =>
    if q26.2 = 0 then
      some (q26.1, Wz 0)
    else
      (m_X37_takeNumber q26.1 x0 x1 (W32 ((jf s 41 x0 45) + 2))).bind fun q27 =>
      if q27.2 = 0 then
        some (q27.1, Wz 0)
      else
        some (q27.1, Wz 1)
  else
  (m_X37_takeNumber s x0 x1 (W32 ((jf s 41 x0 45) + 1))).bind fun q28 =>
  some (q28.1, Wz q28.2)
noncomputable def m_X37_takeOperands : jS → Int → Int → Int → Option (jS × Int) := Classical.choose (⟨dm_X37_takeOperands, rfl⟩ : ∃ f, f = dm_X37_takeOperands)
theorem em_X37_takeOperands : m_X37_takeOperands = dm_X37_takeOperands := Classical.choose_spec (⟨dm_X37_takeOperands, rfl⟩ : ∃ f, f = dm_X37_takeOperands)
def du_X37_branch_99 (s : jS) (x0 x1 x3 y0 : Int) : Option (jS × Int) :=
  if x1 = 210 then
    (m_X37_oneMoved s x0 4 0 x3 0 16).bind fun q1 =>
    some (q1.1, Wz q1.2)
  else
  if x1 = 211 then
    (m_X37_oneMoved s x0 5 0 x3 0 16).bind fun q2 =>
    some (q2.1, Wz q2.2)
  else
  if x1 = 212 then
    (m_X37_oneMoved s x0 7 0 x3 0 16).bind fun q3 =>
    some (q3.1, Wz q3.2)
  else
  if x1 = 213 then
    (m_X37_oneMoved s x0 6 0 x3 0 16).bind fun q4 =>
    some (q4.1, Wz q4.2)
  else
  if x1 = 214 then
    (m_X37_oneMoved s x0 7 0 0 x3 16).bind fun q5 =>
    some (q5.1, Wz q5.2)
  else
  if x1 = 215 then
    (m_X37_oneMoved s x0 6 0 0 x3 16).bind fun q6 =>
    some (q6.1, Wz q6.2)
  else
  if x1 = 216 then
    (m_X37_oneMoved s x0 6 0 y0 x3 16).bind fun q7 =>
    some (q7.1, Wz q7.2)
  else
  if x1 = 217 then
    (m_X37_oneMoved s x0 7 0 y0 x3 16).bind fun q8 =>
    some (q8.1, Wz q8.2)
  else
  if x1 = 218 then
    (m_X37_oneMoved s x0 8 0 y0 x3 16).bind fun q9 =>
    some (q9.1, Wz q9.2)
  else
  (m_X37_oneMoved s x0 9 0 y0 x3 16).bind fun q10 =>
  some (q10.1, Wz q10.2)
noncomputable def u_X37_branch_99 : jS → Int → Int → Int → Int → Option (jS × Int) := Classical.choose (⟨du_X37_branch_99, rfl⟩ : ∃ f, f = du_X37_branch_99)
theorem eu_X37_branch_99 : u_X37_branch_99 = du_X37_branch_99 := Classical.choose_spec (⟨du_X37_branch_99, rfl⟩ : ∃ f, f = du_X37_branch_99)
def du_X37_branch_63 (s : jS) (x0 x1 x2 y0 y1 y2 : Int) : Option (jS × Int) :=
  (m_X37_placed s y2 (W32 (y1 + y0))).bind fun q1 =>
  if q1.2 = 0 then
    some (q1.1, Wz 0)
  else
    (m_X37_registerOf q1.1 x0 (jf q1.1 41 x0 45)).bind fun q2 =>
    if x2 = 0 then
      u_X37_branch_99 q2.1 x0 x1 q2.2 0
    else
      (m_X37_registerOf q2.1 x0 (W32 ((jf q2.1 41 x0 45) + 1))).bind fun q3 =>
      u_X37_branch_99 q3.1 x0 x1 q2.2 q3.2
noncomputable def u_X37_branch_63 : jS → Int → Int → Int → Int → Int → Int → Option (jS × Int) := Classical.choose (⟨du_X37_branch_63, rfl⟩ : ∃ f, f = du_X37_branch_63)
theorem eu_X37_branch_63 : u_X37_branch_63 = du_X37_branch_63 := Classical.choose_spec (⟨du_X37_branch_63, rfl⟩ : ∃ f, f = du_X37_branch_63)
def du_X37_branch_49 (s : jS) (x0 x1 x2 : Int) : Option (jS × Int) :=
  if x2 = 0 then
    u_X37_branch_63 s x0 x1 x2 1 (jf s 41 x0 45) x0
  else
    u_X37_branch_63 s x0 x1 x2 2 (jf s 41 x0 45) x0
noncomputable def u_X37_branch_49 : jS → Int → Int → Int → Option (jS × Int) := Classical.choose (⟨du_X37_branch_49, rfl⟩ : ∃ f, f = du_X37_branch_49)
theorem eu_X37_branch_49 : u_X37_branch_49 = du_X37_branch_49 := Classical.choose_spec (⟨du_X37_branch_49, rfl⟩ : ∃ f, f = du_X37_branch_49)
def du_X37_branch_42 (s : jS) (x0 : Int) : Option (jS × Int) :=
  (m_X37_fail s x0 12).bind fun q1 =>
  some (q1.1, Wz q1.2)
noncomputable def u_X37_branch_42 : jS → Int → Option (jS × Int) := Classical.choose (⟨du_X37_branch_42, rfl⟩ : ∃ f, f = du_X37_branch_42)
theorem eu_X37_branch_42 : u_X37_branch_42 = du_X37_branch_42 := Classical.choose_spec (⟨du_X37_branch_42, rfl⟩ : ∃ f, f = du_X37_branch_42)
def du_X37_branch_12 (s : jS) (x0 x1 y0 : Int) : Option (jS × Int) :=
  if y0 = 0 then
    (m_X37_are s x0 2 1 0 0).bind fun q1 =>
    if q1.2 = 0 then
      u_X37_branch_42 q1.1 x0
    else
      u_X37_branch_49 q1.1 x0 x1 y0
  else
    (m_X37_are s x0 3 1 1 0).bind fun q2 =>
    if q2.2 = 0 then
      u_X37_branch_42 q2.1 x0
    else
      u_X37_branch_49 q2.1 x0 x1 y0
noncomputable def u_X37_branch_12 : jS → Int → Int → Int → Option (jS × Int) := Classical.choose (⟨du_X37_branch_12, rfl⟩ : ∃ f, f = du_X37_branch_12)
theorem eu_X37_branch_12 : u_X37_branch_12 = du_X37_branch_12 := Classical.choose_spec (⟨du_X37_branch_12, rfl⟩ : ∃ f, f = du_X37_branch_12)
def dm_X37_branch (s : jS) (x0 x1 : Int) : Option (jS × Int) :=
  if 215 < x1 then
    u_X37_branch_12 s x0 x1 1
  else
    u_X37_branch_12 s x0 x1 0
noncomputable def m_X37_branch : jS → Int → Int → Option (jS × Int) := Classical.choose (⟨dm_X37_branch, rfl⟩ : ∃ f, f = dm_X37_branch)
theorem em_X37_branch : m_X37_branch = dm_X37_branch := Classical.choose_spec (⟨dm_X37_branch, rfl⟩ : ∃ f, f = dm_X37_branch)
def du_X37_readUnits_57 (s : jS) (x0 x1 x2 : Int) : Option (jS × Int) :=
  (m_X37_refuse s x0 2 x1 x2).bind fun q1 =>
  some (q1.1, Wz q1.2)
noncomputable def u_X37_readUnits_57 : jS → Int → Int → Int → Option (jS × Int) := Classical.choose (⟨du_X37_readUnits_57, rfl⟩ : ∃ f, f = du_X37_readUnits_57)
theorem eu_X37_readUnits_57 : u_X37_readUnits_57 = du_X37_readUnits_57 := Classical.choose_spec (⟨du_X37_readUnits_57, rfl⟩ : ∃ f, f = du_X37_readUnits_57)
def du_X37_readUnits_28 (s : jS) (x0 x1 : Int) : Option (jS × Int) :=
  (m_X37_refuse s x0 1 x1 (-1)).bind fun q1 =>
  some (q1.1, Wz q1.2)
noncomputable def u_X37_readUnits_28 : jS → Int → Int → Option (jS × Int) := Classical.choose (⟨du_X37_readUnits_28, rfl⟩ : ∃ f, f = du_X37_readUnits_28)
theorem eu_X37_readUnits_28 : u_X37_readUnits_28 = du_X37_readUnits_28 := Classical.choose_spec (⟨du_X37_readUnits_28, rfl⟩ : ∃ f, f = du_X37_readUnits_28)
def du_X37_readUnits_70 (s : jS) (x0 x1 : Int) : Option ((jS × List Int) ⊕ (jS × Int)) :=
  some (.inl (s, [x0, W32 (x1 + 1)]))
noncomputable def u_X37_readUnits_70 : jS → Int → Int → Option ((jS × List Int) ⊕ (jS × Int)) := Classical.choose (⟨du_X37_readUnits_70, rfl⟩ : ∃ f, f = du_X37_readUnits_70)
theorem eu_X37_readUnits_70 : u_X37_readUnits_70 = du_X37_readUnits_70 := Classical.choose_spec (⟨du_X37_readUnits_70, rfl⟩ : ∃ f, f = du_X37_readUnits_70)
def b_X37_readUnits_2 (s : jS) (x0 x1 : Int) : Option ((jS × List Int) ⊕ (jS × Int)) :=
  if x1 < 6 then
    (m_X37_isIn s x0 x1).bind fun v1 =>
    if v1 = 0 then
      u_X37_readUnits_70 s x0 x1
    else
      (jlt s 1000 (x0 + 2) 6 x1).bind fun v2 =>
      if v2 = 0 then
        jinr (u_X37_readUnits_28 s x0 x1)
      else
        (m_X37_give s x0 (x0 + 25) x1).bind fun q3 =>
        (m_X40_read q3.1 (x0 + 25)).bind fun q4 =>
        if q4.2 = 0 then
          (m_X37_keepUnit q4.1 x0 x1).bind fun q5 =>
          u_X37_readUnits_70 q5.1 x0 x1
        else
          jinr (u_X37_readUnits_57 q4.1 x0 x1 q4.2)
  else
    jinr (some (s, Wz 1))
def du_X37_readUnits_2 (s : jS) (x0 x1 : Int) : Option (jS × Int) := jlpW (jc2 b_X37_readUnits_2) [x0, x1] s
noncomputable def u_X37_readUnits_2 : jS → Int → Int → Option (jS × Int) := Classical.choose (⟨du_X37_readUnits_2, rfl⟩ : ∃ f, f = du_X37_readUnits_2)
theorem eu_X37_readUnits_2 : u_X37_readUnits_2 = du_X37_readUnits_2 := Classical.choose_spec (⟨du_X37_readUnits_2, rfl⟩ : ∃ f, f = du_X37_readUnits_2)
def dm_X37_readUnits (s : jS) (x0 : Int) : Option (jS × Int) :=
  u_X37_readUnits_2 s x0 0
noncomputable def m_X37_readUnits : jS → Int → Option (jS × Int) := Classical.choose (⟨dm_X37_readUnits, rfl⟩ : ∃ f, f = dm_X37_readUnits)
theorem em_X37_readUnits : m_X37_readUnits = dm_X37_readUnits := Classical.choose_spec (⟨dm_X37_readUnits, rfl⟩ : ∃ f, f = dm_X37_readUnits)
def du_X37_textPieces_112 (s : jS) (x0 x2 x3 x5 : Int) : Option (jS × Int) :=
  (m_X37_plainPiece s x0 x2 x3 x5).bind fun q1 =>
  if q1.2 = 0 then
    some (q1.1, Wz 0)
  else
    some (q1.1, Wz 1)
noncomputable def u_X37_textPieces_112 : jS → Int → Int → Int → Int → Option (jS × Int) := Classical.choose (⟨du_X37_textPieces_112, rfl⟩ : ∃ f, f = du_X37_textPieces_112)
theorem eu_X37_textPieces_112 : u_X37_textPieces_112 = du_X37_textPieces_112 := Classical.choose_spec (⟨du_X37_textPieces_112, rfl⟩ : ∃ f, f = du_X37_textPieces_112)
def du_X37_textPieces_86 (s : jS) (x0 x1 x2 x3 : Int) : Option (jS × Int) :=
  (jlt s 1000 (x0 + 171) 24 (W32 (4 * x1))).bind fun v1 =>
  jlet (W32 (v1 - x3)) fun v2 =>
  if v2 = 0 then
    (jlt s 1000 (x0 + 201) 32 x2).bind fun v3 =>
    if 0 < v3 then
      some (s, Wz 1)
    else
      u_X37_textPieces_112 s x0 x2 x3 v2
  else
    u_X37_textPieces_112 s x0 x2 x3 v2
noncomputable def u_X37_textPieces_86 : jS → Int → Int → Int → Int → Option (jS × Int) := Classical.choose (⟨du_X37_textPieces_86, rfl⟩ : ∃ f, f = du_X37_textPieces_86)
theorem eu_X37_textPieces_86 : u_X37_textPieces_86 = du_X37_textPieces_86 := Classical.choose_spec (⟨du_X37_textPieces_86, rfl⟩ : ∃ f, f = du_X37_textPieces_86)
def du_X37_textPieces_47 (s : jS) (x0 x1 x2 x4 : Int) : Option ((jS × List Int) ⊕ (jS × Int)) :=
  (m_X37_takenPiece s x0 x1 x2 x4).bind fun q1 =>
  if q1.2 = 0 then
    jinr (some (q1.1, Wz 0))
  else
    (jlt q1.1 1000 (x0 + 185) 1800 x4).bind fun v2 =>
    (m_X37_widthOf q1.1 x0 x4).bind fun v3 =>
    jlet (W32 (v2 + v3)) fun v4 =>
    (m_X37_nextTaken q1.1 x0 x1 v4).bind fun v5 =>
    some (.inl (q1.1, [x0, x1, x2, v4, v5]))
noncomputable def u_X37_textPieces_47 : jS → Int → Int → Int → Int → Option ((jS × List Int) ⊕ (jS × Int)) := Classical.choose (⟨du_X37_textPieces_47, rfl⟩ : ∃ f, f = du_X37_textPieces_47)
theorem eu_X37_textPieces_47 : u_X37_textPieces_47 = du_X37_textPieces_47 := Classical.choose_spec (⟨du_X37_textPieces_47, rfl⟩ : ∃ f, f = du_X37_textPieces_47)
def b_X37_textPieces_10 (s : jS) (x0 x1 x2 x3 x4 : Int) : Option ((jS × List Int) ⊕ (jS × Int)) :=
  if x4 = (-1) then
    jinr (u_X37_textPieces_86 s x0 x1 x2 x3)
  else
    (jlt s 1000 (x0 + 185) 1800 x4).bind fun v1 =>
    if x3 < v1 then
      (jlt s 1000 (x0 + 185) 1800 x4).bind fun v2 =>
      (m_X37_plainPiece s x0 x2 x3 (W32 (v2 - x3))).bind fun q3 =>
      if q3.2 = 0 then
        jinr (some (q3.1, Wz 0))
      else
        u_X37_textPieces_47 q3.1 x0 x1 x2 x4
    else
      u_X37_textPieces_47 s x0 x1 x2 x4
def du_X37_textPieces_10 (s : jS) (x0 x1 x2 x3 x4 : Int) : Option (jS × Int) := jlpW (jc5 b_X37_textPieces_10) [x0, x1, x2, x3, x4] s
noncomputable def u_X37_textPieces_10 : jS → Int → Int → Int → Int → Int → Option (jS × Int) := Classical.choose (⟨du_X37_textPieces_10, rfl⟩ : ∃ f, f = du_X37_textPieces_10)
theorem eu_X37_textPieces_10 : u_X37_textPieces_10 = du_X37_textPieces_10 := Classical.choose_spec (⟨du_X37_textPieces_10, rfl⟩ : ∃ f, f = du_X37_textPieces_10)
def dm_X37_textPieces (s : jS) (x0 x1 x2 : Int) : Option (jS × Int) :=
  (m_X37_nextTaken s x0 x1 0).bind fun v1 =>
  u_X37_textPieces_10 s x0 x1 x2 0 v1
noncomputable def m_X37_textPieces : jS → Int → Int → Int → Option (jS × Int) := Classical.choose (⟨dm_X37_textPieces, rfl⟩ : ∃ f, f = dm_X37_textPieces)
theorem em_X37_textPieces : m_X37_textPieces = dm_X37_textPieces := Classical.choose_spec (⟨dm_X37_textPieces, rfl⟩ : ∃ f, f = dm_X37_textPieces)
def du_X37_call_101 (s : jS) (x2 x6 y0 y1 y2 : Int) : Option (jS × Int) :=
  (m_X37_formed s y2 y1 y0 x6 0 0 x2).bind fun q1 =>
  some (q1.1, Wz q1.2)
noncomputable def u_X37_call_101 : jS → Int → Int → Int → Int → Int → Option (jS × Int) := Classical.choose (⟨du_X37_call_101, rfl⟩ : ∃ f, f = du_X37_call_101)
theorem eu_X37_call_101 : u_X37_call_101 = du_X37_call_101 := Classical.choose_spec (⟨du_X37_call_101, rfl⟩ : ∃ f, f = du_X37_call_101)
def du_X37_call_55 (s : jS) (x0 x1 x2 x4 y0 : Int) : Option (jS × Int) :=
  if x4 < 8 then
    (m_X38_part s (x0 + 4) y0 0).bind fun q1 =>
    if x4 = 4 then
      u_X37_call_101 q1.1 x2 q1.2 2 x1 x0
    else
      if q1.2 = 1 then
        u_X37_call_101 q1.1 x2 q1.2 53 x1 x0
      else
        u_X37_call_101 q1.1 x2 q1.2 64 x1 x0
  else
    (m_X37_wordFor s x0 x1 0).bind fun v2 =>
    (m_X38_kind s (x0 + 4) v2).bind fun q3 =>
    if q3.2 = 1 then
      (m_X37_isInt q3.1 x2).bind fun v4 =>
      if v4 = 0 then
        (m_X37_wrong q3.1 x0 8 x1).bind fun q5 =>
        some (q5.1, Wz q5.2)
      else
        (m_X37_high q3.1 x2).bind fun v6 =>
        (m_X37_fitted q3.1 x0 x1 (jf q3.1 41 x0 115) v2 v6).bind fun q7 =>
        if q7.2 = 0 then
          some (q7.1, Wz 0)
        else
          (m_X37_wordFor q7.1 x0 x1 4).bind fun v8 =>
          (m_X38_kind q7.1 (x0 + 4) v8).bind fun q9 =>
          if q9.2 = 3 then
            (m_X37_low q9.1 x2).bind fun v10 =>
            (m_X37_fitted q9.1 x0 x1 (W32 ((jf q9.1 41 x0 115) + 4)) v8 v10).bind fun q11 =>
            some (q11.1, Wz q11.2)
          else
            (m_X37_wrong q9.1 x0 7 x1).bind fun q12 =>
            some (q12.1, Wz q12.2)
    else
      (m_X37_wrong q3.1 x0 7 x1).bind fun q13 =>
      some (q13.1, Wz q13.2)
noncomputable def u_X37_call_55 : jS → Int → Int → Int → Int → Int → Option (jS × Int) := Classical.choose (⟨du_X37_call_55, rfl⟩ : ∃ f, f = du_X37_call_55)
theorem eu_X37_call_55 : u_X37_call_55 = du_X37_call_55 := Classical.choose_spec (⟨du_X37_call_55, rfl⟩ : ∃ f, f = du_X37_call_55)
def du_X37_call_25 (s : jS) (x0 x1 x2 y0 : Int) : Option (jS × Int) :=
  if (jf s 41 x0 114) = (-1) then
    u_X37_call_55 s x0 x1 x2 y0 0
  else
    (jlt s 1000 (x0 + 185) 1800 x1).bind fun v1 =>
    (m_X37_unitWord s x0 (jf s 41 x0 113) (W32 (v1 + 4))).bind fun v2 =>
    u_X37_call_55 s x0 x1 x2 y0 v2
noncomputable def u_X37_call_25 : jS → Int → Int → Int → Int → Option (jS × Int) := Classical.choose (⟨du_X37_call_25, rfl⟩ : ∃ f, f = du_X37_call_25)
theorem eu_X37_call_25 : u_X37_call_25 = du_X37_call_25 := Classical.choose_spec (⟨du_X37_call_25, rfl⟩ : ∃ f, f = du_X37_call_25)
def dm_X37_call (s : jS) (x0 x1 x2 : Int) : Option (jS × Int) :=
  if (jf s 41 x0 114) = (-1) then
    u_X37_call_25 s x0 x1 x2 8
  else
    (jlt s 1000 ((x0 + 93) + 13) 256 (jf s 41 x0 114)).bind fun v1 =>
    u_X37_call_25 s x0 x1 x2 v1
noncomputable def m_X37_call : jS → Int → Int → Int → Option (jS × Int) := Classical.choose (⟨dm_X37_call, rfl⟩ : ∃ f, f = dm_X37_call)
theorem em_X37_call : m_X37_call = dm_X37_call := Classical.choose_spec (⟨dm_X37_call, rfl⟩ : ∃ f, f = dm_X37_call)
def du_X37_lowOfUpper_150 (s : jS) (x0 x1 x3 x4 y0 : Int) : Option (jS × Int) :=
  (m_X37_low s (W64 (x4 - y0))).bind fun v1 =>
  (m_X37_lowWord s x0 x1 x3 v1 (-1)).bind fun q2 =>
  some (q2.1, Wz q2.2)
noncomputable def u_X37_lowOfUpper_150 : jS → Int → Int → Int → Int → Int → Option (jS × Int) := Classical.choose (⟨du_X37_lowOfUpper_150, rfl⟩ : ∃ f, f = du_X37_lowOfUpper_150)
theorem eu_X37_lowOfUpper_150 : u_X37_lowOfUpper_150 = du_X37_lowOfUpper_150 := Classical.choose_spec (⟨du_X37_lowOfUpper_150, rfl⟩ : ∃ f, f = du_X37_lowOfUpper_150)
def du_X37_lowOfUpper_114 (s : jS) (x0 x1 x2 x3 x4 x6 : Int) : Option (jS × Int) :=
  if x6 = (-1) then
    (jlt s 1000 (x0 + 185) 1800 x2).bind fun v1 =>
    (m_X37_address_2 s x0 (jf s 41 x0 113) 0 v1).bind fun v2 =>
    u_X37_lowOfUpper_150 s x0 x1 x3 x4 v2
  else
    (jlt s 1000 ((x0 + 93) + 20) 256 x6).bind fun v3 =>
    u_X37_lowOfUpper_150 s x0 x1 x3 x4 v3
noncomputable def u_X37_lowOfUpper_114 : jS → Int → Int → Int → Int → Int → Int → Option (jS × Int) := Classical.choose (⟨du_X37_lowOfUpper_114, rfl⟩ : ∃ f, f = du_X37_lowOfUpper_114)
theorem eu_X37_lowOfUpper_114 : u_X37_lowOfUpper_114 = du_X37_lowOfUpper_114 := Classical.choose_spec (⟨du_X37_lowOfUpper_114, rfl⟩ : ∃ f, f = du_X37_lowOfUpper_114)
def dm_X37_lowOfUpper (s : jS) (x0 x1 x2 x3 : Int) : Option (jS × Int) :=
  (jlt s 1000 (x0 + 187) 1800 x2).bind fun v1 =>
  (m_X37_valueOf s x0 (W32 ((W32 (100 * (jf s 41 x0 113))) + v1))).bind fun v2 =>
  (jlt s 1000 (x0 + 188) 1800 x2).bind fun v3 =>
  jlet (W64 (v2 + v3)) fun v4 =>
  (jlt s 1000 (x0 + 203) 1800 x2).bind fun v5 =>
  if v5 = (-1) then
    u_X37_lowOfUpper_114 s x0 x1 x2 x3 v4 v5
  else
    (jlt s 1000 ((x0 + 93) + 13) 256 v5).bind fun v6 =>
    if v6 = 0 then
      (m_X37_isNear s v4).bind fun v7 =>
      if v7 = 0 then
        (m_X37_isNear s (W64 (v4 - (jf s 41 x0 108)))).bind fun v8 =>
        if v8 = 0 then
          (m_X37_wrong s x0 8 x1).bind fun q9 =>
          some (q9.1, Wz q9.2)
        else
          (m_X37_lowWord s x0 x1 x3 (W64 (v4 - (jf s 41 x0 108))) 3).bind fun q10 =>
          some (q10.1, Wz q10.2)
      else
        (m_X37_lowWord s x0 x1 x3 v4 0).bind fun q11 =>
        some (q11.1, Wz q11.2)
    else
      u_X37_lowOfUpper_114 s x0 x1 x2 x3 v4 v5
noncomputable def m_X37_lowOfUpper : jS → Int → Int → Int → Int → Option (jS × Int) := Classical.choose (⟨dm_X37_lowOfUpper, rfl⟩ : ∃ f, f = dm_X37_lowOfUpper)
theorem em_X37_lowOfUpper : m_X37_lowOfUpper = dm_X37_lowOfUpper := Classical.choose_spec (⟨dm_X37_lowOfUpper, rfl⟩ : ∃ f, f = dm_X37_lowOfUpper)
def du_X37_load_349 (s : jS) (y0 y1 y2 : Int) : Option (jS × Int) :=
  (jst s 1000 y2 32 y1 y0).bind fun s1 =>
  some (s1, 0)
noncomputable def u_X37_load_349 : jS → Int → Int → Int → Option (jS × Int) := Classical.choose (⟨du_X37_load_349, rfl⟩ : ∃ f, f = du_X37_load_349)
theorem eu_X37_load_349 : u_X37_load_349 = du_X37_load_349 := Classical.choose_spec (⟨du_X37_load_349, rfl⟩ : ∃ f, f = du_X37_load_349)
def du_X37_load_276 (s : jS) (x0 : Int) : Option (jS × Int) :=
  (m_X43_marking s (x0 + 130) 1).bind fun q1 =>
  (m_X42_told q1.1 (x0 + 118) 0).bind fun q2 =>
  jls (jp q2.1 47 (x0 + 130) 11 q2.2) fun s3 =>
  (jst s3 1000 ((x0 + 130) + 9) 32 2 131056).bind fun s4 =>
  (m_X42_about s4 (x0 + 118) 2 0).bind fun v5 =>
  if v5 = 1 then
    (m_X42_about s4 (x0 + 118) 2 1).bind fun v6 =>
    u_X37_load_349 s4 (W32 (v6 + 2048)) 3 ((x0 + 130) + 9)
  else
    u_X37_load_349 s4 0 3 ((x0 + 130) + 9)
noncomputable def u_X37_load_276 : jS → Int → Option (jS × Int) := Classical.choose (⟨du_X37_load_276, rfl⟩ : ∃ f, f = du_X37_load_276)
theorem eu_X37_load_276 : u_X37_load_276 = du_X37_load_276 := Classical.choose_spec (⟨du_X37_load_276, rfl⟩ : ∃ f, f = du_X37_load_276)
def du_X37_load_270 (s : jS) (x0 x2 x3 : Int) : Option ((jS × List Int) ⊕ (jS × Int)) :=
  some (.inl (s, [x0, x2, W32 (x3 + 2)]))
noncomputable def u_X37_load_270 : jS → Int → Int → Int → Option ((jS × List Int) ⊕ (jS × Int)) := Classical.choose (⟨du_X37_load_270, rfl⟩ : ∃ f, f = du_X37_load_270)
theorem eu_X37_load_270 : u_X37_load_270 = du_X37_load_270 := Classical.choose_spec (⟨du_X37_load_270, rfl⟩ : ∃ f, f = du_X37_load_270)
def b_X37_load_238 (s : jS) (x0 x2 x3 : Int) : Option ((jS × List Int) ⊕ (jS × Int)) :=
  if x3 < 4096 then
    (m_X42_marked s (x0 + 118) (W32 (x2 + x3))).bind fun v1 =>
    if 0 < v1 then
      (m_X43_mark s (x0 + 130) (W32 (x2 + x3)) 1).bind fun q2 =>
      u_X37_load_270 q2.1 x0 x2 x3
    else
      u_X37_load_270 s x0 x2 x3
  else
    jinr (u_X37_load_276 s x0)
def du_X37_load_238 (s : jS) (x0 x2 x3 : Int) : Option (jS × Int) := jlpW (jc3 b_X37_load_238) [x0, x2, x3] s
noncomputable def u_X37_load_238 : jS → Int → Int → Int → Option (jS × Int) := Classical.choose (⟨du_X37_load_238, rfl⟩ : ∃ f, f = du_X37_load_238)
theorem eu_X37_load_238 : u_X37_load_238 = du_X37_load_238 := Classical.choose_spec (⟨du_X37_load_238, rfl⟩ : ∃ f, f = du_X37_load_238)
def du_X37_load_226 (s : jS) (x0 : Int) : Option (jS × Int) :=
  (m_X42_about s (x0 + 118) 0 1).bind fun v1 =>
  u_X37_load_238 s x0 v1 0
noncomputable def u_X37_load_226 : jS → Int → Option (jS × Int) := Classical.choose (⟨du_X37_load_226, rfl⟩ : ∃ f, f = du_X37_load_226)
theorem eu_X37_load_226 : u_X37_load_226 = du_X37_load_226 := Classical.choose_spec (⟨du_X37_load_226, rfl⟩ : ∃ f, f = du_X37_load_226)
def du_X37_load_220 (s : jS) (x0 x2 : Int) : Option ((jS × List Int) ⊕ (jS × Int)) :=
  some (.inl (s, [x0, W32 (x2 + 1)]))
noncomputable def u_X37_load_220 : jS → Int → Int → Option ((jS × List Int) ⊕ (jS × Int)) := Classical.choose (⟨du_X37_load_220, rfl⟩ : ∃ f, f = du_X37_load_220)
theorem eu_X37_load_220 : u_X37_load_220 = du_X37_load_220 := Classical.choose_spec (⟨du_X37_load_220, rfl⟩ : ∃ f, f = du_X37_load_220)
def b_X37_load_184 (s : jS) (x0 x2 x3 x4 x5 : Int) : Option ((jS × List Int) ⊕ ((jS × List Int) ⊕ (jS × Int))) :=
  if x5 < x4 then
    (m_X42_byteIn s (x0 + 118) (W32 (x3 + x5))).bind fun v1 =>
    (jst s 1000 ((x0 + 130) + 3) 131072 (W32 (x3 + x5)) v1).bind fun s2 =>
    some (.inl (s2, [x0, x2, x3, x4, W32 (x5 + 1)]))
  else
    jinr (u_X37_load_220 s x0 x2)
def du_X37_load_184 (s : jS) (x0 x2 x3 x4 x5 : Int) : Option ((jS × List Int) ⊕ (jS × Int)) := jlpW (jc5 b_X37_load_184) [x0, x2, x3, x4, x5] s
noncomputable def u_X37_load_184 : jS → Int → Int → Int → Int → Int → Option ((jS × List Int) ⊕ (jS × Int)) := Classical.choose (⟨du_X37_load_184, rfl⟩ : ∃ f, f = du_X37_load_184)
theorem eu_X37_load_184 : u_X37_load_184 = du_X37_load_184 := Classical.choose_spec (⟨du_X37_load_184, rfl⟩ : ∃ f, f = du_X37_load_184)
def du_X37_load_177 (s : jS) (x0 x2 x3 x4 y0 y1 y2 y3 y4 : Int) : Option ((jS × List Int) ⊕ (jS × Int)) :=
  (m_X43_segment s y4 y3 y2 y1 y0).bind fun q1 =>
  u_X37_load_184 q1.1 x0 x2 x3 x4 0
noncomputable def u_X37_load_177 : jS → Int → Int → Int → Int → Int → Int → Int → Int → Int → Option ((jS × List Int) ⊕ (jS × Int)) := Classical.choose (⟨du_X37_load_177, rfl⟩ : ∃ f, f = du_X37_load_177)
theorem eu_X37_load_177 : u_X37_load_177 = du_X37_load_177 := Classical.choose_spec (⟨du_X37_load_177, rfl⟩ : ∃ f, f = du_X37_load_177)
def b_X37_load_100 (s : jS) (x0 x2 : Int) : Option ((jS × List Int) ⊕ (jS × Int)) :=
  if x2 < 3 then
    (m_X42_about s (x0 + 118) x2 0).bind fun v1 =>
    if v1 = 0 then
      u_X37_load_220 s x0 x2
    else
      (m_X42_about s (x0 + 118) x2 1).bind fun v2 =>
      (m_X42_about s (x0 + 118) x2 2).bind fun v3 =>
      (m_X42_about s (x0 + 118) x2 3).bind fun v4 =>
      if x2 = 0 then
        u_X37_load_177 s x0 x2 v2 v3 5 (W32 (v3 + v4)) v2 x2 (x0 + 130)
      else
        if x2 = 1 then
          u_X37_load_177 s x0 x2 v2 v3 1 (W32 (v3 + v4)) v2 x2 (x0 + 130)
        else
          u_X37_load_177 s x0 x2 v2 v3 3 (W32 (v3 + v4)) v2 x2 (x0 + 130)
  else
    jinr (u_X37_load_226 s x0)
def du_X37_load_100 (s : jS) (x0 x2 : Int) : Option (jS × Int) := jlpW (jc2 b_X37_load_100) [x0, x2] s
noncomputable def u_X37_load_100 : jS → Int → Int → Option (jS × Int) := Classical.choose (⟨du_X37_load_100, rfl⟩ : ∃ f, f = du_X37_load_100)
theorem eu_X37_load_100 : u_X37_load_100 = du_X37_load_100 := Classical.choose_spec (⟨du_X37_load_100, rfl⟩ : ∃ f, f = du_X37_load_100)
def du_X37_load_47 (s : jS) (x0 : Int) : Option (jS × Int) :=
  (m_X42_read s (x0 + 118)).bind fun q1 =>
  (m_X42_place q1.1 (x0 + 118)).bind fun v2 =>
  jls (jp q1.1 41 x0 118 v2) fun s3 =>
  if q1.2 = 0 then
    (m_X42_told s3 (x0 + 118) 0).bind fun q4 =>
    (jdv 2 (I_rem q4.2 2)).bind fun v5 =>
    if v5 = 0 then
      (m_X37_renew q4.1 x0).bind fun q6 =>
      u_X37_load_100 q6.1 x0 0
    else
      jls (jp q4.1 41 x0 118 24) fun s7 =>
      some (s7, 31)
  else
    some (s3, q1.2)
noncomputable def u_X37_load_47 : jS → Int → Option (jS × Int) := Classical.choose (⟨du_X37_load_47, rfl⟩ : ∃ f, f = du_X37_load_47)
theorem eu_X37_load_47 : u_X37_load_47 = du_X37_load_47 := Classical.choose_spec (⟨du_X37_load_47, rfl⟩ : ∃ f, f = du_X37_load_47)
def b_X37_load_18 (s : jS) (x0 x1 : Int) : Option ((jS × List Int) ⊕ (jS × Int)) :=
  if x1 < (jf s 41 x0 3) then
    (jlt s 1000 (x0 + 3) 16384 x1).bind fun v1 =>
    (jst s 1000 ((x0 + 118) + 9) 16384 x1 v1).bind fun s2 =>
    some (.inl (s2, [x0, W32 (x1 + 1)]))
  else
    jinr (u_X37_load_47 s x0)
def du_X37_load_18 (s : jS) (x0 x1 : Int) : Option (jS × Int) := jlpW (jc2 b_X37_load_18) [x0, x1] s
noncomputable def u_X37_load_18 : jS → Int → Int → Option (jS × Int) := Classical.choose (⟨du_X37_load_18, rfl⟩ : ∃ f, f = du_X37_load_18)
theorem eu_X37_load_18 : u_X37_load_18 = du_X37_load_18 := Classical.choose_spec (⟨du_X37_load_18, rfl⟩ : ∃ f, f = du_X37_load_18)
def dm_X37_load (s : jS) (x0 : Int) : Option (jS × Int) :=
  jls (jp s 41 x0 4 0) fun s1 =>
  jls (jp s1 46 (x0 + 118) 9 (jf s1 41 x0 3)) fun s2 =>
  u_X37_load_18 s2 x0 0
noncomputable def m_X37_load : jS → Int → Option (jS × Int) := Classical.choose (⟨dm_X37_load, rfl⟩ : ∃ f, f = dm_X37_load)
theorem em_X37_load : m_X37_load = dm_X37_load := Classical.choose_spec (⟨dm_X37_load, rfl⟩ : ∃ f, f = dm_X37_load)
def du_X38_shorter_110 (s : jS) (x0 x3 x4 : Int) : Option (jS × Int) :=
  if x3 = 18 then
    (jlt s 1000 (x0 + 2) 4 3).bind fun v1 =>
    if v1 = 0 then
      (jlt s 1000 (x0 + 2) 4 0).bind fun v2 =>
      if v2 = 0 then
        some (s, (-1))
      else
        if x4 = 0 then
          some (s, (-1))
        else
          (jst s 1000 (x0 + 2) 4 1 0).bind fun s3 =>
          (jst s3 1000 (x0 + 2) 4 2 x4).bind fun s4 =>
          (m_X38_put s4 x0 27).bind fun v5 =>
          (m_X38_shrink s4 x0 v5).bind fun q6 =>
          some (q6.1, q6.2)
    else
      some (s, (-1))
  else
    some (s, (-1))
noncomputable def u_X38_shorter_110 : jS → Int → Int → Int → Option (jS × Int) := Classical.choose (⟨du_X38_shorter_110, rfl⟩ : ∃ f, f = du_X38_shorter_110)
theorem eu_X38_shorter_110 : u_X38_shorter_110 = du_X38_shorter_110 := Classical.choose_spec (⟨du_X38_shorter_110, rfl⟩ : ∃ f, f = du_X38_shorter_110)
def du_X38_shorter_65 (s : jS) (x0 x3 x4 : Int) : Option (jS × Int) :=
  (jlt s 1000 (x0 + 2) 4 0).bind fun v1 =>
  (jlt s 1000 (x0 + 2) 4 2).bind fun v2 =>
  if v1 = v2 then
    (jlt s 1000 (x0 + 2) 4 2).bind fun v3 =>
    (jst s 1000 (x0 + 2) 4 1 v3).bind fun s4 =>
    (jst s4 1000 (x0 + 2) 4 2 x4).bind fun s5 =>
    (m_X38_put s5 x0 x3).bind fun v6 =>
    (m_X38_shrink s5 x0 v6).bind fun q7 =>
    some (q7.1, q7.2)
  else
    u_X38_shorter_110 s x0 x3 x4
noncomputable def u_X38_shorter_65 : jS → Int → Int → Int → Option (jS × Int) := Classical.choose (⟨du_X38_shorter_65, rfl⟩ : ∃ f, f = du_X38_shorter_65)
theorem eu_X38_shorter_65 : u_X38_shorter_65 = du_X38_shorter_65 := Classical.choose_spec (⟨du_X38_shorter_65, rfl⟩ : ∃ f, f = du_X38_shorter_65)
def dm_X38_shorter (s : jS) (x0 x1 : Int) : Option (jS × Int) :=
  jls (jp s 42 x0 0 0) fun s1 =>
  (m_X38_isLong s1 x1).bind fun v2 =>
  if v2 = 0 then
    some (s1, (-1))
  else
    (m_X38_shrink s1 x0 x1).bind fun q3 =>
    if q3.2 = (-1) then
      (m_X38_find q3.1 x0 x1).bind fun q4 =>
      (jlt q4.1 1000 (x0 + 2) 4 1).bind fun v5 =>
      if q4.2 = 27 then
        u_X38_shorter_65 q4.1 x0 q4.2 v5
      else
        if q4.2 = 32 then
          u_X38_shorter_65 q4.1 x0 q4.2 v5
        else
          if q4.2 = 35 then
            u_X38_shorter_65 q4.1 x0 q4.2 v5
          else
            if q4.2 = 36 then
              u_X38_shorter_65 q4.1 x0 q4.2 v5
            else
              u_X38_shorter_110 q4.1 x0 q4.2 v5
    else
      some (q3.1, q3.2)
noncomputable def m_X38_shorter : jS → Int → Int → Option (jS × Int) := Classical.choose (⟨dm_X38_shorter, rfl⟩ : ∃ f, f = dm_X38_shorter)
theorem em_X38_shorter : m_X38_shorter = dm_X38_shorter := Classical.choose_spec (⟨dm_X38_shorter, rfl⟩ : ∃ f, f = dm_X38_shorter)
def du_X39_marked_27 (s : jS) (x0 x1 : Int) : Option (jS × Int) :=
  (m_X39_mark s x0).bind fun v1 =>
  if v1 = 0 then
    (m_X39_fail s x0 6).bind fun q2 =>
    some (q2.1, Wz q2.2)
  else
    (jst s 1000 (x0 + 5) 11200 (W32 (x1 + 2)) v1).bind fun s3 =>
    (m_X39_next s3 x0).bind fun q4 =>
    (m_X39_isSign q4.1 x0 40).bind fun v5 =>
    if v5 = 0 then
      (m_X39_fail q4.1 x0 5).bind fun q6 =>
      some (q6.1, Wz q6.2)
    else
      (m_X39_next q4.1 x0).bind fun q7 =>
      (m_X39_expression q7.1 x0).bind fun q8 =>
      if q8.2 = 0 then
        some (q8.1, Wz 0)
      else
        (m_X39_closes q8.1 x0).bind fun q9 =>
        if q9.2 = 0 then
          some (q9.1, Wz 0)
        else
          some (q9.1, Wz 1)
noncomputable def u_X39_marked_27 : jS → Int → Int → Option (jS × Int) := Classical.choose (⟨du_X39_marked_27, rfl⟩ : ∃ f, f = du_X39_marked_27)
theorem eu_X39_marked_27 : u_X39_marked_27 = du_X39_marked_27 := Classical.choose_spec (⟨du_X39_marked_27, rfl⟩ : ∃ f, f = du_X39_marked_27)
def dm_X39_marked (s : jS) (x0 x1 : Int) : Option (jS × Int) :=
  (m_X39_next s x0).bind fun q1 =>
  if (jf q1.1 43 x0 15) = 1 then
    u_X39_marked_27 q1.1 x0 x1
  else
    if (jf q1.1 43 x0 15) = 7 then
      u_X39_marked_27 q1.1 x0 x1
    else
      (m_X39_fail q1.1 x0 5).bind fun q2 =>
      some (q2.1, Wz q2.2)
noncomputable def m_X39_marked : jS → Int → Int → Option (jS × Int) := Classical.choose (⟨dm_X39_marked, rfl⟩ : ∃ f, f = dm_X39_marked)
theorem em_X39_marked : m_X39_marked = dm_X39_marked := Classical.choose_spec (⟨dm_X39_marked, rfl⟩ : ∃ f, f = dm_X39_marked)
def b_X41_shrink_2 (s : jS) (x0 x1 : Int) : Option ((jS × List Int) ⊕ (jS × Int)) :=
  (m_X41_pass s x0).bind fun q1 =>
  if 0 < q1.2 then
    some (.inl (q1.1, [x0, W32 (x1 + 1)]))
  else
    jinr (some (q1.1, x1))
def du_X41_shrink_2 (s : jS) (x0 x1 : Int) : Option (jS × Int) := jlpW (jc2 b_X41_shrink_2) [x0, x1] s
noncomputable def u_X41_shrink_2 : jS → Int → Int → Option (jS × Int) := Classical.choose (⟨du_X41_shrink_2, rfl⟩ : ∃ f, f = du_X41_shrink_2)
theorem eu_X41_shrink_2 : u_X41_shrink_2 = du_X41_shrink_2 := Classical.choose_spec (⟨du_X41_shrink_2, rfl⟩ : ∃ f, f = du_X41_shrink_2)
def dm_X41_shrink (s : jS) (x0 : Int) : Option (jS × Int) :=
  u_X41_shrink_2 s x0 1
noncomputable def m_X41_shrink : jS → Int → Option (jS × Int) := Classical.choose (⟨dm_X41_shrink, rfl⟩ : ∃ f, f = dm_X41_shrink)
theorem em_X41_shrink : m_X41_shrink = dm_X41_shrink := Classical.choose_spec (⟨dm_X41_shrink, rfl⟩ : ∃ f, f = dm_X41_shrink)
def du_X42_write_569 (s : jS) (x0 : Int) : Option (jS × Int) :=
  some (s, jf s 46 x0 9)
noncomputable def u_X42_write_569 : jS → Int → Option (jS × Int) := Classical.choose (⟨du_X42_write_569, rfl⟩ : ∃ f, f = du_X42_write_569)
theorem eu_X42_write_569 : u_X42_write_569 = du_X42_write_569 := Classical.choose_spec (⟨du_X42_write_569, rfl⟩ : ∃ f, f = du_X42_write_569)
def b_X42_write_534 (s : jS) (x0 x3 x6 : Int) : Option ((jS × List Int) ⊕ (jS × Int)) :=
  (m_X42_markBytes s x0 0).bind fun v1 =>
  if x6 < v1 then
    (m_X42_markByte s x0 0 x6).bind fun v2 =>
    (jst s 1000 (x0 + 9) 16384 (W32 ((W32 (x3 + 28)) + x6)) v2).bind fun s3 =>
    some (.inl (s3, [x0, x3, W32 (x6 + 1)]))
  else
    jinr (u_X42_write_569 s x0)
def du_X42_write_534 (s : jS) (x0 x3 x6 : Int) : Option (jS × Int) := jlpW (jc3 b_X42_write_534) [x0, x3, x6] s
noncomputable def u_X42_write_534 : jS → Int → Int → Int → Option (jS × Int) := Classical.choose (⟨du_X42_write_534, rfl⟩ : ∃ f, f = du_X42_write_534)
theorem eu_X42_write_534 : u_X42_write_534 = du_X42_write_534 := Classical.choose_spec (⟨du_X42_write_534, rfl⟩ : ∃ f, f = du_X42_write_534)
def du_X42_write_440 (s : jS) (x0 x3 x4 x5 : Int) : Option (jS × Int) :=
  (m_X42_writeRow s x0 x5 4 x3 0 x4 0 4 4).bind fun q1 =>
  (m_X42_write4 q1.1 x0 x3 6).bind fun q2 =>
  (m_X42_write4 q2.1 x0 (W32 (x3 + 4)) (W32 (x4 - 20))).bind fun q3 =>
  (m_X42_write4 q3.1 x0 (W32 (x3 + 8)) 1).bind fun q4 =>
  (m_X42_write4 q4.1 x0 (W32 (x3 + 12)) 1802658125).bind fun q5 =>
  (m_X42_write4 q5.1 x0 (W32 (x3 + 16)) 115).bind fun q6 =>
  (jlt q6.1 1000 (x0 + 4) 6 0).bind fun v7 =>
  (jdv 2 (I_div v7 2)).bind fun v8 =>
  (m_X42_write4 q6.1 x0 (W32 (x3 + 20)) v8).bind fun q9 =>
  (m_X42_sumOf q9.1 x0 0).bind fun q10 =>
  (m_X42_write4 q10.1 x0 (W32 (x3 + 24)) q10.2).bind fun q11 =>
  u_X42_write_534 q11.1 x0 x3 0
noncomputable def u_X42_write_440 : jS → Int → Int → Int → Int → Option (jS × Int) := Classical.choose (⟨du_X42_write_440, rfl⟩ : ∃ f, f = du_X42_write_440)
theorem eu_X42_write_440 : u_X42_write_440 = du_X42_write_440 := Classical.choose_spec (⟨du_X42_write_440, rfl⟩ : ∃ f, f = du_X42_write_440)
def du_X42_write_434 (s : jS) (x0 x3 x4 x5 x6 : Int) : Option ((jS × List Int) ⊕ (jS × Int)) :=
  some (.inl (s, [x0, x3, x4, x5, W32 (x6 + 1)]))
noncomputable def u_X42_write_434 : jS → Int → Int → Int → Int → Int → Option ((jS × List Int) ⊕ (jS × Int)) := Classical.choose (⟨du_X42_write_434, rfl⟩ : ∃ f, f = du_X42_write_434)
theorem eu_X42_write_434 : u_X42_write_434 = du_X42_write_434 := Classical.choose_spec (⟨du_X42_write_434, rfl⟩ : ∃ f, f = du_X42_write_434)
def du_X42_write_431 (s : jS) (x0 x3 x4 x5 x6 : Int) : Option ((jS × List Int) ⊕ (jS × Int)) :=
  u_X42_write_434 s x0 x3 x4 (W32 (x5 + 32)) x6
noncomputable def u_X42_write_431 : jS → Int → Int → Int → Int → Int → Option ((jS × List Int) ⊕ (jS × Int)) := Classical.choose (⟨du_X42_write_431, rfl⟩ : ∃ f, f = du_X42_write_431)
theorem eu_X42_write_431 : u_X42_write_431 = du_X42_write_431 := Classical.choose_spec (⟨du_X42_write_431, rfl⟩ : ∃ f, f = du_X42_write_431)
def b_X42_write_384 (s : jS) (x0 x3 x4 x5 x6 x7 : Int) : Option ((jS × List Int) ⊕ ((jS × List Int) ⊕ (jS × Int))) :=
  (jlt s 1000 (x0 + 4) 6 x6).bind fun v1 =>
  if x7 < v1 then
    (jlt s 1000 (x0 + 11) 4 x6).bind fun v2 =>
    (jlt s 1000 (x0 + 5) 24576 (W32 ((W32 (4096 * x6)) + x7))).bind fun v3 =>
    (jst s 1000 (x0 + 9) 16384 (W32 (v2 + x7)) v3).bind fun s4 =>
    some (.inl (s4, [x0, x3, x4, x5, x6, W32 (x7 + 1)]))
  else
    jinr (u_X42_write_431 s x0 x3 x4 x5 x6)
def du_X42_write_384 (s : jS) (x0 x3 x4 x5 x6 x7 : Int) : Option ((jS × List Int) ⊕ (jS × Int)) := jlpW (jc6 b_X42_write_384) [x0, x3, x4, x5, x6, x7] s
noncomputable def u_X42_write_384 : jS → Int → Int → Int → Int → Int → Int → Option ((jS × List Int) ⊕ (jS × Int)) := Classical.choose (⟨du_X42_write_384, rfl⟩ : ∃ f, f = du_X42_write_384)
theorem eu_X42_write_384 : u_X42_write_384 = du_X42_write_384 := Classical.choose_spec (⟨du_X42_write_384, rfl⟩ : ∃ f, f = du_X42_write_384)
def b_X42_write_308 (s : jS) (x0 x3 x4 x5 x6 : Int) : Option ((jS × List Int) ⊕ (jS × Int)) :=
  if x6 < 3 then
    (jlt s 1002 (x0 + 1) 6 x6).bind fun v1 =>
    if v1 = 0 then
      u_X42_write_434 s x0 x3 x4 x5 x6
    else
      (jlt s 1000 (x0 + 11) 4 x6).bind fun v2 =>
      (jlt s 1000 (x0 + 2) 6 x6).bind fun v3 =>
      (jlt s 1000 (x0 + 4) 6 x6).bind fun v4 =>
      (jlt s 1000 (x0 + 4) 6 x6).bind fun v5 =>
      (jlt s 1000 (x0 + 3) 6 x6).bind fun v6 =>
      (m_X42_rightsOf s x6).bind fun v7 =>
      (jlt s 1000 (x0 + 8) 2 0).bind fun v8 =>
      (m_X42_writeRow s x0 x5 1 v2 v3 v4 (W32 (v5 + v6)) v7 v8).bind fun q9 =>
      u_X42_write_384 q9.1 x0 x3 x4 x5 x6 0
  else
    jinr (u_X42_write_440 s x0 x3 x4 x5)
def du_X42_write_308 (s : jS) (x0 x3 x4 x5 x6 : Int) : Option (jS × Int) := jlpW (jc5 b_X42_write_308) [x0, x3, x4, x5, x6] s
noncomputable def u_X42_write_308 : jS → Int → Int → Int → Int → Int → Option (jS × Int) := Classical.choose (⟨du_X42_write_308, rfl⟩ : ∃ f, f = du_X42_write_308)
theorem eu_X42_write_308 : u_X42_write_308 = du_X42_write_308 := Classical.choose_spec (⟨du_X42_write_308, rfl⟩ : ∃ f, f = du_X42_write_308)
def du_X42_write_275 (s : jS) (x0 x2 x3 x4 y0 y1 y2 : Int) : Option (jS × Int) :=
  (m_X42_write4 s y2 y1 y0).bind fun q1 =>
  (m_X42_write2 q1.1 x0 40 52).bind fun q2 =>
  (m_X42_write2 q2.1 x0 42 32).bind fun q3 =>
  (m_X42_write2 q3.1 x0 44 x2).bind fun q4 =>
  u_X42_write_308 q4.1 x0 x3 x4 52 0
noncomputable def u_X42_write_275 : jS → Int → Int → Int → Int → Int → Int → Int → Option (jS × Int) := Classical.choose (⟨du_X42_write_275, rfl⟩ : ∃ f, f = du_X42_write_275)
theorem eu_X42_write_275 : u_X42_write_275 = du_X42_write_275 := Classical.choose_spec (⟨du_X42_write_275, rfl⟩ : ∃ f, f = du_X42_write_275)
def du_X42_write_202 (s : jS) (x0 x2 x3 x4 : Int) : Option (jS × Int) :=
  (m_X42_write4 s x0 0 1179403647).bind fun q1 =>
  (m_X42_write4 q1.1 x0 4 65793).bind fun q2 =>
  (m_X42_write2 q2.1 x0 16 2).bind fun q3 =>
  (m_X42_write2 q3.1 x0 18 243).bind fun q4 =>
  (m_X42_write4 q4.1 x0 20 1).bind fun q5 =>
  (jlt q5.1 1000 (x0 + 7) 2 0).bind fun v6 =>
  (m_X42_write4 q5.1 x0 24 v6).bind fun q7 =>
  (m_X42_write4 q7.1 x0 28 52).bind fun q8 =>
  (m_X42_shortsIn q8.1 x0 0).bind fun v9 =>
  if 0 < v9 then
    u_X42_write_275 q8.1 x0 x2 x3 x4 1 36 x0
  else
    u_X42_write_275 q8.1 x0 x2 x3 x4 0 36 x0
noncomputable def u_X42_write_202 : jS → Int → Int → Int → Int → Option (jS × Int) := Classical.choose (⟨du_X42_write_202, rfl⟩ : ∃ f, f = du_X42_write_202)
theorem eu_X42_write_202 : u_X42_write_202 = du_X42_write_202 := Classical.choose_spec (⟨du_X42_write_202, rfl⟩ : ∃ f, f = du_X42_write_202)
def b_X42_write_179 (s : jS) (x0 x2 x3 x4 x5 : Int) : Option ((jS × List Int) ⊕ (jS × Int)) :=
  if x5 < (jf s 46 x0 9) then
    (jst s 1000 (x0 + 9) 16384 x5 0).bind fun s1 =>
    some (.inl (s1, [x0, x2, x3, x4, W32 (x5 + 1)]))
  else
    jinr (u_X42_write_202 s x0 x2 x3 x4)
def du_X42_write_179 (s : jS) (x0 x2 x3 x4 x5 : Int) : Option (jS × Int) := jlpW (jc5 b_X42_write_179) [x0, x2, x3, x4, x5] s
noncomputable def u_X42_write_179 : jS → Int → Int → Int → Int → Int → Option (jS × Int) := Classical.choose (⟨du_X42_write_179, rfl⟩ : ∃ f, f = du_X42_write_179)
theorem eu_X42_write_179 : u_X42_write_179 = du_X42_write_179 := Classical.choose_spec (⟨du_X42_write_179, rfl⟩ : ∃ f, f = du_X42_write_179)
def du_X42_write_130 (s : jS) (x0 x2 x3 : Int) : Option (jS × Int) :=
  (m_X42_upTo4 s x3).bind fun v1 =>
  (jst s 1000 (x0 + 11) 4 3 v1).bind fun s2 =>
  (m_X42_markBytes s2 x0 0).bind fun v3 =>
  (m_X42_upTo4 s2 v3).bind fun v4 =>
  jlet (W32 (28 + v4)) fun v5 =>
  if 16384 < (W32 (v1 + v5)) then
    some (s2, (-6))
  else
    jls (jp s2 46 x0 9 (W32 (v1 + v5))) fun s6 =>
    u_X42_write_179 s6 x0 x2 v1 v5 0
noncomputable def u_X42_write_130 : jS → Int → Int → Int → Option (jS × Int) := Classical.choose (⟨du_X42_write_130, rfl⟩ : ∃ f, f = du_X42_write_130)
theorem eu_X42_write_130 : u_X42_write_130 = du_X42_write_130 := Classical.choose_spec (⟨du_X42_write_130, rfl⟩ : ∃ f, f = du_X42_write_130)
def du_X42_write_124 (s : jS) (x0 x2 x3 x4 : Int) : Option ((jS × List Int) ⊕ (jS × Int)) :=
  some (.inl (s, [x0, x2, x3, W32 (x4 + 1)]))
noncomputable def u_X42_write_124 : jS → Int → Int → Int → Int → Option ((jS × List Int) ⊕ (jS × Int)) := Classical.choose (⟨du_X42_write_124, rfl⟩ : ∃ f, f = du_X42_write_124)
theorem eu_X42_write_124 : u_X42_write_124 = du_X42_write_124 := Classical.choose_spec (⟨du_X42_write_124, rfl⟩ : ∃ f, f = du_X42_write_124)
def du_X42_write_106 (s : jS) (x0 x2 x3 x4 : Int) : Option ((jS × List Int) ⊕ (jS × Int)) :=
  (jst s 1000 (x0 + 11) 4 x4 x3).bind fun s1 =>
  (jlt s1 1000 (x0 + 4) 6 x4).bind fun v2 =>
  jlet (W32 (x3 + v2)) fun v3 =>
  u_X42_write_124 s1 x0 x2 v3 x4
noncomputable def u_X42_write_106 : jS → Int → Int → Int → Int → Option ((jS × List Int) ⊕ (jS × Int)) := Classical.choose (⟨du_X42_write_106, rfl⟩ : ∃ f, f = du_X42_write_106)
theorem eu_X42_write_106 : u_X42_write_106 = du_X42_write_106 := Classical.choose_spec (⟨du_X42_write_106, rfl⟩ : ∃ f, f = du_X42_write_106)
def b_X42_write_75 (s : jS) (x0 x2 x3 x4 : Int) : Option ((jS × List Int) ⊕ ((jS × List Int) ⊕ (jS × Int))) :=
  (jlt s 1000 (x0 + 8) 2 0).bind fun v1 =>
  (jdv v1 (I_rem x3 v1)).bind fun v2 =>
  (jlt s 1000 (x0 + 2) 6 x4).bind fun v3 =>
  (jlt s 1000 (x0 + 8) 2 0).bind fun v4 =>
  (jdv v4 (I_rem v3 v4)).bind fun v5 =>
  if v2 = v5 then
    jinr (u_X42_write_106 s x0 x2 x3 x4)
  else
    some (.inl (s, [x0, x2, W32 (x3 + 1), x4]))
def du_X42_write_75 (s : jS) (x0 x2 x3 x4 : Int) : Option ((jS × List Int) ⊕ (jS × Int)) := jlpW (jc4 b_X42_write_75) [x0, x2, x3, x4] s
noncomputable def u_X42_write_75 : jS → Int → Int → Int → Int → Option ((jS × List Int) ⊕ (jS × Int)) := Classical.choose (⟨du_X42_write_75, rfl⟩ : ∃ f, f = du_X42_write_75)
theorem eu_X42_write_75 : u_X42_write_75 = du_X42_write_75 := Classical.choose_spec (⟨du_X42_write_75, rfl⟩ : ∃ f, f = du_X42_write_75)
def b_X42_write_56 (s : jS) (x0 x2 x3 x4 : Int) : Option ((jS × List Int) ⊕ (jS × Int)) :=
  if x4 < 3 then
    (jlt s 1002 (x0 + 1) 6 x4).bind fun v1 =>
    if v1 = 0 then
      u_X42_write_124 s x0 x2 x3 x4
    else
      u_X42_write_75 s x0 x2 x3 x4
  else
    jinr (u_X42_write_130 s x0 x2 x3)
def du_X42_write_56 (s : jS) (x0 x2 x3 x4 : Int) : Option (jS × Int) := jlpW (jc4 b_X42_write_56) [x0, x2, x3, x4] s
noncomputable def u_X42_write_56 : jS → Int → Int → Int → Int → Option (jS × Int) := Classical.choose (⟨du_X42_write_56, rfl⟩ : ∃ f, f = du_X42_write_56)
theorem eu_X42_write_56 : u_X42_write_56 = du_X42_write_56 := Classical.choose_spec (⟨du_X42_write_56, rfl⟩ : ∃ f, f = du_X42_write_56)
def du_X42_write_45 (s : jS) (x0 x2 : Int) : Option (jS × Int) :=
  jlet (W32 (52 + (W32 (32 * x2)))) fun v1 =>
  u_X42_write_56 s x0 x2 v1 0
noncomputable def u_X42_write_45 : jS → Int → Int → Option (jS × Int) := Classical.choose (⟨du_X42_write_45, rfl⟩ : ∃ f, f = du_X42_write_45)
theorem eu_X42_write_45 : u_X42_write_45 = du_X42_write_45 := Classical.choose_spec (⟨du_X42_write_45, rfl⟩ : ∃ f, f = du_X42_write_45)
def du_X42_write_37 (s : jS) (x0 x3 y0 y1 : Int) : Option ((jS × List Int) ⊕ (jS × Int)) :=
  jlet (W32 (y1 + y0)) fun v1 =>
  some (.inl (s, [x0, v1, W32 (x3 + 1)]))
noncomputable def u_X42_write_37 : jS → Int → Int → Int → Int → Option ((jS × List Int) ⊕ (jS × Int)) := Classical.choose (⟨du_X42_write_37, rfl⟩ : ∃ f, f = du_X42_write_37)
theorem eu_X42_write_37 : u_X42_write_37 = du_X42_write_37 := Classical.choose_spec (⟨du_X42_write_37, rfl⟩ : ∃ f, f = du_X42_write_37)
def b_X42_write_17 (s : jS) (x0 x2 x3 : Int) : Option ((jS × List Int) ⊕ (jS × Int)) :=
  if x3 < 3 then
    (jlt s 1002 (x0 + 1) 6 x3).bind fun v1 =>
    if v1 = 0 then
      u_X42_write_37 s x0 x3 0 x2
    else
      u_X42_write_37 s x0 x3 1 x2
  else
    jinr (u_X42_write_45 s x0 x2)
def du_X42_write_17 (s : jS) (x0 x2 x3 : Int) : Option (jS × Int) := jlpW (jc3 b_X42_write_17) [x0, x2, x3] s
noncomputable def u_X42_write_17 : jS → Int → Int → Int → Option (jS × Int) := Classical.choose (⟨du_X42_write_17, rfl⟩ : ∃ f, f = du_X42_write_17)
theorem eu_X42_write_17 : u_X42_write_17 = du_X42_write_17 := Classical.choose_spec (⟨du_X42_write_17, rfl⟩ : ∃ f, f = du_X42_write_17)
def dm_X42_write (s : jS) (x0 : Int) : Option (jS × Int) :=
  (m_X42_bad s x0 0).bind fun v1 =>
  if 0 < v1 then
    some (s, W32 (-v1))
  else
    u_X42_write_17 s x0 1 0
noncomputable def m_X42_write : jS → Int → Option (jS × Int) := Classical.choose (⟨dm_X42_write, rfl⟩ : ∃ f, f = dm_X42_write)
theorem em_X42_write : m_X42_write = dm_X42_write := Classical.choose_spec (⟨dm_X42_write, rfl⟩ : ∃ f, f = dm_X42_write)
def du_X43_isFetched_107 (s : jS) (x0 x5 : Int) : Option (jS × Int) :=
  (m_X43_find s x0 x5).bind fun q1 =>
  jls (jp q1.1 47 x0 26 q1.2) fun s2 =>
  if (jf s2 47 x0 26) = (-1) then
    (m_X43_fail s2 x0 2 (jf s2 47 x0 11)).bind fun q3 =>
    some (q3.1, Wz 0)
  else
    if (jf s2 47 x0 26) < 48 then
      some (s2, Wz 1)
    else
      (m_X43_stretch s2 x0 (jf s2 47 x0 26)).bind fun q4 =>
      (m_X43_find q4.1 x0 q4.2).bind fun q5 =>
      jls (jp q5.1 47 x0 26 q5.2) fun s6 =>
      some (s6, Wz 1)
noncomputable def u_X43_isFetched_107 : jS → Int → Int → Option (jS × Int) := Classical.choose (⟨du_X43_isFetched_107, rfl⟩ : ∃ f, f = du_X43_isFetched_107)
theorem eu_X43_isFetched_107 : u_X43_isFetched_107 = du_X43_isFetched_107 := Classical.choose_spec (⟨du_X43_isFetched_107, rfl⟩ : ∃ f, f = du_X43_isFetched_107)
def du_X43_isFetched_57 (s : jS) (x0 x1 x5 y0 y1 : Int) : Option (jS × Int) :=
  jls (jp s 47 y1 25 y0) fun s1 =>
  if (jf s1 47 x0 25) = 4 then
    (m_X43_without s1 x0 (W64 (x1 + 2)) 2 4).bind fun v2 =>
    if (L_cmp v2 0) < 0 then
      (m_X43_fetched s1 x0 (jf s1 47 x0 11) 4).bind fun v3 =>
      u_X43_isFetched_107 s1 x0 v3
    else
      (m_X43_fail s1 x0 1 (L2i v2)).bind fun q4 =>
      some (q4.1, Wz 0)
  else
    u_X43_isFetched_107 s1 x0 x5
noncomputable def u_X43_isFetched_57 : jS → Int → Int → Int → Int → Int → Option (jS × Int) := Classical.choose (⟨du_X43_isFetched_57, rfl⟩ : ∃ f, f = du_X43_isFetched_57)
theorem eu_X43_isFetched_57 : u_X43_isFetched_57 = du_X43_isFetched_57 := Classical.choose_spec (⟨du_X43_isFetched_57, rfl⟩ : ∃ f, f = du_X43_isFetched_57)
def dm_X43_isFetched (s : jS) (x0 : Int) : Option (jS × Int) :=
  (m_X43_bare s (jf s 47 x0 11)).bind fun v1 =>
  (m_X43_without s x0 v1 2 4).bind fun v2 =>
  if (L_cmp v2 0) < 0 then
    (m_X43_fetched s x0 (jf s 47 x0 11) 2).bind fun v3 =>
    (m_X43_isLong s v3).bind fun v4 =>
    if v4 = 0 then
      u_X43_isFetched_57 s x0 v1 v3 2 x0
    else
      u_X43_isFetched_57 s x0 v1 v3 4 x0
  else
    (m_X43_fail s x0 1 (L2i v2)).bind fun q5 =>
    some (q5.1, Wz 0)
noncomputable def m_X43_isFetched : jS → Int → Option (jS × Int) := Classical.choose (⟨dm_X43_isFetched, rfl⟩ : ∃ f, f = dm_X43_isFetched)
theorem em_X43_isFetched : m_X43_isFetched = dm_X43_isFetched := Classical.choose_spec (⟨dm_X43_isFetched, rfl⟩ : ∃ f, f = dm_X43_isFetched)
def du_X37_equate_19 (s : jS) (x0 : Int) : Option (jS × Int) :=
  (m_X37_fail s x0 12).bind fun q1 =>
  some (q1.1, Wz q1.2)
noncomputable def u_X37_equate_19 : jS → Int → Option (jS × Int) := Classical.choose (⟨du_X37_equate_19, rfl⟩ : ∃ f, f = du_X37_equate_19)
theorem eu_X37_equate_19 : u_X37_equate_19 = du_X37_equate_19 := Classical.choose_spec (⟨du_X37_equate_19, rfl⟩ : ∃ f, f = du_X37_equate_19)
def dm_X37_equate (s : jS) (x0 : Int) : Option (jS × Int) :=
  (m_X37_are s x0 2 0 0 0).bind fun q1 =>
  if q1.2 = 0 then
    u_X37_equate_19 q1.1 x0
  else
    (m_X37_isName q1.1 x0 0).bind fun q2 =>
    if q2.2 = 0 then
      u_X37_equate_19 q2.1 x0
    else
      (m_X37_nameAt q2.1 x0 0).bind fun q3 =>
      (m_X37_symbolOfName q3.1 x0 q3.2).bind fun q4 =>
      if q4.2 = (-1) then
        some (q4.1, Wz 0)
      else
        (m_X37_plain q4.1 x0 (W32 ((jf q4.1 41 x0 45) + 1))).bind fun q5 =>
        if q5.2 = 0 then
          some (q5.1, Wz 0)
        else
          (jlt q5.1 1000 (x0 + 144) 100 q4.2).bind fun v6 =>
          if v6 = (-2) then
            (m_X37_define q5.1 x0 q4.2 4 (jf q5.1 41 x0 52)).bind fun q7 =>
            some (q7.1, Wz 1)
          else
            (m_X37_fail q5.1 x0 16).bind fun q8 =>
            some (q8.1, Wz q8.2)
noncomputable def m_X37_equate : jS → Int → Option (jS × Int) := Classical.choose (⟨dm_X37_equate, rfl⟩ : ∃ f, f = dm_X37_equate)
theorem em_X37_equate : m_X37_equate = dm_X37_equate := Classical.choose_spec (⟨dm_X37_equate, rfl⟩ : ∃ f, f = dm_X37_equate)
def du_X37_common_149 (s : jS) (x0 : Int) : Option (jS × Int) :=
  (m_X37_fail s x0 16).bind fun q1 =>
  some (q1.1, Wz q1.2)
noncomputable def u_X37_common_149 : jS → Int → Option (jS × Int) := Classical.choose (⟨du_X37_common_149, rfl⟩ : ∃ f, f = du_X37_common_149)
theorem eu_X37_common_149 : u_X37_common_149 = du_X37_common_149 := Classical.choose_spec (⟨du_X37_common_149, rfl⟩ : ∃ f, f = du_X37_common_149)
def du_X37_common_111 (s : jS) (x0 : Int) : Option (jS × Int) :=
  (m_X37_placeOf s x0 (W32 ((jf s 41 x0 45) + 2))).bind fun q1 =>
  (m_X37_fail_2 q1.1 x0 15 q1.2).bind fun q2 =>
  some (q2.1, Wz q2.2)
noncomputable def u_X37_common_111 : jS → Int → Option (jS × Int) := Classical.choose (⟨du_X37_common_111, rfl⟩ : ∃ f, f = du_X37_common_111)
theorem eu_X37_common_111 : u_X37_common_111 = du_X37_common_111 := Classical.choose_spec (⟨du_X37_common_111, rfl⟩ : ∃ f, f = du_X37_common_111)
def du_X37_common_19 (s : jS) (x0 : Int) : Option (jS × Int) :=
  (m_X37_fail s x0 12).bind fun q1 =>
  some (q1.1, Wz q1.2)
noncomputable def u_X37_common_19 : jS → Int → Option (jS × Int) := Classical.choose (⟨du_X37_common_19, rfl⟩ : ∃ f, f = du_X37_common_19)
theorem eu_X37_common_19 : u_X37_common_19 = du_X37_common_19 := Classical.choose_spec (⟨du_X37_common_19, rfl⟩ : ∃ f, f = du_X37_common_19)
def dm_X37_common (s : jS) (x0 : Int) : Option (jS × Int) :=
  (m_X37_are s x0 3 0 0 0).bind fun q1 =>
  if q1.2 = 0 then
    u_X37_common_19 q1.1 x0
  else
    (m_X37_isName q1.1 x0 0).bind fun q2 =>
    if q2.2 = 0 then
      u_X37_common_19 q2.1 x0
    else
      (m_X37_nameAt q2.1 x0 0).bind fun q3 =>
      (m_X37_symbolOfName q3.1 x0 q3.2).bind fun q4 =>
      if q4.2 = (-1) then
        some (q4.1, Wz 0)
      else
        (m_X37_within q4.1 x0 (W32 ((jf q4.1 41 x0 45) + 1)) 1 4096).bind fun q5 =>
        if q5.2 = 0 then
          some (q5.1, Wz 0)
        else
          (m_X37_plain q5.1 x0 (W32 ((jf q5.1 41 x0 45) + 2))).bind fun q6 =>
          if q6.2 = 0 then
            some (q6.1, Wz 0)
          else
            if (jf q6.1 41 x0 52) < 1 then
              u_X37_common_111 q6.1 x0
            else
              if 64 < (jf q6.1 41 x0 52) then
                u_X37_common_111 q6.1 x0
              else
                if (I_and (jf q6.1 41 x0 52) (W32 ((jf q6.1 41 x0 52) - 1))) = 0 then
                  (jlt q6.1 1000 (x0 + 144) 100 q4.2).bind fun v7 =>
                  if v7 = (-2) then
                    (jlt q6.1 1000 (x0 + 147) 100 q4.2).bind fun v8 =>
                    if v8 = 2 then
                      u_X37_common_149 q6.1 x0
                    else
                      (m_X37_define q6.1 x0 q4.2 5 (jf q6.1 41 x0 52)).bind fun q9 =>
                      (jst q9.1 1000 (x0 + 146) 100 q4.2 (jf q5.1 41 x0 52)).bind fun s10 =>
                      (jst s10 1000 (x0 + 147) 100 q4.2 1).bind fun s11 =>
                      some (s11, Wz 1)
                  else
                    u_X37_common_149 q6.1 x0
                else
                  u_X37_common_111 q6.1 x0
noncomputable def m_X37_common : jS → Int → Option (jS × Int) := Classical.choose (⟨dm_X37_common, rfl⟩ : ∃ f, f = dm_X37_common)
theorem em_X37_common : m_X37_common = dm_X37_common := Classical.choose_spec (⟨dm_X37_common, rfl⟩ : ∃ f, f = dm_X37_common)
def du_X37_putPlain_62 (s : jS) (y0 y1 y2 : Int) : Option (jS × Int) :=
  (m_X37_putBytes s y2 y1 y0).bind fun q1 =>
  some (q1.1, Wz q1.2)
noncomputable def u_X37_putPlain_62 : jS → Int → Int → Int → Option (jS × Int) := Classical.choose (⟨du_X37_putPlain_62, rfl⟩ : ∃ f, f = du_X37_putPlain_62)
theorem eu_X37_putPlain_62 : u_X37_putPlain_62 = du_X37_putPlain_62 := Classical.choose_spec (⟨du_X37_putPlain_62, rfl⟩ : ∃ f, f = du_X37_putPlain_62)
def du_X37_putPlain_36 (s : jS) (x0 x1 x2 y0 : Int) : Option (jS × Int) :=
  if y0 = (-1) then
    if x2 = 0 then
      u_X37_putPlain_62 s 2 x1 x0
    else
      u_X37_putPlain_62 s 4 x1 x0
  else
    (m_X37_putBytes s x0 y0 2).bind fun q1 =>
    some (q1.1, Wz q1.2)
noncomputable def u_X37_putPlain_36 : jS → Int → Int → Int → Int → Option (jS × Int) := Classical.choose (⟨du_X37_putPlain_36, rfl⟩ : ∃ f, f = du_X37_putPlain_36)
theorem eu_X37_putPlain_36 : u_X37_putPlain_36 = du_X37_putPlain_36 := Classical.choose_spec (⟨du_X37_putPlain_36, rfl⟩ : ∃ f, f = du_X37_putPlain_36)
def du_X37_putPlain_35 (s : jS) (x0 x1 x2 : Int) : Option (jS × Int) :=
  u_X37_putPlain_36 s x0 x1 x2 (-1)
noncomputable def u_X37_putPlain_35 : jS → Int → Int → Int → Option (jS × Int) := Classical.choose (⟨du_X37_putPlain_35, rfl⟩ : ∃ f, f = du_X37_putPlain_35)
theorem eu_X37_putPlain_35 : u_X37_putPlain_35 = du_X37_putPlain_35 := Classical.choose_spec (⟨du_X37_putPlain_35, rfl⟩ : ∃ f, f = du_X37_putPlain_35)
def du_X37_putPlain_12 (s : jS) (x0 x1 y0 : Int) : Option (jS × Int) :=
  if y0 = 0 then
    u_X37_putPlain_35 s x0 x1 y0
  else
    if (jf s 41 x0 35) = 0 then
      u_X37_putPlain_35 s x0 x1 y0
    else
      (m_X38_shorter s (x0 + 4) x1).bind fun q1 =>
      u_X37_putPlain_36 q1.1 x0 x1 y0 q1.2
noncomputable def u_X37_putPlain_12 : jS → Int → Int → Int → Option (jS × Int) := Classical.choose (⟨du_X37_putPlain_12, rfl⟩ : ∃ f, f = du_X37_putPlain_12)
theorem eu_X37_putPlain_12 : u_X37_putPlain_12 = du_X37_putPlain_12 := Classical.choose_spec (⟨du_X37_putPlain_12, rfl⟩ : ∃ f, f = du_X37_putPlain_12)
def dm_X37_putPlain (s : jS) (x0 x1 : Int) : Option (jS × Int) :=
  if (I_and x1 3) = 3 then
    u_X37_putPlain_12 s x0 x1 1
  else
    u_X37_putPlain_12 s x0 x1 0
noncomputable def m_X37_putPlain : jS → Int → Int → Option (jS × Int) := Classical.choose (⟨dm_X37_putPlain, rfl⟩ : ∃ f, f = dm_X37_putPlain)
theorem em_X37_putPlain : m_X37_putPlain = dm_X37_putPlain := Classical.choose_spec (⟨dm_X37_putPlain, rfl⟩ : ∃ f, f = dm_X37_putPlain)
def dm_X37_byKind (s : jS) (x0 x1 : Int) : Option (jS × Int) :=
  (m_X38_about s (x0 + 4) x1 0).bind fun q1 =>
  (m_X37_fits q1.1 x0 x1 q1.2).bind fun q2 =>
  if q2.2 = 0 then
    (m_X37_fail q2.1 x0 12).bind fun q3 =>
    some (q3.1, Wz q3.2)
  else
    (m_X37_takeOperands q2.1 x0 x1 q1.2).bind fun q4 =>
    if q4.2 = 0 then
      some (q4.1, Wz 0)
    else
      (jlt q4.1 1000 (x0 + 169) 4 0).bind fun v5 =>
      (jlt q4.1 1000 (x0 + 169) 4 1).bind fun v6 =>
      (jlt q4.1 1000 (x0 + 169) 4 2).bind fun v7 =>
      (jlt q4.1 1000 (x0 + 169) 4 3).bind fun v8 =>
      (m_X37_word q4.1 x0 x1 v5 v6 v7 v8).bind fun q9 =>
      (m_X37_begun q9.1 x0).bind fun q10 =>
      if q10.2 = 0 then
        some (q10.1, Wz 0)
      else
        if 0 < (jf q10.1 41 x0 59) then
          (m_X37_putMoved q10.1 x0 q9.2 (jf q10.1 41 x0 59) (jf q10.1 41 x0 60) (jf q10.1 41 x0 61)).bind fun q11 =>
          if q11.2 = 0 then
            some (q11.1, Wz 0)
          else
            some (q11.1, Wz 1)
        else
          (m_X37_putPlain q10.1 x0 q9.2).bind fun q12 =>
          if q12.2 = 0 then
            some (q12.1, Wz 0)
          else
            some (q12.1, Wz 1)
noncomputable def m_X37_byKind : jS → Int → Int → Option (jS × Int) := Classical.choose (⟨dm_X37_byKind, rfl⟩ : ∃ f, f = dm_X37_byKind)
theorem em_X37_byKind : m_X37_byKind = dm_X37_byKind := Classical.choose_spec (⟨dm_X37_byKind, rfl⟩ : ∃ f, f = dm_X37_byKind)
def du_X37_layParts_215 (s : jS) (x0 x1 : Int) : Option ((jS × List Int) ⊕ (jS × Int)) :=
  some (.inl (s, [x0, W32 (x1 + 1)]))
noncomputable def u_X37_layParts_215 : jS → Int → Int → Option ((jS × List Int) ⊕ (jS × Int)) := Classical.choose (⟨du_X37_layParts_215, rfl⟩ : ∃ f, f = du_X37_layParts_215)
theorem eu_X37_layParts_215 : u_X37_layParts_215 = du_X37_layParts_215 := Classical.choose_spec (⟨du_X37_layParts_215, rfl⟩ : ∃ f, f = du_X37_layParts_215)
def b_X37_layParts_193 (s : jS) (x0 x1 : Int) : Option ((jS × List Int) ⊕ (jS × Int)) :=
  if x1 < 1200 then
    (jlt s 1000 (x0 + 204) 1200 x1).bind fun v1 =>
    if v1 = (-1) then
      u_X37_layParts_215 s x0 x1
    else
      (m_X37_putLabel s x0 x1).bind fun q2 =>
      u_X37_layParts_215 q2.1 x0 x1
  else
    jinr (some (s, Wz 1))
def du_X37_layParts_193 (s : jS) (x0 x1 : Int) : Option (jS × Int) := jlpW (jc2 b_X37_layParts_193) [x0, x1] s
noncomputable def u_X37_layParts_193 : jS → Int → Int → Option (jS × Int) := Classical.choose (⟨du_X37_layParts_193, rfl⟩ : ∃ f, f = du_X37_layParts_193)
theorem eu_X37_layParts_193 : u_X37_layParts_193 = du_X37_layParts_193 := Classical.choose_spec (⟨du_X37_layParts_193, rfl⟩ : ∃ f, f = du_X37_layParts_193)
def du_X37_layParts_191 (s : jS) (x0 : Int) : Option (jS × Int) :=
  u_X37_layParts_193 s x0 0
noncomputable def u_X37_layParts_191 : jS → Int → Option (jS × Int) := Classical.choose (⟨du_X37_layParts_191, rfl⟩ : ∃ f, f = du_X37_layParts_191)
theorem eu_X37_layParts_191 : u_X37_layParts_191 = du_X37_layParts_191 := Classical.choose_spec (⟨du_X37_layParts_191, rfl⟩ : ∃ f, f = du_X37_layParts_191)
def du_X37_layParts_185 (s : jS) (x0 x1 : Int) : Option ((jS × List Int) ⊕ (jS × Int)) :=
  some (.inl (s, [x0, W32 (x1 + 1)]))
noncomputable def u_X37_layParts_185 : jS → Int → Int → Option ((jS × List Int) ⊕ (jS × Int)) := Classical.choose (⟨du_X37_layParts_185, rfl⟩ : ∃ f, f = du_X37_layParts_185)
theorem eu_X37_layParts_185 : u_X37_layParts_185 = du_X37_layParts_185 := Classical.choose_spec (⟨du_X37_layParts_185, rfl⟩ : ∃ f, f = du_X37_layParts_185)
def b_X37_layParts_115 (s : jS) (x0 x1 : Int) : Option ((jS × List Int) ⊕ (jS × Int)) :=
  if x1 < (jf s 41 x0 81) then
    (jlt s 1000 (x0 + 191) 600 x1).bind fun v1 =>
    if v1 = 2 then
      (jlt s 1000 (x0 + 194) 600 x1).bind fun v2 =>
      (m_X37_newPart s x0 3 v2).bind fun q3 =>
      (jst q3.1 1000 (x0 + 195) 600 x1 q3.2).bind fun s4 =>
      (jlt s4 1000 (x0 + 195) 600 x1).bind fun v5 =>
      if v5 = (-1) then
        jinr (some (s4, Wz 0))
      else
        (jlt s4 1000 (x0 + 195) 600 x1).bind fun v6 =>
        (jlt s4 1000 (x0 + 193) 600 x1).bind fun v7 =>
        (m_X37_plainPiece s4 x0 v6 0 v7).bind fun q8 =>
        if q8.2 = 0 then
          jinr (some (q8.1, Wz 0))
        else
          u_X37_layParts_185 q8.1 x0 x1
    else
      u_X37_layParts_185 s x0 x1
  else
    jinr (u_X37_layParts_191 s x0)
def du_X37_layParts_115 (s : jS) (x0 x1 : Int) : Option (jS × Int) := jlpW (jc2 b_X37_layParts_115) [x0, x1] s
noncomputable def u_X37_layParts_115 : jS → Int → Int → Option (jS × Int) := Classical.choose (⟨du_X37_layParts_115, rfl⟩ : ∃ f, f = du_X37_layParts_115)
theorem eu_X37_layParts_115 : u_X37_layParts_115 = du_X37_layParts_115 := Classical.choose_spec (⟨du_X37_layParts_115, rfl⟩ : ∃ f, f = du_X37_layParts_115)
def du_X37_layParts_113 (s : jS) (x0 : Int) : Option (jS × Int) :=
  u_X37_layParts_115 s x0 0
noncomputable def u_X37_layParts_113 : jS → Int → Option (jS × Int) := Classical.choose (⟨du_X37_layParts_113, rfl⟩ : ∃ f, f = du_X37_layParts_113)
theorem eu_X37_layParts_113 : u_X37_layParts_113 = du_X37_layParts_113 := Classical.choose_spec (⟨du_X37_layParts_113, rfl⟩ : ∃ f, f = du_X37_layParts_113)
def du_X37_layParts_107 (s : jS) (x0 x1 : Int) : Option ((jS × List Int) ⊕ (jS × Int)) :=
  some (.inl (s, [x0, W32 (x1 + 1)]))
noncomputable def u_X37_layParts_107 : jS → Int → Int → Option ((jS × List Int) ⊕ (jS × Int)) := Classical.choose (⟨du_X37_layParts_107, rfl⟩ : ∃ f, f = du_X37_layParts_107)
theorem eu_X37_layParts_107 : u_X37_layParts_107 = du_X37_layParts_107 := Classical.choose_spec (⟨du_X37_layParts_107, rfl⟩ : ∃ f, f = du_X37_layParts_107)
def du_X37_layParts_101 (s : jS) (x0 x1 x2 : Int) : Option ((jS × List Int) ⊕ ((jS × List Int) ⊕ (jS × Int))) :=
  some (.inl (s, [x0, x1, W32 (x2 + 1)]))
noncomputable def u_X37_layParts_101 : jS → Int → Int → Int → Option ((jS × List Int) ⊕ ((jS × List Int) ⊕ (jS × Int))) := Classical.choose (⟨du_X37_layParts_101, rfl⟩ : ∃ f, f = du_X37_layParts_101)
theorem eu_X37_layParts_101 : u_X37_layParts_101 = du_X37_layParts_101 := Classical.choose_spec (⟨du_X37_layParts_101, rfl⟩ : ∃ f, f = du_X37_layParts_101)
def b_X37_layParts_25 (s : jS) (x0 x1 x2 : Int) : Option ((jS × List Int) ⊕ ((jS × List Int) ⊕ (jS × Int))) :=
  if x2 < 4 then
    (jlt s 1000 (x0 + 172) 24 (W32 ((W32 (4 * x1)) + x2))).bind fun v1 =>
    (m_X37_newPart s x0 x2 v1).bind fun q2 =>
    if q2.2 = (-1) then
      jinr (jinr (some (q2.1, Wz 0)))
    else
      (jst q2.1 1000 (x0 + 202) 24 (W32 ((W32 (4 * x1)) + x2)) q2.2).bind fun s3 =>
      if x2 = 0 then
        (m_X37_textPieces s3 x0 x1 q2.2).bind fun q4 =>
        if q4.2 = 0 then
          jinr (jinr (some (q4.1, Wz 0)))
        else
          u_X37_layParts_101 q4.1 x0 x1 x2
      else
        (jlt s3 1000 (x0 + 171) 24 (W32 ((W32 (4 * x1)) + x2))).bind fun v5 =>
        (m_X37_plainPiece s3 x0 q2.2 0 v5).bind fun q6 =>
        if q6.2 = 0 then
          jinr (jinr (some (q6.1, Wz 0)))
        else
          u_X37_layParts_101 q6.1 x0 x1 x2
  else
    jinr (u_X37_layParts_107 s x0 x1)
def du_X37_layParts_25 (s : jS) (x0 x1 x2 : Int) : Option ((jS × List Int) ⊕ (jS × Int)) := jlpW (jc3 b_X37_layParts_25) [x0, x1, x2] s
noncomputable def u_X37_layParts_25 : jS → Int → Int → Int → Option ((jS × List Int) ⊕ (jS × Int)) := Classical.choose (⟨du_X37_layParts_25, rfl⟩ : ∃ f, f = du_X37_layParts_25)
theorem eu_X37_layParts_25 : u_X37_layParts_25 = du_X37_layParts_25 := Classical.choose_spec (⟨du_X37_layParts_25, rfl⟩ : ∃ f, f = du_X37_layParts_25)
def b_X37_layParts_6 (s : jS) (x0 x1 : Int) : Option ((jS × List Int) ⊕ (jS × Int)) :=
  if x1 < 6 then
    (m_X37_isIn s x0 x1).bind fun v1 =>
    if v1 = 0 then
      u_X37_layParts_107 s x0 x1
    else
      u_X37_layParts_25 s x0 x1 0
  else
    jinr (u_X37_layParts_113 s x0)
def du_X37_layParts_6 (s : jS) (x0 x1 : Int) : Option (jS × Int) := jlpW (jc2 b_X37_layParts_6) [x0, x1] s
noncomputable def u_X37_layParts_6 : jS → Int → Int → Option (jS × Int) := Classical.choose (⟨du_X37_layParts_6, rfl⟩ : ∃ f, f = du_X37_layParts_6)
theorem eu_X37_layParts_6 : u_X37_layParts_6 = du_X37_layParts_6 := Classical.choose_spec (⟨du_X37_layParts_6, rfl⟩ : ∃ f, f = du_X37_layParts_6)
def dm_X37_layParts (s : jS) (x0 : Int) : Option (jS × Int) :=
  (m_X37_emptyLayout s x0).bind fun q1 =>
  u_X37_layParts_6 q1.1 x0 0
noncomputable def m_X37_layParts : jS → Int → Option (jS × Int) := Classical.choose (⟨dm_X37_layParts, rfl⟩ : ∃ f, f = dm_X37_layParts)
theorem em_X37_layParts : m_X37_layParts = dm_X37_layParts := Classical.choose_spec (⟨dm_X37_layParts, rfl⟩ : ∃ f, f = dm_X37_layParts)
def du_X37_relocate_719 (s : jS) (x0 x1 x4 x6 : Int) : Option (jS × Int) :=
  (m_X37_low s x4).bind fun v1 =>
  (m_X37_lowWord s x0 x1 x6 v1 (-1)).bind fun q2 =>
  some (q2.1, Wz q2.2)
noncomputable def u_X37_relocate_719 : jS → Int → Int → Int → Int → Option (jS × Int) := Classical.choose (⟨du_X37_relocate_719, rfl⟩ : ∃ f, f = du_X37_relocate_719)
theorem eu_X37_relocate_719 : u_X37_relocate_719 = du_X37_relocate_719 := Classical.choose_spec (⟨du_X37_relocate_719, rfl⟩ : ∃ f, f = du_X37_relocate_719)
def du_X37_relocate_681 (s : jS) (x0 x1 x4 x6 x7 : Int) : Option (jS × Int) :=
  if x7 = 0 then
    u_X37_relocate_719 s x0 x1 x4 x6
  else
    (m_X37_isNear s (W64 (x4 - (jf s 41 x0 108)))).bind fun v1 =>
    if v1 = 0 then
      u_X37_relocate_719 s x0 x1 x4 x6
    else
      (m_X37_lowWord s x0 x1 x6 (W64 (x4 - (jf s 41 x0 108))) 3).bind fun q2 =>
      some (q2.1, Wz q2.2)
noncomputable def u_X37_relocate_681 : jS → Int → Int → Int → Int → Int → Option (jS × Int) := Classical.choose (⟨du_X37_relocate_681, rfl⟩ : ∃ f, f = du_X37_relocate_681)
theorem eu_X37_relocate_681 : u_X37_relocate_681 = du_X37_relocate_681 := Classical.choose_spec (⟨du_X37_relocate_681, rfl⟩ : ∃ f, f = du_X37_relocate_681)
def du_X37_relocate_655 (s : jS) (x0 x1 x4 x6 y0 : Int) : Option (jS × Int) :=
  if y0 = 0 then
    u_X37_relocate_681 s x0 x1 x4 x6 y0
  else
    (m_X37_isNear s x4).bind fun v1 =>
    if v1 = 0 then
      u_X37_relocate_681 s x0 x1 x4 x6 y0
    else
      (m_X37_lowWord s x0 x1 x6 x4 0).bind fun q2 =>
      some (q2.1, Wz q2.2)
noncomputable def u_X37_relocate_655 : jS → Int → Int → Int → Int → Int → Option (jS × Int) := Classical.choose (⟨du_X37_relocate_655, rfl⟩ : ∃ f, f = du_X37_relocate_655)
theorem eu_X37_relocate_655 : u_X37_relocate_655 = du_X37_relocate_655 := Classical.choose_spec (⟨du_X37_relocate_655, rfl⟩ : ∃ f, f = du_X37_relocate_655)
def du_X37_relocate_654 (s : jS) (x0 x1 x4 x6 : Int) : Option (jS × Int) :=
  u_X37_relocate_655 s x0 x1 x4 x6 0
noncomputable def u_X37_relocate_654 : jS → Int → Int → Int → Int → Option (jS × Int) := Classical.choose (⟨du_X37_relocate_654, rfl⟩ : ∃ f, f = du_X37_relocate_654)
theorem eu_X37_relocate_654 : u_X37_relocate_654 = du_X37_relocate_654 := Classical.choose_spec (⟨du_X37_relocate_654, rfl⟩ : ∃ f, f = du_X37_relocate_654)
def du_X37_relocate_626 (s : jS) (x0 x1 x4 x6 : Int) : Option (jS × Int) :=
  if (jf s 41 x0 106) = 0 then
    u_X37_relocate_654 s x0 x1 x4 x6
  else
    (jlt s 1000 (x0 + 185) 1800 x1).bind fun v1 =>
    (m_X37_hasLoose s x0 (jf s 41 x0 113) v1).bind fun v2 =>
    if v2 = 0 then
      u_X37_relocate_654 s x0 x1 x4 x6
    else
      u_X37_relocate_655 s x0 x1 x4 x6 1
noncomputable def u_X37_relocate_626 : jS → Int → Int → Int → Int → Option (jS × Int) := Classical.choose (⟨du_X37_relocate_626, rfl⟩ : ∃ f, f = du_X37_relocate_626)
theorem eu_X37_relocate_626 : u_X37_relocate_626 = du_X37_relocate_626 := Classical.choose_spec (⟨du_X37_relocate_626, rfl⟩ : ∃ f, f = du_X37_relocate_626)
def du_X37_relocate_617 (s : jS) (x0 x1 x3 x6 : Int) : Option (jS × Int) :=
  (m_X37_lowOfUpper s x0 x1 x3 x6).bind fun q1 =>
  some (q1.1, Wz q1.2)
noncomputable def u_X37_relocate_617 : jS → Int → Int → Int → Int → Option (jS × Int) := Classical.choose (⟨du_X37_relocate_617, rfl⟩ : ∃ f, f = du_X37_relocate_617)
theorem eu_X37_relocate_617 : u_X37_relocate_617 = du_X37_relocate_617 := Classical.choose_spec (⟨du_X37_relocate_617, rfl⟩ : ∃ f, f = du_X37_relocate_617)
def du_X37_relocate_599 (s : jS) (x0 x1 x4 x6 : Int) : Option (jS × Int) :=
  (m_X37_high s x4).bind fun v1 =>
  (m_X37_fitted s x0 x1 (jf s 41 x0 115) x6 v1).bind fun q2 =>
  some (q2.1, Wz q2.2)
noncomputable def u_X37_relocate_599 : jS → Int → Int → Int → Int → Option (jS × Int) := Classical.choose (⟨du_X37_relocate_599, rfl⟩ : ∃ f, f = du_X37_relocate_599)
theorem eu_X37_relocate_599 : u_X37_relocate_599 = du_X37_relocate_599 := Classical.choose_spec (⟨du_X37_relocate_599, rfl⟩ : ∃ f, f = du_X37_relocate_599)
def du_X37_relocate_468 (s : jS) (x0 x1 x4 x6 : Int) : Option (jS × Int) :=
  (m_X37_fitted s x0 x1 (jf s 41 x0 115) x6 (W64 (x4 - (jf s 41 x0 116)))).bind fun q1 =>
  some (q1.1, Wz q1.2)
noncomputable def u_X37_relocate_468 : jS → Int → Int → Int → Int → Option (jS × Int) := Classical.choose (⟨du_X37_relocate_468, rfl⟩ : ∃ f, f = du_X37_relocate_468)
theorem eu_X37_relocate_468 : u_X37_relocate_468 = du_X37_relocate_468 := Classical.choose_spec (⟨du_X37_relocate_468, rfl⟩ : ∃ f, f = du_X37_relocate_468)
def du_X37_relocate_302 (s : jS) (x0 x1 x2 x3 x4 : Int) : Option (jS × Int) :=
  (m_X37_wordFor s x0 x1 0).bind fun v1 =>
  (m_X38_kind s (x0 + 4) v1).bind fun q2 =>
  (m_X37_takes q2.1 x2 q2.2).bind fun v3 =>
  if v3 = 0 then
    (m_X37_wrong q2.1 x0 7 x1).bind fun q4 =>
    some (q4.1, Wz q4.2)
  else
    if x2 = 16 then
      u_X37_relocate_468 q2.1 x0 x1 x4 v1
    else
    if x2 = 17 then
      u_X37_relocate_468 q2.1 x0 x1 x4 v1
    else
    if x2 = 18 then
      u_X37_relocate_626 q2.1 x0 x1 x4 v1
    else
    if x2 = 19 then
      u_X37_relocate_626 q2.1 x0 x1 x4 v1
    else
    if x2 = 20 then
      u_X37_relocate_626 q2.1 x0 x1 x4 v1
    else
    if x2 = 21 then
      u_X37_relocate_626 q2.1 x0 x1 x4 v1
    else
    if x2 = 22 then
      u_X37_relocate_626 q2.1 x0 x1 x4 v1
    else
    if x2 = 23 then
      (m_X37_isInt q2.1 (W64 (x4 - (jf q2.1 41 x0 116)))).bind fun v5 =>
      if v5 = 0 then
        (m_X37_wrong q2.1 x0 8 x1).bind fun q6 =>
        some (q6.1, Wz q6.2)
      else
        (m_X37_high q2.1 (W64 (x4 - (jf q2.1 41 x0 116)))).bind fun v7 =>
        (m_X37_fitted q2.1 x0 x1 (jf q2.1 41 x0 115) v1 v7).bind fun q8 =>
        some (q8.1, Wz q8.2)
    else
    if x2 = 24 then
      u_X37_relocate_617 q2.1 x0 x1 x3 v1
    else
    if x2 = 25 then
      u_X37_relocate_617 q2.1 x0 x1 x3 v1
    else
    if x2 = 26 then
      (m_X37_isInt q2.1 x4).bind fun v9 =>
      if v9 = 0 then
        (m_X37_wrong q2.1 x0 8 x1).bind fun q10 =>
        some (q10.1, Wz q10.2)
      else
        if (jf q2.1 41 x0 114) = (-1) then
          u_X37_relocate_599 q2.1 x0 x1 x4 v1
        else
          (jlt q2.1 1000 ((x0 + 93) + 13) 256 (jf q2.1 41 x0 114)).bind fun v11 =>
          if v11 = 2 then
            (m_X38_part q2.1 (x0 + 4) v1 0).bind fun q12 =>
            (m_X37_high q12.1 x4).bind fun v13 =>
            (m_X37_formed q12.1 x0 x1 56 q12.2 0 0 v13).bind fun q14 =>
            some (q14.1, Wz q14.2)
          else
            u_X37_relocate_599 q2.1 x0 x1 x4 v1
    else
    if x2 = 27 then
      u_X37_relocate_626 q2.1 x0 x1 x4 v1
    else
    if x2 = 28 then
      u_X37_relocate_626 q2.1 x0 x1 x4 v1
    else
    if x2 = 29 then
      u_X37_relocate_626 q2.1 x0 x1 x4 v1
    else
    if x2 = 30 then
      u_X37_relocate_626 q2.1 x0 x1 x4 v1
    else
    if x2 = 31 then
      u_X37_relocate_626 q2.1 x0 x1 x4 v1
    else
    if x2 = 32 then
      u_X37_relocate_626 q2.1 x0 x1 x4 v1
    else
    if x2 = 33 then
      u_X37_relocate_626 q2.1 x0 x1 x4 v1
    else
    if x2 = 34 then
      u_X37_relocate_626 q2.1 x0 x1 x4 v1
    else
    if x2 = 35 then
      u_X37_relocate_626 q2.1 x0 x1 x4 v1
    else
    if x2 = 36 then
      u_X37_relocate_626 q2.1 x0 x1 x4 v1
    else
    if x2 = 37 then
      u_X37_relocate_626 q2.1 x0 x1 x4 v1
    else
    if x2 = 38 then
      u_X37_relocate_626 q2.1 x0 x1 x4 v1
    else
    if x2 = 39 then
      u_X37_relocate_626 q2.1 x0 x1 x4 v1
    else
    if x2 = 40 then
      u_X37_relocate_626 q2.1 x0 x1 x4 v1
    else
    if x2 = 41 then
      u_X37_relocate_626 q2.1 x0 x1 x4 v1
    else
    if x2 = 42 then
      u_X37_relocate_626 q2.1 x0 x1 x4 v1
    else
    if x2 = 43 then
      u_X37_relocate_626 q2.1 x0 x1 x4 v1
    else
    if x2 = 44 then
      u_X37_relocate_468 q2.1 x0 x1 x4 v1
    else
    if x2 = 45 then
      u_X37_relocate_468 q2.1 x0 x1 x4 v1
    else
    u_X37_relocate_626 q2.1 x0 x1 x4 v1
noncomputable def u_X37_relocate_302 : jS → Int → Int → Int → Int → Int → Option (jS × Int) := Classical.choose (⟨du_X37_relocate_302, rfl⟩ : ∃ f, f = du_X37_relocate_302)
theorem eu_X37_relocate_302 : u_X37_relocate_302 = du_X37_relocate_302 := Classical.choose_spec (⟨du_X37_relocate_302, rfl⟩ : ∃ f, f = du_X37_relocate_302)
def du_X37_relocate_258 (s : jS) (x0 x1 x2 x3 x4 : Int) : Option (jS × Int) :=
  if x2 = 19 then
    (m_X37_call s x0 x1 (W64 (x4 - (jf s 41 x0 116)))).bind fun q1 =>
    some (q1.1, Wz q1.2)
  else
    if (jf s 41 x0 114) = (-1) then
      u_X37_relocate_302 s x0 x1 x2 x3 x4
    else
      (jlt s 1000 ((x0 + 93) + 13) 256 (jf s 41 x0 114)).bind fun v2 =>
      if v2 = 0 then
        some (s, Wz 1)
      else
        u_X37_relocate_302 s x0 x1 x2 x3 x4
noncomputable def u_X37_relocate_258 : jS → Int → Int → Int → Int → Int → Option (jS × Int) := Classical.choose (⟨du_X37_relocate_258, rfl⟩ : ∃ f, f = du_X37_relocate_258)
theorem eu_X37_relocate_258 : u_X37_relocate_258 = du_X37_relocate_258 := Classical.choose_spec (⟨du_X37_relocate_258, rfl⟩ : ∃ f, f = du_X37_relocate_258)
def du_X37_relocate_239 (s : jS) (x0 x1 x2 x3 x4 : Int) : Option (jS × Int) :=
  if x2 = 1 then
    some (s, Wz 1)
  else
    if x2 < 33 then
      u_X37_relocate_258 s x0 x1 x2 x3 x4
    else
      if 39 < x2 then
        u_X37_relocate_258 s x0 x1 x2 x3 x4
      else
        some (s, Wz 1)
noncomputable def u_X37_relocate_239 : jS → Int → Int → Int → Int → Int → Option (jS × Int) := Classical.choose (⟨du_X37_relocate_239, rfl⟩ : ∃ f, f = du_X37_relocate_239)
theorem eu_X37_relocate_239 : u_X37_relocate_239 = du_X37_relocate_239 := Classical.choose_spec (⟨du_X37_relocate_239, rfl⟩ : ∃ f, f = du_X37_relocate_239)
def du_X37_relocate_236 (s : jS) (x0 x1 x2 x3 x4 y0 y1 y2 y3 : Int) : Option (jS × Int) :=
  (m_X37_store s y3 y2 y1 y0).bind fun q1 =>
  u_X37_relocate_239 q1.1 x0 x1 x2 x3 x4
noncomputable def u_X37_relocate_236 : jS → Int → Int → Int → Int → Int → Int → Int → Int → Int → Option (jS × Int) := Classical.choose (⟨du_X37_relocate_236, rfl⟩ : ∃ f, f = du_X37_relocate_236)
theorem eu_X37_relocate_236 : u_X37_relocate_236 = du_X37_relocate_236 := Classical.choose_spec (⟨du_X37_relocate_236, rfl⟩ : ∃ f, f = du_X37_relocate_236)
def du_X37_relocate_173 (s : jS) (x0 x1 x2 x3 x4 : Int) : Option (jS × Int) :=
  if x2 < 33 then
    u_X37_relocate_239 s x0 x1 x2 x3 x4
  else
    if 39 < x2 then
      u_X37_relocate_239 s x0 x1 x2 x3 x4
    else
      (m_X37_needed s x0 x1).bind fun v1 =>
      if x2 < 37 then
        (m_X37_loaded s x0 (jf s 41 x0 115) v1).bind fun v2 =>
        u_X37_relocate_236 s x0 x1 x2 x3 x4 (W64 (v2 + x4)) v1 (jf s 41 x0 115) x0
      else
        (m_X37_loaded s x0 (jf s 41 x0 115) v1).bind fun v3 =>
        u_X37_relocate_236 s x0 x1 x2 x3 x4 (W64 (v3 - x4)) v1 (jf s 41 x0 115) x0
noncomputable def u_X37_relocate_173 : jS → Int → Int → Int → Int → Int → Option (jS × Int) := Classical.choose (⟨du_X37_relocate_173, rfl⟩ : ∃ f, f = du_X37_relocate_173)
theorem eu_X37_relocate_173 : u_X37_relocate_173 = du_X37_relocate_173 := Classical.choose_spec (⟨du_X37_relocate_173, rfl⟩ : ∃ f, f = du_X37_relocate_173)
def du_X37_relocate_128 (s : jS) (x0 x1 x2 x3 : Int) : Option (jS × Int) :=
  (jlt s 1000 (x0 + 187) 1800 x1).bind fun v1 =>
  (m_X37_valueOf s x0 (W32 ((W32 (100 * (jf s 41 x0 113))) + v1))).bind fun v2 =>
  (jlt s 1000 (x0 + 188) 1800 x1).bind fun v3 =>
  jlet (W64 (v2 + v3)) fun v4 =>
  if x2 = 1 then
    (m_X37_store s x0 (jf s 41 x0 115) 4 v4).bind fun q5 =>
    u_X37_relocate_173 q5.1 x0 x1 x2 x3 v4
  else
    u_X37_relocate_173 s x0 x1 x2 x3 v4
noncomputable def u_X37_relocate_128 : jS → Int → Int → Int → Int → Option (jS × Int) := Classical.choose (⟨du_X37_relocate_128, rfl⟩ : ∃ f, f = du_X37_relocate_128)
theorem eu_X37_relocate_128 : u_X37_relocate_128 = du_X37_relocate_128 := Classical.choose_spec (⟨du_X37_relocate_128, rfl⟩ : ∃ f, f = du_X37_relocate_128)
def du_X37_relocate_115 (s : jS) (x0 x1 x2 x3 : Int) : Option (jS × Int) :=
  if x3 = (-1) then
    (m_X37_wrong s x0 7 x1).bind fun q1 =>
    some (q1.1, Wz q1.2)
  else
    u_X37_relocate_128 s x0 x1 x2 x3
noncomputable def u_X37_relocate_115 : jS → Int → Int → Int → Int → Option (jS × Int) := Classical.choose (⟨du_X37_relocate_115, rfl⟩ : ∃ f, f = du_X37_relocate_115)
theorem eu_X37_relocate_115 : u_X37_relocate_115 = du_X37_relocate_115 := Classical.choose_spec (⟨du_X37_relocate_115, rfl⟩ : ∃ f, f = du_X37_relocate_115)
def du_X37_relocate_102 (s : jS) (x0 x1 x2 y0 : Int) : Option (jS × Int) :=
  if x2 = 24 then
    u_X37_relocate_115 s x0 x1 x2 y0
  else
    if x2 = 25 then
      u_X37_relocate_115 s x0 x1 x2 y0
    else
      u_X37_relocate_128 s x0 x1 x2 y0
noncomputable def u_X37_relocate_102 : jS → Int → Int → Int → Int → Option (jS × Int) := Classical.choose (⟨du_X37_relocate_102, rfl⟩ : ∃ f, f = du_X37_relocate_102)
theorem eu_X37_relocate_102 : u_X37_relocate_102 = du_X37_relocate_102 := Classical.choose_spec (⟨du_X37_relocate_102, rfl⟩ : ∃ f, f = du_X37_relocate_102)
def du_X37_relocate_93 (s : jS) (x0 x1 x2 : Int) : Option (jS × Int) :=
  (m_X37_upperFor s x0 x1).bind fun v1 =>
  u_X37_relocate_102 s x0 x1 x2 v1
noncomputable def u_X37_relocate_93 : jS → Int → Int → Int → Option (jS × Int) := Classical.choose (⟨du_X37_relocate_93, rfl⟩ : ∃ f, f = du_X37_relocate_93)
theorem eu_X37_relocate_93 : u_X37_relocate_93 = du_X37_relocate_93 := Classical.choose_spec (⟨du_X37_relocate_93, rfl⟩ : ∃ f, f = du_X37_relocate_93)
def du_X37_relocate_76 (s : jS) (y0 y1 : Int) : Option (jS × Int) :=
  (m_X37_nops s y1 y0).bind fun q1 =>
  some (q1.1, Wz 1)
noncomputable def u_X37_relocate_76 : jS → Int → Int → Option (jS × Int) := Classical.choose (⟨du_X37_relocate_76, rfl⟩ : ∃ f, f = du_X37_relocate_76)
theorem eu_X37_relocate_76 : u_X37_relocate_76 = du_X37_relocate_76 := Classical.choose_spec (⟨du_X37_relocate_76, rfl⟩ : ∃ f, f = du_X37_relocate_76)
def du_X37_relocate_30 (s : jS) (x0 x1 x2 : Int) : Option (jS × Int) :=
  (m_X37_isPlacedRight s x0 x1).bind fun q1 =>
  if q1.2 = 0 then
    some (q1.1, Wz 0)
  else
    if x2 = 43 then
      if (jf q1.1 41 x0 114) = (-1) then
        (jlt q1.1 1000 (x0 + 188) 1800 x1).bind fun v2 =>
        u_X37_relocate_76 q1.1 v2 x0
      else
        (jlt q1.1 1000 ((x0 + 93) + 13) 256 (jf q1.1 41 x0 114)).bind fun v3 =>
        u_X37_relocate_76 q1.1 v3 x0
    else
      if x2 = 24 then
        u_X37_relocate_93 q1.1 x0 x1 x2
      else
        if x2 = 25 then
          u_X37_relocate_93 q1.1 x0 x1 x2
        else
          u_X37_relocate_102 q1.1 x0 x1 x2 (-1)
noncomputable def u_X37_relocate_30 : jS → Int → Int → Int → Option (jS × Int) := Classical.choose (⟨du_X37_relocate_30, rfl⟩ : ∃ f, f = du_X37_relocate_30)
theorem eu_X37_relocate_30 : u_X37_relocate_30 = du_X37_relocate_30 := Classical.choose_spec (⟨du_X37_relocate_30, rfl⟩ : ∃ f, f = du_X37_relocate_30)
def dm_X37_relocate (s : jS) (x0 x1 : Int) : Option (jS × Int) :=
  (jlt s 1000 (x0 + 186) 1800 x1).bind fun v1 =>
  if v1 = 51 then
    some (s, Wz 1)
  else
    if v1 = 43 then
      (jlt s 1000 (x0 + 188) 1800 x1).bind fun v2 =>
      if v2 = 0 then
        some (s, Wz 1)
      else
        u_X37_relocate_30 s x0 x1 v1
    else
      u_X37_relocate_30 s x0 x1 v1
noncomputable def m_X37_relocate : jS → Int → Int → Option (jS × Int) := Classical.choose (⟨dm_X37_relocate, rfl⟩ : ∃ f, f = dm_X37_relocate)
theorem em_X37_relocate : m_X37_relocate = dm_X37_relocate := Classical.choose_spec (⟨dm_X37_relocate, rfl⟩ : ∃ f, f = dm_X37_relocate)
def du_X37_makeImage_189 (s : jS) (x0 : Int) : Option (jS × Int) :=
  (m_X42_write s (x0 + 118)).bind fun q1 =>
  if q1.2 < 0 then
    (m_X37_refuse q1.1 x0 9 (-1) q1.2).bind fun q2 =>
    if q2.2 = 0 then
      some (q2.1, Wz 0)
    else
      some (q2.1, Wz 1)
  else
    some (q1.1, Wz 1)
noncomputable def u_X37_makeImage_189 : jS → Int → Option (jS × Int) := Classical.choose (⟨du_X37_makeImage_189, rfl⟩ : ∃ f, f = du_X37_makeImage_189)
theorem eu_X37_makeImage_189 : u_X37_makeImage_189 = du_X37_makeImage_189 := Classical.choose_spec (⟨du_X37_makeImage_189, rfl⟩ : ∃ f, f = du_X37_makeImage_189)
def du_X37_makeImage_183 (s : jS) (x0 x2 : Int) : Option ((jS × List Int) ⊕ (jS × Int)) :=
  some (.inl (s, [x0, W32 (x2 + 1)]))
noncomputable def u_X37_makeImage_183 : jS → Int → Int → Option ((jS × List Int) ⊕ (jS × Int)) := Classical.choose (⟨du_X37_makeImage_183, rfl⟩ : ∃ f, f = du_X37_makeImage_183)
theorem eu_X37_makeImage_183 : u_X37_makeImage_183 = du_X37_makeImage_183 := Classical.choose_spec (⟨du_X37_makeImage_183, rfl⟩ : ∃ f, f = du_X37_makeImage_183)
def du_X37_makeImage_177 (s : jS) (x0 x2 x3 : Int) : Option ((jS × List Int) ⊕ ((jS × List Int) ⊕ (jS × Int))) :=
  some (.inl (s, [x0, x2, W32 (x3 + 1)]))
noncomputable def u_X37_makeImage_177 : jS → Int → Int → Int → Option ((jS × List Int) ⊕ ((jS × List Int) ⊕ (jS × Int))) := Classical.choose (⟨du_X37_makeImage_177, rfl⟩ : ∃ f, f = du_X37_makeImage_177)
theorem eu_X37_makeImage_177 : u_X37_makeImage_177 = du_X37_makeImage_177 := Classical.choose_spec (⟨du_X37_makeImage_177, rfl⟩ : ∃ f, f = du_X37_makeImage_177)
def b_X37_makeImage_99 (s : jS) (x0 x2 x3 : Int) : Option ((jS × List Int) ⊕ ((jS × List Int) ⊕ (jS × Int))) :=
  (jlt s 1000 (x0 + 174) 6 x2).bind fun v1 =>
  if x3 < v1 then
    (m_X37_isIn s x0 x2).bind fun v2 =>
    if v2 = 0 then
      jinr (u_X37_makeImage_183 s x0 x2)
    else
      (jlt s 1000 (x0 + 173) 6144 (W32 ((W32 (1024 * x2)) + x3))).bind fun v3 =>
      (m_X37_address_2 s x0 x2 0 v3).bind fun v4 =>
      (jlt s 1000 ((x0 + 93) + 2) 4 0).bind fun v5 =>
      jlet (W32 (v4 - v5)) fun v6 =>
      (m_X37_outputSize s x0 0).bind fun v7 =>
      if v6 < v7 then
        (jdv 2 (I_rem v6 2)).bind fun v8 =>
        if v8 = 0 then
          (jdv 2 (I_div v6 2)).bind fun v9 =>
          (jst s 1002 ((x0 + 118) + 6) 4096 v9 (Wz 1)).bind fun s10 =>
          u_X37_makeImage_177 s10 x0 x2 x3
        else
          u_X37_makeImage_177 s x0 x2 x3
      else
        u_X37_makeImage_177 s x0 x2 x3
  else
    jinr (u_X37_makeImage_183 s x0 x2)
def du_X37_makeImage_99 (s : jS) (x0 x2 x3 : Int) : Option ((jS × List Int) ⊕ (jS × Int)) := jlpW (jc3 b_X37_makeImage_99) [x0, x2, x3] s
noncomputable def u_X37_makeImage_99 : jS → Int → Int → Int → Option ((jS × List Int) ⊕ (jS × Int)) := Classical.choose (⟨du_X37_makeImage_99, rfl⟩ : ∃ f, f = du_X37_makeImage_99)
theorem eu_X37_makeImage_99 : u_X37_makeImage_99 = du_X37_makeImage_99 := Classical.choose_spec (⟨du_X37_makeImage_99, rfl⟩ : ∃ f, f = du_X37_makeImage_99)
def b_X37_makeImage_91 (s : jS) (x0 x2 : Int) : Option ((jS × List Int) ⊕ (jS × Int)) :=
  if x2 < 6 then
    u_X37_makeImage_99 s x0 x2 0
  else
    jinr (u_X37_makeImage_189 s x0)
def du_X37_makeImage_91 (s : jS) (x0 x2 : Int) : Option (jS × Int) := jlpW (jc2 b_X37_makeImage_91) [x0, x2] s
noncomputable def u_X37_makeImage_91 : jS → Int → Int → Option (jS × Int) := Classical.choose (⟨du_X37_makeImage_91, rfl⟩ : ∃ f, f = du_X37_makeImage_91)
theorem eu_X37_makeImage_91 : u_X37_makeImage_91 = du_X37_makeImage_91 := Classical.choose_spec (⟨du_X37_makeImage_91, rfl⟩ : ∃ f, f = du_X37_makeImage_91)
def du_X37_makeImage_89 (s : jS) (x0 : Int) : Option (jS × Int) :=
  u_X37_makeImage_91 s x0 0
noncomputable def u_X37_makeImage_89 : jS → Int → Option (jS × Int) := Classical.choose (⟨du_X37_makeImage_89, rfl⟩ : ∃ f, f = du_X37_makeImage_89)
theorem eu_X37_makeImage_89 : u_X37_makeImage_89 = du_X37_makeImage_89 := Classical.choose_spec (⟨du_X37_makeImage_89, rfl⟩ : ∃ f, f = du_X37_makeImage_89)
def du_X37_makeImage_83 (s : jS) (x0 x1 : Int) : Option (jS × Int) :=
  (m_X37_imageSegment s x0 2 x1).bind fun q1 =>
  u_X37_makeImage_89 q1.1 x0
noncomputable def u_X37_makeImage_83 : jS → Int → Int → Option (jS × Int) := Classical.choose (⟨du_X37_makeImage_83, rfl⟩ : ∃ f, f = du_X37_makeImage_83)
theorem eu_X37_makeImage_83 : u_X37_makeImage_83 = du_X37_makeImage_83 := Classical.choose_spec (⟨du_X37_makeImage_83, rfl⟩ : ∃ f, f = du_X37_makeImage_83)
def du_X37_makeImage_51 (s : jS) (x0 : Int) : Option (jS × Int) :=
  (jlt s 1000 ((x0 + 93) + 3) 4 3).bind fun v1 =>
  (jlt s 1000 ((x0 + 93) + 3) 4 2).bind fun v2 =>
  jlet (W32 (v1 - v2)) fun v3 =>
  (m_X37_outputSize s x0 2).bind fun v4 =>
  if 0 < v4 then
    u_X37_makeImage_83 s x0 v3
  else
    if 0 < v3 then
      u_X37_makeImage_83 s x0 v3
    else
      u_X37_makeImage_89 s x0
noncomputable def u_X37_makeImage_51 : jS → Int → Option (jS × Int) := Classical.choose (⟨du_X37_makeImage_51, rfl⟩ : ∃ f, f = du_X37_makeImage_51)
theorem eu_X37_makeImage_51 : u_X37_makeImage_51 = du_X37_makeImage_51 := Classical.choose_spec (⟨du_X37_makeImage_51, rfl⟩ : ∃ f, f = du_X37_makeImage_51)
def dm_X37_makeImage (s : jS) (x0 : Int) : Option (jS × Int) :=
  (m_X42_clear s (x0 + 118)).bind fun q1 =>
  (m_X42_page q1.1 (x0 + 118) 4).bind fun q2 =>
  (m_X37_startSymbol q2.1 x0).bind fun v3 =>
  (m_X37_symbolPlace q2.1 x0 v3).bind fun v4 =>
  (m_X42_entry q2.1 (x0 + 118) v4).bind fun q5 =>
  (m_X37_imageSegment q5.1 x0 0 0).bind fun q6 =>
  (m_X37_outputSize q6.1 x0 1).bind fun v7 =>
  if 0 < v7 then
    (m_X37_imageSegment q6.1 x0 1 0).bind fun q8 =>
    u_X37_makeImage_51 q8.1 x0
  else
    u_X37_makeImage_51 q6.1 x0
noncomputable def m_X37_makeImage : jS → Int → Option (jS × Int) := Classical.choose (⟨dm_X37_makeImage, rfl⟩ : ∃ f, f = dm_X37_makeImage)
theorem em_X37_makeImage : m_X37_makeImage = dm_X37_makeImage := Classical.choose_spec (⟨dm_X37_makeImage, rfl⟩ : ∃ f, f = dm_X37_makeImage)
def du_X39_takeOperand_421 (s : jS) (x0 x2 : Int) : Option (jS × Int) :=
  (jlt s 1000 (x0 + 3) 8 2).bind fun v1 =>
  (jlt s 1000 (x0 + 5) 11200 (W32 (x2 + 3))).bind fun v2 =>
  (jst s 1000 (x0 + 5) 11200 (W32 (x2 + 4)) (W32 (v1 - v2))).bind fun s3 =>
  some (s3, Wz 1)
noncomputable def u_X39_takeOperand_421 : jS → Int → Int → Option (jS × Int) := Classical.choose (⟨du_X39_takeOperand_421, rfl⟩ : ∃ f, f = du_X39_takeOperand_421)
theorem eu_X39_takeOperand_421 : u_X39_takeOperand_421 = du_X39_takeOperand_421 := Classical.choose_spec (⟨du_X39_takeOperand_421, rfl⟩ : ∃ f, f = du_X39_takeOperand_421)
def du_X39_takeOperand_395 (s : jS) (x0 x2 y0 : Int) : Option (jS × Int) :=
  if y0 = 0 then
    some (s, Wz 0)
  else
    (m_X39_isSign s x0 40).bind fun v1 =>
    if v1 = 0 then
      u_X39_takeOperand_421 s x0 x2
    else
      (m_X39_based s x0 x2).bind fun q2 =>
      if q2.2 = 0 then
        some (q2.1, Wz 0)
      else
        u_X39_takeOperand_421 q2.1 x0 x2
noncomputable def u_X39_takeOperand_395 : jS → Int → Int → Int → Option (jS × Int) := Classical.choose (⟨du_X39_takeOperand_395, rfl⟩ : ∃ f, f = du_X39_takeOperand_395)
theorem eu_X39_takeOperand_395 : u_X39_takeOperand_395 = du_X39_takeOperand_395 := Classical.choose_spec (⟨du_X39_takeOperand_395, rfl⟩ : ∃ f, f = du_X39_takeOperand_395)
def du_X39_takeOperand_294 (s : jS) (x0 x2 : Int) : Option (jS × Int) :=
  jls (jp s 43 x0 12 (W32 ((jf s 43 x0 12) + (jf s 43 x0 11)))) fun s1 =>
  (m_X39_next s1 x0).bind fun q2 =>
  u_X39_takeOperand_421 q2.1 x0 x2
noncomputable def u_X39_takeOperand_294 : jS → Int → Int → Option (jS × Int) := Classical.choose (⟨du_X39_takeOperand_294, rfl⟩ : ∃ f, f = du_X39_takeOperand_294)
theorem eu_X39_takeOperand_294 : u_X39_takeOperand_294 = du_X39_takeOperand_294 := Classical.choose_spec (⟨du_X39_takeOperand_294, rfl⟩ : ∃ f, f = du_X39_takeOperand_294)
def b_X39_takeOperand_260 (s : jS) (x0 x2 x4 : Int) : Option ((jS × List Int) ⊕ (jS × Int)) :=
  if x4 < (jf s 43 x0 11) then
    (jlt s 1000 (x0 + 15) 3001 x4).bind fun v1 =>
    (jst s 1000 (x0 + 9) 6000 (W32 ((jf s 43 x0 12) + x4)) v1).bind fun s2 =>
    some (.inl (s2, [x0, x2, W32 (x4 + 1)]))
  else
    jinr (u_X39_takeOperand_294 s x0 x2)
def du_X39_takeOperand_260 (s : jS) (x0 x2 x4 : Int) : Option (jS × Int) := jlpW (jc3 b_X39_takeOperand_260) [x0, x2, x4] s
noncomputable def u_X39_takeOperand_260 : jS → Int → Int → Int → Option (jS × Int) := Classical.choose (⟨du_X39_takeOperand_260, rfl⟩ : ∃ f, f = du_X39_takeOperand_260)
theorem eu_X39_takeOperand_260 : u_X39_takeOperand_260 = du_X39_takeOperand_260 := Classical.choose_spec (⟨du_X39_takeOperand_260, rfl⟩ : ∃ f, f = du_X39_takeOperand_260)
def du_X39_takeOperand_82 (s : jS) (x0 y0 : Int) : Option (jS × Int) :=
  if y0 = 0 then
    (m_X39_fail s x0 5).bind fun q1 =>
    some (q1.1, Wz q1.2)
  else
    (jlt s 1000 (x0 + 3) 8 1).bind fun v2 =>
    if v2 = 800 then
      (m_X39_fail s x0 8).bind fun q3 =>
      some (q3.1, Wz q3.2)
    else
      jls (jp s 43 x0 25 0) fun s4 =>
      (jlt s4 1000 (x0 + 3) 8 1).bind fun v5 =>
      jlet (W32 (7 * v5)) fun v6 =>
      (jlt s4 1000 (x0 + 3) 8 1).bind fun v7 =>
      (jst s4 1000 (x0 + 3) 8 1 (W32 (v7 + 1))).bind fun s8 =>
      (jst s8 1000 (x0 + 5) 11200 v6 0).bind fun s9 =>
      (jst s9 1000 (x0 + 5) 11200 (W32 (v6 + 1)) (-1)).bind fun s10 =>
      (jst s10 1000 (x0 + 5) 11200 (W32 (v6 + 2)) 0).bind fun s11 =>
      (jlt s11 1000 (x0 + 3) 8 2).bind fun v12 =>
      (jst s11 1000 (x0 + 5) 11200 (W32 (v6 + 3)) v12).bind fun s13 =>
      (jst s13 1000 (x0 + 5) 11200 (W32 (v6 + 5)) (jf s13 43 x0 17)).bind fun s14 =>
      (jst s14 1000 (x0 + 5) 11200 (W32 (v6 + 6)) 0).bind fun s15 =>
      (m_X39_register s15 x0).bind fun v16 =>
      if (jf s15 43 x0 15) = 4 then
        (jst s15 1000 (x0 + 5) 11200 v6 3).bind fun s17 =>
        (jst s17 1000 (x0 + 5) 11200 (W32 (v6 + 1)) (-1)).bind fun s18 =>
        (jst s18 1000 (x0 + 5) 11200 (W32 (v6 + 6)) (jf s18 43 x0 11)).bind fun s19 =>
        (jlt s19 1000 (x0 + 3) 8 1).bind fun v20 =>
        (jst s19 1000 (x0 + 16) 1600 (W32 (v20 - 1)) (jf s19 43 x0 12)).bind fun s21 =>
        u_X39_takeOperand_260 s21 x0 v6 0
      else
        if v16 = (-1) then
          (m_X39_isBase s15 x0).bind fun q22 =>
          if q22.2 = 0 then
            (m_X39_isSign q22.1 x0 37).bind fun v23 =>
            if v23 = 0 then
              (m_X39_expression q22.1 x0).bind fun q24 =>
              u_X39_takeOperand_395 q24.1 x0 v6 q24.2
            else
              (m_X39_marked q22.1 x0 v6).bind fun q25 =>
              u_X39_takeOperand_395 q25.1 x0 v6 q25.2
          else
            (m_X39_tally q22.1 x0).bind fun q26 =>
            if q26.2 = 0 then
              some (q26.1, Wz 0)
            else
              (m_X39_emit q26.1 x0 0 0).bind fun q27 =>
              (m_X39_based q27.1 x0 v6).bind fun q28 =>
              if q28.2 = 0 then
                some (q28.1, Wz 0)
              else
                u_X39_takeOperand_421 q28.1 x0 v6
        else
          (jst s15 1000 (x0 + 5) 11200 v6 1).bind fun s29 =>
          (jst s29 1000 (x0 + 5) 11200 (W32 (v6 + 1)) v16).bind fun s30 =>
          (m_X39_next s30 x0).bind fun q31 =>
          u_X39_takeOperand_421 q31.1 x0 v6
noncomputable def u_X39_takeOperand_82 : jS → Int → Int → Option (jS × Int) := Classical.choose (⟨du_X39_takeOperand_82, rfl⟩ : ∃ f, f = du_X39_takeOperand_82)
theorem eu_X39_takeOperand_82 : u_X39_takeOperand_82 = du_X39_takeOperand_82 := Classical.choose_spec (⟨du_X39_takeOperand_82, rfl⟩ : ∃ f, f = du_X39_takeOperand_82)
def du_X39_takeOperand_77 (s : jS) (x0 : Int) : Option (jS × Int) :=
  u_X39_takeOperand_82 s x0 1
noncomputable def u_X39_takeOperand_77 : jS → Int → Option (jS × Int) := Classical.choose (⟨du_X39_takeOperand_77, rfl⟩ : ∃ f, f = du_X39_takeOperand_77)
theorem eu_X39_takeOperand_77 : u_X39_takeOperand_77 = du_X39_takeOperand_77 := Classical.choose_spec (⟨du_X39_takeOperand_77, rfl⟩ : ∃ f, f = du_X39_takeOperand_77)
def dm_X39_takeOperand (s : jS) (x0 : Int) : Option (jS × Int) :=
  if (jf s 43 x0 15) = 1 then
    u_X39_takeOperand_77 s x0
  else
    if (jf s 43 x0 15) = 2 then
      u_X39_takeOperand_77 s x0
    else
      if (jf s 43 x0 15) = 3 then
        u_X39_takeOperand_77 s x0
      else
        if (jf s 43 x0 15) = 7 then
          u_X39_takeOperand_77 s x0
        else
          if (jf s 43 x0 15) = 4 then
            u_X39_takeOperand_77 s x0
          else
            (m_X39_isSign s x0 37).bind fun v1 =>
            if v1 = 0 then
              (m_X39_isSign s x0 40).bind fun v2 =>
              if v2 = 0 then
                (m_X39_isSign s x0 45).bind fun v3 =>
                if v3 = 0 then
                  (m_X39_isSign s x0 126).bind fun v4 =>
                  if v4 = 0 then
                    u_X39_takeOperand_82 s x0 0
                  else
                    u_X39_takeOperand_77 s x0
                else
                  u_X39_takeOperand_77 s x0
              else
                u_X39_takeOperand_77 s x0
            else
              u_X39_takeOperand_77 s x0
noncomputable def m_X39_takeOperand : jS → Int → Option (jS × Int) := Classical.choose (⟨dm_X39_takeOperand, rfl⟩ : ∃ f, f = dm_X39_takeOperand)
theorem em_X39_takeOperand : m_X39_takeOperand = dm_X39_takeOperand := Classical.choose_spec (⟨dm_X39_takeOperand, rfl⟩ : ∃ f, f = dm_X39_takeOperand)
def du_X41_settle_133 (s : jS) (x0 x1 x2 y0 : Int) : Option ((jS × List Int) ⊕ (jS × Int)) :=
  some (.inl (s, [x0, x1, x2, y0]))
noncomputable def u_X41_settle_133 : jS → Int → Int → Int → Int → Option ((jS × List Int) ⊕ (jS × Int)) := Classical.choose (⟨du_X41_settle_133, rfl⟩ : ∃ f, f = du_X41_settle_133)
theorem eu_X41_settle_133 : u_X41_settle_133 = du_X41_settle_133 := Classical.choose_spec (⟨du_X41_settle_133, rfl⟩ : ∃ f, f = du_X41_settle_133)
def du_X41_settle_117 (s : jS) (x0 x1 x2 x3 : Int) : Option ((jS × List Int) ⊕ (jS × Int)) :=
  jlet (W32 (x1 + x2)) fun v1 =>
  if 0 < x2 then
    (m_X41_shrink s x0).bind fun q2 =>
    u_X41_settle_133 q2.1 x0 v1 x2 q2.2
  else
    u_X41_settle_133 s x0 v1 x2 x3
noncomputable def u_X41_settle_117 : jS → Int → Int → Int → Int → Option ((jS × List Int) ⊕ (jS × Int)) := Classical.choose (⟨du_X41_settle_117, rfl⟩ : ∃ f, f = du_X41_settle_117)
theorem eu_X41_settle_117 : u_X41_settle_117 = du_X41_settle_117 := Classical.choose_spec (⟨du_X41_settle_117, rfl⟩ : ∃ f, f = du_X41_settle_117)
def du_X41_settle_111 (s : jS) (x0 x1 x2 x3 x4 : Int) : Option ((jS × List Int) ⊕ ((jS × List Int) ⊕ (jS × Int))) :=
  some (.inl (s, [x0, x1, x2, x3, W32 (x4 + 1)]))
noncomputable def u_X41_settle_111 : jS → Int → Int → Int → Int → Int → Option ((jS × List Int) ⊕ ((jS × List Int) ⊕ (jS × Int))) := Classical.choose (⟨du_X41_settle_111, rfl⟩ : ∃ f, f = du_X41_settle_111)
theorem eu_X41_settle_111 : u_X41_settle_111 = du_X41_settle_111 := Classical.choose_spec (⟨du_X41_settle_111, rfl⟩ : ∃ f, f = du_X41_settle_111)
def b_X41_settle_61 (s : jS) (x0 x1 x2 x3 x4 : Int) : Option ((jS × List Int) ⊕ ((jS × List Int) ⊕ (jS × Int))) :=
  if x4 < (jf s 45 x0 12) then
    (jlt s 1000 (x0 + 22) 256 x4).bind fun v1 =>
    if v1 = 0 then
      u_X41_settle_111 s x0 x1 x2 x3 x4
    else
      (jlt s 1000 (x0 + 11) 256 x4).bind fun v2 =>
      (m_X41_greatest s v2).bind fun v3 =>
      (jst s 1000 (x0 + 13) 256 x4 v3).bind fun s4 =>
      (jst s4 1002 (x0 + 19) 256 x4 (Wz 1)).bind fun s5 =>
      u_X41_settle_111 s5 x0 x1 (W32 (x2 + 1)) x3 x4
  else
    jinr (u_X41_settle_117 s x0 x1 x2 x3)
def du_X41_settle_61 (s : jS) (x0 x1 x2 x3 x4 : Int) : Option ((jS × List Int) ⊕ (jS × Int)) := jlpW (jc5 b_X41_settle_61) [x0, x1, x2, x3, x4] s
noncomputable def u_X41_settle_61 : jS → Int → Int → Int → Int → Int → Option ((jS × List Int) ⊕ (jS × Int)) := Classical.choose (⟨du_X41_settle_61, rfl⟩ : ∃ f, f = du_X41_settle_61)
theorem eu_X41_settle_61 : u_X41_settle_61 = du_X41_settle_61 := Classical.choose_spec (⟨du_X41_settle_61, rfl⟩ : ∃ f, f = du_X41_settle_61)
def du_X41_settle_58 (s : jS) (x0 x1 x2 x3 : Int) : Option ((jS × List Int) ⊕ (jS × Int)) :=
  u_X41_settle_61 s x0 x1 x2 x3 0
noncomputable def u_X41_settle_58 : jS → Int → Int → Int → Int → Option ((jS × List Int) ⊕ (jS × Int)) := Classical.choose (⟨du_X41_settle_58, rfl⟩ : ∃ f, f = du_X41_settle_58)
theorem eu_X41_settle_58 : u_X41_settle_58 = du_X41_settle_58 := Classical.choose_spec (⟨du_X41_settle_58, rfl⟩ : ∃ f, f = du_X41_settle_58)
def du_X41_settle_51 (s : jS) (x0 x1 x2 x3 x4 y0 y1 y2 : Int) : Option ((jS × List Int) ⊕ ((jS × List Int) ⊕ (jS × Int))) :=
  (jst s 1000 y2 256 y1 y0).bind fun s1 =>
  some (.inl (s1, [x0, x1, x2, x3, W32 (x4 + 1)]))
noncomputable def u_X41_settle_51 : jS → Int → Int → Int → Int → Int → Int → Int → Int → Option ((jS × List Int) ⊕ ((jS × List Int) ⊕ (jS × Int))) := Classical.choose (⟨du_X41_settle_51, rfl⟩ : ∃ f, f = du_X41_settle_51)
theorem eu_X41_settle_51 : u_X41_settle_51 = du_X41_settle_51 := Classical.choose_spec (⟨du_X41_settle_51, rfl⟩ : ∃ f, f = du_X41_settle_51)
def b_X41_settle_22 (s : jS) (x0 x1 x2 x3 x4 : Int) : Option ((jS × List Int) ⊕ ((jS × List Int) ⊕ (jS × Int))) :=
  if x4 < (jf s 45 x0 12) then
    (m_X41_isTight s x0 x4).bind fun v1 =>
    if v1 = 0 then
      u_X41_settle_51 s x0 x1 x2 x3 x4 0 x4 (x0 + 22)
    else
      u_X41_settle_51 s x0 x1 x2 x3 x4 1 x4 (x0 + 22)
  else
    jinr (u_X41_settle_58 s x0 x1 x2 x3)
def du_X41_settle_22 (s : jS) (x0 x1 x2 x3 x4 : Int) : Option ((jS × List Int) ⊕ (jS × Int)) := jlpW (jc5 b_X41_settle_22) [x0, x1, x2, x3, x4] s
noncomputable def u_X41_settle_22 : jS → Int → Int → Int → Int → Int → Option ((jS × List Int) ⊕ (jS × Int)) := Classical.choose (⟨du_X41_settle_22, rfl⟩ : ∃ f, f = du_X41_settle_22)
theorem eu_X41_settle_22 : u_X41_settle_22 = du_X41_settle_22 := Classical.choose_spec (⟨du_X41_settle_22, rfl⟩ : ∃ f, f = du_X41_settle_22)
def b_X41_settle_9 (s : jS) (x0 x1 x2 x3 : Int) : Option ((jS × List Int) ⊕ (jS × Int)) :=
  if 0 < x2 then
    (m_X41_reckon s x0).bind fun q1 =>
    u_X41_settle_22 q1.1 x0 x1 0 x3 0
  else
    jinr (some (s, x1))
def du_X41_settle_9 (s : jS) (x0 x1 x2 x3 : Int) : Option (jS × Int) := jlpW (jc4 b_X41_settle_9) [x0, x1, x2, x3] s
noncomputable def u_X41_settle_9 : jS → Int → Int → Int → Int → Option (jS × Int) := Classical.choose (⟨du_X41_settle_9, rfl⟩ : ∃ f, f = du_X41_settle_9)
theorem eu_X41_settle_9 : u_X41_settle_9 = du_X41_settle_9 := Classical.choose_spec (⟨du_X41_settle_9, rfl⟩ : ∃ f, f = du_X41_settle_9)
def dm_X41_settle (s : jS) (x0 : Int) : Option (jS × Int) :=
  (m_X41_shrink s x0).bind fun q1 =>
  u_X41_settle_9 q1.1 x0 0 1 q1.2
noncomputable def m_X41_settle : jS → Int → Option (jS × Int) := Classical.choose (⟨dm_X41_settle, rfl⟩ : ∃ f, f = dm_X41_settle)
theorem em_X41_settle : m_X41_settle = dm_X41_settle := Classical.choose_spec (⟨dm_X41_settle, rfl⟩ : ∃ f, f = dm_X41_settle)
def du_X43_step_49 (s : jS) (x0 : Int) : Option (jS × Int) :=
  some (s, jf s 47 x0 17)
noncomputable def u_X43_step_49 : jS → Int → Option (jS × Int) := Classical.choose (⟨du_X43_step_49, rfl⟩ : ∃ f, f = du_X43_step_49)
theorem eu_X43_step_49 : u_X43_step_49 = du_X43_step_49 := Classical.choose_spec (⟨du_X43_step_49, rfl⟩ : ∃ f, f = du_X43_step_49)
def du_X43_step_24 (s : jS) (x0 y0 : Int) : Option (jS × Int) :=
  (m_X43_isFetched s x0).bind fun q1 =>
  if q1.2 = 0 then
    u_X43_step_49 q1.1 x0
  else
    (m_X43_canReach q1.1 x0).bind fun q2 =>
    if q2.2 = 0 then
      u_X43_step_49 q2.1 x0
    else
      jls (jp q2.1 47 x0 17 (jf s 47 x0 17)) fun s3 =>
      jls (jp s3 47 x0 18 (jf s 47 x0 18)) fun s4 =>
      (m_X43_keep s4 x0).bind fun q5 =>
      jls (jp q5.1 47 x0 17 0) fun s6 =>
      jls (jp s6 47 x0 18 0) fun s7 =>
      (m_X43_work s7 x0).bind fun q8 =>
      jls (jp q8.1 47 x0 20 (W32 ((jf q8.1 47 x0 20) + 1))) fun s9 =>
      jls (jp s9 47 x0 21 (W32 ((jf s9 47 x0 21) + y0))) fun s10 =>
      some (s10, jf s10 47 x0 17)
noncomputable def u_X43_step_24 : jS → Int → Int → Option (jS × Int) := Classical.choose (⟨du_X43_step_24, rfl⟩ : ∃ f, f = du_X43_step_24)
theorem eu_X43_step_24 : u_X43_step_24 = du_X43_step_24 := Classical.choose_spec (⟨du_X43_step_24, rfl⟩ : ∃ f, f = du_X43_step_24)
def dm_X43_step (s : jS) (x0 : Int) : Option (jS × Int) :=
  (m_X43_isEnd s x0).bind fun v1 =>
  if v1 = 0 then
    (m_X43_isUnit s x0).bind fun v2 =>
    if v2 = 0 then
      u_X43_step_24 s x0 0
    else
      u_X43_step_24 s x0 1
  else
    some (s, jf s 47 x0 17)
noncomputable def m_X43_step : jS → Int → Option (jS × Int) := Classical.choose (⟨dm_X43_step, rfl⟩ : ∃ f, f = dm_X43_step)
theorem em_X43_step : m_X43_step = dm_X43_step := Classical.choose_spec (⟨dm_X43_step, rfl⟩ : ∃ f, f = dm_X43_step)
def du_X43_run_127 (s : jS) (x0 x2 : Int) : Option (jS × Int) :=
  some (s, W32 ((jf s 47 x0 21) - x2))
noncomputable def u_X43_run_127 : jS → Int → Int → Option (jS × Int) := Classical.choose (⟨du_X43_run_127, rfl⟩ : ∃ f, f = du_X43_run_127)
theorem eu_X43_run_127 : u_X43_run_127 = du_X43_run_127 := Classical.choose_spec (⟨du_X43_run_127, rfl⟩ : ∃ f, f = du_X43_run_127)
def du_X43_run_122 (s : jS) (x0 x1 x2 x3 y0 : Int) : Option ((jS × List Int) ⊕ (jS × Int)) :=
  some (.inl (s, [x0, x1, x2, x3, y0]))
noncomputable def u_X43_run_122 : jS → Int → Int → Int → Int → Int → Option ((jS × List Int) ⊕ (jS × Int)) := Classical.choose (⟨du_X43_run_122, rfl⟩ : ∃ f, f = du_X43_run_122)
theorem eu_X43_run_122 : u_X43_run_122 = du_X43_run_122 := Classical.choose_spec (⟨du_X43_run_122, rfl⟩ : ∃ f, f = du_X43_run_122)
def du_X43_run_96 (s : jS) (x0 x1 x2 x3 : Int) : Option ((jS × List Int) ⊕ (jS × Int)) :=
  some (.inl (s, [x0, x1, x2, x3, 0]))
noncomputable def u_X43_run_96 : jS → Int → Int → Int → Int → Option ((jS × List Int) ⊕ (jS × Int)) := Classical.choose (⟨du_X43_run_96, rfl⟩ : ∃ f, f = du_X43_run_96)
theorem eu_X43_run_96 : u_X43_run_96 = du_X43_run_96 := Classical.choose_spec (⟨du_X43_run_96, rfl⟩ : ∃ f, f = du_X43_run_96)
def du_X43_run_89 (s : jS) (x0 x1 x2 x3 : Int) : Option ((jS × List Int) ⊕ (jS × Int)) :=
  if x3 = 20000 then
    u_X43_run_96 s x0 x1 x2 x3
  else
    (m_X43_step s x0).bind fun q1 =>
    (m_X43_isEnd q1.1 x0).bind fun v2 =>
    if v2 = 0 then
      u_X43_run_122 q1.1 x0 x1 x2 (W32 (x3 + 1)) 1
    else
      u_X43_run_122 q1.1 x0 x1 x2 (W32 (x3 + 1)) 0
noncomputable def u_X43_run_89 : jS → Int → Int → Int → Int → Option ((jS × List Int) ⊕ (jS × Int)) := Classical.choose (⟨du_X43_run_89, rfl⟩ : ∃ f, f = du_X43_run_89)
theorem eu_X43_run_89 : u_X43_run_89 = du_X43_run_89 := Classical.choose_spec (⟨du_X43_run_89, rfl⟩ : ∃ f, f = du_X43_run_89)
def du_X43_run_72 (s : jS) (x0 x1 x2 x3 : Int) : Option ((jS × List Int) ⊕ (jS × Int)) :=
  (m_X43_isUnit s x0).bind fun v1 =>
  if v1 = 0 then
    u_X43_run_89 s x0 x1 x2 x3
  else
    if (W32 ((jf s 47 x0 21) - x2)) = x1 then
      u_X43_run_96 s x0 x1 x2 x3
    else
      u_X43_run_89 s x0 x1 x2 x3
noncomputable def u_X43_run_72 : jS → Int → Int → Int → Int → Option ((jS × List Int) ⊕ (jS × Int)) := Classical.choose (⟨du_X43_run_72, rfl⟩ : ∃ f, f = du_X43_run_72)
theorem eu_X43_run_72 : u_X43_run_72 = du_X43_run_72 := Classical.choose_spec (⟨du_X43_run_72, rfl⟩ : ∃ f, f = du_X43_run_72)
def b_X43_run_34 (s : jS) (x0 x1 x2 x3 x4 : Int) : Option ((jS × List Int) ⊕ (jS × Int)) :=
  if x4 = 0 then
    jinr (u_X43_run_127 s x0 x2)
  else
    if 0 < x3 then
      (m_X43_haltAt s x0 (jf s 47 x0 11)).bind fun v1 =>
      if v1 = (-1) then
        u_X43_run_72 s x0 x1 x2 x3
      else
        (m_X43_fail s x0 9 (jf s 47 x0 11)).bind fun q2 =>
        some (.inl (q2.1, [x0, x1, x2, x3, 0]))
    else
      u_X43_run_72 s x0 x1 x2 x3
def du_X43_run_34 (s : jS) (x0 x1 x2 x3 x4 : Int) : Option (jS × Int) := jlpW (jc5 b_X43_run_34) [x0, x1, x2, x3, x4] s
noncomputable def u_X43_run_34 : jS → Int → Int → Int → Int → Int → Option (jS × Int) := Classical.choose (⟨du_X43_run_34, rfl⟩ : ∃ f, f = du_X43_run_34)
theorem eu_X43_run_34 : u_X43_run_34 = du_X43_run_34 := Classical.choose_spec (⟨du_X43_run_34, rfl⟩ : ∃ f, f = du_X43_run_34)
def du_X43_run_32 (s : jS) (x0 x1 x2 x3 y0 : Int) : Option (jS × Int) :=
  u_X43_run_34 s x0 x1 x2 x3 y0
noncomputable def u_X43_run_32 : jS → Int → Int → Int → Int → Int → Option (jS × Int) := Classical.choose (⟨du_X43_run_32, rfl⟩ : ∃ f, f = du_X43_run_32)
theorem eu_X43_run_32 : u_X43_run_32 = du_X43_run_32 := Classical.choose_spec (⟨du_X43_run_32, rfl⟩ : ∃ f, f = du_X43_run_32)
def dm_X43_run (s : jS) (x0 x1 : Int) : Option (jS × Int) :=
  if x1 < 0 then
    some (s, (-1))
  else
    if 2000 < x1 then
      some (s, (-1))
    else
      (m_X43_isEnd s x0).bind fun v1 =>
      if v1 = 0 then
        u_X43_run_32 s x0 x1 (jf s 47 x0 21) 0 1
      else
        u_X43_run_32 s x0 x1 (jf s 47 x0 21) 0 0
noncomputable def m_X43_run : jS → Int → Int → Option (jS × Int) := Classical.choose (⟨dm_X43_run, rfl⟩ : ∃ f, f = dm_X43_run)
theorem em_X43_run : m_X43_run = dm_X43_run := Classical.choose_spec (⟨dm_X43_run, rfl⟩ : ∃ f, f = dm_X43_run)
def du_X37_directive_149 (s : jS) (y0 y1 : Int) : Option (jS × Int) :=
  (m_X37_strings s y1 y0).bind fun q1 =>
  some (q1.1, Wz q1.2)
noncomputable def u_X37_directive_149 : jS → Int → Int → Option (jS × Int) := Classical.choose (⟨du_X37_directive_149, rfl⟩ : ∃ f, f = du_X37_directive_149)
theorem eu_X37_directive_149 : u_X37_directive_149 = du_X37_directive_149 := Classical.choose_spec (⟨du_X37_directive_149, rfl⟩ : ∃ f, f = du_X37_directive_149)
def du_X37_directive_137 (s : jS) (x0 x1 : Int) : Option (jS × Int) :=
  if x1 = 112 then
    u_X37_directive_149 s 1 x0
  else
    u_X37_directive_149 s 0 x0
noncomputable def u_X37_directive_137 : jS → Int → Int → Option (jS × Int) := Classical.choose (⟨du_X37_directive_137, rfl⟩ : ∃ f, f = du_X37_directive_137)
theorem eu_X37_directive_137 : u_X37_directive_137 = du_X37_directive_137 := Classical.choose_spec (⟨du_X37_directive_137, rfl⟩ : ∃ f, f = du_X37_directive_137)
def du_X37_directive_126 (s : jS) (x0 x1 : Int) : Option (jS × Int) :=
  (m_X37_data s x0 (I_shl 1 (W32 (x1 - 108)))).bind fun q1 =>
  some (q1.1, Wz q1.2)
noncomputable def u_X37_directive_126 : jS → Int → Int → Option (jS × Int) := Classical.choose (⟨du_X37_directive_126, rfl⟩ : ∃ f, f = du_X37_directive_126)
theorem eu_X37_directive_126 : u_X37_directive_126 = du_X37_directive_126 := Classical.choose_spec (⟨du_X37_directive_126, rfl⟩ : ∃ f, f = du_X37_directive_126)
def du_X37_directive_112 (s : jS) (y0 y1 : Int) : Option (jS × Int) :=
  (m_X37_bind s y1 y0).bind fun q1 =>
  some (q1.1, Wz q1.2)
noncomputable def u_X37_directive_112 : jS → Int → Int → Option (jS × Int) := Classical.choose (⟨du_X37_directive_112, rfl⟩ : ∃ f, f = du_X37_directive_112)
theorem eu_X37_directive_112 : u_X37_directive_112 = du_X37_directive_112 := Classical.choose_spec (⟨du_X37_directive_112, rfl⟩ : ∃ f, f = du_X37_directive_112)
def du_X37_directive_100 (s : jS) (x0 x1 : Int) : Option (jS × Int) :=
  if x1 = 104 then
    u_X37_directive_112 s 1 x0
  else
    u_X37_directive_112 s 2 x0
noncomputable def u_X37_directive_100 : jS → Int → Int → Option (jS × Int) := Classical.choose (⟨du_X37_directive_100, rfl⟩ : ∃ f, f = du_X37_directive_100)
theorem eu_X37_directive_100 : u_X37_directive_100 = du_X37_directive_100 := Classical.choose_spec (⟨du_X37_directive_100, rfl⟩ : ∃ f, f = du_X37_directive_100)
def du_X37_directive_76 (s : jS) (x0 x1 : Int) : Option (jS × Int) :=
  if 0 < (jf s 41 x0 46) then
    (m_X37_fail s x0 12).bind fun q1 =>
    some (q1.1, Wz q1.2)
  else
    jls (jp s 41 x0 34 (W32 (x1 - 100))) fun s2 =>
    some (s2, Wz 1)
noncomputable def u_X37_directive_76 : jS → Int → Int → Option (jS × Int) := Classical.choose (⟨du_X37_directive_76, rfl⟩ : ∃ f, f = du_X37_directive_76)
theorem eu_X37_directive_76 : u_X37_directive_76 = du_X37_directive_76 := Classical.choose_spec (⟨du_X37_directive_76, rfl⟩ : ∃ f, f = du_X37_directive_76)
def dm_X37_directive (s : jS) (x0 x1 : Int) : Option (jS × Int) :=
  if x1 = 100 then
    u_X37_directive_76 s x0 x1
  else
  if x1 = 101 then
    u_X37_directive_76 s x0 x1
  else
  if x1 = 102 then
    u_X37_directive_76 s x0 x1
  else
  if x1 = 103 then
    u_X37_directive_76 s x0 x1
  else
  if x1 = 104 then
    u_X37_directive_100 s x0 x1
  else
  if x1 = 105 then
    u_X37_directive_100 s x0 x1
  else
  if x1 = 106 then
    (m_X37_equate s x0).bind fun q1 =>
    some (q1.1, Wz q1.2)
  else
  if x1 = 107 then
    (m_X37_common s x0).bind fun q2 =>
    some (q2.1, Wz q2.2)
  else
  if x1 = 108 then
    u_X37_directive_126 s x0 x1
  else
  if x1 = 109 then
    u_X37_directive_126 s x0 x1
  else
  if x1 = 110 then
    u_X37_directive_126 s x0 x1
  else
  if x1 = 111 then
    u_X37_directive_137 s x0 x1
  else
  if x1 = 112 then
    u_X37_directive_137 s x0 x1
  else
  if x1 = 113 then
    (m_X37_zeros s x0).bind fun q3 =>
    some (q3.1, Wz q3.2)
  else
  if x1 = 114 then
    (m_X37_align s x0).bind fun q4 =>
    some (q4.1, Wz q4.2)
  else
  (m_X37_option s x0).bind fun q5 =>
  some (q5.1, Wz q5.2)
noncomputable def m_X37_directive : jS → Int → Int → Option (jS × Int) := Classical.choose (⟨dm_X37_directive, rfl⟩ : ∃ f, f = dm_X37_directive)
theorem em_X37_directive : m_X37_directive = dm_X37_directive := Classical.choose_spec (⟨dm_X37_directive, rfl⟩ : ∃ f, f = dm_X37_directive)
def dm_X37_one (s : jS) (x0 x1 x2 x3 x4 x5 : Int) : Option (jS × Int) :=
  (m_X37_begun s x0).bind fun q1 =>
  if q1.2 = 0 then
    some (q1.1, Wz 0)
  else
    (m_X37_word q1.1 x0 x1 x2 x3 x4 x5).bind fun q2 =>
    (m_X37_putPlain q2.1 x0 q2.2).bind fun q3 =>
    if q3.2 = 0 then
      some (q3.1, Wz 0)
    else
      some (q3.1, Wz 1)
noncomputable def m_X37_one : jS → Int → Int → Int → Int → Int → Int → Option (jS × Int) := Classical.choose (⟨dm_X37_one, rfl⟩ : ∃ f, f = dm_X37_one)
theorem em_X37_one : m_X37_one = dm_X37_one := Classical.choose_spec (⟨dm_X37_one, rfl⟩ : ∃ f, f = dm_X37_one)
def du_X37_loadNumber_25 (s : jS) (x0 x1 x2 : Int) : Option (jS × Int) :=
  (m_X37_begun s x0).bind fun q1 =>
  if q1.2 = 0 then
    some (q1.1, Wz 0)
  else
    (m_X37_highOf q1.1 x2).bind fun v2 =>
    (m_X37_word q1.1 x0 0 x1 0 0 v2).bind fun q3 =>
    (m_X37_putPlain q3.1 x0 q3.2).bind fun q4 =>
    if q4.2 = 0 then
      some (q4.1, Wz 0)
    else
      (m_X37_lowOf q4.1 x2).bind fun v5 =>
      if v5 = 0 then
        some (q4.1, Wz 1)
      else
        (m_X37_lowOf q4.1 x2).bind fun v6 =>
        (m_X37_word q4.1 x0 18 x1 x1 0 v6).bind fun q7 =>
        (m_X37_putPlain q7.1 x0 q7.2).bind fun q8 =>
        if q8.2 = 0 then
          some (q8.1, Wz 0)
        else
          some (q8.1, Wz 1)
noncomputable def u_X37_loadNumber_25 : jS → Int → Int → Int → Option (jS × Int) := Classical.choose (⟨du_X37_loadNumber_25, rfl⟩ : ∃ f, f = du_X37_loadNumber_25)
theorem eu_X37_loadNumber_25 : u_X37_loadNumber_25 = du_X37_loadNumber_25 := Classical.choose_spec (⟨du_X37_loadNumber_25, rfl⟩ : ∃ f, f = du_X37_loadNumber_25)
def dm_X37_loadNumber (s : jS) (x0 x1 x2 : Int) : Option (jS × Int) :=
  if x2 < (-2048) then
    u_X37_loadNumber_25 s x0 x1 x2
  else
    if x2 < 2048 then
      (m_X37_one s x0 18 x1 0 0 x2).bind fun q1 =>
      some (q1.1, Wz q1.2)
    else
      u_X37_loadNumber_25 s x0 x1 x2
noncomputable def m_X37_loadNumber : jS → Int → Int → Int → Option (jS × Int) := Classical.choose (⟨dm_X37_loadNumber, rfl⟩ : ∃ f, f = dm_X37_loadNumber)
theorem em_X37_loadNumber : m_X37_loadNumber = dm_X37_loadNumber := Classical.choose_spec (⟨dm_X37_loadNumber, rfl⟩ : ∃ f, f = dm_X37_loadNumber)
def dm_X37_address (s : jS) (x0 x1 : Int) : Option (jS × Int) :=
  (m_X37_evaluate s x0 (W32 ((jf s 41 x0 45) + 1))).bind fun q1 =>
  if q1.2 = 0 then
    some (q1.1, Wz 0)
  else
    (m_X37_isPlain q1.1 x0).bind fun v2 =>
    if v2 = 0 then
      (m_X37_isPlaced q1.1 x0).bind fun v3 =>
      if v3 = 0 then
        (m_X37_placeOf q1.1 x0 (W32 ((jf q1.1 41 x0 45) + 1))).bind fun q4 =>
        (m_X37_fail_2 q4.1 x0 14 q4.2).bind fun q5 =>
        some (q5.1, Wz q5.2)
      else
        (m_X37_word q1.1 x0 18 x1 x1 0 0).bind fun q6 =>
        (m_X37_pair q6.1 x0 x1 q6.2 24).bind fun q7 =>
        some (q7.1, Wz q7.2)
    else
      (m_X37_loadNumber q1.1 x0 x1 (jf q1.1 41 x0 52)).bind fun q8 =>
      some (q8.1, Wz q8.2)
noncomputable def m_X37_address : jS → Int → Int → Option (jS × Int) := Classical.choose (⟨dm_X37_address, rfl⟩ : ∃ f, f = dm_X37_address)
theorem em_X37_address : m_X37_address = dm_X37_address := Classical.choose_spec (⟨dm_X37_address, rfl⟩ : ∃ f, f = dm_X37_address)
def dm_X37_two (s : jS) (x0 x1 x2 x3 : Int) : Option (jS × Int) :=
  if x1 = 203 then
    (m_X37_one s x0 18 x2 x3 0 0).bind fun q1 =>
    some (q1.1, Wz q1.2)
  else
  if x1 = 204 then
    (m_X37_one s x0 21 x2 x3 0 (-1)).bind fun q2 =>
    some (q2.1, Wz q2.2)
  else
  if x1 = 205 then
    (m_X37_one s x0 28 x2 0 x3 0).bind fun q3 =>
    some (q3.1, Wz q3.2)
  else
  if x1 = 206 then
    (m_X37_one s x0 20 x2 x3 0 1).bind fun q4 =>
    some (q4.1, Wz q4.2)
  else
  if x1 = 207 then
    (m_X37_one s x0 31 x2 0 x3 0).bind fun q5 =>
    some (q5.1, Wz q5.2)
  else
  if x1 = 208 then
    (m_X37_one s x0 30 x2 x3 0 0).bind fun q6 =>
    some (q6.1, Wz q6.2)
  else
  (m_X37_one s x0 30 x2 0 x3 0).bind fun q7 =>
  some (q7.1, Wz q7.2)
noncomputable def m_X37_two : jS → Int → Int → Int → Int → Option (jS × Int) := Classical.choose (⟨dm_X37_two, rfl⟩ : ∃ f, f = dm_X37_two)
theorem em_X37_two : m_X37_two = dm_X37_two := Classical.choose_spec (⟨dm_X37_two, rfl⟩ : ∃ f, f = dm_X37_two)
def du_X37_layAll_146 (s : jS) (x0 : Int) : Option (jS × Int) :=
  (jlt s 1000 ((x0 + 93) + 3) 4 3).bind fun v1 =>
  (jlt s 1000 ((x0 + 93) + 3) 4 2).bind fun v2 =>
  if 32768 < (W32 (v1 - v2)) then
    (m_X37_refuse s x0 6 (-1) (-1)).bind fun q3 =>
    if q3.2 = 0 then
      some (q3.1, Wz 0)
    else
      some (q3.1, Wz 1)
  else
    some (s, Wz 1)
noncomputable def u_X37_layAll_146 : jS → Int → Option (jS × Int) := Classical.choose (⟨du_X37_layAll_146, rfl⟩ : ∃ f, f = du_X37_layAll_146)
theorem eu_X37_layAll_146 : u_X37_layAll_146 = du_X37_layAll_146 := Classical.choose_spec (⟨du_X37_layAll_146, rfl⟩ : ∃ f, f = du_X37_layAll_146)
def du_X37_layAll_131 (s : jS) (x0 : Int) : Option (jS × Int) :=
  (m_X37_refuse s x0 6 (-1) (-1)).bind fun q1 =>
  some (q1.1, Wz q1.2)
noncomputable def u_X37_layAll_131 : jS → Int → Option (jS × Int) := Classical.choose (⟨du_X37_layAll_131, rfl⟩ : ∃ f, f = du_X37_layAll_131)
theorem eu_X37_layAll_131 : u_X37_layAll_131 = du_X37_layAll_131 := Classical.choose_spec (⟨du_X37_layAll_131, rfl⟩ : ∃ f, f = du_X37_layAll_131)
def b_X37_layAll_101 (s : jS) (x0 x2 : Int) : Option ((jS × List Int) ⊕ (jS × Int)) :=
  if x2 < 3 then
    (jlt s 1000 ((x0 + 93) + 3) 4 x2).bind fun v1 =>
    (jlt s 1000 ((x0 + 93) + 2) 4 x2).bind fun v2 =>
    if 4096 < (W32 (v1 - v2)) then
      jinr (u_X37_layAll_131 s x0)
    else
      some (.inl (s, [x0, W32 (x2 + 1)]))
  else
    jinr (u_X37_layAll_146 s x0)
def du_X37_layAll_101 (s : jS) (x0 x2 : Int) : Option (jS × Int) := jlpW (jc2 b_X37_layAll_101) [x0, x2] s
noncomputable def u_X37_layAll_101 : jS → Int → Int → Option (jS × Int) := Classical.choose (⟨du_X37_layAll_101, rfl⟩ : ∃ f, f = du_X37_layAll_101)
theorem eu_X37_layAll_101 : u_X37_layAll_101 = du_X37_layAll_101 := Classical.choose_spec (⟨du_X37_layAll_101, rfl⟩ : ∃ f, f = du_X37_layAll_101)
def du_X37_layAll_28 (s : jS) (x0 y0 y1 : Int) : Option (jS × Int) :=
  jls (jp s 41 y1 104 y0) fun s1 =>
  (m_X41_lacks s1 (x0 + 93)).bind fun q2 =>
  if q2.2 = (-1) then
    (m_X41_saved q2.1 (x0 + 93)).bind fun v3 =>
    jls (jp q2.1 41 x0 105 v3) fun s4 =>
    (jlt s4 1000 ((x0 + 93) + 2) 4 2).bind fun v5 =>
    jls (jp s4 41 x0 108 (W32 (v5 + 2048))) fun s6 =>
    u_X37_layAll_101 s6 x0 0
  else
    (jlt q2.1 1000 (x0 + 199) 256 q2.2).bind fun v7 =>
    (jdv 300 (I_div v7 300)).bind fun v8 =>
    (jlt q2.1 1000 (x0 + 199) 256 q2.2).bind fun v9 =>
    (jdv 300 (I_rem v9 300)).bind fun v10 =>
    (m_X37_refuse q2.1 x0 8 v8 v10).bind fun q11 =>
    some (q11.1, Wz q11.2)
noncomputable def u_X37_layAll_28 : jS → Int → Int → Int → Option (jS × Int) := Classical.choose (⟨du_X37_layAll_28, rfl⟩ : ∃ f, f = du_X37_layAll_28)
theorem eu_X37_layAll_28 : u_X37_layAll_28 = du_X37_layAll_28 := Classical.choose_spec (⟨du_X37_layAll_28, rfl⟩ : ∃ f, f = du_X37_layAll_28)
def dm_X37_layAll (s : jS) (x0 : Int) : Option (jS × Int) :=
  (m_X37_layParts s x0).bind fun q1 =>
  if q1.2 = 0 then
    some (q1.1, Wz 0)
  else
    if (jf q1.1 41 x0 106) = 0 then
      u_X37_layAll_28 q1.1 x0 0 x0
    else
      (m_X41_settle q1.1 (x0 + 93)).bind fun q2 =>
      u_X37_layAll_28 q2.1 x0 q2.2 x0
noncomputable def m_X37_layAll : jS → Int → Option (jS × Int) := Classical.choose (⟨dm_X37_layAll, rfl⟩ : ∃ f, f = dm_X37_layAll)
theorem em_X37_layAll : m_X37_layAll = dm_X37_layAll := Classical.choose_spec (⟨dm_X37_layAll, rfl⟩ : ∃ f, f = dm_X37_layAll)
def du_X37_relocateAll_62 (s : jS) (x0 x1 : Int) : Option ((jS × List Int) ⊕ (jS × Int)) :=
  some (.inl (s, [x0, W32 (x1 + 1)]))
noncomputable def u_X37_relocateAll_62 : jS → Int → Int → Option ((jS × List Int) ⊕ (jS × Int)) := Classical.choose (⟨du_X37_relocateAll_62, rfl⟩ : ∃ f, f = du_X37_relocateAll_62)
theorem eu_X37_relocateAll_62 : u_X37_relocateAll_62 = du_X37_relocateAll_62 := Classical.choose_spec (⟨du_X37_relocateAll_62, rfl⟩ : ∃ f, f = du_X37_relocateAll_62)
def b_X37_relocateAll_30 (s : jS) (x0 x1 x2 : Int) : Option ((jS × List Int) ⊕ ((jS × List Int) ⊕ (jS × Int))) :=
  (jlt s 1000 (x0 + 183) 6 x1).bind fun v1 =>
  if x2 < v1 then
    (m_X37_relocate s x0 (W32 ((W32 (300 * x1)) + x2))).bind fun q2 =>
    if q2.2 = 0 then
      jinr (jinr (some (q2.1, Wz 0)))
    else
      some (.inl (q2.1, [x0, x1, W32 (x2 + 1)]))
  else
    jinr (u_X37_relocateAll_62 s x0 x1)
def du_X37_relocateAll_30 (s : jS) (x0 x1 x2 : Int) : Option ((jS × List Int) ⊕ (jS × Int)) := jlpW (jc3 b_X37_relocateAll_30) [x0, x1, x2] s
noncomputable def u_X37_relocateAll_30 : jS → Int → Int → Int → Option ((jS × List Int) ⊕ (jS × Int)) := Classical.choose (⟨du_X37_relocateAll_30, rfl⟩ : ∃ f, f = du_X37_relocateAll_30)
theorem eu_X37_relocateAll_30 : u_X37_relocateAll_30 = du_X37_relocateAll_30 := Classical.choose_spec (⟨du_X37_relocateAll_30, rfl⟩ : ∃ f, f = du_X37_relocateAll_30)
def b_X37_relocateAll_6 (s : jS) (x0 x1 : Int) : Option ((jS × List Int) ⊕ (jS × Int)) :=
  if x1 < 6 then
    (m_X37_isIn s x0 x1).bind fun v1 =>
    if v1 = 0 then
      u_X37_relocateAll_62 s x0 x1
    else
      jls (jp s 41 x0 113 x1) fun s2 =>
      u_X37_relocateAll_30 s2 x0 x1 0
  else
    jinr (some (s, Wz 1))
def du_X37_relocateAll_6 (s : jS) (x0 x1 : Int) : Option (jS × Int) := jlpW (jc2 b_X37_relocateAll_6) [x0, x1] s
noncomputable def u_X37_relocateAll_6 : jS → Int → Int → Option (jS × Int) := Classical.choose (⟨du_X37_relocateAll_6, rfl⟩ : ∃ f, f = du_X37_relocateAll_6)
theorem eu_X37_relocateAll_6 : u_X37_relocateAll_6 = du_X37_relocateAll_6 := Classical.choose_spec (⟨du_X37_relocateAll_6, rfl⟩ : ∃ f, f = du_X37_relocateAll_6)
def dm_X37_relocateAll (s : jS) (x0 : Int) : Option (jS × Int) :=
  (m_X37_copyBytes s x0).bind fun q1 =>
  u_X37_relocateAll_6 q1.1 x0 0
noncomputable def m_X37_relocateAll : jS → Int → Option (jS × Int) := Classical.choose (⟨dm_X37_relocateAll, rfl⟩ : ∃ f, f = dm_X37_relocateAll)
theorem em_X37_relocateAll : m_X37_relocateAll = dm_X37_relocateAll := Classical.choose_spec (⟨dm_X37_relocateAll, rfl⟩ : ∃ f, f = dm_X37_relocateAll)
def dm_X37_step (s : jS) (x0 : Int) : Option (jS × Int) :=
  jls (jp s 41 x0 4 0) fun s1 =>
  (m_X43_step s1 (x0 + 130)).bind fun q2 =>
  some (q2.1, q2.2)
noncomputable def m_X37_step : jS → Int → Option (jS × Int) := Classical.choose (⟨dm_X37_step, rfl⟩ : ∃ f, f = dm_X37_step)
theorem em_X37_step : m_X37_step = dm_X37_step := Classical.choose_spec (⟨dm_X37_step, rfl⟩ : ∃ f, f = dm_X37_step)
def dm_X37_run (s : jS) (x0 x1 : Int) : Option (jS × Int) :=
  jls (jp s 41 x0 4 0) fun s1 =>
  (m_X43_run s1 (x0 + 130) x1).bind fun q2 =>
  some (q2.1, q2.2)
noncomputable def m_X37_run : jS → Int → Int → Option (jS × Int) := Classical.choose (⟨dm_X37_run, rfl⟩ : ∃ f, f = dm_X37_run)
theorem em_X37_run : m_X37_run = dm_X37_run := Classical.choose_spec (⟨dm_X37_run, rfl⟩ : ∃ f, f = dm_X37_run)
def du_X39_operands_57 (s : jS) (x0 : Int) : Option (jS × Int) :=
  if (jf s 43 x0 15) = 0 then
    some (s, Wz 1)
  else
    (m_X39_fail s x0 5).bind fun q1 =>
    if q1.2 = 0 then
      some (q1.1, Wz 0)
    else
      some (q1.1, Wz 1)
noncomputable def u_X39_operands_57 : jS → Int → Option (jS × Int) := Classical.choose (⟨du_X39_operands_57, rfl⟩ : ∃ f, f = du_X39_operands_57)
theorem eu_X39_operands_57 : u_X39_operands_57 = du_X39_operands_57 := Classical.choose_spec (⟨du_X39_operands_57, rfl⟩ : ∃ f, f = du_X39_operands_57)
def b_X39_operands_11 (s : jS) (x0 x1 x2 : Int) : Option ((jS × List Int) ⊕ (jS × Int)) :=
  if x2 = 0 then
    jinr (u_X39_operands_57 s x0)
  else
    (m_X39_takeOperand s x0).bind fun q1 =>
    if q1.2 = 0 then
      jinr (some (q1.1, Wz 0))
    else
      (jlt q1.1 1000 (x0 + 4) 4800 (W32 ((W32 (6 * x1)) + 3))).bind fun v2 =>
      (jst q1.1 1000 (x0 + 4) 4800 (W32 ((W32 (6 * x1)) + 3)) (W32 (v2 + 1))).bind fun s3 =>
      (m_X39_isSign s3 x0 44).bind fun v4 =>
      if v4 = 0 then
        some (.inl (s3, [x0, x1, v4]))
      else
        (m_X39_next s3 x0).bind fun q5 =>
        some (.inl (q5.1, [x0, x1, v4]))
def du_X39_operands_11 (s : jS) (x0 x1 x2 : Int) : Option (jS × Int) := jlpW (jc3 b_X39_operands_11) [x0, x1, x2] s
noncomputable def u_X39_operands_11 : jS → Int → Int → Int → Option (jS × Int) := Classical.choose (⟨du_X39_operands_11, rfl⟩ : ∃ f, f = du_X39_operands_11)
theorem eu_X39_operands_11 : u_X39_operands_11 = du_X39_operands_11 := Classical.choose_spec (⟨du_X39_operands_11, rfl⟩ : ∃ f, f = du_X39_operands_11)
def dm_X39_operands (s : jS) (x0 x1 : Int) : Option (jS × Int) :=
  if (jf s 43 x0 15) = 0 then
    some (s, Wz 1)
  else
    u_X39_operands_11 s x0 x1 1
noncomputable def m_X39_operands : jS → Int → Int → Option (jS × Int) := Classical.choose (⟨dm_X39_operands, rfl⟩ : ∃ f, f = dm_X39_operands)
theorem em_X39_operands : m_X39_operands = dm_X39_operands := Classical.choose_spec (⟨dm_X39_operands, rfl⟩ : ∃ f, f = dm_X39_operands)
def du_X37_instruction_228 (s : jS) (x0 x1 : Int) : Option (jS × Int) :=
  (m_X37_byKind s x0 x1).bind fun q1 =>
  some (q1.1, Wz q1.2)
noncomputable def u_X37_instruction_228 : jS → Int → Int → Option (jS × Int) := Classical.choose (⟨du_X37_instruction_228, rfl⟩ : ∃ f, f = du_X37_instruction_228)
theorem eu_X37_instruction_228 : u_X37_instruction_228 = du_X37_instruction_228 := Classical.choose_spec (⟨du_X37_instruction_228, rfl⟩ : ∃ f, f = du_X37_instruction_228)
def du_X37_instruction_149 (s : jS) (x0 x1 : Int) : Option (jS × Int) :=
  if x1 < 15 then
    u_X37_instruction_228 s x0 x1
  else
    if 17 < x1 then
      u_X37_instruction_228 s x0 x1
    else
      (m_X37_are s x0 3 1 0 1).bind fun q1 =>
      if q1.2 = 0 then
        u_X37_instruction_228 q1.1 x0 x1
      else
        (m_X37_registerOf q1.1 x0 (W32 ((jf q1.1 41 x0 45) + 2))).bind fun q2 =>
        (m_X37_placed q2.1 x0 (W32 ((jf q2.1 41 x0 45) + 1))).bind fun q3 =>
        if q3.2 = 0 then
          some (q3.1, Wz 0)
        else
          (m_X37_registerOf q3.1 x0 (jf q3.1 41 x0 45)).bind fun q4 =>
          (m_X37_word q4.1 x0 x1 0 q2.2 q4.2 0).bind fun q5 =>
          (m_X37_pair q5.1 x0 q2.2 q5.2 25).bind fun q6 =>
          if q6.2 = 0 then
            some (q6.1, Wz 0)
          else
            some (q6.1, Wz 1)
noncomputable def u_X37_instruction_149 : jS → Int → Int → Option (jS × Int) := Classical.choose (⟨du_X37_instruction_149, rfl⟩ : ∃ f, f = du_X37_instruction_149)
theorem eu_X37_instruction_149 : u_X37_instruction_149 = du_X37_instruction_149 := Classical.choose_spec (⟨du_X37_instruction_149, rfl⟩ : ∃ f, f = du_X37_instruction_149)
def du_X37_instruction_79 (s : jS) (x0 x1 : Int) : Option (jS × Int) :=
  if x1 < 10 then
    u_X37_instruction_149 s x0 x1
  else
    if 14 < x1 then
      u_X37_instruction_149 s x0 x1
    else
      (m_X37_are s x0 2 1 0 0).bind fun q1 =>
      if q1.2 = 0 then
        u_X37_instruction_149 q1.1 x0 x1
      else
        (m_X37_registerOf q1.1 x0 (jf q1.1 41 x0 45)).bind fun q2 =>
        (m_X37_placed q2.1 x0 (W32 ((jf q2.1 41 x0 45) + 1))).bind fun q3 =>
        if q3.2 = 0 then
          some (q3.1, Wz 0)
        else
          (m_X37_word q3.1 x0 x1 q2.2 q2.2 0 0).bind fun q4 =>
          (m_X37_pair q4.1 x0 q2.2 q4.2 24).bind fun q5 =>
          if q5.2 = 0 then
            some (q5.1, Wz 0)
          else
            some (q5.1, Wz 1)
noncomputable def u_X37_instruction_79 : jS → Int → Int → Option (jS × Int) := Classical.choose (⟨du_X37_instruction_79, rfl⟩ : ∃ f, f = du_X37_instruction_79)
theorem eu_X37_instruction_79 : u_X37_instruction_79 = du_X37_instruction_79 := Classical.choose_spec (⟨du_X37_instruction_79, rfl⟩ : ∃ f, f = du_X37_instruction_79)
def du_X37_instruction_46 (s : jS) (x0 x1 : Int) : Option (jS × Int) :=
  if x1 = 3 then
    (m_X37_are s x0 1 1 0 0).bind fun q1 =>
    if q1.2 = 0 then
      u_X37_instruction_79 q1.1 x0 x1
    else
      (m_X37_registerOf q1.1 x0 (jf q1.1 41 x0 45)).bind fun q2 =>
      (m_X37_one q2.1 x0 3 1 q2.2 0 0).bind fun q3 =>
      some (q3.1, Wz q3.2)
  else
    u_X37_instruction_79 s x0 x1
noncomputable def u_X37_instruction_46 : jS → Int → Int → Option (jS × Int) := Classical.choose (⟨du_X37_instruction_46, rfl⟩ : ∃ f, f = du_X37_instruction_46)
theorem eu_X37_instruction_46 : u_X37_instruction_46 = du_X37_instruction_46 := Classical.choose_spec (⟨du_X37_instruction_46, rfl⟩ : ∃ f, f = du_X37_instruction_46)
def dm_X37_instruction (s : jS) (x0 x1 : Int) : Option (jS × Int) :=
  if x1 = 2 then
    (m_X37_are s x0 1 0 0 0).bind fun q1 =>
    if q1.2 = 0 then
      u_X37_instruction_46 q1.1 x0 x1
    else
      (m_X37_placed q1.1 x0 (jf q1.1 41 x0 45)).bind fun q2 =>
      if q2.2 = 0 then
        some (q2.1, Wz 0)
      else
        (m_X37_oneMoved q2.1 x0 2 1 0 0 17).bind fun q3 =>
        if q3.2 = 0 then
          some (q3.1, Wz 0)
        else
          some (q3.1, Wz 1)
  else
    u_X37_instruction_46 s x0 x1
noncomputable def m_X37_instruction : jS → Int → Int → Option (jS × Int) := Classical.choose (⟨dm_X37_instruction, rfl⟩ : ∃ f, f = dm_X37_instruction)
theorem em_X37_instruction : m_X37_instruction = dm_X37_instruction := Classical.choose_spec (⟨dm_X37_instruction, rfl⟩ : ∃ f, f = dm_X37_instruction)
def du_X37_other_364 (s : jS) (x0 x1 : Int) : Option (jS × Int) :=
  if 209 < x1 then
    (m_X37_branch s x0 x1).bind fun q1 =>
    some (q1.1, Wz q1.2)
  else
    (m_X37_are s x0 2 1 1 0).bind fun q2 =>
    if q2.2 = 0 then
      (m_X37_fail q2.1 x0 12).bind fun q3 =>
      some (q3.1, Wz q3.2)
    else
      (m_X37_registerOf q2.1 x0 (jf q2.1 41 x0 45)).bind fun q4 =>
      (m_X37_registerOf q4.1 x0 (W32 ((jf q4.1 41 x0 45) + 1))).bind fun q5 =>
      (m_X37_two q5.1 x0 x1 q4.2 q5.2).bind fun q6 =>
      some (q6.1, Wz q6.2)
noncomputable def u_X37_other_364 : jS → Int → Int → Option (jS × Int) := Classical.choose (⟨du_X37_other_364, rfl⟩ : ∃ f, f = du_X37_other_364)
theorem eu_X37_other_364 : u_X37_other_364 = du_X37_other_364 := Classical.choose_spec (⟨du_X37_other_364, rfl⟩ : ∃ f, f = du_X37_other_364)
def du_X37_other_360 (s : jS) (y0 y1 : Int) : Option (jS × Int) :=
  (m_X37_calls s y1 y0).bind fun q1 =>
  some (q1.1, Wz q1.2)
noncomputable def u_X37_other_360 : jS → Int → Int → Option (jS × Int) := Classical.choose (⟨du_X37_other_360, rfl⟩ : ∃ f, f = du_X37_other_360)
theorem eu_X37_other_360 : u_X37_other_360 = du_X37_other_360 := Classical.choose_spec (⟨du_X37_other_360, rfl⟩ : ∃ f, f = du_X37_other_360)
def du_X37_other_347 (s : jS) (x0 x1 : Int) : Option (jS × Int) :=
  if x1 = 224 then
    u_X37_other_360 s 1 x0
  else
    u_X37_other_360 s 0 x0
noncomputable def u_X37_other_347 : jS → Int → Int → Option (jS × Int) := Classical.choose (⟨du_X37_other_347, rfl⟩ : ∃ f, f = du_X37_other_347)
theorem eu_X37_other_347 : u_X37_other_347 = du_X37_other_347 := Classical.choose_spec (⟨du_X37_other_347, rfl⟩ : ∃ f, f = du_X37_other_347)
def dm_X37_other (s : jS) (x0 x1 : Int) : Option (jS × Int) :=
  if x1 = 200 then
    if (jf s 41 x0 46) = 0 then
      (m_X37_one s x0 18 0 0 0 0).bind fun q1 =>
      some (q1.1, Wz q1.2)
    else
      (m_X37_fail s x0 12).bind fun q2 =>
      some (q2.1, Wz q2.2)
  else
  if x1 = 201 then
    (m_X37_are s x0 2 1 0 0).bind fun q3 =>
    if q3.2 = 0 then
      (m_X37_fail q3.1 x0 12).bind fun q4 =>
      some (q4.1, Wz q4.2)
    else
      (m_X37_plain q3.1 x0 (W32 ((jf q3.1 41 x0 45) + 1))).bind fun q5 =>
      if q5.2 = 0 then
        some (q5.1, Wz 0)
      else
        (m_X37_registerOf q5.1 x0 (jf q5.1 41 x0 45)).bind fun q6 =>
        (m_X37_loadNumber q6.1 x0 q6.2 (jf q6.1 41 x0 52)).bind fun q7 =>
        if q7.2 = 0 then
          some (q7.1, Wz 0)
        else
          some (q7.1, Wz 1)
  else
  if x1 = 202 then
    (m_X37_are s x0 2 1 0 0).bind fun q8 =>
    if q8.2 = 0 then
      (m_X37_fail q8.1 x0 12).bind fun q9 =>
      some (q9.1, Wz q9.2)
    else
      (m_X37_registerOf q8.1 x0 (jf q8.1 41 x0 45)).bind fun q10 =>
      (m_X37_address q10.1 x0 q10.2).bind fun q11 =>
      some (q11.1, Wz q11.2)
  else
  if x1 = 203 then
    u_X37_other_364 s x0 x1
  else
  if x1 = 204 then
    u_X37_other_364 s x0 x1
  else
  if x1 = 205 then
    u_X37_other_364 s x0 x1
  else
  if x1 = 206 then
    u_X37_other_364 s x0 x1
  else
  if x1 = 207 then
    u_X37_other_364 s x0 x1
  else
  if x1 = 208 then
    u_X37_other_364 s x0 x1
  else
  if x1 = 209 then
    u_X37_other_364 s x0 x1
  else
  if x1 = 210 then
    u_X37_other_364 s x0 x1
  else
  if x1 = 211 then
    u_X37_other_364 s x0 x1
  else
  if x1 = 212 then
    u_X37_other_364 s x0 x1
  else
  if x1 = 213 then
    u_X37_other_364 s x0 x1
  else
  if x1 = 214 then
    u_X37_other_364 s x0 x1
  else
  if x1 = 215 then
    u_X37_other_364 s x0 x1
  else
  if x1 = 216 then
    u_X37_other_364 s x0 x1
  else
  if x1 = 217 then
    u_X37_other_364 s x0 x1
  else
  if x1 = 218 then
    u_X37_other_364 s x0 x1
  else
  if x1 = 219 then
    u_X37_other_364 s x0 x1
  else
  if x1 = 220 then
    (m_X37_are s x0 1 0 0 0).bind fun q12 =>
    if q12.2 = 0 then
      (m_X37_fail q12.1 x0 12).bind fun q13 =>
      some (q13.1, Wz q13.2)
    else
      (m_X37_placed q12.1 x0 (jf q12.1 41 x0 45)).bind fun q14 =>
      if q14.2 = 0 then
        some (q14.1, Wz 0)
      else
        (m_X37_oneMoved q14.1 x0 2 0 0 0 17).bind fun q15 =>
        if q15.2 = 0 then
          some (q15.1, Wz 0)
        else
          some (q15.1, Wz 1)
  else
  if x1 = 221 then
    (m_X37_are s x0 1 1 0 0).bind fun q16 =>
    if q16.2 = 0 then
      (m_X37_fail q16.1 x0 12).bind fun q17 =>
      some (q17.1, Wz q17.2)
    else
      (m_X37_registerOf q16.1 x0 (jf q16.1 41 x0 45)).bind fun q18 =>
      (m_X37_one q18.1 x0 3 0 q18.2 0 0).bind fun q19 =>
      some (q19.1, Wz q19.2)
  else
  if x1 = 222 then
    if (jf s 41 x0 46) = 0 then
      (m_X37_one s x0 3 0 1 0 0).bind fun q20 =>
      some (q20.1, Wz q20.2)
    else
      (m_X37_fail s x0 12).bind fun q21 =>
      some (q21.1, Wz q21.2)
  else
  if x1 = 223 then
    u_X37_other_347 s x0 x1
  else
  if x1 = 224 then
    u_X37_other_347 s x0 x1
  else
  u_X37_other_364 s x0 x1
noncomputable def m_X37_other : jS → Int → Int → Option (jS × Int) := Classical.choose (⟨dm_X37_other, rfl⟩ : ∃ f, f = dm_X37_other)
theorem em_X37_other : m_X37_other = dm_X37_other := Classical.choose_spec (⟨dm_X37_other, rfl⟩ : ∃ f, f = dm_X37_other)
def du_X37_link_187 (s : jS) (x0 : Int) : Option (jS × Int) :=
  some (s, jf s 41 x0 3)
noncomputable def u_X37_link_187 : jS → Int → Option (jS × Int) := Classical.choose (⟨du_X37_link_187, rfl⟩ : ∃ f, f = du_X37_link_187)
theorem eu_X37_link_187 : u_X37_link_187 = du_X37_link_187 := Classical.choose_spec (⟨du_X37_link_187, rfl⟩ : ∃ f, f = du_X37_link_187)
def b_X37_link_155 (s : jS) (x0 x4 : Int) : Option ((jS × List Int) ⊕ (jS × Int)) :=
  if x4 < (jf s 41 x0 3) then
    (jlt s 1000 ((x0 + 118) + 9) 16384 x4).bind fun v1 =>
    (jst s 1000 (x0 + 3) 16384 x4 v1).bind fun s2 =>
    some (.inl (s2, [x0, W32 (x4 + 1)]))
  else
    jinr (u_X37_link_187 s x0)
def du_X37_link_155 (s : jS) (x0 x4 : Int) : Option (jS × Int) := jlpW (jc2 b_X37_link_155) [x0, x4] s
noncomputable def u_X37_link_155 : jS → Int → Int → Option (jS × Int) := Classical.choose (⟨du_X37_link_155, rfl⟩ : ∃ f, f = du_X37_link_155)
theorem eu_X37_link_155 : u_X37_link_155 = du_X37_link_155 := Classical.choose_spec (⟨du_X37_link_155, rfl⟩ : ∃ f, f = du_X37_link_155)
def du_X37_link_112 (s : jS) (x0 x3 y0 y1 : Int) : Option (jS × Int) :=
  jls (jp s 41 y1 4 y0) fun s1 =>
  if x3 = 0 then
    some (s1, 0)
  else
    jls (jp s1 41 x0 102 (jf s1 41 x0 104)) fun s2 =>
    jls (jp s2 41 x0 103 (jf s2 41 x0 105)) fun s3 =>
    (m_X37_keepGlobals s3 x0).bind fun q4 =>
    jls (jp q4.1 41 x0 3 (jf q4.1 46 (x0 + 118) 9)) fun s5 =>
    u_X37_link_155 s5 x0 0
noncomputable def u_X37_link_112 : jS → Int → Int → Int → Int → Option (jS × Int) := Classical.choose (⟨du_X37_link_112, rfl⟩ : ∃ f, f = du_X37_link_112)
theorem eu_X37_link_112 : u_X37_link_112 = du_X37_link_112 := Classical.choose_spec (⟨du_X37_link_112, rfl⟩ : ∃ f, f = du_X37_link_112)
def du_X37_link_101 (s : jS) (x0 y0 : Int) : Option (jS × Int) :=
  if y0 = 0 then
    u_X37_link_112 s x0 y0 2 x0
  else
    u_X37_link_112 s x0 y0 0 x0
noncomputable def u_X37_link_101 : jS → Int → Int → Option (jS × Int) := Classical.choose (⟨du_X37_link_101, rfl⟩ : ∃ f, f = du_X37_link_101)
theorem eu_X37_link_101 : u_X37_link_101 = du_X37_link_101 := Classical.choose_spec (⟨du_X37_link_101, rfl⟩ : ∃ f, f = du_X37_link_101)
def du_X37_link_100 (s : jS) (x0 : Int) : Option (jS × Int) :=
  u_X37_link_101 s x0 0
noncomputable def u_X37_link_100 : jS → Int → Option (jS × Int) := Classical.choose (⟨du_X37_link_100, rfl⟩ : ∃ f, f = du_X37_link_100)
theorem eu_X37_link_100 : u_X37_link_100 = du_X37_link_100 := Classical.choose_spec (⟨du_X37_link_100, rfl⟩ : ∃ f, f = du_X37_link_100)
def du_X37_link_17 (s : jS) (x0 x1 x2 y0 y1 : Int) : Option (jS × Int) :=
  jls (jp s 41 y1 4 y0) fun s1 =>
  if (jf s1 41 x0 4) = 0 then
    jls (jp s1 41 x0 107 x1) fun s2 =>
    (jzb x2).bind fun v3 =>
    jls (jp s2 41 x0 106 v3) fun s4 =>
    jls (jp s4 41 x0 99 0) fun s5 =>
    jls (jp s5 41 x0 100 (-1)) fun s6 =>
    jls (jp s6 41 x0 101 (-1)) fun s7 =>
    (m_X37_readUnits s7 x0).bind fun q8 =>
    if q8.2 = 0 then
      u_X37_link_100 q8.1 x0
    else
      (m_X37_findGlobals q8.1 x0).bind fun q9 =>
      if q9.2 = 0 then
        u_X37_link_100 q9.1 x0
      else
        (m_X37_defineGlobals q9.1 x0).bind fun q10 =>
        if q10.2 = 0 then
          u_X37_link_100 q10.1 x0
        else
          (m_X37_layAll q10.1 x0).bind fun q11 =>
          if q11.2 = 0 then
            u_X37_link_100 q11.1 x0
          else
            (m_X37_relocateAll q11.1 x0).bind fun q12 =>
            if q12.2 = 0 then
              u_X37_link_100 q12.1 x0
            else
              (m_X37_makeImage q12.1 x0).bind fun q13 =>
              if q13.2 = 0 then
                u_X37_link_100 q13.1 x0
              else
                u_X37_link_101 q13.1 x0 1
  else
    some (s1, 0)
noncomputable def u_X37_link_17 : jS → Int → Int → Int → Int → Int → Option (jS × Int) := Classical.choose (⟨du_X37_link_17, rfl⟩ : ∃ f, f = du_X37_link_17)
theorem eu_X37_link_17 : u_X37_link_17 = du_X37_link_17 := Classical.choose_spec (⟨du_X37_link_17, rfl⟩ : ∃ f, f = du_X37_link_17)
def du_X37_link_12 (s : jS) (x0 x1 x2 y0 : Int) : Option (jS × Int) :=
  u_X37_link_17 s x0 x1 x2 1 y0
noncomputable def u_X37_link_12 : jS → Int → Int → Int → Int → Option (jS × Int) := Classical.choose (⟨du_X37_link_12, rfl⟩ : ∃ f, f = du_X37_link_12)
theorem eu_X37_link_12 : u_X37_link_12 = du_X37_link_12 := Classical.choose_spec (⟨du_X37_link_12, rfl⟩ : ∃ f, f = du_X37_link_12)
def dm_X37_link (s : jS) (x0 x1 x2 : Int) : Option (jS × Int) :=
  if x1 < 1 then
    u_X37_link_12 s x0 x1 x2 x0
  else
    if 63 < x1 then
      u_X37_link_12 s x0 x1 x2 x0
    else
      u_X37_link_17 s x0 x1 x2 0 x0
noncomputable def m_X37_link : jS → Int → Int → Int → Option (jS × Int) := Classical.choose (⟨dm_X37_link, rfl⟩ : ∃ f, f = dm_X37_link)
theorem em_X37_link : m_X37_link = dm_X37_link := Classical.choose_spec (⟨dm_X37_link, rfl⟩ : ∃ f, f = dm_X37_link)
def du_X39_readLine_180 (s : jS) (x0 x5 : Int) : Option (jS × Int) :=
  (m_X39_operands s x0 x5).bind fun q1 =>
  some (q1.1, Wz q1.2)
noncomputable def u_X39_readLine_180 : jS → Int → Int → Option (jS × Int) := Classical.choose (⟨du_X39_readLine_180, rfl⟩ : ∃ f, f = du_X39_readLine_180)
theorem eu_X39_readLine_180 : u_X39_readLine_180 = du_X39_readLine_180 := Classical.choose_spec (⟨du_X39_readLine_180, rfl⟩ : ∃ f, f = du_X39_readLine_180)
def du_X39_readLine_161 (s : jS) (x0 : Int) : Option (jS × Int) :=
  (m_X39_fail s x0 5).bind fun q1 =>
  some (q1.1, Wz q1.2)
noncomputable def u_X39_readLine_161 : jS → Int → Option (jS × Int) := Classical.choose (⟨du_X39_readLine_161, rfl⟩ : ∃ f, f = du_X39_readLine_161)
theorem eu_X39_readLine_161 : u_X39_readLine_161 = du_X39_readLine_161 := Classical.choose_spec (⟨du_X39_readLine_161, rfl⟩ : ∃ f, f = du_X39_readLine_161)
def du_X39_readLine_90 (s : jS) (x0 : Int) : Option (jS × Int) :=
  (m_X39_fail s x0 8).bind fun q1 =>
  some (q1.1, Wz q1.2)
noncomputable def u_X39_readLine_90 : jS → Int → Option (jS × Int) := Classical.choose (⟨du_X39_readLine_90, rfl⟩ : ∃ f, f = du_X39_readLine_90)
theorem eu_X39_readLine_90 : u_X39_readLine_90 = du_X39_readLine_90 := Classical.choose_spec (⟨du_X39_readLine_90, rfl⟩ : ∃ f, f = du_X39_readLine_90)
def du_X39_readLine_54 (s : jS) (x0 : Int) : Option (jS × Int) :=
  (m_X39_fail s x0 5).bind fun q1 =>
  some (q1.1, Wz q1.2)
noncomputable def u_X39_readLine_54 : jS → Int → Option (jS × Int) := Classical.choose (⟨du_X39_readLine_54, rfl⟩ : ∃ f, f = du_X39_readLine_54)
theorem eu_X39_readLine_54 : u_X39_readLine_54 = du_X39_readLine_54 := Classical.choose_spec (⟨du_X39_readLine_54, rfl⟩ : ∃ f, f = du_X39_readLine_54)
def du_X39_readLine_205 (s : jS) (x0 x1 y0 y1 y2 : Int) : Option ((jS × List Int) ⊕ (jS × Int)) :=
  (jst s 1000 y2 4800 y1 y0).bind fun s1 =>
  (m_X39_next s1 x0).bind fun q2 =>
  some (.inl (q2.1, [x0, x1]))
noncomputable def u_X39_readLine_205 : jS → Int → Int → Int → Int → Int → Option ((jS × List Int) ⊕ (jS × Int)) := Classical.choose (⟨du_X39_readLine_205, rfl⟩ : ∃ f, f = du_X39_readLine_205)
theorem eu_X39_readLine_205 : u_X39_readLine_205 = du_X39_readLine_205 := Classical.choose_spec (⟨du_X39_readLine_205, rfl⟩ : ∃ f, f = du_X39_readLine_205)
def du_X39_readLine_167 (s : jS) (x0 x1 x2 x3 x5 : Int) : Option ((jS × List Int) ⊕ (jS × Int)) :=
  if x3 = 0 then
    jinr (u_X39_readLine_180 s x0 x5)
  else
    (m_X39_isSign s x0 58).bind fun v1 =>
    if v1 = 0 then
      jinr (u_X39_readLine_180 s x0 x5)
    else
      if x2 = 0 then
        u_X39_readLine_205 s x0 x1 0 (W32 (6 * x5)) (x0 + 4)
      else
        u_X39_readLine_205 s x0 x1 1 (W32 (6 * x5)) (x0 + 4)
noncomputable def u_X39_readLine_167 : jS → Int → Int → Int → Int → Int → Option ((jS × List Int) ⊕ (jS × Int)) := Classical.choose (⟨du_X39_readLine_167, rfl⟩ : ∃ f, f = du_X39_readLine_167)
theorem eu_X39_readLine_167 : u_X39_readLine_167 = du_X39_readLine_167 := Classical.choose_spec (⟨du_X39_readLine_167, rfl⟩ : ∃ f, f = du_X39_readLine_167)
def du_X39_readLine_124 (s : jS) (x0 x1 x2 x3 x4 y0 y1 : Int) : Option ((jS × List Int) ⊕ (jS × Int)) :=
  (m_X39_state s y1 y0 x4).bind fun q1 =>
  if q1.2 = 0 then
    jinr (some (q1.1, Wz 0))
  else
    (jlt q1.1 1000 (x0 + 3) 8 0).bind fun v2 =>
    jlet (W32 (v2 - 1)) fun v3 =>
    (m_X39_next q1.1 x0).bind fun q4 =>
    if x2 = 0 then
      u_X39_readLine_167 q4.1 x0 x1 x2 x3 v3
    else
      (m_X39_isSign q4.1 x0 58).bind fun v5 =>
      if v5 = 0 then
        jinr (u_X39_readLine_161 q4.1 x0)
      else
        u_X39_readLine_167 q4.1 x0 x1 x2 x3 v3
noncomputable def u_X39_readLine_124 : jS → Int → Int → Int → Int → Int → Int → Int → Option ((jS × List Int) ⊕ (jS × Int)) := Classical.choose (⟨du_X39_readLine_124, rfl⟩ : ∃ f, f = du_X39_readLine_124)
theorem eu_X39_readLine_124 : u_X39_readLine_124 = du_X39_readLine_124 := Classical.choose_spec (⟨du_X39_readLine_124, rfl⟩ : ∃ f, f = du_X39_readLine_124)
def du_X39_readLine_112 (s : jS) (x0 x1 x2 x3 y0 : Int) : Option ((jS × List Int) ⊕ (jS × Int)) :=
  if x2 = 0 then
    u_X39_readLine_124 s x0 x1 x2 x3 y0 2 x0
  else
    u_X39_readLine_124 s x0 x1 x2 x3 y0 0 x0
noncomputable def u_X39_readLine_112 : jS → Int → Int → Int → Int → Int → Option ((jS × List Int) ⊕ (jS × Int)) := Classical.choose (⟨du_X39_readLine_112, rfl⟩ : ∃ f, f = du_X39_readLine_112)
theorem eu_X39_readLine_112 : u_X39_readLine_112 = du_X39_readLine_112 := Classical.choose_spec (⟨du_X39_readLine_112, rfl⟩ : ∃ f, f = du_X39_readLine_112)
def du_X39_readLine_77 (s : jS) (x0 x1 x2 y0 : Int) : Option ((jS × List Int) ⊕ (jS × Int)) :=
  (jlt s 1000 (x0 + 3) 8 0).bind fun v1 =>
  if v1 = 400 then
    jinr (u_X39_readLine_90 s x0)
  else
    if x2 = 0 then
      (m_X39_number s x0).bind fun q2 =>
      u_X39_readLine_112 q2.1 x0 x1 x2 y0 q2.2
    else
      u_X39_readLine_112 s x0 x1 x2 y0 (jf s 43 x0 16)
noncomputable def u_X39_readLine_77 : jS → Int → Int → Int → Int → Option ((jS × List Int) ⊕ (jS × Int)) := Classical.choose (⟨du_X39_readLine_77, rfl⟩ : ∃ f, f = du_X39_readLine_77)
theorem eu_X39_readLine_77 : u_X39_readLine_77 = du_X39_readLine_77 := Classical.choose_spec (⟨du_X39_readLine_77, rfl⟩ : ∃ f, f = du_X39_readLine_77)
def du_X39_readLine_72 (s : jS) (x0 x1 x2 : Int) : Option ((jS × List Int) ⊕ (jS × Int)) :=
  u_X39_readLine_77 s x0 x1 x2 1
noncomputable def u_X39_readLine_72 : jS → Int → Int → Int → Option ((jS × List Int) ⊕ (jS × Int)) := Classical.choose (⟨du_X39_readLine_72, rfl⟩ : ∃ f, f = du_X39_readLine_72)
theorem eu_X39_readLine_72 : u_X39_readLine_72 = du_X39_readLine_72 := Classical.choose_spec (⟨du_X39_readLine_72, rfl⟩ : ∃ f, f = du_X39_readLine_72)
def du_X39_readLine_60 (s : jS) (x0 x1 x2 : Int) : Option ((jS × List Int) ⊕ (jS × Int)) :=
  if x2 = 0 then
    (m_X39_register s x0).bind fun v1 =>
    if v1 = (-1) then
      u_X39_readLine_72 s x0 x1 x2
    else
      u_X39_readLine_77 s x0 x1 x2 0
  else
    u_X39_readLine_72 s x0 x1 x2
noncomputable def u_X39_readLine_60 : jS → Int → Int → Int → Option ((jS × List Int) ⊕ (jS × Int)) := Classical.choose (⟨du_X39_readLine_60, rfl⟩ : ∃ f, f = du_X39_readLine_60)
theorem eu_X39_readLine_60 : u_X39_readLine_60 = du_X39_readLine_60 := Classical.choose_spec (⟨du_X39_readLine_60, rfl⟩ : ∃ f, f = du_X39_readLine_60)
def du_X39_readLine_41 (s : jS) (x0 x1 y0 : Int) : Option ((jS × List Int) ⊕ (jS × Int)) :=
  if (jf s 43 x0 15) = 1 then
    u_X39_readLine_60 s x0 x1 y0
  else
    if y0 = 0 then
      jinr (u_X39_readLine_54 s x0)
    else
      u_X39_readLine_60 s x0 x1 y0
noncomputable def u_X39_readLine_41 : jS → Int → Int → Int → Option ((jS × List Int) ⊕ (jS × Int)) := Classical.choose (⟨du_X39_readLine_41, rfl⟩ : ∃ f, f = du_X39_readLine_41)
theorem eu_X39_readLine_41 : u_X39_readLine_41 = du_X39_readLine_41 := Classical.choose_spec (⟨du_X39_readLine_41, rfl⟩ : ∃ f, f = du_X39_readLine_41)
def du_X39_readLine_40 (s : jS) (x0 x1 : Int) : Option ((jS × List Int) ⊕ (jS × Int)) :=
  u_X39_readLine_41 s x0 x1 0
noncomputable def u_X39_readLine_40 : jS → Int → Int → Option ((jS × List Int) ⊕ (jS × Int)) := Classical.choose (⟨du_X39_readLine_40, rfl⟩ : ∃ f, f = du_X39_readLine_40)
theorem eu_X39_readLine_40 : u_X39_readLine_40 = du_X39_readLine_40 := Classical.choose_spec (⟨du_X39_readLine_40, rfl⟩ : ∃ f, f = du_X39_readLine_40)
def b_X39_readLine_2 (s : jS) (x0 x1 : Int) : Option ((jS × List Int) ⊕ (jS × Int)) :=
  if x1 = 0 then
    jinr (some (s, Wz 1))
  else
    if (jf s 43 x0 15) = 0 then
      jinr (some (s, Wz 1))
    else
      if (jf s 43 x0 15) = 2 then
        if (W32 ((jf s 43 x0 18) - (jf s 43 x0 17))) = 1 then
          u_X39_readLine_41 s x0 x1 1
        else
          u_X39_readLine_40 s x0 x1
      else
        u_X39_readLine_40 s x0 x1
def du_X39_readLine_2 (s : jS) (x0 x1 : Int) : Option (jS × Int) := jlpW (jc2 b_X39_readLine_2) [x0, x1] s
noncomputable def u_X39_readLine_2 : jS → Int → Int → Option (jS × Int) := Classical.choose (⟨du_X39_readLine_2, rfl⟩ : ∃ f, f = du_X39_readLine_2)
theorem eu_X39_readLine_2 : u_X39_readLine_2 = du_X39_readLine_2 := Classical.choose_spec (⟨du_X39_readLine_2, rfl⟩ : ∃ f, f = du_X39_readLine_2)
def dm_X39_readLine (s : jS) (x0 : Int) : Option (jS × Int) :=
  u_X39_readLine_2 s x0 1
noncomputable def m_X39_readLine : jS → Int → Option (jS × Int) := Classical.choose (⟨dm_X39_readLine, rfl⟩ : ∃ f, f = dm_X39_readLine)
theorem em_X39_readLine : m_X39_readLine = dm_X39_readLine := Classical.choose_spec (⟨dm_X39_readLine, rfl⟩ : ∃ f, f = dm_X39_readLine)
def du_X37_statement_327 (s : jS) (x0 x3 : Int) : Option (jS × Int) :=
  if x3 < 100 then
    (m_X37_instruction s x0 x3).bind fun q1 =>
    some (q1.1, Wz q1.2)
  else
    (m_X37_other s x0 x3).bind fun q2 =>
    some (q2.1, Wz q2.2)
noncomputable def u_X37_statement_327 : jS → Int → Int → Option (jS × Int) := Classical.choose (⟨du_X37_statement_327, rfl⟩ : ∃ f, f = du_X37_statement_327)
theorem eu_X37_statement_327 : u_X37_statement_327 = du_X37_statement_327 := Classical.choose_spec (⟨du_X37_statement_327, rfl⟩ : ∃ f, f = du_X37_statement_327)
def du_X37_statement_294 (s : jS) (x0 : Int) : Option (jS × Int) :=
  (m_X37_fail s x0 10).bind fun q1 =>
  some (q1.1, Wz q1.2)
noncomputable def u_X37_statement_294 : jS → Int → Option (jS × Int) := Classical.choose (⟨du_X37_statement_294, rfl⟩ : ∃ f, f = du_X37_statement_294)
theorem eu_X37_statement_294 : u_X37_statement_294 = du_X37_statement_294 := Classical.choose_spec (⟨du_X37_statement_294, rfl⟩ : ∃ f, f = du_X37_statement_294)
def du_X37_statement_202 (s : jS) (x0 x2 y0 : Int) : Option (jS × Int) :=
  if y0 = (-1) then
    some (s, Wz 0)
  else
    (jlt s 1000 (x0 + 153) 4 (jf s 41 x0 34)).bind fun v1 =>
    (m_X37_define s x0 y0 (jf s 41 x0 34) v1).bind fun q2 =>
    (jst q2.1 1000 (x0 + 149) 10 x2 y0).bind fun s3 =>
    (jst s3 1000 (x0 + 150) 10 x2 (-1)).bind fun s4 =>
    some (s4, Wz 1)
noncomputable def u_X37_statement_202 : jS → Int → Int → Int → Option (jS × Int) := Classical.choose (⟨du_X37_statement_202, rfl⟩ : ∃ f, f = du_X37_statement_202)
theorem eu_X37_statement_202 : u_X37_statement_202 = du_X37_statement_202 := Classical.choose_spec (⟨du_X37_statement_202, rfl⟩ : ∃ f, f = du_X37_statement_202)
def du_X37_statement_82 (s : jS) (x0 x1 : Int) : Option (jS × Int) :=
  (m_X39_statement s (x0 + 8) x1 1).bind fun q1 =>
  (m_X39_statement q1.1 (x0 + 8) x1 0).bind fun q2 =>
  if q2.2 = 0 then
    (m_X37_symbolOfName q2.1 x0 q1.2).bind fun q3 =>
    if q3.2 = (-1) then
      some (q3.1, Wz 0)
    else
      (jlt q3.1 1000 (x0 + 144) 100 q3.2).bind fun v4 =>
      if v4 = (-2) then
        (jlt q3.1 1000 (x0 + 153) 4 (jf q3.1 41 x0 34)).bind fun v5 =>
        (m_X37_define q3.1 x0 q3.2 (jf q3.1 41 x0 34) v5).bind fun q6 =>
        some (q6.1, Wz 1)
      else
        (m_X37_fail q3.1 x0 16).bind fun q7 =>
        some (q7.1, Wz q7.2)
  else
  if q2.2 = 1 then
    (jlt q2.1 1000 (x0 + 150) 10 q1.2).bind fun v8 =>
    if v8 = (-1) then
      (m_X37_newHidden q2.1 x0).bind fun q9 =>
      u_X37_statement_202 q9.1 x0 q1.2 q9.2
    else
      (jlt q2.1 1000 (x0 + 150) 10 q1.2).bind fun v10 =>
      u_X37_statement_202 q2.1 x0 q1.2 v10
  else
  (m_X37_wordOf q2.1 x0 q1.2).bind fun q11 =>
  if q11.2 = (-1) then
    (m_X37_fail q11.1 x0 9).bind fun q12 =>
    some (q12.1, Wz q12.2)
  else
    (m_X37_isInstruction q11.1 x0 q11.2).bind fun v13 =>
    if v13 = 0 then
      (m_X37_directive q11.1 x0 q11.2).bind fun q14 =>
      some (q14.1, Wz q14.2)
    else
      if (jf q11.1 41 x0 34) = 0 then
        (jlt q11.1 1000 (x0 + 153) 4 0).bind fun v15 =>
        (jdv 2 (I_rem v15 2)).bind fun v16 =>
        if v16 = 0 then
          if q11.2 < 48 then
            u_X37_statement_327 q11.1 x0 q11.2
          else
            if q11.2 < 75 then
              if (jf q11.1 41 x0 35) = 0 then
                (m_X37_fail q11.1 x0 11).bind fun q17 =>
                some (q17.1, Wz q17.2)
              else
                u_X37_statement_327 q11.1 x0 q11.2
            else
              u_X37_statement_327 q11.1 x0 q11.2
        else
          u_X37_statement_294 q11.1 x0
      else
        u_X37_statement_294 q11.1 x0
noncomputable def u_X37_statement_82 : jS → Int → Int → Option (jS × Int) := Classical.choose (⟨du_X37_statement_82, rfl⟩ : ∃ f, f = du_X37_statement_82)
theorem eu_X37_statement_82 : u_X37_statement_82 = du_X37_statement_82 := Classical.choose_spec (⟨du_X37_statement_82, rfl⟩ : ∃ f, f = du_X37_statement_82)
def b_X37_statement_64 (s : jS) (x0 x1 x2 : Int) : Option ((jS × List Int) ⊕ (jS × Int)) :=
  if x2 < 4 then
    (jst s 1000 (x0 + 169) 4 x2 0).bind fun s1 =>
    some (.inl (s1, [x0, x1, W32 (x2 + 1)]))
  else
    jinr (u_X37_statement_82 s x0 x1)
def du_X37_statement_64 (s : jS) (x0 x1 x2 : Int) : Option (jS × Int) := jlpW (jc3 b_X37_statement_64) [x0, x1, x2] s
noncomputable def u_X37_statement_64 : jS → Int → Int → Int → Option (jS × Int) := Classical.choose (⟨du_X37_statement_64, rfl⟩ : ∃ f, f = du_X37_statement_64)
theorem eu_X37_statement_64 : u_X37_statement_64 = du_X37_statement_64 := Classical.choose_spec (⟨du_X37_statement_64, rfl⟩ : ∃ f, f = du_X37_statement_64)
def dm_X37_statement (s : jS) (x0 x1 : Int) : Option (jS × Int) :=
  (m_X39_statement s (x0 + 8) x1 4).bind fun q1 =>
  jls (jp q1.1 41 x0 44 q1.2) fun s2 =>
  (m_X39_statement s2 (x0 + 8) x1 2).bind fun q3 =>
  jls (jp q3.1 41 x0 45 q3.2) fun s4 =>
  (m_X39_statement s4 (x0 + 8) x1 3).bind fun q5 =>
  jls (jp q5.1 41 x0 46 q5.2) fun s6 =>
  (jlt s6 1000 (x0 + 153) 4 (jf s6 41 x0 34)).bind fun v7 =>
  jls (jp s6 41 x0 47 v7) fun s8 =>
  jls (jp s8 41 x0 48 (-1)) fun s9 =>
  jls (jp s9 41 x0 59 0) fun s10 =>
  u_X37_statement_64 s10 x0 x1 0
noncomputable def m_X37_statement : jS → Int → Int → Option (jS × Int) := Classical.choose (⟨dm_X37_statement, rfl⟩ : ∃ f, f = dm_X37_statement)
theorem em_X37_statement : m_X37_statement = dm_X37_statement := Classical.choose_spec (⟨dm_X37_statement, rfl⟩ : ∃ f, f = dm_X37_statement)
def du_X39_read_152 (s : jS) (x0 y0 y1 : Int) : Option (jS × Int) :=
  jls (jp s 43 y1 0 y0) fun s1 =>
  if (jf s1 43 x0 20) = 0 then
    (m_X39_keep s1 x0).bind fun q2 =>
    (jlt q2.1 1000 (x0 + 3) 8 0).bind fun v3 =>
    some (q2.1, v3)
  else
    some (s1, 0)
noncomputable def u_X39_read_152 : jS → Int → Int → Int → Option (jS × Int) := Classical.choose (⟨du_X39_read_152, rfl⟩ : ∃ f, f = du_X39_read_152)
theorem eu_X39_read_152 : u_X39_read_152 = du_X39_read_152 := Classical.choose_spec (⟨du_X39_read_152, rfl⟩ : ∃ f, f = du_X39_read_152)
def du_X39_read_136 (s : jS) (x0 y0 y1 : Int) : Option (jS × Int) :=
  jls (jp s 43 y1 14 y0) fun s1 =>
  if (jf s1 43 x0 20) = 0 then
    u_X39_read_152 s1 x0 0 x0
  else
    u_X39_read_152 s1 x0 1 x0
noncomputable def u_X39_read_136 : jS → Int → Int → Int → Option (jS × Int) := Classical.choose (⟨du_X39_read_136, rfl⟩ : ∃ f, f = du_X39_read_136)
theorem eu_X39_read_136 : u_X39_read_136 = du_X39_read_136 := Classical.choose_spec (⟨du_X39_read_136, rfl⟩ : ∃ f, f = du_X39_read_136)
def du_X39_read_107 (s : jS) (x0 : Int) : Option (jS × Int) :=
  jls (jp s 43 x0 3 0) fun s1 =>
  jls (jp s1 43 x0 13 (jf s1 43 x0 20)) fun s2 =>
  if (jf s2 43 x0 20) = 0 then
    u_X39_read_136 s2 x0 (-1) x0
  else
    u_X39_read_136 s2 x0 (jf s2 43 x0 21) x0
noncomputable def u_X39_read_107 : jS → Int → Option (jS × Int) := Classical.choose (⟨du_X39_read_107, rfl⟩ : ∃ f, f = du_X39_read_107)
theorem eu_X39_read_107 : u_X39_read_107 = du_X39_read_107 := Classical.choose_spec (⟨du_X39_read_107, rfl⟩ : ∃ f, f = du_X39_read_107)
def du_X39_read_83 (s : jS) (x0 y0 : Int) : Option ((jS × List Int) ⊕ (jS × Int)) :=
  jls (jp s 43 x0 18 (W32 ((jf s 43 x0 18) + 1))) fun s1 =>
  jls (jp s1 43 x0 19 (W32 ((jf s1 43 x0 19) + 1))) fun s2 =>
  some (.inl (s2, [x0, y0]))
noncomputable def u_X39_read_83 : jS → Int → Int → Option ((jS × List Int) ⊕ (jS × Int)) := Classical.choose (⟨du_X39_read_83, rfl⟩ : ∃ f, f = du_X39_read_83)
theorem eu_X39_read_83 : u_X39_read_83 = du_X39_read_83 := Classical.choose_spec (⟨du_X39_read_83, rfl⟩ : ∃ f, f = du_X39_read_83)
def du_X39_read_82 (s : jS) (x0 : Int) : Option ((jS × List Int) ⊕ (jS × Int)) :=
  u_X39_read_83 s x0 0
noncomputable def u_X39_read_82 : jS → Int → Option ((jS × List Int) ⊕ (jS × Int)) := Classical.choose (⟨du_X39_read_82, rfl⟩ : ∃ f, f = du_X39_read_82)
theorem eu_X39_read_82 : u_X39_read_82 = du_X39_read_82 := Classical.choose_spec (⟨du_X39_read_82, rfl⟩ : ∃ f, f = du_X39_read_82)
def b_X39_read_52 (s : jS) (x0 x1 : Int) : Option ((jS × List Int) ⊕ (jS × Int)) :=
  if x1 = 0 then
    jinr (u_X39_read_107 s x0)
  else
    (m_X39_next s x0).bind fun q1 =>
    (m_X39_readLine q1.1 x0).bind fun q2 =>
    if q2.2 = 0 then
      u_X39_read_82 q2.1 x0
    else
      if (jf q2.1 43 x0 18) < (jf q2.1 43 x0 3) then
        u_X39_read_83 q2.1 x0 1
      else
        u_X39_read_82 q2.1 x0
def du_X39_read_52 (s : jS) (x0 x1 : Int) : Option (jS × Int) := jlpW (jc2 b_X39_read_52) [x0, x1] s
noncomputable def u_X39_read_52 : jS → Int → Int → Option (jS × Int) := Classical.choose (⟨du_X39_read_52, rfl⟩ : ∃ f, f = du_X39_read_52)
theorem eu_X39_read_52 : u_X39_read_52 = du_X39_read_52 := Classical.choose_spec (⟨du_X39_read_52, rfl⟩ : ∃ f, f = du_X39_read_52)
def du_X39_read_20 (s : jS) (x0 : Int) : Option (jS × Int) :=
  jls (jp s 43 x0 12 0) fun s1 =>
  jls (jp s1 43 x0 24 0) fun s2 =>
  jls (jp s2 43 x0 20 0) fun s3 =>
  jls (jp s3 43 x0 21 (-1)) fun s4 =>
  jls (jp s4 43 x0 19 0) fun s5 =>
  jls (jp s5 43 x0 18 0) fun s6 =>
  u_X39_read_52 s6 x0 1
noncomputable def u_X39_read_20 : jS → Int → Option (jS × Int) := Classical.choose (⟨du_X39_read_20, rfl⟩ : ∃ f, f = du_X39_read_20)
theorem eu_X39_read_20 : u_X39_read_20 = du_X39_read_20 := Classical.choose_spec (⟨du_X39_read_20, rfl⟩ : ∃ f, f = du_X39_read_20)
def b_X39_read_2 (s : jS) (x0 x1 : Int) : Option ((jS × List Int) ⊕ (jS × Int)) :=
  if x1 < 4 then
    (jst s 1000 (x0 + 3) 8 x1 0).bind fun s1 =>
    some (.inl (s1, [x0, W32 (x1 + 1)]))
  else
    jinr (u_X39_read_20 s x0)
def du_X39_read_2 (s : jS) (x0 x1 : Int) : Option (jS × Int) := jlpW (jc2 b_X39_read_2) [x0, x1] s
noncomputable def u_X39_read_2 : jS → Int → Int → Option (jS × Int) := Classical.choose (⟨du_X39_read_2, rfl⟩ : ∃ f, f = du_X39_read_2)
theorem eu_X39_read_2 : u_X39_read_2 = du_X39_read_2 := Classical.choose_spec (⟨du_X39_read_2, rfl⟩ : ∃ f, f = du_X39_read_2)
def dm_X39_read (s : jS) (x0 : Int) : Option (jS × Int) :=
  u_X39_read_2 s x0 0
noncomputable def m_X39_read : jS → Int → Option (jS × Int) := Classical.choose (⟨dm_X39_read, rfl⟩ : ∃ f, f = dm_X39_read)
theorem em_X39_read : m_X39_read = dm_X39_read := Classical.choose_spec (⟨dm_X39_read, rfl⟩ : ∃ f, f = dm_X39_read)
def du_X37_statements_80 (s : jS) (x0 x2 : Int) : Option (jS × Int) :=
  if x2 = (-1) then
    some (s, Wz 1)
  else
    (jlt s 1000 (x0 + 151) 10 x2).bind fun v1 =>
    (m_X37_fail_2 s x0 19 v1).bind fun q2 =>
    if q2.2 = 0 then
      some (q2.1, Wz 0)
    else
      some (q2.1, Wz 1)
noncomputable def u_X37_statements_80 : jS → Int → Int → Option (jS × Int) := Classical.choose (⟨du_X37_statements_80, rfl⟩ : ∃ f, f = du_X37_statements_80)
theorem eu_X37_statements_80 : u_X37_statements_80 = du_X37_statements_80 := Classical.choose_spec (⟨du_X37_statements_80, rfl⟩ : ∃ f, f = du_X37_statements_80)
def du_X37_statements_74 (s : jS) (x0 x2 x3 : Int) : Option ((jS × List Int) ⊕ (jS × Int)) :=
  some (.inl (s, [x0, x2, W32 (x3 + 1)]))
noncomputable def u_X37_statements_74 : jS → Int → Int → Int → Option ((jS × List Int) ⊕ (jS × Int)) := Classical.choose (⟨du_X37_statements_74, rfl⟩ : ∃ f, f = du_X37_statements_74)
theorem eu_X37_statements_74 : u_X37_statements_74 = du_X37_statements_74 := Classical.choose_spec (⟨du_X37_statements_74, rfl⟩ : ∃ f, f = du_X37_statements_74)
def du_X37_statements_72 (s : jS) (x0 x3 : Int) : Option ((jS × List Int) ⊕ (jS × Int)) :=
  u_X37_statements_74 s x0 x3 x3
noncomputable def u_X37_statements_72 : jS → Int → Int → Option ((jS × List Int) ⊕ (jS × Int)) := Classical.choose (⟨du_X37_statements_72, rfl⟩ : ∃ f, f = du_X37_statements_72)
theorem eu_X37_statements_72 : u_X37_statements_72 = du_X37_statements_72 := Classical.choose_spec (⟨du_X37_statements_72, rfl⟩ : ∃ f, f = du_X37_statements_72)
def b_X37_statements_36 (s : jS) (x0 x2 x3 : Int) : Option ((jS × List Int) ⊕ (jS × Int)) :=
  if x3 < 10 then
    (jlt s 1000 (x0 + 150) 10 x3).bind fun v1 =>
    if v1 = (-1) then
      u_X37_statements_74 s x0 x2 x3
    else
      if x2 = (-1) then
        u_X37_statements_72 s x0 x3
      else
        (jlt s 1000 (x0 + 151) 10 x3).bind fun v2 =>
        (jlt s 1000 (x0 + 151) 10 x2).bind fun v3 =>
        if v2 < v3 then
          u_X37_statements_72 s x0 x3
        else
          u_X37_statements_74 s x0 x2 x3
  else
    jinr (u_X37_statements_80 s x0 x2)
def du_X37_statements_36 (s : jS) (x0 x2 x3 : Int) : Option (jS × Int) := jlpW (jc3 b_X37_statements_36) [x0, x2, x3] s
noncomputable def u_X37_statements_36 : jS → Int → Int → Int → Option (jS × Int) := Classical.choose (⟨du_X37_statements_36, rfl⟩ : ∃ f, f = du_X37_statements_36)
theorem eu_X37_statements_36 : u_X37_statements_36 = du_X37_statements_36 := Classical.choose_spec (⟨du_X37_statements_36, rfl⟩ : ∃ f, f = du_X37_statements_36)
def du_X37_statements_32 (s : jS) (x0 : Int) : Option (jS × Int) :=
  u_X37_statements_36 s x0 (-1) 0
noncomputable def u_X37_statements_32 : jS → Int → Option (jS × Int) := Classical.choose (⟨du_X37_statements_32, rfl⟩ : ∃ f, f = du_X37_statements_32)
theorem eu_X37_statements_32 : u_X37_statements_32 = du_X37_statements_32 := Classical.choose_spec (⟨du_X37_statements_32, rfl⟩ : ∃ f, f = du_X37_statements_32)
def b_X37_statements_11 (s : jS) (x0 x1 x2 : Int) : Option ((jS × List Int) ⊕ (jS × Int)) :=
  if x2 < x1 then
    (m_X37_statement s x0 x2).bind fun q1 =>
    if q1.2 = 0 then
      jinr (some (q1.1, Wz 0))
    else
      some (.inl (q1.1, [x0, x1, W32 (x2 + 1)]))
  else
    jinr (u_X37_statements_32 s x0)
def du_X37_statements_11 (s : jS) (x0 x1 x2 : Int) : Option (jS × Int) := jlpW (jc3 b_X37_statements_11) [x0, x1, x2] s
noncomputable def u_X37_statements_11 : jS → Int → Int → Int → Option (jS × Int) := Classical.choose (⟨du_X37_statements_11, rfl⟩ : ∃ f, f = du_X37_statements_11)
theorem eu_X37_statements_11 : u_X37_statements_11 = du_X37_statements_11 := Classical.choose_spec (⟨du_X37_statements_11, rfl⟩ : ∃ f, f = du_X37_statements_11)
def dm_X37_statements (s : jS) (x0 : Int) : Option (jS × Int) :=
  (m_X39_count s (x0 + 8) 0).bind fun q1 =>
  u_X37_statements_11 q1.1 x0 q1.2 0
noncomputable def m_X37_statements : jS → Int → Option (jS × Int) := Classical.choose (⟨dm_X37_statements, rfl⟩ : ∃ f, f = dm_X37_statements)
theorem em_X37_statements : m_X37_statements = dm_X37_statements := Classical.choose_spec (⟨dm_X37_statements, rfl⟩ : ∃ f, f = dm_X37_statements)
def b_X37_assemble_171 (s : jS) (x0 x1 x3 x4 : Int) : Option ((jS × List Int) ⊕ (jS × Int)) :=
  if x4 < x3 then
    (jlt s 1000 ((x0 + 25) + 21) 8192 x4).bind fun v1 =>
    (jst s 1000 (x0 + 1) 49152 (W32 ((W32 (8192 * x1)) + x4)) v1).bind fun s2 =>
    some (.inl (s2, [x0, x1, x3, W32 (x4 + 1)]))
  else
    jinr (some (s, x3))
def du_X37_assemble_171 (s : jS) (x0 x1 x3 x4 : Int) : Option (jS × Int) := jlpW (jc4 b_X37_assemble_171) [x0, x1, x3, x4] s
noncomputable def u_X37_assemble_171 : jS → Int → Int → Int → Int → Option (jS × Int) := Classical.choose (⟨du_X37_assemble_171, rfl⟩ : ∃ f, f = du_X37_assemble_171)
theorem eu_X37_assemble_171 : u_X37_assemble_171 = du_X37_assemble_171 := Classical.choose_spec (⟨du_X37_assemble_171, rfl⟩ : ∃ f, f = du_X37_assemble_171)
def du_X37_assemble_149 (s : jS) (x0 x1 x3 y0 y1 : Int) : Option (jS × Int) :=
  jls (jp s 41 y1 4 y0) fun s1 =>
  if (jf s1 41 x0 42) = 0 then
    (jst s1 1000 (x0 + 2) 6 x1 x3).bind fun s2 =>
    u_X37_assemble_171 s2 x0 x1 x3 0
  else
    some (s1, 0)
noncomputable def u_X37_assemble_149 : jS → Int → Int → Int → Int → Int → Option (jS × Int) := Classical.choose (⟨du_X37_assemble_149, rfl⟩ : ∃ f, f = du_X37_assemble_149)
theorem eu_X37_assemble_149 : u_X37_assemble_149 = du_X37_assemble_149 := Classical.choose_spec (⟨du_X37_assemble_149, rfl⟩ : ∃ f, f = du_X37_assemble_149)
def du_X37_assemble_133 (s : jS) (x0 x1 x3 y0 y1 : Int) : Option (jS × Int) :=
  jls (jp s 41 y1 41 y0) fun s1 =>
  if (jf s1 41 x0 42) = 0 then
    u_X37_assemble_149 s1 x0 x1 x3 0 x0
  else
    u_X37_assemble_149 s1 x0 x1 x3 2 x0
noncomputable def u_X37_assemble_133 : jS → Int → Int → Int → Int → Int → Option (jS × Int) := Classical.choose (⟨du_X37_assemble_133, rfl⟩ : ∃ f, f = du_X37_assemble_133)
theorem eu_X37_assemble_133 : u_X37_assemble_133 = du_X37_assemble_133 := Classical.choose_spec (⟨du_X37_assemble_133, rfl⟩ : ∃ f, f = du_X37_assemble_133)
def du_X37_assemble_109 (s : jS) (x0 x1 x3 : Int) : Option (jS × Int) :=
  jls (jp s 41 x0 40 (jf s 41 x0 42)) fun s1 =>
  if (jf s1 41 x0 42) = 0 then
    u_X37_assemble_133 s1 x0 x1 x3 (-1) x0
  else
    u_X37_assemble_133 s1 x0 x1 x3 (jf s1 41 x0 43) x0
noncomputable def u_X37_assemble_109 : jS → Int → Int → Int → Option (jS × Int) := Classical.choose (⟨du_X37_assemble_109, rfl⟩ : ∃ f, f = du_X37_assemble_109)
theorem eu_X37_assemble_109 : u_X37_assemble_109 = du_X37_assemble_109 := Classical.choose_spec (⟨du_X37_assemble_109, rfl⟩ : ∃ f, f = du_X37_assemble_109)
def du_X37_assemble_13 (s : jS) (x0 x1 y0 y1 : Int) : Option (jS × Int) :=
  jls (jp s 41 y1 4 y0) fun s1 =>
  if (jf s1 41 x0 4) = 0 then
    (m_X39_read s1 (x0 + 8)).bind fun q2 =>
    (m_X37_beginUnit q2.1 x0).bind fun q3 =>
    (m_X39_fault q3.1 (x0 + 8) 0).bind fun q4 =>
    jls (jp q4.1 41 x0 42 q4.2) fun s5 =>
    (m_X39_fault s5 (x0 + 8) 1).bind fun q6 =>
    jls (jp q6.1 41 x0 43 q6.2) fun s7 =>
    if (jf s7 41 x0 42) = 0 then
      (m_X37_statements s7 x0).bind fun q8 =>
      if q8.2 = 0 then
        u_X37_assemble_109 q8.1 x0 x1 0
      else
        (m_X37_makeObject q8.1 x0).bind fun q9 =>
        (m_X40_write q9.1 (x0 + 25)).bind fun q10 =>
        if q10.2 < 0 then
          (m_X37_fail_2 q10.1 x0 20 (jf s1 43 (x0 + 8) 3)).bind fun q11 =>
          u_X37_assemble_109 q11.1 x0 x1 q10.2
        else
          u_X37_assemble_109 q10.1 x0 x1 q10.2
    else
      u_X37_assemble_109 s7 x0 x1 0
  else
    some (s1, 0)
noncomputable def u_X37_assemble_13 : jS → Int → Int → Int → Int → Option (jS × Int) := Classical.choose (⟨du_X37_assemble_13, rfl⟩ : ∃ f, f = du_X37_assemble_13)
theorem eu_X37_assemble_13 : u_X37_assemble_13 = du_X37_assemble_13 := Classical.choose_spec (⟨du_X37_assemble_13, rfl⟩ : ∃ f, f = du_X37_assemble_13)
def dm_X37_assemble (s : jS) (x0 x1 : Int) : Option (jS × Int) :=
  (m_X37_isUnit s x1).bind fun v1 =>
  if v1 = 0 then
    u_X37_assemble_13 s x0 x1 1 x0
  else
    u_X37_assemble_13 s x0 x1 0 x0
noncomputable def m_X37_assemble : jS → Int → Int → Option (jS × Int) := Classical.choose (⟨dm_X37_assemble, rfl⟩ : ∃ f, f = dm_X37_assemble)
theorem em_X37_assemble : m_X37_assemble = dm_X37_assemble := Classical.choose_spec (⟨dm_X37_assemble, rfl⟩ : ∃ f, f = dm_X37_assemble)
def dm_X0_assemble (s : jS) (x0 x1 x2 : Int) : Option (jS × Int) :=
  (jct s 17 x0 (m_X1_assemble s x0 x1)).bind fun q1 =>
  jth q1.2.1 (
    if jK q1.1 q1.2.2 ∈ ([2051] : List Int) then
      some (q1.1, 1)
    else
    if jK q1.1 q1.2.2 ∈ ([2054] : List Int) then
      some (q1.1, 2)
    else
    none) <|
  (jsa q1.1 1004 x2 0 q1.2.2).bind fun s2 =>
  some (s2, 0)
noncomputable def m_X0_assemble : jS → Int → Int → Int → Option (jS × Int) := Classical.choose (⟨dm_X0_assemble, rfl⟩ : ∃ f, f = dm_X0_assemble)
theorem em_X0_assemble : m_X0_assemble = dm_X0_assemble := Classical.choose_spec (⟨dm_X0_assemble, rfl⟩ : ∃ f, f = dm_X0_assemble)
def dm_X0_take (s : jS) (x0 x1 x2 : Int) : Option (jS × Int) :=
  (jct s 17 x0 (m_X1_take s x0 x1)).bind fun q1 =>
  jth q1.2.1 (
    if jK q1.1 q1.2.2 ∈ ([2051] : List Int) then
      some (q1.1, 1)
    else
    none) <|
  (jsa q1.1 1004 x2 0 q1.2.2).bind fun s2 =>
  some (s2, 0)
noncomputable def m_X0_take : jS → Int → Int → Int → Option (jS × Int) := Classical.choose (⟨dm_X0_take, rfl⟩ : ∃ f, f = dm_X0_take)
theorem em_X0_take : m_X0_take = dm_X0_take := Classical.choose_spec (⟨dm_X0_take, rfl⟩ : ∃ f, f = dm_X0_take)
def dm_X0_check (s : jS) (x0 x1 x2 : Int) : Option (jS × Int) :=
  (jct s 17 x0 (m_X1_check s x0 x1)).bind fun q1 =>
  jth q1.2.1 (
    if jK q1.1 q1.2.2 ∈ ([2051] : List Int) then
      some (q1.1, 1)
    else
    none) <|
  (jsa q1.1 1004 x2 0 q1.2.2).bind fun s2 =>
  some (s2, 0)
noncomputable def m_X0_check : jS → Int → Int → Int → Option (jS × Int) := Classical.choose (⟨dm_X0_check, rfl⟩ : ∃ f, f = dm_X0_check)
theorem em_X0_check : m_X0_check = dm_X0_check := Classical.choose_spec (⟨dm_X0_check, rfl⟩ : ∃ f, f = dm_X0_check)
def dm_X0_link (s : jS) (x0 x1 x2 x3 : Int) : Option (jS × Int) :=
  (jct s 17 x0 (m_X1_link s x0 x1 x2)).bind fun q1 =>
  jth q1.2.1 (
    if jK q1.1 q1.2.2 ∈ ([2054] : List Int) then
      some (q1.1, 1)
    else
    if jK q1.1 q1.2.2 ∈ ([2069] : List Int) then
      some (q1.1, 2)
    else
    none) <|
  (jsa q1.1 1004 x3 0 q1.2.2).bind fun s2 =>
  some (s2, 0)
noncomputable def m_X0_link : jS → Int → Int → Int → Int → Option (jS × Int) := Classical.choose (⟨dm_X0_link, rfl⟩ : ∃ f, f = dm_X0_link)
theorem em_X0_link : m_X0_link = dm_X0_link := Classical.choose_spec (⟨dm_X0_link, rfl⟩ : ∃ f, f = dm_X0_link)
def dm_X0_where (s : jS) (x0 x1 x3 x5 : Int) : Option (jS × Int) :=
  (jct s 17 x0 (m_X1_where s x0 x1 x3)).bind fun q1 =>
  jth q1.2.1 (
    if jK q1.1 q1.2.2 ∈ ([2078] : List Int) then
      some (q1.1, 1)
    else
    none) <|
  (jsa q1.1 1004 x5 0 q1.2.2).bind fun s2 =>
  some (s2, 0)
noncomputable def m_X0_where : jS → Int → Int → Int → Int → Option (jS × Int) := Classical.choose (⟨dm_X0_where, rfl⟩ : ∃ f, f = dm_X0_where)
theorem em_X0_where : m_X0_where = dm_X0_where := Classical.choose_spec (⟨dm_X0_where, rfl⟩ : ∃ f, f = dm_X0_where)
def du_L_law_1407 (s : jS) (x0 x1 x2 x3 x4 : Int) : Option ((jS × List Int) ⊕ (jS × Bool × Int)) :=
  some (.inl (s, [x0, x1, x2, x3, W32 (x4 + 6)]))
noncomputable def u_L_law_1407 : jS → Int → Int → Int → Int → Int → Option ((jS × List Int) ⊕ (jS × Bool × Int)) := Classical.choose (⟨du_L_law_1407, rfl⟩ : ∃ f, f = du_L_law_1407)
theorem eu_L_law_1407 : u_L_law_1407 = du_L_law_1407 := Classical.choose_spec (⟨du_L_law_1407, rfl⟩ : ∃ f, f = du_L_law_1407)
def du_L_law_1274 (s : jS) (x0 x1 x2 x3 x4 y0 y1 y2 y3 : Int) : Option ((jS × List Int) ⊕ (jS × Bool × Int)) :=
  (jct s 57 y2 (m_X37_halt s y2 y1 y0)).bind fun q1 =>
  if y3 = q1.2 then
    u_L_law_1407 q1.1 x0 x1 x2 x3 x4
  else
    jinr (some (q1.1, false, Wz 0))
noncomputable def u_L_law_1274 : jS → Int → Int → Int → Int → Int → Int → Int → Int → Int → Option ((jS × List Int) ⊕ (jS × Bool × Int)) := Classical.choose (⟨du_L_law_1274, rfl⟩ : ∃ f, f = du_L_law_1274)
theorem eu_L_law_1274 : u_L_law_1274 = du_L_law_1274 := Classical.choose_spec (⟨du_L_law_1274, rfl⟩ : ∃ f, f = du_L_law_1274)
def du_L_law_1250 (s : jS) (x0 x1 x2 x3 x4 y0 y1 y2 : Int) : Option ((jS × List Int) ⊕ (jS × Bool × Int)) :=
  (jct s 17 y2 (m_X1_halt s y2 y1 y0)).bind fun q1 =>
  (jldE q1.1 1000 x0 (W32 (x4 + 1))).bind fun v2 =>
  (jldE q1.1 1000 x0 (W32 (x4 + 2))).bind fun v3 =>
  if v3 = 0 then
    u_L_law_1274 q1.1 x0 x1 x2 x3 x4 0 v2 x2 q1.2
  else
    u_L_law_1274 q1.1 x0 x1 x2 x3 x4 1 v2 x2 q1.2
noncomputable def u_L_law_1250 : jS → Int → Int → Int → Int → Int → Int → Int → Int → Option ((jS × List Int) ⊕ (jS × Bool × Int)) := Classical.choose (⟨du_L_law_1250, rfl⟩ : ∃ f, f = du_L_law_1250)
theorem eu_L_law_1250 : u_L_law_1250 = du_L_law_1250 := Classical.choose_spec (⟨du_L_law_1250, rfl⟩ : ∃ f, f = du_L_law_1250)
def du_L_law_981 (s : jS) (x0 x1 x2 x3 x4 : Int) : Option ((jS × List Int) ⊕ (jS × Bool × Int)) :=
  u_L_law_1407 s x0 x1 x2 x3 x4
noncomputable def u_L_law_981 : jS → Int → Int → Int → Int → Int → Option ((jS × List Int) ⊕ (jS × Bool × Int)) := Classical.choose (⟨du_L_law_981, rfl⟩ : ∃ f, f = du_L_law_981)
theorem eu_L_law_981 : u_L_law_981 = du_L_law_981 := Classical.choose_spec (⟨du_L_law_981, rfl⟩ : ∃ f, f = du_L_law_981)
def du_L_law_824 (s : jS) (x0 x1 x2 x3 x4 : Int) : Option ((jS × List Int) ⊕ (jS × Bool × Int)) :=
  u_L_law_1407 s x0 x1 x2 x3 x4
noncomputable def u_L_law_824 : jS → Int → Int → Int → Int → Int → Option ((jS × List Int) ⊕ (jS × Bool × Int)) := Classical.choose (⟨du_L_law_824, rfl⟩ : ∃ f, f = du_L_law_824)
theorem eu_L_law_824 : u_L_law_824 = du_L_law_824 := Classical.choose_spec (⟨du_L_law_824, rfl⟩ : ∃ f, f = du_L_law_824)
def du_L_law_791 (s : jS) (x0 x1 x2 x3 x4 x5 y0 y1 y2 : Int) : Option ((jS × List Int) ⊕ (jS × Bool × Int)) :=
  (jct s 57 y2 (m_X37_link s y2 y1 y0)).bind fun q1 =>
  (jct q1.1 57 x2 (m_X37_thrown q1.1 x2)).bind fun v2 =>
  if v2 = x5 then
    if x5 = 0 then
      (jld q1.1 1004 x3 0).bind fun v3 =>
      if (L_cmp v3 q1.2) = 0 then
        u_L_law_824 q1.1 x0 x1 x2 x3 x4
      else
        jinr (some (q1.1, false, Wz 0))
    else
      u_L_law_824 q1.1 x0 x1 x2 x3 x4
  else
    jinr (some (q1.1, false, Wz 0))
noncomputable def u_L_law_791 : jS → Int → Int → Int → Int → Int → Int → Int → Int → Int → Option ((jS × List Int) ⊕ (jS × Bool × Int)) := Classical.choose (⟨du_L_law_791, rfl⟩ : ∃ f, f = du_L_law_791)
theorem eu_L_law_791 : u_L_law_791 = du_L_law_791 := Classical.choose_spec (⟨du_L_law_791, rfl⟩ : ∃ f, f = du_L_law_791)
def du_L_law_764 (s : jS) (x0 x1 x2 x3 x4 y0 y1 y2 : Int) : Option ((jS × List Int) ⊕ (jS × Bool × Int)) :=
  (m_X0_link s y2 y1 y0 x3).bind fun q1 =>
  (jldE q1.1 1000 x0 (W32 (x4 + 1))).bind fun v2 =>
  (jldE q1.1 1000 x0 (W32 (x4 + 2))).bind fun v3 =>
  if v3 = 0 then
    u_L_law_791 q1.1 x0 x1 x2 x3 x4 q1.2 0 v2 x2
  else
    u_L_law_791 q1.1 x0 x1 x2 x3 x4 q1.2 1 v2 x2
noncomputable def u_L_law_764 : jS → Int → Int → Int → Int → Int → Int → Int → Int → Option ((jS × List Int) ⊕ (jS × Bool × Int)) := Classical.choose (⟨du_L_law_764, rfl⟩ : ∃ f, f = du_L_law_764)
theorem eu_L_law_764 : u_L_law_764 = du_L_law_764 := Classical.choose_spec (⟨du_L_law_764, rfl⟩ : ∃ f, f = du_L_law_764)
def du_L_law_691 (s : jS) (x0 x1 x2 x3 x4 : Int) : Option ((jS × List Int) ⊕ (jS × Bool × Int)) :=
  u_L_law_1407 s x0 x1 x2 x3 x4
noncomputable def u_L_law_691 : jS → Int → Int → Int → Int → Int → Option ((jS × List Int) ⊕ (jS × Bool × Int)) := Classical.choose (⟨du_L_law_691, rfl⟩ : ∃ f, f = du_L_law_691)
theorem eu_L_law_691 : u_L_law_691 = du_L_law_691 := Classical.choose_spec (⟨du_L_law_691, rfl⟩ : ∃ f, f = du_L_law_691)
def du_L_law_406 (s : jS) (x0 x1 x2 x3 x4 : Int) : Option ((jS × List Int) ⊕ (jS × Bool × Int)) :=
  u_L_law_1407 s x0 x1 x2 x3 x4
noncomputable def u_L_law_406 : jS → Int → Int → Int → Int → Int → Option ((jS × List Int) ⊕ (jS × Bool × Int)) := Classical.choose (⟨du_L_law_406, rfl⟩ : ∃ f, f = du_L_law_406)
theorem eu_L_law_406 : u_L_law_406 = du_L_law_406 := Classical.choose_spec (⟨du_L_law_406, rfl⟩ : ∃ f, f = du_L_law_406)
def du_L_law_325 (s : jS) (x0 x1 x2 x3 x4 : Int) : Option ((jS × List Int) ⊕ (jS × Bool × Int)) :=
  u_L_law_1407 s x0 x1 x2 x3 x4
noncomputable def u_L_law_325 : jS → Int → Int → Int → Int → Int → Option ((jS × List Int) ⊕ (jS × Bool × Int)) := Classical.choose (⟨du_L_law_325, rfl⟩ : ∃ f, f = du_L_law_325)
theorem eu_L_law_325 : u_L_law_325 = du_L_law_325 := Classical.choose_spec (⟨du_L_law_325, rfl⟩ : ∃ f, f = du_L_law_325)
def b_L_law_23 (s : jS) (x0 x1 x2 x3 x4 : Int) : Option ((jS × List Int) ⊕ (jS × Bool × Int)) :=
  (jlnE s 1000 x0).bind fun v1 =>
  if (W32 (v1 - 6)) < x4 then
    jinr (some (s, false, Wz 1))
  else
    (jldE s 1000 x0 x4).bind fun v2 =>
    if (I_and v2 31) = 0 then
      (jldE s 1000 x0 (W32 (x4 + 1))).bind fun v3 =>
      (jldE s 1000 x0 (W32 (x4 + 2))).bind fun v4 =>
      (jldE s 1000 x0 (W32 (x4 + 3))).bind fun v5 =>
      (jldE s 1000 x0 (W32 (x4 + 4))).bind fun v6 =>
      (jldE s 1000 x0 (W32 (x4 + 5))).bind fun v7 =>
      (jct s 17 x1 (m_X1_feed s x1 v3 v4 v5 v6 v7)).bind fun q8 =>
      (jldE q8.1 1000 x0 (W32 (x4 + 1))).bind fun v9 =>
      (jldE q8.1 1000 x0 (W32 (x4 + 2))).bind fun v10 =>
      (jldE q8.1 1000 x0 (W32 (x4 + 3))).bind fun v11 =>
      (jldE q8.1 1000 x0 (W32 (x4 + 4))).bind fun v12 =>
      (jldE q8.1 1000 x0 (W32 (x4 + 5))).bind fun v13 =>
      (jct q8.1 57 x2 (m_X37_feed q8.1 x2 v9 v10 v11 v12 v13)).bind fun q14 =>
      u_L_law_1407 q14.1 x0 x1 x2 x3 x4
    else
    if (I_and v2 31) = 1 then
      (jldE s 1000 x0 (W32 (x4 + 1))).bind fun v15 =>
      (jct s 17 x1 (m_X1_end s x1 v15)).bind fun q16 =>
      (jldE q16.1 1000 x0 (W32 (x4 + 1))).bind fun v17 =>
      (jct q16.1 57 x2 (m_X37_end q16.1 x2 v17)).bind fun q18 =>
      if q16.2 = q18.2 then
        u_L_law_1407 q18.1 x0 x1 x2 x3 x4
      else
        jinr (some (q18.1, false, Wz 0))
    else
    if (I_and v2 31) = 2 then
      (jldE s 1000 x0 (W32 (x4 + 1))).bind fun v19 =>
      (m_X0_assemble s x1 v19 x3).bind fun q20 =>
      (jldE q20.1 1000 x0 (W32 (x4 + 1))).bind fun v21 =>
      (jct q20.1 57 x2 (m_X37_assemble q20.1 x2 v21)).bind fun q22 =>
      (jct q22.1 57 x2 (m_X37_thrown q22.1 x2)).bind fun v23 =>
      if v23 = q20.2 then
        if q20.2 = 0 then
          (jld q22.1 1004 x3 0).bind fun v24 =>
          if (L_cmp v24 q22.2) = 0 then
            u_L_law_325 q22.1 x0 x1 x2 x3 x4
          else
            jinr (some (q22.1, false, Wz 0))
        else
          u_L_law_325 q22.1 x0 x1 x2 x3 x4
      else
        jinr (some (q22.1, false, Wz 0))
    else
    if (I_and v2 31) = 3 then
      (jldE s 1000 x0 (W32 (x4 + 1))).bind fun v25 =>
      (jct s 17 x1 (m_X1_fault s x1 v25)).bind fun v26 =>
      (jldE s 1000 x0 (W32 (x4 + 1))).bind fun v27 =>
      (jct s 57 x2 (m_X37_fault s x2 v27)).bind fun q28 =>
      if v26 = q28.2 then
        u_L_law_1407 q28.1 x0 x1 x2 x3 x4
      else
        jinr (some (q28.1, false, Wz 0))
    else
    if (I_and v2 31) = 4 then
      (jldE s 1000 x0 (W32 (x4 + 1))).bind fun v29 =>
      (m_X0_take s x1 v29 x3).bind fun q30 =>
      (jldE q30.1 1000 x0 (W32 (x4 + 1))).bind fun v31 =>
      (jct q30.1 57 x2 (m_X37_take q30.1 x2 v31)).bind fun q32 =>
      (jct q32.1 57 x2 (m_X37_thrown q32.1 x2)).bind fun v33 =>
      if v33 = q30.2 then
        if q30.2 = 0 then
          (jld q32.1 1004 x3 0).bind fun v34 =>
          if (L_cmp v34 q32.2) = 0 then
            u_L_law_406 q32.1 x0 x1 x2 x3 x4
          else
            jinr (some (q32.1, false, Wz 0))
        else
          u_L_law_406 q32.1 x0 x1 x2 x3 x4
      else
        jinr (some (q32.1, false, Wz 0))
    else
    if (I_and v2 31) = 5 then
      (jldE s 1000 x0 (W32 (x4 + 1))).bind fun v35 =>
      (jldE s 1000 x0 (W32 (x4 + 2))).bind fun v36 =>
      (jldE s 1000 x0 (W32 (x4 + 3))).bind fun v37 =>
      (jldE s 1000 x0 (W32 (x4 + 4))).bind fun v38 =>
      (jct s 17 x1 (m_X1_extend s x1 v35 v36 (L_or (L_shl v37 32) (L_and v38 4294967295)))).bind fun q39 =>
      (jldE q39.1 1000 x0 (W32 (x4 + 1))).bind fun v40 =>
      (jldE q39.1 1000 x0 (W32 (x4 + 2))).bind fun v41 =>
      (jldE q39.1 1000 x0 (W32 (x4 + 3))).bind fun v42 =>
      (jldE q39.1 1000 x0 (W32 (x4 + 4))).bind fun v43 =>
      (jct q39.1 57 x2 (m_X37_extend q39.1 x2 v40 v41 (L_or (L_shl v42 32) (L_and v43 4294967295)))).bind fun q44 =>
      if q39.2 = q44.2 then
        u_L_law_1407 q44.1 x0 x1 x2 x3 x4
      else
        jinr (some (q44.1, false, Wz 0))
    else
    if (I_and v2 31) = 6 then
      (jldE s 1000 x0 (W32 (x4 + 1))).bind fun v45 =>
      (jldE s 1000 x0 (W32 (x4 + 2))).bind fun v46 =>
      (jct s 17 x1 (m_X1_cut s x1 v45 v46)).bind fun q47 =>
      (jldE q47.1 1000 x0 (W32 (x4 + 1))).bind fun v48 =>
      (jldE q47.1 1000 x0 (W32 (x4 + 2))).bind fun v49 =>
      (jct q47.1 57 x2 (m_X37_cut q47.1 x2 v48 v49)).bind fun q50 =>
      if q47.2 = q50.2 then
        u_L_law_1407 q50.1 x0 x1 x2 x3 x4
      else
        jinr (some (q50.1, false, Wz 0))
    else
    if (I_and v2 31) = 7 then
      (jldE s 1000 x0 (W32 (x4 + 1))).bind fun v51 =>
      (jldE s 1000 x0 (W32 (x4 + 2))).bind fun v52 =>
      (jldE s 1000 x0 (W32 (x4 + 3))).bind fun v53 =>
      (jct s 17 x1 (m_X1_spoil s x1 v51 v52 v53)).bind fun q54 =>
      (jldE q54.1 1000 x0 (W32 (x4 + 1))).bind fun v55 =>
      (jldE q54.1 1000 x0 (W32 (x4 + 2))).bind fun v56 =>
      (jldE q54.1 1000 x0 (W32 (x4 + 3))).bind fun v57 =>
      (jct q54.1 57 x2 (m_X37_spoil q54.1 x2 v55 v56 v57)).bind fun q58 =>
      if q54.2 = q58.2 then
        u_L_law_1407 q58.1 x0 x1 x2 x3 x4
      else
        jinr (some (q58.1, false, Wz 0))
    else
    if (I_and v2 31) = 8 then
      (jldE s 1000 x0 (W32 (x4 + 1))).bind fun v59 =>
      (jct s 17 x1 (m_X1_size s x1 v59)).bind fun v60 =>
      (jldE s 1000 x0 (W32 (x4 + 1))).bind fun v61 =>
      (jct s 57 x2 (m_X37_size s x2 v61)).bind fun q62 =>
      if v60 = q62.2 then
        u_L_law_1407 q62.1 x0 x1 x2 x3 x4
      else
        jinr (some (q62.1, false, Wz 0))
    else
    if (I_and v2 31) = 9 then
      (jldE s 1000 x0 (W32 (x4 + 1))).bind fun v63 =>
      (jldE s 1000 x0 (W32 (x4 + 2))).bind fun v64 =>
      (jct s 17 x1 (m_X1_byteAt s x1 v63 v64)).bind fun v65 =>
      (jldE s 1000 x0 (W32 (x4 + 1))).bind fun v66 =>
      (jldE s 1000 x0 (W32 (x4 + 2))).bind fun v67 =>
      (jct s 57 x2 (m_X37_byteAt s x2 v66 v67)).bind fun q68 =>
      if v65 = q68.2 then
        u_L_law_1407 q68.1 x0 x1 x2 x3 x4
      else
        jinr (some (q68.1, false, Wz 0))
    else
    if (I_and v2 31) = 10 then
      (jldE s 1000 x0 (W32 (x4 + 1))).bind fun v69 =>
      (m_X0_check s x1 v69 x3).bind fun q70 =>
      (jldE q70.1 1000 x0 (W32 (x4 + 1))).bind fun v71 =>
      (jct q70.1 57 x2 (m_X37_check q70.1 x2 v71)).bind fun q72 =>
      (jct q72.1 57 x2 (m_X37_thrown q72.1 x2)).bind fun v73 =>
      if v73 = q70.2 then
        if q70.2 = 0 then
          (jld q72.1 1004 x3 0).bind fun v74 =>
          if (L_cmp v74 q72.2) = 0 then
            u_L_law_691 q72.1 x0 x1 x2 x3 x4
          else
            jinr (some (q72.1, false, Wz 0))
        else
          u_L_law_691 q72.1 x0 x1 x2 x3 x4
      else
        jinr (some (q72.1, false, Wz 0))
    else
    if (I_and v2 31) = 11 then
      (jldE s 1000 x0 (W32 (x4 + 1))).bind fun v75 =>
      (jldE s 1000 x0 (W32 (x4 + 2))).bind fun v76 =>
      (jldE s 1000 x0 (W32 (x4 + 3))).bind fun v77 =>
      (jct s 17 x1 (m_X1_object s x1 v75 v76 v77)).bind fun v78 =>
      (jldE s 1000 x0 (W32 (x4 + 1))).bind fun v79 =>
      (jldE s 1000 x0 (W32 (x4 + 2))).bind fun v80 =>
      (jldE s 1000 x0 (W32 (x4 + 3))).bind fun v81 =>
      (jct s 57 x2 (m_X37_object s x2 v79 v80 v81)).bind fun q82 =>
      if v78 = q82.2 then
        u_L_law_1407 q82.1 x0 x1 x2 x3 x4
      else
        jinr (some (q82.1, false, Wz 0))
    else
    if (I_and v2 31) = 12 then
      (jldE s 1000 x0 (W32 (x4 + 1))).bind fun v83 =>
      (jldE s 1000 x0 (W32 (x4 + 2))).bind fun v84 =>
      if v84 = 0 then
        u_L_law_764 s x0 x1 x2 x3 x4 0 v83 x1
      else
        u_L_law_764 s x0 x1 x2 x3 x4 1 v83 x1
    else
    if (I_and v2 31) = 13 then
      (jldE s 1000 x0 (W32 (x4 + 1))).bind fun v85 =>
      (jct s 17 x1 (m_X1_linked s x1 v85)).bind fun v86 =>
      (jldE s 1000 x0 (W32 (x4 + 1))).bind fun v87 =>
      (jct s 57 x2 (m_X37_linked s x2 v87)).bind fun q88 =>
      if v86 = q88.2 then
        u_L_law_1407 q88.1 x0 x1 x2 x3 x4
      else
        jinr (some (q88.1, false, Wz 0))
    else
    if (I_and v2 31) = 14 then
      (jldE s 1000 x0 (W32 (x4 + 1))).bind fun v89 =>
      (jldE s 1000 x0 (W32 (x4 + 2))).bind fun v90 =>
      (jldE s 1000 x0 (W32 (x4 + 3))).bind fun v91 =>
      (jldE s 1000 x0 (W32 (x4 + 4))).bind fun v92 =>
      (m_X0_where s x1 (L_or (L_shl v89 32) (L_and v90 4294967295)) (L_or (L_shl v91 32) (L_and v92 4294967295)) x3).bind fun q93 =>
      (jldE q93.1 1000 x0 (W32 (x4 + 1))).bind fun v94 =>
      (jldE q93.1 1000 x0 (W32 (x4 + 2))).bind fun v95 =>
      (jldE q93.1 1000 x0 (W32 (x4 + 3))).bind fun v96 =>
      (jldE q93.1 1000 x0 (W32 (x4 + 4))).bind fun v97 =>
      (jct q93.1 57 x2 (m_X37_where q93.1 x2 (L_or (L_shl v94 32) (L_and v95 4294967295)) (L_or (L_shl v96 32) (L_and v97 4294967295)))).bind fun q98 =>
      (jct q98.1 57 x2 (m_X37_thrown q98.1 x2)).bind fun v99 =>
      if v99 = q93.2 then
        if q93.2 = 0 then
          (jld q98.1 1004 x3 0).bind fun v100 =>
          if (L_cmp v100 q98.2) = 0 then
            u_L_law_981 q98.1 x0 x1 x2 x3 x4
          else
            jinr (some (q98.1, false, Wz 0))
        else
          u_L_law_981 q98.1 x0 x1 x2 x3 x4
      else
        jinr (some (q98.1, false, Wz 0))
    else
    if (I_and v2 31) = 15 then
      (jct s 17 x1 (m_X1_load s x1)).bind fun q101 =>
      (jct q101.1 57 x2 (m_X37_load q101.1 x2)).bind fun q102 =>
      if q101.2 = q102.2 then
        u_L_law_1407 q102.1 x0 x1 x2 x3 x4
      else
        jinr (some (q102.1, false, Wz 0))
    else
    if (I_and v2 31) = 16 then
      (jct s 17 x1 (m_X1_place s x1)).bind fun v103 =>
      (jct s 57 x2 (m_X37_place s x2)).bind fun q104 =>
      if v103 = q104.2 then
        u_L_law_1407 q104.1 x0 x1 x2 x3 x4
      else
        jinr (some (q104.1, false, Wz 0))
    else
    if (I_and v2 31) = 17 then
      (jct s 17 x1 (m_X1_step s x1)).bind fun q105 =>
      (jct q105.1 57 x2 (m_X37_step q105.1 x2)).bind fun q106 =>
      if q105.2 = q106.2 then
        u_L_law_1407 q106.1 x0 x1 x2 x3 x4
      else
        jinr (some (q106.1, false, Wz 0))
    else
    if (I_and v2 31) = 18 then
      (jldE s 1000 x0 (W32 (x4 + 1))).bind fun v107 =>
      (jct s 17 x1 (m_X1_run s x1 v107)).bind fun q108 =>
      (jldE q108.1 1000 x0 (W32 (x4 + 1))).bind fun v109 =>
      (jct q108.1 57 x2 (m_X37_run q108.1 x2 v109)).bind fun q110 =>
      if q108.2 = q110.2 then
        u_L_law_1407 q110.1 x0 x1 x2 x3 x4
      else
        jinr (some (q110.1, false, Wz 0))
    else
    if (I_and v2 31) = 19 then
      (jldE s 1000 x0 (W32 (x4 + 1))).bind fun v111 =>
      (jct s 17 x1 (m_X1_back s x1 v111)).bind fun q112 =>
      (jldE q112.1 1000 x0 (W32 (x4 + 1))).bind fun v113 =>
      (jct q112.1 57 x2 (m_X37_back q112.1 x2 v113)).bind fun q114 =>
      if q112.2 = q114.2 then
        u_L_law_1407 q114.1 x0 x1 x2 x3 x4
      else
        jinr (some (q114.1, false, Wz 0))
    else
    if (I_and v2 31) = 20 then
      (jldE s 1000 x0 (W32 (x4 + 1))).bind fun v115 =>
      (jldE s 1000 x0 (W32 (x4 + 2))).bind fun v116 =>
      (jct s 17 x1 (m_X1_set s x1 v115 v116)).bind fun q117 =>
      (jldE q117.1 1000 x0 (W32 (x4 + 1))).bind fun v118 =>
      (jldE q117.1 1000 x0 (W32 (x4 + 2))).bind fun v119 =>
      (jct q117.1 57 x2 (m_X37_set q117.1 x2 v118 v119)).bind fun q120 =>
      if q117.2 = q120.2 then
        u_L_law_1407 q120.1 x0 x1 x2 x3 x4
      else
        jinr (some (q120.1, false, Wz 0))
    else
    if (I_and v2 31) = 21 then
      (jldE s 1000 x0 (W32 (x4 + 1))).bind fun v121 =>
      (jct s 17 x1 (m_X1_get s x1 v121)).bind fun v122 =>
      (jldE s 1000 x0 (W32 (x4 + 1))).bind fun v123 =>
      (jct s 57 x2 (m_X37_get s x2 v123)).bind fun q124 =>
      if v122 = q124.2 then
        u_L_law_1407 q124.1 x0 x1 x2 x3 x4
      else
        jinr (some (q124.1, false, Wz 0))
    else
    if (I_and v2 31) = 22 then
      (jldE s 1000 x0 (W32 (x4 + 1))).bind fun v125 =>
      (jct s 17 x1 (m_X1_peek s x1 v125)).bind fun v126 =>
      (jldE s 1000 x0 (W32 (x4 + 1))).bind fun v127 =>
      (jct s 57 x2 (m_X37_peek s x2 v127)).bind fun q128 =>
      if v126 = q128.2 then
        u_L_law_1407 q128.1 x0 x1 x2 x3 x4
      else
        jinr (some (q128.1, false, Wz 0))
    else
    if (I_and v2 31) = 23 then
      (jldE s 1000 x0 (W32 (x4 + 1))).bind fun v129 =>
      (jldE s 1000 x0 (W32 (x4 + 2))).bind fun v130 =>
      (jldE s 1000 x0 (W32 (x4 + 3))).bind fun v131 =>
      (jct s 17 x1 (m_X1_input s x1 v129 (L_or (L_shl v130 32) (L_and v131 4294967295)))).bind fun q132 =>
      (jldE q132.1 1000 x0 (W32 (x4 + 1))).bind fun v133 =>
      (jldE q132.1 1000 x0 (W32 (x4 + 2))).bind fun v134 =>
      (jldE q132.1 1000 x0 (W32 (x4 + 3))).bind fun v135 =>
      (jct q132.1 57 x2 (m_X37_input q132.1 x2 v133 (L_or (L_shl v134 32) (L_and v135 4294967295)))).bind fun q136 =>
      if q132.2 = q136.2 then
        u_L_law_1407 q136.1 x0 x1 x2 x3 x4
      else
        jinr (some (q136.1, false, Wz 0))
    else
    if (I_and v2 31) = 24 then
      (jldE s 1000 x0 (W32 (x4 + 1))).bind fun v137 =>
      (jldE s 1000 x0 (W32 (x4 + 2))).bind fun v138 =>
      if v138 = 0 then
        u_L_law_1250 s x0 x1 x2 x3 x4 0 v137 x1
      else
        u_L_law_1250 s x0 x1 x2 x3 x4 1 v137 x1
    else
    if (I_and v2 31) = 25 then
      (jldE s 1000 x0 (W32 (x4 + 1))).bind fun v139 =>
      (jct s 17 x1 (m_X1_state s x1 v139)).bind fun v140 =>
      (jldE s 1000 x0 (W32 (x4 + 1))).bind fun v141 =>
      (jct s 57 x2 (m_X37_state s x2 v141)).bind fun q142 =>
      if v140 = q142.2 then
        u_L_law_1407 q142.1 x0 x1 x2 x3 x4
      else
        jinr (some (q142.1, false, Wz 0))
    else
    if (I_and v2 31) = 26 then
      (jldE s 1000 x0 (W32 (x4 + 1))).bind fun v143 =>
      (jct s 17 x1 (m_X1_output s x1 v143)).bind fun v144 =>
      (jldE s 1000 x0 (W32 (x4 + 1))).bind fun v145 =>
      (jct s 57 x2 (m_X37_output s x2 v145)).bind fun q146 =>
      if v144 = q146.2 then
        u_L_law_1407 q146.1 x0 x1 x2 x3 x4
      else
        jinr (some (q146.1, false, Wz 0))
    else
    if (I_and v2 31) = 27 then
      (jldE s 1000 x0 (W32 (x4 + 1))).bind fun v147 =>
      (jct s 17 x1 (m_X1_rights s x1 v147)).bind fun v148 =>
      (jldE s 1000 x0 (W32 (x4 + 1))).bind fun v149 =>
      (jct s 57 x2 (m_X37_rights s x2 v149)).bind fun q150 =>
      if v148 = q150.2 then
        u_L_law_1407 q150.1 x0 x1 x2 x3 x4
      else
        jinr (some (q150.1, false, Wz 0))
    else
    if (I_and v2 31) = 28 then
      (jldE s 1000 x0 (W32 (x4 + 1))).bind fun v151 =>
      (jct s 17 x1 (m_X1_tell s x1 v151)).bind fun q152 =>
      jth q152.2.1 (jinr (some (q152.1, true, q152.2.2))) <|
      (jldE q152.1 1000 x0 (W32 (x4 + 1))).bind fun v153 =>
      (jct q152.1 57 x2 (m_X37_tell q152.1 x2 v153)).bind fun q154 =>
      if q152.2.2 = q154.2 then
        u_L_law_1407 q154.1 x0 x1 x2 x3 x4
      else
        jinr (some (q154.1, false, Wz 0))
    else
    if (I_and v2 31) = 29 then
      (jldE s 1000 x0 (W32 (x4 + 1))).bind fun v155 =>
      (jct s 17 x1 (m_X1_letter s x1 v155)).bind fun v156 =>
      (jldE s 1000 x0 (W32 (x4 + 1))).bind fun v157 =>
      (jct s 57 x2 (m_X37_letter s x2 v157)).bind fun q158 =>
      if v156 = q158.2 then
        u_L_law_1407 q158.1 x0 x1 x2 x3 x4
      else
        jinr (some (q158.1, false, Wz 0))
    else
    u_L_law_1407 s x0 x1 x2 x3 x4
def du_L_law_23 (s : jS) (x0 x1 x2 x3 x4 : Int) : Option (jS × Bool × Int) := jlpW (jc5 b_L_law_23) [x0, x1, x2, x3, x4] s
noncomputable def u_L_law_23 : jS → Int → Int → Int → Int → Int → Option (jS × Bool × Int) := Classical.choose (⟨du_L_law_23, rfl⟩ : ∃ f, f = du_L_law_23)
theorem eu_L_law_23 : u_L_law_23 = du_L_law_23 := Classical.choose_spec (⟨du_L_law_23, rfl⟩ : ∃ f, f = du_L_law_23)
def dm_L_law (s : jS) (x0 : Int) : Option (jS × Bool × Int) :=
  (jnw s 1 12 (jdf 1)).bind fun q1 =>
  (jck0 q1.2 (m_X1_init q1.1 q1.2)).bind fun q2 =>
  (jnw q2.1 41 119 (jdf 41)).bind fun q3 =>
  (jck0 q3.2 (m_X37_init q3.1 q3.2)).bind fun q4 =>
  (jna q4.1 1004 1 0).bind fun q5 =>
  u_L_law_23 q5.1 x0 q1.2 q3.2 q5.2 0
noncomputable def m_L_law : jS → Int → Option (jS × Bool × Int) := Classical.choose (⟨dm_L_law, rfl⟩ : ∃ f, f = dm_L_law)
theorem em_L_law : m_L_law = dm_L_law := Classical.choose_spec (⟨dm_L_law, rfl⟩ : ∃ f, f = dm_L_law)
end
