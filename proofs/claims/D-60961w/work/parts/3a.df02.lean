/-! the functions: printed by gen_meth.py -/
set_option maxRecDepth 100000
noncomputable section
def dm_X28_isOver (s : jS) (x0 x1 x2 x3 : Int) : Option (Int) :=
  if 0 < x3 then
    (m_X28_value s x0 x1 1).bind fun v1 =>
    if v1 < (W32 (x2 + x3)) then
      (m_X28_value s x0 x1 1).bind fun v2 =>
      (m_X28_value s x0 x1 4).bind fun v3 =>
      if x2 < (W32 (v2 + v3)) then
        some (Wz 1)
      else
        some (Wz 0)
    else
      some (Wz 0)
  else
    some (Wz 0)
noncomputable def m_X28_isOver : jS → Int → Int → Int → Int → Option (Int) := Classical.choose (⟨dm_X28_isOver, rfl⟩ : ∃ f, f = dm_X28_isOver)
theorem em_X28_isOver : m_X28_isOver = dm_X28_isOver := Classical.choose_spec (⟨dm_X28_isOver, rfl⟩ : ∃ f, f = dm_X28_isOver)
def du_X29_init_137 (s : jS) (x0 : Int) : Option (jS × Int) :=
  (jrd s 33 x0 7).bind fun v1 =>
  (jld s 1022 v1 0).bind fun v2 =>
  (jwr s 33 x0 22 v2).bind fun s3 =>
  some (s3, 0)
noncomputable def u_X29_init_137 : jS → Int → Option (jS × Int) := Classical.choose (⟨du_X29_init_137, rfl⟩ : ∃ f, f = du_X29_init_137)
theorem eu_X29_init_137 : u_X29_init_137 = du_X29_init_137 := Classical.choose_spec (⟨du_X29_init_137, rfl⟩ : ∃ f, f = du_X29_init_137)
def b_X29_init_112 (s : jS) (x0 x1 : Int) : Option ((jS × List Int) ⊕ (jS × Int)) :=
  if 100 < x1 then
    jinr (u_X29_init_137 s x0)
  else
    (jrd s 33 x0 7).bind fun v1 =>
    (jnw s 36 13 (jdf 36)).bind fun q2 =>
    (jct q2.1 52 q2.2 (jck0 q2.2 (m_X32_init q2.1 q2.2))).bind fun q3 =>
    (jas q3.1 1022 36 v1 x1 q2.2).bind fun s4 =>
    some (.inl (s4, [x0, W32 (x1 + 1)]))
def du_X29_init_112 (s : jS) (x0 x1 : Int) : Option (jS × Int) := jlpW (jc2 b_X29_init_112) [x0, x1] s
noncomputable def u_X29_init_112 : jS → Int → Int → Option (jS × Int) := Classical.choose (⟨du_X29_init_112, rfl⟩ : ∃ f, f = du_X29_init_112)
theorem eu_X29_init_112 : u_X29_init_112 = du_X29_init_112 := Classical.choose_spec (⟨du_X29_init_112, rfl⟩ : ∃ f, f = du_X29_init_112)
def du_X29_init_110 (s : jS) (x0 : Int) : Option (jS × Int) :=
  u_X29_init_112 s x0 0
noncomputable def u_X29_init_110 : jS → Int → Option (jS × Int) := Classical.choose (⟨du_X29_init_110, rfl⟩ : ∃ f, f = du_X29_init_110)
theorem eu_X29_init_110 : u_X29_init_110 = du_X29_init_110 := Classical.choose_spec (⟨du_X29_init_110, rfl⟩ : ∃ f, f = du_X29_init_110)
def b_X29_init_85 (s : jS) (x0 x1 : Int) : Option ((jS × List Int) ⊕ (jS × Int)) :=
  if x1 < 8 then
    (jrd s 33 x0 2).bind fun v1 =>
    (jnw s 35 3 (jdf 35)).bind fun q2 =>
    (jct q2.1 51 q2.2 (jck0 q2.2 (m_X31_init q2.1 q2.2))).bind fun q3 =>
    (jas q3.1 1023 35 v1 x1 q2.2).bind fun s4 =>
    some (.inl (s4, [x0, W32 (x1 + 1)]))
  else
    jinr (u_X29_init_110 s x0)
def du_X29_init_85 (s : jS) (x0 x1 : Int) : Option (jS × Int) := jlpW (jc2 b_X29_init_85) [x0, x1] s
noncomputable def u_X29_init_85 : jS → Int → Int → Option (jS × Int) := Classical.choose (⟨du_X29_init_85, rfl⟩ : ∃ f, f = du_X29_init_85)
theorem eu_X29_init_85 : u_X29_init_85 = du_X29_init_85 := Classical.choose_spec (⟨du_X29_init_85, rfl⟩ : ∃ f, f = du_X29_init_85)
def dm_X29_init (s : jS) (x0 : Int) : Option (jS × Int) :=
  jck0 x0 <|
  (jna s 1001 131072 0).bind fun q1 =>
  (jwr q1.1 33 x0 0 q1.2).bind fun s2 =>
  (jna s2 1002 65536 0).bind fun q3 =>
  (jwr q3.1 33 x0 1 q3.2).bind fun s4 =>
  (jna s4 1023 8 (-1)).bind fun q5 =>
  (jwr q5.1 33 x0 2 q5.2).bind fun s6 =>
  (jna s6 1000 32 0).bind fun q7 =>
  (jwr q7.1 33 x0 3 q7.2).bind fun s8 =>
  (jna s8 1000 8 0).bind fun q9 =>
  (jwr q9.1 33 x0 4 q9.2).bind fun s10 =>
  (jna s10 1001 1000 0).bind fun q11 =>
  (jwr q11.1 33 x0 5 q11.2).bind fun s12 =>
  (jna s12 1001 2000 0).bind fun q13 =>
  (jwr q13.1 33 x0 6 q13.2).bind fun s14 =>
  (jna s14 1022 101 (-1)).bind fun q15 =>
  (jwr q15.1 33 x0 7 q15.2).bind fun s16 =>
  (jnw s16 34 6 (jdf 34)).bind fun q17 =>
  (jct q17.1 50 q17.2 (jck0 q17.2 (m_X30_init q17.1 q17.2))).bind fun q18 =>
  (jwr q18.1 33 x0 8 q17.2).bind fun s19 =>
  u_X29_init_85 s19 x0 0
noncomputable def m_X29_init : jS → Int → Option (jS × Int) := Classical.choose (⟨dm_X29_init, rfl⟩ : ∃ f, f = dm_X29_init)
theorem em_X29_init : m_X29_init = dm_X29_init := Classical.choose_spec (⟨dm_X29_init, rfl⟩ : ∃ f, f = dm_X29_init)
def dm_X29_segment (s : jS) (x0 x1 x2 x3 x4 : Int) : Option (jS × Int) :=
  if x1 < 0 then
    some (s, Wz 0)
  else
    if x1 < 8 then
      if x2 < 0 then
        some (s, Wz 0)
      else
        if x3 < 0 then
          some (s, Wz 0)
        else
          if 0 < (L_cmp (W64 (x2 + x3)) 131072) then
            some (s, Wz 0)
          else
            if x4 < 0 then
              some (s, Wz 0)
            else
              if 7 < x4 then
                some (s, Wz 0)
              else
                (jix 8 x1 ((x0 + 3) + 7 + 1 * x1)).bind fun v1 =>
                jls (jp s 35 v1 0 x2) fun s2 =>
                (jix 8 x1 ((x0 + 3) + 7 + 1 * x1)).bind fun v3 =>
                jls (jp s2 35 v3 1 x3) fun s4 =>
                (jix 8 x1 ((x0 + 3) + 7 + 1 * x1)).bind fun v5 =>
                jls (jp s4 35 v5 2 x4) fun s6 =>
                (m_X29_forget s6 x0).bind fun q7 =>
                some (q7.1, Wz 1)
    else
      some (s, Wz 0)
noncomputable def m_X29_segment : jS → Int → Int → Int → Int → Int → Option (jS × Int) := Classical.choose (⟨dm_X29_segment, rfl⟩ : ∃ f, f = dm_X29_segment)
theorem em_X29_segment : m_X29_segment = dm_X29_segment := Classical.choose_spec (⟨dm_X29_segment, rfl⟩ : ∃ f, f = dm_X29_segment)
def du_X29_poke_67 (s : jS) (x0 : Int) : Option (jS × Int) :=
  (m_X29_forget s x0).bind fun q1 =>
  some (q1.1, Wz 1)
noncomputable def u_X29_poke_67 : jS → Int → Option (jS × Int) := Classical.choose (⟨du_X29_poke_67, rfl⟩ : ∃ f, f = du_X29_poke_67)
theorem eu_X29_poke_67 : u_X29_poke_67 = du_X29_poke_67 := Classical.choose_spec (⟨du_X29_poke_67, rfl⟩ : ∃ f, f = du_X29_poke_67)
def b_X29_poke_34 (s : jS) (x0 x1 x2 x3 x5 : Int) : Option ((jS × List Int) ⊕ (jS × Int)) :=
  if x5 < x2 then
    (jst s 1001 (x0 + 1) 131072 (W32 (x1 + x5)) (W8 (W8 (L2i (L_shr x3 (W32 (56 - (W32 (8 * x5))))))))).bind fun s1 =>
    some (.inl (s1, [x0, x1, x2, x3, W32 (x5 + 1)]))
  else
    jinr (u_X29_poke_67 s x0)
def du_X29_poke_34 (s : jS) (x0 x1 x2 x3 x5 : Int) : Option (jS × Int) := jlpW (jc5 b_X29_poke_34) [x0, x1, x2, x3, x5] s
noncomputable def u_X29_poke_34 : jS → Int → Int → Int → Int → Int → Option (jS × Int) := Classical.choose (⟨du_X29_poke_34, rfl⟩ : ∃ f, f = du_X29_poke_34)
theorem eu_X29_poke_34 : u_X29_poke_34 = du_X29_poke_34 := Classical.choose_spec (⟨du_X29_poke_34, rfl⟩ : ∃ f, f = du_X29_poke_34)
def dm_X29_poke (s : jS) (x0 x1 x2 x3 : Int) : Option (jS × Int) :=
  if x2 < 1 then
    some (s, Wz 0)
  else
    if 8 < x2 then
      some (s, Wz 0)
    else
      (m_X29_beyond s x1).bind fun v1 =>
      if v1 = 0 then
        (m_X29_beyond s (W32 ((W32 (x1 + x2)) - 1))).bind fun v2 =>
        if v2 = 0 then
          u_X29_poke_34 s x0 x1 x2 x3 0
        else
          some (s, Wz 0)
      else
        some (s, Wz 0)
noncomputable def m_X29_poke : jS → Int → Int → Int → Int → Option (jS × Int) := Classical.choose (⟨dm_X29_poke, rfl⟩ : ∃ f, f = dm_X29_poke)
theorem em_X29_poke : m_X29_poke = dm_X29_poke := Classical.choose_spec (⟨dm_X29_poke, rfl⟩ : ∃ f, f = dm_X29_poke)
def du_X29_rightsOf_30 (s : jS) (x0 x2 : Int) : Option (Int) :=
  (jix 8 x2 ((x0 + 3) + 7 + 1 * x2)).bind fun v1 =>
  some (jf s 35 v1 2)
noncomputable def u_X29_rightsOf_30 : jS → Int → Int → Option (Int) := Classical.choose (⟨du_X29_rightsOf_30, rfl⟩ : ∃ f, f = du_X29_rightsOf_30)
theorem eu_X29_rightsOf_30 : u_X29_rightsOf_30 = du_X29_rightsOf_30 := Classical.choose_spec (⟨du_X29_rightsOf_30, rfl⟩ : ∃ f, f = du_X29_rightsOf_30)
def b_X29_rightsOf_11 (s : jS) (x0 x1 x2 : Int) : Option (List Int ⊕ (Int)) :=
  if x2 < 8 then
    (jix 8 x2 ((x0 + 3) + 7 + 1 * x2)).bind fun v1 =>
    (m_X31_has s v1 x1).bind fun v2 =>
    if v2 = 0 then
      some (.inl [x0, x1, W32 (x2 + 1)])
    else
      jinr (u_X29_rightsOf_30 s x0 x2)
  else
    jinr (some 0)
def du_X29_rightsOf_11 (s : jS) (x0 x1 x2 : Int) : Option (Int) := jlpR (jc3 b_X29_rightsOf_11) [x0, x1, x2] s
noncomputable def u_X29_rightsOf_11 : jS → Int → Int → Int → Option (Int) := Classical.choose (⟨du_X29_rightsOf_11, rfl⟩ : ∃ f, f = du_X29_rightsOf_11)
theorem eu_X29_rightsOf_11 : u_X29_rightsOf_11 = du_X29_rightsOf_11 := Classical.choose_spec (⟨du_X29_rightsOf_11, rfl⟩ : ∃ f, f = du_X29_rightsOf_11)
def dm_X29_rightsOf (s : jS) (x0 x1 : Int) : Option (Int) :=
  (m_X29_beyond s x1).bind fun v1 =>
  if v1 = 0 then
    u_X29_rightsOf_11 s x0 x1 0
  else
    some 0
noncomputable def m_X29_rightsOf : jS → Int → Int → Option (Int) := Classical.choose (⟨dm_X29_rightsOf, rfl⟩ : ∃ f, f = dm_X29_rightsOf)
theorem em_X29_rightsOf : m_X29_rightsOf = dm_X29_rightsOf := Classical.choose_spec (⟨dm_X29_rightsOf, rfl⟩ : ∃ f, f = dm_X29_rightsOf)
def du_X29_takeFirst_159 (s : jS) (y0 y1 : Int) : Option (jS × Int) :=
  (m_X29_only s y1 y0).bind fun q1 =>
  some (q1.1, 0)
noncomputable def u_X29_takeFirst_159 : jS → Int → Int → Option (jS × Int) := Classical.choose (⟨du_X29_takeFirst_159, rfl⟩ : ∃ f, f = du_X29_takeFirst_159)
theorem eu_X29_takeFirst_159 : u_X29_takeFirst_159 = du_X29_takeFirst_159 := Classical.choose_spec (⟨du_X29_takeFirst_159, rfl⟩ : ∃ f, f = du_X29_takeFirst_159)
def dm_X29_takeFirst (s : jS) (x0 x1 : Int) : Option (jS × Int) :=
  (m_X29_bits s x1 4 2).bind fun v1 =>
  jlet (W32 (8 + v1)) fun v2 =>
  (m_X29_bits s x1 9 7).bind fun v3 =>
  jlet (W32 (8 + v3)) fun v4 =>
  (m_X29_bits s x1 5 5).bind fun v5 =>
  (m_X29_bits s x1 12 10).bind fun v6 =>
  (m_X29_bits s x1 6 6).bind fun v7 =>
  jlet (I_or (I_or (I_shl v5 6) (I_shl v6 3)) (I_shl v7 2)) fun v8 =>
  (m_X29_bits s x1 10 7).bind fun v9 =>
  (m_X29_bits s x1 12 11).bind fun v10 =>
  (m_X29_bits s x1 5 5).bind fun v11 =>
  (m_X29_bits s x1 6 6).bind fun v12 =>
  jlet (I_or (I_or (I_or (I_shl v9 6) (I_shl v10 4)) (I_shl v11 3)) (I_shl v12 2)) fun v13 =>
  if (I_ushr x1 13) = 0 then
    (jct s 50 x0 (m_X30_is s x0 18 v2 2 0 v13)).bind fun q14 =>
    if v13 = 0 then
      u_X29_takeFirst_159 q14.1 0 x0
    else
      u_X29_takeFirst_159 q14.1 1 x0
  else
  if (I_ushr x1 13) = 2 then
    (jct s 50 x0 (m_X30_is s x0 12 v2 v4 0 v8)).bind fun q15 =>
    some (q15.1, 0)
  else
  if (I_ushr x1 13) = 6 then
    (jct s 50 x0 (m_X30_is s x0 17 0 v4 v2 v8)).bind fun q16 =>
    some (q16.1, 0)
  else
  (jwr s 34 x0 0 (-1)).bind fun s17 =>
  some (s17, 0)
noncomputable def m_X29_takeFirst : jS → Int → Int → Option (jS × Int) := Classical.choose (⟨dm_X29_takeFirst, rfl⟩ : ∃ f, f = dm_X29_takeFirst)
theorem em_X29_takeFirst : m_X29_takeFirst = dm_X29_takeFirst := Classical.choose_spec (⟨dm_X29_takeFirst, rfl⟩ : ∃ f, f = dm_X29_takeFirst)
def dm_X29_six (s : jS) (x0 : Int) : Option (Int) :=
  (m_X29_bits s x0 12 12).bind fun v1 =>
  (m_X29_bits s x0 6 2).bind fun v2 =>
  (m_X29_signed s (I_or (I_shl v1 5) v2) 6).bind fun v3 =>
  some v3
noncomputable def m_X29_six : jS → Int → Option (Int) := Classical.choose (⟨dm_X29_six, rfl⟩ : ∃ f, f = dm_X29_six)
theorem em_X29_six : m_X29_six = dm_X29_six := Classical.choose_spec (⟨dm_X29_six, rfl⟩ : ∃ f, f = dm_X29_six)
def du_X29_takePairs_152 (s : jS) (y0 y1 : Int) : Option (jS × Int) :=
  (m_X29_only s y1 y0).bind fun q1 =>
  some (q1.1, 0)
noncomputable def u_X29_takePairs_152 : jS → Int → Int → Option (jS × Int) := Classical.choose (⟨du_X29_takePairs_152, rfl⟩ : ∃ f, f = du_X29_takePairs_152)
theorem eu_X29_takePairs_152 : u_X29_takePairs_152 = du_X29_takePairs_152 := Classical.choose_spec (⟨du_X29_takePairs_152, rfl⟩ : ∃ f, f = du_X29_takePairs_152)
def du_X29_takePairs_119 (s : jS) (x0 x1 x2 y0 y1 : Int) : Option (jS × Int) :=
  (m_X29_bits s x1 4 2).bind fun v1 =>
  (jct s 50 y1 (m_X30_is s y1 y0 x2 x2 (W32 (8 + v1)) 0)).bind fun q2 =>
  (m_X29_bits q2.1 x1 12 12).bind fun v3 =>
  if v3 = 0 then
    u_X29_takePairs_152 q2.1 1 x0
  else
    u_X29_takePairs_152 q2.1 0 x0
noncomputable def u_X29_takePairs_119 : jS → Int → Int → Int → Int → Int → Option (jS × Int) := Classical.choose (⟨du_X29_takePairs_119, rfl⟩ : ∃ f, f = du_X29_takePairs_119)
theorem eu_X29_takePairs_119 : u_X29_takePairs_119 = du_X29_takePairs_119 := Classical.choose_spec (⟨du_X29_takePairs_119, rfl⟩ : ∃ f, f = du_X29_takePairs_119)
def du_X29_takePairs_66 (s : jS) (y0 y1 : Int) : Option (jS × Int) :=
  (m_X29_only s y1 y0).bind fun q1 =>
  some (q1.1, 0)
noncomputable def u_X29_takePairs_66 : jS → Int → Int → Option (jS × Int) := Classical.choose (⟨du_X29_takePairs_66, rfl⟩ : ∃ f, f = du_X29_takePairs_66)
theorem eu_X29_takePairs_66 : u_X29_takePairs_66 = du_X29_takePairs_66 := Classical.choose_spec (⟨du_X29_takePairs_66, rfl⟩ : ∃ f, f = du_X29_takePairs_66)
def du_X29_takePairs_65 (s : jS) (y0 : Int) : Option (jS × Int) :=
  u_X29_takePairs_66 s 0 y0
noncomputable def u_X29_takePairs_65 : jS → Int → Option (jS × Int) := Classical.choose (⟨du_X29_takePairs_65, rfl⟩ : ∃ f, f = du_X29_takePairs_65)
theorem eu_X29_takePairs_65 : u_X29_takePairs_65 = du_X29_takePairs_65 := Classical.choose_spec (⟨du_X29_takePairs_65, rfl⟩ : ∃ f, f = du_X29_takePairs_65)
def dm_X29_takePairs (s : jS) (x0 x1 x2 x3 : Int) : Option (jS × Int) :=
  (m_X29_bits s x1 11 10).bind fun v1 =>
  (m_X29_bits s x1 6 5).bind fun v2 =>
  if v1 < 2 then
    (jct s 50 x0 (m_X30_is s x0 (W32 (25 + v1)) x2 x2 0 (I_and x3 31))).bind fun q3 =>
    (m_X29_bits q3.1 x1 12 12).bind fun v4 =>
    if v4 = 0 then
      if (I_and x3 31) = 0 then
        u_X29_takePairs_65 q3.1 x0
      else
        u_X29_takePairs_66 q3.1 1 x0
    else
      u_X29_takePairs_65 q3.1 x0
  else
    if v1 = 2 then
      (jct s 50 x0 (m_X30_is s x0 23 x2 x2 0 x3)).bind fun q5 =>
      some (q5.1, 0)
    else
      if v2 = 0 then
        u_X29_takePairs_119 s x0 x1 x2 28 x0
      else
        if v2 = 1 then
          u_X29_takePairs_119 s x0 x1 x2 32 x0
        else
          u_X29_takePairs_119 s x0 x1 x2 (W32 (33 + v2)) x0
noncomputable def m_X29_takePairs : jS → Int → Int → Int → Int → Option (jS × Int) := Classical.choose (⟨dm_X29_takePairs, rfl⟩ : ∃ f, f = dm_X29_takePairs)
theorem em_X29_takePairs : m_X29_takePairs = dm_X29_takePairs := Classical.choose_spec (⟨dm_X29_takePairs, rfl⟩ : ∃ f, f = dm_X29_takePairs)
def du_X29_takeThird_296 (s : jS) (x0 : Int) : Option (jS × Int) :=
  (jwr s 34 x0 0 (-1)).bind fun s1 =>
  some (s1, 0)
noncomputable def u_X29_takeThird_296 : jS → Int → Option (jS × Int) := Classical.choose (⟨du_X29_takeThird_296, rfl⟩ : ∃ f, f = du_X29_takeThird_296)
theorem eu_X29_takeThird_296 : u_X29_takeThird_296 = du_X29_takeThird_296 := Classical.choose_spec (⟨du_X29_takeThird_296, rfl⟩ : ∃ f, f = du_X29_takeThird_296)
def du_X29_takeThird_259 (s : jS) (y0 y1 : Int) : Option (jS × Int) :=
  (m_X29_only s y1 y0).bind fun q1 =>
  some (q1.1, 0)
noncomputable def u_X29_takeThird_259 : jS → Int → Int → Option (jS × Int) := Classical.choose (⟨du_X29_takeThird_259, rfl⟩ : ∃ f, f = du_X29_takeThird_259)
theorem eu_X29_takeThird_259 : u_X29_takeThird_259 = du_X29_takeThird_259 := Classical.choose_spec (⟨du_X29_takeThird_259, rfl⟩ : ∃ f, f = du_X29_takeThird_259)
def du_X29_takeThird_254 (s : jS) (y0 : Int) : Option (jS × Int) :=
  u_X29_takeThird_259 s 1 y0
noncomputable def u_X29_takeThird_254 : jS → Int → Option (jS × Int) := Classical.choose (⟨du_X29_takeThird_254, rfl⟩ : ∃ f, f = du_X29_takeThird_254)
theorem eu_X29_takeThird_254 : u_X29_takeThird_254 = du_X29_takeThird_254 := Classical.choose_spec (⟨du_X29_takeThird_254, rfl⟩ : ∃ f, f = du_X29_takeThird_254)
def du_X29_takeThird_245 (s : jS) (x0 x2 x3 : Int) : Option (jS × Int) :=
  if x3 = 0 then
    u_X29_takeThird_254 s x0
  else
    if x2 = 0 then
      u_X29_takeThird_259 s 0 x0
    else
      u_X29_takeThird_254 s x0
noncomputable def u_X29_takeThird_245 : jS → Int → Int → Int → Option (jS × Int) := Classical.choose (⟨du_X29_takeThird_245, rfl⟩ : ∃ f, f = du_X29_takeThird_245)
theorem eu_X29_takeThird_245 : u_X29_takeThird_245 = du_X29_takeThird_245 := Classical.choose_spec (⟨du_X29_takeThird_245, rfl⟩ : ∃ f, f = du_X29_takeThird_245)
def du_X29_takeThird_238 (s : jS) (x0 x2 x3 y0 y1 y2 : Int) : Option (jS × Int) :=
  (jct s 50 y2 (m_X30_is s y2 y1 y0 x2 0 0)).bind fun q1 =>
  u_X29_takeThird_245 q1.1 x0 x2 x3
noncomputable def u_X29_takeThird_238 : jS → Int → Int → Int → Int → Int → Int → Option (jS × Int) := Classical.choose (⟨du_X29_takeThird_238, rfl⟩ : ∃ f, f = du_X29_takeThird_238)
theorem eu_X29_takeThird_238 : u_X29_takeThird_238 = du_X29_takeThird_238 := Classical.choose_spec (⟨du_X29_takeThird_238, rfl⟩ : ∃ f, f = du_X29_takeThird_238)
def du_X29_takeThird_215 (s : jS) (x0 x2 x3 y0 y1 : Int) : Option (jS × Int) :=
  (jct s 50 y1 (m_X30_is s y1 y0 0 0 0 0)).bind fun q1 =>
  u_X29_takeThird_245 q1.1 x0 x2 x3
noncomputable def u_X29_takeThird_215 : jS → Int → Int → Int → Int → Int → Option (jS × Int) := Classical.choose (⟨du_X29_takeThird_215, rfl⟩ : ∃ f, f = du_X29_takeThird_215)
theorem eu_X29_takeThird_215 : u_X29_takeThird_215 = du_X29_takeThird_215 := Classical.choose_spec (⟨du_X29_takeThird_215, rfl⟩ : ∃ f, f = du_X29_takeThird_215)
def du_X29_takeThird_190 (s : jS) (x0 x2 x3 y0 y1 y2 y3 : Int) : Option (jS × Int) :=
  (jct s 50 y3 (m_X30_is s y3 y2 y1 y0 x3 0)).bind fun q1 =>
  u_X29_takeThird_245 q1.1 x0 x2 x3
noncomputable def u_X29_takeThird_190 : jS → Int → Int → Int → Int → Int → Int → Int → Option (jS × Int) := Classical.choose (⟨du_X29_takeThird_190, rfl⟩ : ∃ f, f = du_X29_takeThird_190)
theorem eu_X29_takeThird_190 : u_X29_takeThird_190 = du_X29_takeThird_190 := Classical.choose_spec (⟨du_X29_takeThird_190, rfl⟩ : ∃ f, f = du_X29_takeThird_190)
def du_X29_takeThird_168 (s : jS) (y0 y1 : Int) : Option (jS × Int) :=
  (m_X29_only s y1 y0).bind fun q1 =>
  some (q1.1, 0)
noncomputable def u_X29_takeThird_168 : jS → Int → Int → Option (jS × Int) := Classical.choose (⟨du_X29_takeThird_168, rfl⟩ : ∃ f, f = du_X29_takeThird_168)
theorem eu_X29_takeThird_168 : u_X29_takeThird_168 = du_X29_takeThird_168 := Classical.choose_spec (⟨du_X29_takeThird_168, rfl⟩ : ∃ f, f = du_X29_takeThird_168)
def du_X29_takeThird_114 (s : jS) (y0 y1 : Int) : Option (jS × Int) :=
  (m_X29_only s y1 y0).bind fun q1 =>
  some (q1.1, 0)
noncomputable def u_X29_takeThird_114 : jS → Int → Int → Option (jS × Int) := Classical.choose (⟨du_X29_takeThird_114, rfl⟩ : ∃ f, f = du_X29_takeThird_114)
theorem eu_X29_takeThird_114 : u_X29_takeThird_114 = du_X29_takeThird_114 := Classical.choose_spec (⟨du_X29_takeThird_114, rfl⟩ : ∃ f, f = du_X29_takeThird_114)
def du_X29_takeThird_113 (s : jS) (y0 : Int) : Option (jS × Int) :=
  u_X29_takeThird_114 s 0 y0
noncomputable def u_X29_takeThird_113 : jS → Int → Option (jS × Int) := Classical.choose (⟨du_X29_takeThird_113, rfl⟩ : ∃ f, f = du_X29_takeThird_113)
theorem eu_X29_takeThird_113 : u_X29_takeThird_113 = du_X29_takeThird_113 := Classical.choose_spec (⟨du_X29_takeThird_113, rfl⟩ : ∃ f, f = du_X29_takeThird_113)
def du_X29_takeThird_34 (s : jS) (x0 x1 x2 x3 y0 : Int) : Option (jS × Int) :=
  if (I_ushr x1 13) = 0 then
    (jct s 50 x0 (m_X30_is s x0 24 x2 x2 0 x3)).bind fun q1 =>
    if x2 = 0 then
      u_X29_takeThird_113 q1.1 x0
    else
      if x3 = 0 then
        u_X29_takeThird_113 q1.1 x0
      else
        if y0 = 0 then
          u_X29_takeThird_114 q1.1 1 x0
        else
          u_X29_takeThird_113 q1.1 x0
  else
  if (I_ushr x1 13) = 1 then
    u_X29_takeThird_296 s x0
  else
  if (I_ushr x1 13) = 2 then
    (m_X29_bits s x1 3 2).bind fun v2 =>
    (m_X29_bits s x1 12 12).bind fun v3 =>
    (m_X29_bits s x1 6 4).bind fun v4 =>
    (jct s 50 x0 (m_X30_is s x0 12 x2 2 0 (I_or (I_or (I_shl v2 6) (I_shl v3 5)) (I_shl v4 2)))).bind fun q5 =>
    if x2 = 0 then
      u_X29_takeThird_168 q5.1 0 x0
    else
      u_X29_takeThird_168 q5.1 1 x0
  else
  if (I_ushr x1 13) = 3 then
    u_X29_takeThird_296 s x0
  else
  if (I_ushr x1 13) = 4 then
    if x3 = 0 then
      if x2 = 0 then
        if y0 = 0 then
          u_X29_takeThird_215 s x0 x2 x3 (-1) x0
        else
          u_X29_takeThird_215 s x0 x2 x3 47 x0
      else
        if y0 = 0 then
          u_X29_takeThird_238 s x0 x2 x3 0 3 x0
        else
          u_X29_takeThird_238 s x0 x2 x3 1 3 x0
    else
      if y0 = 0 then
        u_X29_takeThird_190 s x0 x2 x3 0 x2 27 x0
      else
        u_X29_takeThird_190 s x0 x2 x3 x2 x2 27 x0
  else
  if (I_ushr x1 13) = 5 then
    u_X29_takeThird_296 s x0
  else
  if (I_ushr x1 13) = 6 then
    (m_X29_bits s x1 8 7).bind fun v6 =>
    (m_X29_bits s x1 12 9).bind fun v7 =>
    (jct s 50 x0 (m_X30_is s x0 17 0 2 x3 (I_or (I_shl v6 6) (I_shl v7 2)))).bind fun q8 =>
    some (q8.1, 0)
  else
  u_X29_takeThird_296 s x0
noncomputable def u_X29_takeThird_34 : jS → Int → Int → Int → Int → Int → Option (jS × Int) := Classical.choose (⟨du_X29_takeThird_34, rfl⟩ : ∃ f, f = du_X29_takeThird_34)
theorem eu_X29_takeThird_34 : u_X29_takeThird_34 = du_X29_takeThird_34 := Classical.choose_spec (⟨du_X29_takeThird_34, rfl⟩ : ∃ f, f = du_X29_takeThird_34)
def dm_X29_takeThird (s : jS) (x0 x1 : Int) : Option (jS × Int) :=
  (m_X29_bits s x1 11 7).bind fun v1 =>
  (m_X29_bits s x1 6 2).bind fun v2 =>
  (m_X29_bits s x1 12 12).bind fun v3 =>
  if v3 = 1 then
    u_X29_takeThird_34 s x0 x1 v1 v2 1
  else
    u_X29_takeThird_34 s x0 x1 v1 v2 0
noncomputable def m_X29_takeThird : jS → Int → Int → Option (jS × Int) := Classical.choose (⟨dm_X29_takeThird, rfl⟩ : ∃ f, f = dm_X29_takeThird)
theorem em_X29_takeThird : m_X29_takeThird = dm_X29_takeThird := Classical.choose_spec (⟨dm_X29_takeThird, rfl⟩ : ∃ f, f = dm_X29_takeThird)
def du_X29_takeSums_120 (s : jS) (x1 x2 x3 y0 y1 : Int) : Option (jS × Int) :=
  (jct s 50 y1 (m_X30_is s y1 y0 x2 x3 0 (I_shr x1 20))).bind fun q1 =>
  some (q1.1, 0)
noncomputable def u_X29_takeSums_120 : jS → Int → Int → Int → Int → Int → Option (jS × Int) := Classical.choose (⟨du_X29_takeSums_120, rfl⟩ : ∃ f, f = du_X29_takeSums_120)
theorem eu_X29_takeSums_120 : u_X29_takeSums_120 = du_X29_takeSums_120 := Classical.choose_spec (⟨du_X29_takeSums_120, rfl⟩ : ∃ f, f = du_X29_takeSums_120)
def du_X29_takeSums_72 (s : jS) (x1 x2 x3 y0 y1 : Int) : Option (jS × Int) :=
  (m_X29_bits s x1 24 20).bind fun v1 =>
  (jct s 50 y1 (m_X30_is s y1 y0 x2 x3 0 v1)).bind fun q2 =>
  some (q2.1, 0)
noncomputable def u_X29_takeSums_72 : jS → Int → Int → Int → Int → Int → Option (jS × Int) := Classical.choose (⟨du_X29_takeSums_72, rfl⟩ : ∃ f, f = du_X29_takeSums_72)
theorem eu_X29_takeSums_72 : u_X29_takeSums_72 = du_X29_takeSums_72 := Classical.choose_spec (⟨du_X29_takeSums_72, rfl⟩ : ∃ f, f = du_X29_takeSums_72)
def du_X29_takeSums_24 (s : jS) (x1 x2 x3 y0 y1 : Int) : Option (jS × Int) :=
  (m_X29_bits s x1 24 20).bind fun v1 =>
  (jct s 50 y1 (m_X30_is s y1 y0 x2 x3 0 v1)).bind fun q2 =>
  some (q2.1, 0)
noncomputable def u_X29_takeSums_24 : jS → Int → Int → Int → Int → Int → Option (jS × Int) := Classical.choose (⟨du_X29_takeSums_24, rfl⟩ : ∃ f, f = du_X29_takeSums_24)
theorem eu_X29_takeSums_24 : u_X29_takeSums_24 = du_X29_takeSums_24 := Classical.choose_spec (⟨du_X29_takeSums_24, rfl⟩ : ∃ f, f = du_X29_takeSums_24)
def dm_X29_takeSums (s : jS) (x0 x1 x2 x3 x4 : Int) : Option (jS × Int) :=
  jlet (I_ushr x1 25) fun v1 =>
  if x4 = 1 then
    if v1 = 0 then
      u_X29_takeSums_24 s x1 x2 x3 24 x0
    else
      u_X29_takeSums_24 s x1 x2 x3 (-1) x0
  else
    if x4 = 5 then
      if v1 = 0 then
        u_X29_takeSums_72 s x1 x2 x3 25 x0
      else
        if v1 = 32 then
          u_X29_takeSums_72 s x1 x2 x3 26 x0
        else
          u_X29_takeSums_72 s x1 x2 x3 (-1) x0
    else
      if x4 = 0 then
        u_X29_takeSums_120 s x1 x2 x3 18 x0
      else
        if x4 < 5 then
          u_X29_takeSums_120 s x1 x2 x3 (W32 (17 + x4)) x0
        else
          u_X29_takeSums_120 s x1 x2 x3 (W32 (16 + x4)) x0
noncomputable def m_X29_takeSums : jS → Int → Int → Int → Int → Int → Option (jS × Int) := Classical.choose (⟨dm_X29_takeSums, rfl⟩ : ∃ f, f = dm_X29_takeSums)
theorem em_X29_takeSums : m_X29_takeSums = dm_X29_takeSums := Classical.choose_spec (⟨dm_X29_takeSums, rfl⟩ : ∃ f, f = dm_X29_takeSums)
def du_X29_may_71 (s : jS) (x1 x4 y0 y1 : Int) : Option (jS × Int) :=
  (m_X29_fails s y1 y0 x1).bind fun q1 =>
  some (q1.1, Wz x4)
noncomputable def u_X29_may_71 : jS → Int → Int → Int → Int → Option (jS × Int) := Classical.choose (⟨du_X29_may_71, rfl⟩ : ∃ f, f = du_X29_may_71)
theorem eu_X29_may_71 : u_X29_may_71 = du_X29_may_71 := Classical.choose_spec (⟨du_X29_may_71, rfl⟩ : ∃ f, f = du_X29_may_71)
def du_X29_may_55 (s : jS) (x0 x1 x3 x4 : Int) : Option (jS × Int) :=
  if x4 = 0 then
    if x3 = 1 then
      u_X29_may_71 s x1 x4 3 x0
    else
      u_X29_may_71 s x1 x4 4 x0
  else
    some (s, Wz x4)
noncomputable def u_X29_may_55 : jS → Int → Int → Int → Int → Option (jS × Int) := Classical.choose (⟨du_X29_may_55, rfl⟩ : ∃ f, f = du_X29_may_55)
theorem eu_X29_may_55 : u_X29_may_55 = du_X29_may_55 := Classical.choose_spec (⟨du_X29_may_55, rfl⟩ : ∃ f, f = du_X29_may_55)
def du_X29_may_47 (s : jS) (x0 x1 x2 x3 x5 y0 : Int) : Option ((jS × List Int) ⊕ (jS × Int)) :=
  some (.inl (s, [x0, x1, x2, x3, y0, W32 (x5 + 1)]))
noncomputable def u_X29_may_47 : jS → Int → Int → Int → Int → Int → Int → Option ((jS × List Int) ⊕ (jS × Int)) := Classical.choose (⟨du_X29_may_47, rfl⟩ : ∃ f, f = du_X29_may_47)
theorem eu_X29_may_47 : u_X29_may_47 = du_X29_may_47 := Classical.choose_spec (⟨du_X29_may_47, rfl⟩ : ∃ f, f = du_X29_may_47)
def b_X29_may_18 (s : jS) (x0 x1 x2 x3 x4 x5 : Int) : Option ((jS × List Int) ⊕ (jS × Int)) :=
  if x5 < x2 then
    if x4 = 0 then
      jinr (u_X29_may_55 s x0 x1 x3 x4)
    else
      (m_X29_rightsOf s x0 (W32 (x1 + x5))).bind fun v1 =>
      if (I_and v1 x3) = 0 then
        u_X29_may_47 s x0 x1 x2 x3 x5 0
      else
        u_X29_may_47 s x0 x1 x2 x3 x5 1
  else
    jinr (u_X29_may_55 s x0 x1 x3 x4)
def du_X29_may_18 (s : jS) (x0 x1 x2 x3 x4 x5 : Int) : Option (jS × Int) := jlpW (jc6 b_X29_may_18) [x0, x1, x2, x3, x4, x5] s
noncomputable def u_X29_may_18 : jS → Int → Int → Int → Int → Int → Int → Option (jS × Int) := Classical.choose (⟨du_X29_may_18, rfl⟩ : ∃ f, f = du_X29_may_18)
theorem eu_X29_may_18 : u_X29_may_18 = du_X29_may_18 := Classical.choose_spec (⟨du_X29_may_18, rfl⟩ : ∃ f, f = du_X29_may_18)
def du_X29_may_13 (s : jS) (x0 x1 x2 x3 y0 : Int) : Option (jS × Int) :=
  u_X29_may_18 s x0 x1 x2 x3 y0 0
noncomputable def u_X29_may_13 : jS → Int → Int → Int → Int → Int → Option (jS × Int) := Classical.choose (⟨du_X29_may_13, rfl⟩ : ∃ f, f = du_X29_may_13)
theorem eu_X29_may_13 : u_X29_may_13 = du_X29_may_13 := Classical.choose_spec (⟨du_X29_may_13, rfl⟩ : ∃ f, f = du_X29_may_13)
def dm_X29_may (s : jS) (x0 x1 x2 x3 : Int) : Option (jS × Int) :=
  if (I_and x1 (W32 (x2 - 1))) = 0 then
    u_X29_may_13 s x0 x1 x2 x3 1
  else
    u_X29_may_13 s x0 x1 x2 x3 0
noncomputable def m_X29_may : jS → Int → Int → Int → Int → Option (jS × Int) := Classical.choose (⟨dm_X29_may, rfl⟩ : ∃ f, f = dm_X29_may)
theorem em_X29_may : m_X29_may = dm_X29_may := Classical.choose_spec (⟨dm_X29_may, rfl⟩ : ∃ f, f = dm_X29_may)
def du_X29_loads_84 (s : jS) (x0 x3 y0 y1 y2 : Int) : Option (jS × Int) :=
  (m_X29_put s y2 y1 y0).bind fun q1 =>
  jls (jp q1.1 33 x0 10 x3) fun s2 =>
  some (s2, 0)
noncomputable def u_X29_loads_84 : jS → Int → Int → Int → Int → Int → Option (jS × Int) := Classical.choose (⟨du_X29_loads_84, rfl⟩ : ∃ f, f = du_X29_loads_84)
theorem eu_X29_loads_84 : u_X29_loads_84 = du_X29_loads_84 := Classical.choose_spec (⟨du_X29_loads_84, rfl⟩ : ∃ f, f = du_X29_loads_84)
def du_X29_loads_36 (s : jS) (x0 x1 x2 x3 y0 : Int) : Option (jS × Int) :=
  (m_X29_load s x0 x2 y0).bind fun v1 =>
  (jrd s 34 x1 1).bind fun v2 =>
  (jrd s 34 x1 0).bind fun v3 =>
  if v3 = 10 then
    u_X29_loads_84 s x0 x3 (W8 v1) v2 x0
  else
    (jrd s 34 x1 0).bind fun v4 =>
    if v4 = 11 then
      u_X29_loads_84 s x0 x3 (W16 v1) v2 x0
    else
      u_X29_loads_84 s x0 x3 v1 v2 x0
noncomputable def u_X29_loads_36 : jS → Int → Int → Int → Int → Int → Option (jS × Int) := Classical.choose (⟨du_X29_loads_36, rfl⟩ : ∃ f, f = du_X29_loads_36)
theorem eu_X29_loads_36 : u_X29_loads_36 = du_X29_loads_36 := Classical.choose_spec (⟨du_X29_loads_36, rfl⟩ : ∃ f, f = du_X29_loads_36)
def du_X29_loads_18 (s : jS) (x0 x1 x2 x3 : Int) : Option (jS × Int) :=
  u_X29_loads_36 s x0 x1 x2 x3 1
noncomputable def u_X29_loads_18 : jS → Int → Int → Int → Int → Option (jS × Int) := Classical.choose (⟨du_X29_loads_18, rfl⟩ : ∃ f, f = du_X29_loads_18)
theorem eu_X29_loads_18 : u_X29_loads_18 = du_X29_loads_18 := Classical.choose_spec (⟨du_X29_loads_18, rfl⟩ : ∃ f, f = du_X29_loads_18)
def dm_X29_loads (s : jS) (x0 x1 x2 x3 : Int) : Option (jS × Int) :=
  (jrd s 34 x1 0).bind fun v1 =>
  if v1 = 10 then
    u_X29_loads_18 s x0 x1 x2 x3
  else
    (jrd s 34 x1 0).bind fun v2 =>
    if v2 = 13 then
      u_X29_loads_18 s x0 x1 x2 x3
    else
      (jrd s 34 x1 0).bind fun v3 =>
      if v3 = 12 then
        u_X29_loads_36 s x0 x1 x2 x3 4
      else
        u_X29_loads_36 s x0 x1 x2 x3 2
noncomputable def m_X29_loads : jS → Int → Int → Int → Int → Option (jS × Int) := Classical.choose (⟨dm_X29_loads, rfl⟩ : ∃ f, f = dm_X29_loads)
theorem em_X29_loads : m_X29_loads = dm_X29_loads := Classical.choose_spec (⟨dm_X29_loads, rfl⟩ : ∃ f, f = dm_X29_loads)
def dm_X29_holds (s : jS) (x0 x1 x2 : Int) : Option (Int) :=
  if x0 = 4 then
    if x1 = x2 then
      some (Wz 1)
    else
      some (Wz 0)
  else
  if x0 = 5 then
    if x1 = x2 then
      some (Wz 0)
    else
      some (Wz 1)
  else
  if x0 = 6 then
    if x1 < x2 then
      some (Wz 1)
    else
      some (Wz 0)
  else
  if x0 = 7 then
    if x1 < x2 then
      some (Wz 0)
    else
      some (Wz 1)
  else
  if x0 = 8 then
    (m_X29_plain s x1).bind fun v1 =>
    (m_X29_plain s x2).bind fun v2 =>
    if (L_cmp v1 v2) < 0 then
      some (Wz 1)
    else
      some (Wz 0)
  else
  (m_X29_plain s x1).bind fun v3 =>
  (m_X29_plain s x2).bind fun v4 =>
  if (L_cmp v3 v4) < 0 then
    some (Wz 0)
  else
    some (Wz 1)
noncomputable def m_X29_holds : jS → Int → Int → Int → Option (Int) := Classical.choose (⟨dm_X29_holds, rfl⟩ : ∃ f, f = dm_X29_holds)
theorem em_X29_holds : m_X29_holds = dm_X29_holds := Classical.choose_spec (⟨dm_X29_holds, rfl⟩ : ∃ f, f = dm_X29_holds)
def dm_X29_reckoned (s : jS) (x0 x1 x2 : Int) : Option (Int) :=
  if x0 = 27 then
    some (W32 (x1 + x2))
  else
  if x0 = 28 then
    some (W32 (x1 - x2))
  else
  if x0 = 29 then
    (m_X29_moved s 0 x1 x2).bind fun v1 =>
    some v1
  else
  if x0 = 30 then
    if x1 < x2 then
      some 1
    else
      some 0
  else
  if x0 = 31 then
    (m_X29_plain s x1).bind fun v2 =>
    (m_X29_plain s x2).bind fun v3 =>
    if (L_cmp v2 v3) < 0 then
      some 1
    else
      some 0
  else
  if x0 = 32 then
    some (I_xor x1 x2)
  else
  if x0 = 33 then
    (m_X29_moved s 1 x1 x2).bind fun v4 =>
    some v4
  else
  if x0 = 34 then
    (m_X29_moved s 2 x1 x2).bind fun v5 =>
    some v5
  else
  if x0 = 35 then
    some (I_or x1 x2)
  else
  if x0 = 36 then
    some (I_and x1 x2)
  else
  if x0 < 41 then
    (m_X29_product s x0 x1 x2).bind fun v6 =>
    some v6
  else
    (m_X29_quotient s x0 x1 x2).bind fun v7 =>
    some v7
noncomputable def m_X29_reckoned : jS → Int → Int → Int → Option (Int) := Classical.choose (⟨dm_X29_reckoned, rfl⟩ : ∃ f, f = dm_X29_reckoned)
theorem em_X29_reckoned : m_X29_reckoned = dm_X29_reckoned := Classical.choose_spec (⟨dm_X29_reckoned, rfl⟩ : ∃ f, f = dm_X29_reckoned)
def du_X29_rights_25 (s : jS) (y0 y1 : Int) : Option (Int) :=
  some (W32 (y1 + y0))
noncomputable def u_X29_rights_25 : jS → Int → Int → Option (Int) := Classical.choose (⟨du_X29_rights_25, rfl⟩ : ∃ f, f = du_X29_rights_25)
theorem eu_X29_rights_25 : u_X29_rights_25 = du_X29_rights_25 := Classical.choose_spec (⟨du_X29_rights_25, rfl⟩ : ∃ f, f = du_X29_rights_25)
def du_X29_rights_24 (s : jS) (y0 : Int) : Option (Int) :=
  u_X29_rights_25 s 0 y0
noncomputable def u_X29_rights_24 : jS → Int → Option (Int) := Classical.choose (⟨du_X29_rights_24, rfl⟩ : ∃ f, f = du_X29_rights_24)
theorem eu_X29_rights_24 : u_X29_rights_24 = du_X29_rights_24 := Classical.choose_spec (⟨du_X29_rights_24, rfl⟩ : ∃ f, f = du_X29_rights_24)
def dm_X29_rights (s : jS) (x0 x1 : Int) : Option (Int) :=
  (m_X29_rightsOf s x0 x1).bind fun v1 =>
  if (I_and x1 1) = 0 then
    (m_X29_isMarked s x0 x1).bind fun v2 =>
    if v2 = 0 then
      u_X29_rights_24 s v1
    else
      u_X29_rights_25 s 8 v1
  else
    u_X29_rights_24 s v1
noncomputable def m_X29_rights : jS → Int → Int → Option (Int) := Classical.choose (⟨dm_X29_rights, rfl⟩ : ∃ f, f = dm_X29_rights)
theorem em_X29_rights : m_X29_rights = dm_X29_rights := Classical.choose_spec (⟨dm_X29_rights, rfl⟩ : ∃ f, f = dm_X29_rights)
def b_X33_init_221 (s : jS) (x0 x4 : Int) : Option ((jS × List Int) ⊕ (jS × Int)) :=
  if x4 < 100 then
    (jrd s 37 x0 3).bind fun v1 =>
    (jnw s 38 6 (jdf 38)).bind fun q2 =>
    (jct q2.1 54 q2.2 (jck0 q2.2 (m_X34_init q2.1 q2.2))).bind fun q3 =>
    (jas q3.1 1010 38 v1 x4 q2.2).bind fun s4 =>
    some (.inl (s4, [x0, W32 (x4 + 1)]))
  else
    jinr (some (s, 0))
def du_X33_init_221 (s : jS) (x0 x4 : Int) : Option (jS × Int) := jlpW (jc2 b_X33_init_221) [x0, x4] s
noncomputable def u_X33_init_221 : jS → Int → Int → Option (jS × Int) := Classical.choose (⟨du_X33_init_221, rfl⟩ : ∃ f, f = du_X33_init_221)
theorem eu_X33_init_221 : u_X33_init_221 = du_X33_init_221 := Classical.choose_spec (⟨du_X33_init_221, rfl⟩ : ∃ f, f = du_X33_init_221)
def dm_X33_init (s : jS) (x0 x1 x2 x3 : Int) : Option (jS × Int) :=
  jck0 x0 <|
  (jna s 1010 100 (-1)).bind fun q1 =>
  (jwr q1.1 37 x0 3 q1.2).bind fun s2 =>
  (jna s2 1000 150 0).bind fun q3 =>
  (jwr q3.1 37 x0 4 q3.2).bind fun s4 =>
  (jmna s4 2048).bind fun q5 =>
  (jwr q5.1 37 x0 5 q5.2).bind fun s6 =>
  (jna s6 1000 4 0).bind fun q7 =>
  (jwr q7.1 37 x0 6 q7.2).bind fun s8 =>
  (jna s8 1000 4 0).bind fun q9 =>
  (jwr q9.1 37 x0 7 q9.2).bind fun s10 =>
  (jna s10 1003 1024 0).bind fun q11 =>
  (jwr q11.1 37 x0 8 q11.2).bind fun s12 =>
  (jna s12 1000 300 0).bind fun q13 =>
  (jwr q13.1 37 x0 9 q13.2).bind fun s14 =>
  (jna s14 1000 300 0).bind fun q15 =>
  (jwr q15.1 37 x0 10 q15.2).bind fun s16 =>
  (jna s16 1000 300 0).bind fun q17 =>
  (jwr q17.1 37 x0 11 q17.2).bind fun s18 =>
  (jna s18 1000 300 0).bind fun q19 =>
  (jwr q19.1 37 x0 12 q19.2).bind fun s20 =>
  (jna s20 1000 300 0).bind fun q21 =>
  (jwr q21.1 37 x0 13 q21.2).bind fun s22 =>
  (jna s22 1000 10 0).bind fun q23 =>
  (jwr q23.1 37 x0 14 q23.2).bind fun s24 =>
  (jna s24 1000 10 0).bind fun q25 =>
  (jwr q25.1 37 x0 15 q25.2).bind fun s26 =>
  (jna s26 1000 10 0).bind fun q27 =>
  (jwr q27.1 37 x0 16 q27.2).bind fun s28 =>
  (jna s28 1002 8 0).bind fun q29 =>
  (jwr q29.1 37 x0 17 q29.2).bind fun s30 =>
  (jna s30 1002 8 0).bind fun q31 =>
  (jwr q31.1 37 x0 18 q31.2).bind fun s32 =>
  (jna s32 1000 800 0).bind fun q33 =>
  (jwr q33.1 37 x0 19 q33.2).bind fun s34 =>
  (jna s34 1000 800 0).bind fun q35 =>
  (jwr q35.1 37 x0 20 q35.2).bind fun s36 =>
  (jna s36 1000 800 0).bind fun q37 =>
  (jwr q37.1 37 x0 21 q37.2).bind fun s38 =>
  (jna s38 1000 2000 0).bind fun q39 =>
  (jwr q39.1 37 x0 22 q39.2).bind fun s40 =>
  (jna s40 1000 2000 0).bind fun q41 =>
  (jwr q41.1 37 x0 23 q41.2).bind fun s42 =>
  (jna s42 1000 2000 0).bind fun q43 =>
  (jwr q43.1 37 x0 24 q43.2).bind fun s44 =>
  (jna s44 1000 4 0).bind fun q45 =>
  (jwr q45.1 37 x0 42 q45.2).bind fun s46 =>
  (jwr s46 37 x0 0 x1).bind fun s47 =>
  (jwr s47 37 x0 1 x2).bind fun s48 =>
  (jwr s48 37 x0 2 x3).bind fun s49 =>
  u_X33_init_221 s49 x0 0
noncomputable def m_X33_init : jS → Int → Int → Int → Int → Option (jS × Int) := Classical.choose (⟨dm_X33_init, rfl⟩ : ∃ f, f = dm_X33_init)
theorem em_X33_init : m_X33_init = dm_X33_init := Classical.choose_spec (⟨dm_X33_init, rfl⟩ : ∃ f, f = dm_X33_init)
def dm_X33_need (s : jS) (x0 x1 x2 : Int) : Option (jS × Bool × Int) :=
  if x1 = 0 then
    (m_X11_statement s (x0 + (-3890)) (jf s 37 x0 33) 4).bind fun v1 =>
    (m_X33_wrong s x0 x2 v1).bind fun q2 =>
    jck0 q2.2 (some (q2.1, true, q2.2))
  else
    some (s, false, 0)
noncomputable def m_X33_need : jS → Int → Int → Int → Option (jS × Bool × Int) := Classical.choose (⟨dm_X33_need, rfl⟩ : ∃ f, f = dm_X33_need)
theorem em_X33_need : m_X33_need = dm_X33_need := Classical.choose_spec (⟨dm_X33_need, rfl⟩ : ∃ f, f = dm_X33_need)
def du_X33_define_36 (s : jS) (x0 x1 x2 x3 x4 y0 y1 : Int) : Option (jS × Bool × Int) :=
  (m_X33_need s y1 y0 16).bind fun q1 =>
  jth q1.2.1 (some (q1.1, true, q1.2.2)) <|
  (jix 100 x1 ((x0 + 1) + 26 + 1 * x1)).bind fun v2 =>
  jls (jp q1.1 38 v2 1 x2) fun s3 =>
  (jix 100 x1 ((x0 + 1) + 26 + 1 * x1)).bind fun v4 =>
  jls (jp s3 38 v4 2 x3) fun s5 =>
  (jix 100 x1 ((x0 + 1) + 26 + 1 * x1)).bind fun v6 =>
  jls (jp s5 38 v6 3 x4) fun s7 =>
  some (s7, false, 0)
noncomputable def u_X33_define_36 : jS → Int → Int → Int → Int → Int → Int → Int → Option (jS × Bool × Int) := Classical.choose (⟨du_X33_define_36, rfl⟩ : ∃ f, f = du_X33_define_36)
theorem eu_X33_define_36 : u_X33_define_36 = du_X33_define_36 := Classical.choose_spec (⟨du_X33_define_36, rfl⟩ : ∃ f, f = du_X33_define_36)
def du_X33_define_35 (s : jS) (x0 x1 x2 x3 x4 y0 : Int) : Option (jS × Bool × Int) :=
  u_X33_define_36 s x0 x1 x2 x3 x4 0 y0
noncomputable def u_X33_define_35 : jS → Int → Int → Int → Int → Int → Int → Option (jS × Bool × Int) := Classical.choose (⟨du_X33_define_35, rfl⟩ : ∃ f, f = du_X33_define_35)
theorem eu_X33_define_35 : u_X33_define_35 = du_X33_define_35 := Classical.choose_spec (⟨du_X33_define_35, rfl⟩ : ∃ f, f = du_X33_define_35)
def du_X33_define_31 (s : jS) (x0 x1 x2 x3 x4 y0 : Int) : Option (jS × Bool × Int) :=
  u_X33_define_36 s x0 x1 x2 x3 x4 1 y0
noncomputable def u_X33_define_31 : jS → Int → Int → Int → Int → Int → Int → Option (jS × Bool × Int) := Classical.choose (⟨du_X33_define_31, rfl⟩ : ∃ f, f = du_X33_define_31)
theorem eu_X33_define_31 : u_X33_define_31 = du_X33_define_31 := Classical.choose_spec (⟨du_X33_define_31, rfl⟩ : ∃ f, f = du_X33_define_31)
def dm_X33_define (s : jS) (x0 x1 x2 x3 x4 : Int) : Option (jS × Bool × Int) :=
  (jix 100 x1 ((x0 + 1) + 26 + 1 * x1)).bind fun v1 =>
  if (jf s 38 v1 1) = (-1) then
    if x2 = 5 then
      (jix 100 x1 ((x0 + 1) + 26 + 1 * x1)).bind fun v2 =>
      if (jf s 38 v2 5) = 0 then
        u_X33_define_31 s x0 x1 x2 x3 x4 x0
      else
        u_X33_define_35 s x0 x1 x2 x3 x4 x0
    else
      u_X33_define_31 s x0 x1 x2 x3 x4 x0
  else
    u_X33_define_35 s x0 x1 x2 x3 x4 x0
noncomputable def m_X33_define : jS → Int → Int → Int → Int → Int → Option (jS × Bool × Int) := Classical.choose (⟨dm_X33_define, rfl⟩ : ∃ f, f = dm_X33_define)
theorem em_X33_define : m_X33_define = dm_X33_define := Classical.choose_spec (⟨dm_X33_define, rfl⟩ : ∃ f, f = dm_X33_define)
def du_X33_section_13 (s : jS) (x0 x1 y0 y1 : Int) : Option (jS × Bool × Int) :=
  (m_X33_need s y1 y0 12).bind fun q1 =>
  jth q1.2.1 (some (q1.1, true, q1.2.2)) <|
  jls (jp q1.1 37 x0 30 x1) fun s2 =>
  some (s2, false, 0)
noncomputable def u_X33_section_13 : jS → Int → Int → Int → Int → Option (jS × Bool × Int) := Classical.choose (⟨du_X33_section_13, rfl⟩ : ∃ f, f = du_X33_section_13)
theorem eu_X33_section_13 : u_X33_section_13 = du_X33_section_13 := Classical.choose_spec (⟨du_X33_section_13, rfl⟩ : ∃ f, f = du_X33_section_13)
def dm_X33_section (s : jS) (x0 x1 : Int) : Option (jS × Bool × Int) :=
  if (jf s 37 x0 35) = 0 then
    u_X33_section_13 s x0 x1 1 x0
  else
    u_X33_section_13 s x0 x1 0 x0
noncomputable def m_X33_section : jS → Int → Int → Option (jS × Bool × Int) := Classical.choose (⟨dm_X33_section, rfl⟩ : ∃ f, f = dm_X33_section)
theorem em_X33_section : m_X33_section = dm_X33_section := Classical.choose_spec (⟨dm_X33_section, rfl⟩ : ∃ f, f = dm_X33_section)
def dm_X33_isExpression (s : jS) (x0 x1 : Int) : Option (Int) :=
  (m_X11_operand s (x0 + (-3890)) (W32 ((jf s 37 x0 34) + x1)) 0).bind fun v1 =>
  if v1 = 0 then
    (m_X11_operand s (x0 + (-3890)) (W32 ((jf s 37 x0 34) + x1)) 2).bind fun v2 =>
    if v2 = 0 then
      some (Wz 1)
    else
      some (Wz 0)
  else
    some (Wz 0)
noncomputable def m_X33_isExpression : jS → Int → Int → Option (Int) := Classical.choose (⟨dm_X33_isExpression, rfl⟩ : ∃ f, f = dm_X33_isExpression)
theorem em_X33_isExpression : m_X33_isExpression = dm_X33_isExpression := Classical.choose_spec (⟨dm_X33_isExpression, rfl⟩ : ∃ f, f = dm_X33_isExpression)
def dm_X33_nameOf (s : jS) (x0 x1 : Int) : Option (Int) :=
  (m_X11_operand s (x0 + (-3890)) (W32 ((jf s 37 x0 34) + x1)) 3).bind fun v1 =>
  (m_X11_item s (x0 + (-3890)) v1 1).bind fun v2 =>
  some v2
noncomputable def m_X33_nameOf : jS → Int → Int → Option (Int) := Classical.choose (⟨dm_X33_nameOf, rfl⟩ : ∃ f, f = dm_X33_nameOf)
theorem em_X33_nameOf : m_X33_nameOf = dm_X33_nameOf := Classical.choose_spec (⟨dm_X33_nameOf, rfl⟩ : ∃ f, f = dm_X33_nameOf)
def dm_X33_needAt (s : jS) (x0 x1 x2 x3 : Int) : Option (jS × Bool × Int) :=
  if x1 = 0 then
    (m_X11_operand s (x0 + (-3890)) (W32 ((jf s 37 x0 34) + x3)) 5).bind fun v1 =>
    (m_X33_wrong s x0 x2 v1).bind fun q2 =>
    jck0 q2.2 (some (q2.1, true, q2.2))
  else
    some (s, false, 0)
noncomputable def m_X33_needAt : jS → Int → Int → Int → Int → Option (jS × Bool × Int) := Classical.choose (⟨dm_X33_needAt, rfl⟩ : ∃ f, f = dm_X33_needAt)
theorem em_X33_needAt : m_X33_needAt = dm_X33_needAt := Classical.choose_spec (⟨dm_X33_needAt, rfl⟩ : ∃ f, f = dm_X33_needAt)
def du_X33_addUp_133 (s : jS) (x0 x2 : Int) : Option (jS × Bool × Int) :=
  (jlt s 1000 (x0 + 24) 2000 x2).bind fun v1 =>
  (jlt s 1000 (x0 + 25) 2000 x2).bind fun v2 =>
  if v1 = v2 then
    (jst s 1000 (x0 + 24) 2000 x2 (-1)).bind fun s3 =>
    (jst s3 1000 (x0 + 25) 2000 x2 (-1)).bind fun s4 =>
    some (s4, false, 0)
  else
    some (s, false, 0)
noncomputable def u_X33_addUp_133 : jS → Int → Int → Option (jS × Bool × Int) := Classical.choose (⟨du_X33_addUp_133, rfl⟩ : ∃ f, f = du_X33_addUp_133)
theorem eu_X33_addUp_133 : u_X33_addUp_133 = du_X33_addUp_133 := Classical.choose_spec (⟨du_X33_addUp_133, rfl⟩ : ∃ f, f = du_X33_addUp_133)
def du_X33_addUp_108 (s : jS) (x0 x2 : Int) : Option (jS × Bool × Int) :=
  (jlt s 1000 (x0 + 25) 2000 x2).bind fun v1 =>
  if v1 = (-1) then
    (jlt s 1000 (x0 + 25) 2000 (jf s 37 x0 36)).bind fun v2 =>
    (jst s 1000 (x0 + 25) 2000 x2 v2).bind fun s3 =>
    u_X33_addUp_133 s3 x0 x2
  else
    u_X33_addUp_133 s x0 x2
noncomputable def u_X33_addUp_108 : jS → Int → Int → Option (jS × Bool × Int) := Classical.choose (⟨du_X33_addUp_108, rfl⟩ : ∃ f, f = du_X33_addUp_108)
theorem eu_X33_addUp_108 : u_X33_addUp_108 = du_X33_addUp_108 := Classical.choose_spec (⟨du_X33_addUp_108, rfl⟩ : ∃ f, f = du_X33_addUp_108)
def du_X33_addUp_59 (s : jS) (x0 x1 x2 y0 y1 : Int) : Option (jS × Bool × Int) :=
  (m_X33_needAt s y1 y0 14 x1).bind fun q1 =>
  jth q1.2.1 (some (q1.1, true, q1.2.2)) <|
  (jlt q1.1 1000 (x0 + 23) 2000 x2).bind fun v2 =>
  (jlt q1.1 1000 (x0 + 23) 2000 (jf q1.1 37 x0 36)).bind fun v3 =>
  (jst q1.1 1000 (x0 + 23) 2000 x2 (W32 (v2 + v3))).bind fun s4 =>
  (jlt s4 1000 (x0 + 24) 2000 x2).bind fun v5 =>
  if v5 = (-1) then
    (jlt s4 1000 (x0 + 24) 2000 (jf s4 37 x0 36)).bind fun v6 =>
    (jst s4 1000 (x0 + 24) 2000 x2 v6).bind fun s7 =>
    u_X33_addUp_108 s7 x0 x2
  else
    u_X33_addUp_108 s4 x0 x2
noncomputable def u_X33_addUp_59 : jS → Int → Int → Int → Int → Int → Option (jS × Bool × Int) := Classical.choose (⟨du_X33_addUp_59, rfl⟩ : ∃ f, f = du_X33_addUp_59)
theorem eu_X33_addUp_59 : u_X33_addUp_59 = du_X33_addUp_59 := Classical.choose_spec (⟨du_X33_addUp_59, rfl⟩ : ∃ f, f = du_X33_addUp_59)
def du_X33_addUp_58 (s : jS) (x0 x1 x2 y0 : Int) : Option (jS × Bool × Int) :=
  u_X33_addUp_59 s x0 x1 x2 0 y0
noncomputable def u_X33_addUp_58 : jS → Int → Int → Int → Int → Option (jS × Bool × Int) := Classical.choose (⟨du_X33_addUp_58, rfl⟩ : ∃ f, f = du_X33_addUp_58)
theorem eu_X33_addUp_58 : u_X33_addUp_58 = du_X33_addUp_58 := Classical.choose_spec (⟨du_X33_addUp_58, rfl⟩ : ∃ f, f = du_X33_addUp_58)
def du_X33_addUp_54 (s : jS) (x0 x1 x2 y0 : Int) : Option (jS × Bool × Int) :=
  u_X33_addUp_59 s x0 x1 x2 1 y0
noncomputable def u_X33_addUp_54 : jS → Int → Int → Int → Int → Option (jS × Bool × Int) := Classical.choose (⟨du_X33_addUp_54, rfl⟩ : ∃ f, f = du_X33_addUp_54)
theorem eu_X33_addUp_54 : u_X33_addUp_54 = du_X33_addUp_54 := Classical.choose_spec (⟨du_X33_addUp_54, rfl⟩ : ∃ f, f = du_X33_addUp_54)
def du_X33_addUp_31 (s : jS) (x0 x1 x2 y0 : Int) : Option (jS × Bool × Int) :=
  (jlt s 1000 (x0 + 25) 2000 x2).bind fun v1 =>
  if v1 = (-1) then
    u_X33_addUp_54 s x0 x1 x2 y0
  else
    (jlt s 1000 (x0 + 25) 2000 (jf s 37 x0 36)).bind fun v2 =>
    if v2 = (-1) then
      u_X33_addUp_54 s x0 x1 x2 y0
    else
      u_X33_addUp_58 s x0 x1 x2 y0
noncomputable def u_X33_addUp_31 : jS → Int → Int → Int → Int → Option (jS × Bool × Int) := Classical.choose (⟨du_X33_addUp_31, rfl⟩ : ∃ f, f = du_X33_addUp_31)
theorem eu_X33_addUp_31 : u_X33_addUp_31 = du_X33_addUp_31 := Classical.choose_spec (⟨du_X33_addUp_31, rfl⟩ : ∃ f, f = du_X33_addUp_31)
def dm_X33_addUp (s : jS) (x0 x1 : Int) : Option (jS × Bool × Int) :=
  jlet (W32 ((jf s 37 x0 36) - 1)) fun v1 =>
  (jlt s 1000 (x0 + 24) 2000 v1).bind fun v2 =>
  if v2 = (-1) then
    u_X33_addUp_31 s x0 x1 v1 x0
  else
    (jlt s 1000 (x0 + 24) 2000 (jf s 37 x0 36)).bind fun v3 =>
    if v3 = (-1) then
      u_X33_addUp_31 s x0 x1 v1 x0
    else
      u_X33_addUp_58 s x0 x1 v1 x0
noncomputable def m_X33_addUp : jS → Int → Int → Option (jS × Bool × Int) := Classical.choose (⟨dm_X33_addUp, rfl⟩ : ∃ f, f = dm_X33_addUp)
theorem em_X33_addUp : m_X33_addUp = dm_X33_addUp := Classical.choose_spec (⟨dm_X33_addUp, rfl⟩ : ∃ f, f = dm_X33_addUp)
def du_X33_reckon_172 (s : jS) (y0 y1 y2 : Int) : Option (jS × Bool × Int) :=
  (jst s 1000 y2 2000 y1 y0).bind fun s1 =>
  some (s1, false, 0)
noncomputable def u_X33_reckon_172 : jS → Int → Int → Int → Option (jS × Bool × Int) := Classical.choose (⟨du_X33_reckon_172, rfl⟩ : ∃ f, f = du_X33_reckon_172)
theorem eu_X33_reckon_172 : u_X33_reckon_172 = du_X33_reckon_172 := Classical.choose_spec (⟨du_X33_reckon_172, rfl⟩ : ∃ f, f = du_X33_reckon_172)
def du_X33_reckon_150 (s : jS) (y0 y1 y2 : Int) : Option (jS × Bool × Int) :=
  (jst s 1000 y2 2000 y1 y0).bind fun s1 =>
  some (s1, false, 0)
noncomputable def u_X33_reckon_150 : jS → Int → Int → Int → Option (jS × Bool × Int) := Classical.choose (⟨du_X33_reckon_150, rfl⟩ : ∃ f, f = du_X33_reckon_150)
theorem eu_X33_reckon_150 : u_X33_reckon_150 = du_X33_reckon_150 := Classical.choose_spec (⟨du_X33_reckon_150, rfl⟩ : ∃ f, f = du_X33_reckon_150)
def du_X33_reckon_68 (s : jS) (x0 x1 x2 x3 x4 x5 y0 y1 : Int) : Option (jS × Bool × Int) :=
  (m_X33_needAt s y1 y0 14 x2).bind fun q1 =>
  jth q1.2.1 (some (q1.1, true, q1.2.2)) <|
  if x1 = 14 then
    (jst q1.1 1000 (x0 + 23) 2000 x3 (W32 (x4 * x5))).bind fun s2 =>
    some (s2, false, 0)
  else
  if x1 = 15 then
    if x5 = (-1) then
      u_X33_reckon_150 q1.1 (W32 (-x4)) x3 (x0 + 23)
    else
      (jdv x5 (I_div x4 x5)).bind fun v3 =>
      u_X33_reckon_150 q1.1 v3 x3 (x0 + 23)
  else
  if x1 = 16 then
    if x5 = (-1) then
      u_X33_reckon_172 q1.1 0 x3 (x0 + 23)
    else
      (jdv x5 (I_rem x4 x5)).bind fun v4 =>
      u_X33_reckon_172 q1.1 v4 x3 (x0 + 23)
  else
  if x1 = 17 then
    (jst q1.1 1000 (x0 + 23) 2000 x3 (I_shl x4 (I_and x5 31))).bind fun s5 =>
    some (s5, false, 0)
  else
  if x1 = 18 then
    (jst q1.1 1000 (x0 + 23) 2000 x3 (I_ushr x4 (I_and x5 31))).bind fun s6 =>
    some (s6, false, 0)
  else
  if x1 = 19 then
    (jst q1.1 1000 (x0 + 23) 2000 x3 (I_and x4 x5)).bind fun s7 =>
    some (s7, false, 0)
  else
  if x1 = 20 then
    (jst q1.1 1000 (x0 + 23) 2000 x3 (I_xor x4 x5)).bind fun s8 =>
    some (s8, false, 0)
  else
  (jst q1.1 1000 (x0 + 23) 2000 x3 (I_or x4 x5)).bind fun s9 =>
  some (s9, false, 0)
noncomputable def u_X33_reckon_68 : jS → Int → Int → Int → Int → Int → Int → Int → Int → Option (jS × Bool × Int) := Classical.choose (⟨du_X33_reckon_68, rfl⟩ : ∃ f, f = du_X33_reckon_68)
theorem eu_X33_reckon_68 : u_X33_reckon_68 = du_X33_reckon_68 := Classical.choose_spec (⟨du_X33_reckon_68, rfl⟩ : ∃ f, f = du_X33_reckon_68)
def du_X33_reckon_67 (s : jS) (x0 x1 x2 x3 x4 x5 y0 : Int) : Option (jS × Bool × Int) :=
  u_X33_reckon_68 s x0 x1 x2 x3 x4 x5 0 y0
noncomputable def u_X33_reckon_67 : jS → Int → Int → Int → Int → Int → Int → Int → Option (jS × Bool × Int) := Classical.choose (⟨du_X33_reckon_67, rfl⟩ : ∃ f, f = du_X33_reckon_67)
theorem eu_X33_reckon_67 : u_X33_reckon_67 = du_X33_reckon_67 := Classical.choose_spec (⟨du_X33_reckon_67, rfl⟩ : ∃ f, f = du_X33_reckon_67)
def du_X33_reckon_63 (s : jS) (x0 x1 x2 x3 x4 x5 y0 : Int) : Option (jS × Bool × Int) :=
  u_X33_reckon_68 s x0 x1 x2 x3 x4 x5 1 y0
noncomputable def u_X33_reckon_63 : jS → Int → Int → Int → Int → Int → Int → Int → Option (jS × Bool × Int) := Classical.choose (⟨du_X33_reckon_63, rfl⟩ : ∃ f, f = du_X33_reckon_63)
theorem eu_X33_reckon_63 : u_X33_reckon_63 = du_X33_reckon_63 := Classical.choose_spec (⟨du_X33_reckon_63, rfl⟩ : ∃ f, f = du_X33_reckon_63)
def dm_X33_reckon (s : jS) (x0 x1 x2 : Int) : Option (jS × Bool × Int) :=
  jlet (W32 ((jf s 37 x0 36) - 1)) fun v1 =>
  (jlt s 1000 (x0 + 23) 2000 v1).bind fun v2 =>
  (jlt s 1000 (x0 + 23) 2000 (jf s 37 x0 36)).bind fun v3 =>
  (m_X33_isPlainAt s x0 v1).bind fun v4 =>
  if v4 = 0 then
    u_X33_reckon_67 s x0 x1 x2 v1 v2 v3 x0
  else
    (m_X33_isPlainAt s x0 (jf s 37 x0 36)).bind fun v5 =>
    if v5 = 0 then
      u_X33_reckon_67 s x0 x1 x2 v1 v2 v3 x0
    else
      if v3 = 0 then
        if x1 = 15 then
          u_X33_reckon_67 s x0 x1 x2 v1 v2 v3 x0
        else
          if x1 = 16 then
            u_X33_reckon_67 s x0 x1 x2 v1 v2 v3 x0
          else
            u_X33_reckon_63 s x0 x1 x2 v1 v2 v3 x0
      else
        u_X33_reckon_63 s x0 x1 x2 v1 v2 v3 x0
noncomputable def m_X33_reckon : jS → Int → Int → Int → Option (jS × Bool × Int) := Classical.choose (⟨dm_X33_reckon, rfl⟩ : ∃ f, f = dm_X33_reckon)
theorem em_X33_reckon : m_X33_reckon = dm_X33_reckon := Classical.choose_spec (⟨dm_X33_reckon, rfl⟩ : ∃ f, f = dm_X33_reckon)
def du_X33_all_63 (s : jS) (x0 x1 x3 y0 : Int) : Option (List Int ⊕ (Int)) :=
  some (.inl [x0, x1, y0, W32 (x3 + 1)])
noncomputable def u_X33_all_63 : jS → Int → Int → Int → Int → Option (List Int ⊕ (Int)) := Classical.choose (⟨du_X33_all_63, rfl⟩ : ∃ f, f = du_X33_all_63)
theorem eu_X33_all_63 : u_X33_all_63 = du_X33_all_63 := Classical.choose_spec (⟨du_X33_all_63, rfl⟩ : ∃ f, f = du_X33_all_63)
def b_X33_all_15 (s : jS) (x0 x1 x2 x3 : Int) : Option (List Int ⊕ (Int)) :=
  if x3 < (jf s 37 x0 35) then
    if x2 = 0 then
      jinr (some (Wz x2))
    else
      if x1 = 3 then
        (m_X11_operand s (x0 + (-3890)) (W32 ((jf s 37 x0 34) + x3)) 0).bind fun v1 =>
        if v1 = 3 then
          u_X33_all_63 s x0 x1 x3 1
        else
          u_X33_all_63 s x0 x1 x3 0
      else
        (m_X33_isExpression s x0 x3).bind fun v2 =>
        u_X33_all_63 s x0 x1 x3 v2
  else
    jinr (some (Wz x2))
def du_X33_all_15 (s : jS) (x0 x1 x2 x3 : Int) : Option (Int) := jlpR (jc4 b_X33_all_15) [x0, x1, x2, x3] s
noncomputable def u_X33_all_15 : jS → Int → Int → Int → Int → Option (Int) := Classical.choose (⟨du_X33_all_15, rfl⟩ : ∃ f, f = du_X33_all_15)
theorem eu_X33_all_15 : u_X33_all_15 = du_X33_all_15 := Classical.choose_spec (⟨du_X33_all_15, rfl⟩ : ∃ f, f = du_X33_all_15)
def du_X33_all_12 (s : jS) (x0 x1 y0 : Int) : Option (Int) :=
  u_X33_all_15 s x0 x1 y0 0
noncomputable def u_X33_all_12 : jS → Int → Int → Int → Option (Int) := Classical.choose (⟨du_X33_all_12, rfl⟩ : ∃ f, f = du_X33_all_12)
theorem eu_X33_all_12 : u_X33_all_12 = du_X33_all_12 := Classical.choose_spec (⟨du_X33_all_12, rfl⟩ : ∃ f, f = du_X33_all_12)
def dm_X33_all (s : jS) (x0 x1 : Int) : Option (Int) :=
  if 0 < (jf s 37 x0 35) then
    u_X33_all_12 s x0 x1 1
  else
    u_X33_all_12 s x0 x1 0
noncomputable def m_X33_all : jS → Int → Int → Option (Int) := Classical.choose (⟨dm_X33_all, rfl⟩ : ∃ f, f = dm_X33_all)
theorem em_X33_all : m_X33_all = dm_X33_all := Classical.choose_spec (⟨dm_X33_all, rfl⟩ : ∃ f, f = dm_X33_all)
def du_X33_put_21 (s : jS) (x0 x1 y0 y1 : Int) : Option (jS × Bool × Int) :=
  (m_X33_need s y1 y0 18).bind fun q1 =>
  jth q1.2.1 (some (q1.1, true, q1.2.2)) <|
  (jix 3 (jf q1.1 37 x0 30) ((x0 + 3) + 1 + 1 * (jf q1.1 37 x0 30))).bind fun v2 =>
  (jlt q1.1 1000 (x0 + 7) 4 (jf q1.1 37 x0 30)).bind fun v3 =>
  (jst q1.1 1001 v2 2048 v3 (W8 (W8 x1))).bind fun s4 =>
  (jlt s4 1000 (x0 + 7) 4 (jf s4 37 x0 30)).bind fun v5 =>
  (jst s4 1000 (x0 + 7) 4 (jf s4 37 x0 30) (W32 (v5 + 1))).bind fun s6 =>
  some (s6, false, 0)
noncomputable def u_X33_put_21 : jS → Int → Int → Int → Int → Option (jS × Bool × Int) := Classical.choose (⟨du_X33_put_21, rfl⟩ : ∃ f, f = du_X33_put_21)
theorem eu_X33_put_21 : u_X33_put_21 = du_X33_put_21 := Classical.choose_spec (⟨du_X33_put_21, rfl⟩ : ∃ f, f = du_X33_put_21)
def dm_X33_put (s : jS) (x0 x1 : Int) : Option (jS × Bool × Int) :=
  (jlt s 1000 (x0 + 7) 4 (jf s 37 x0 30)).bind fun v1 =>
  if v1 < 2048 then
    u_X33_put_21 s x0 x1 1 x0
  else
    u_X33_put_21 s x0 x1 0 x0
noncomputable def m_X33_put : jS → Int → Int → Option (jS × Bool × Int) := Classical.choose (⟨dm_X33_put, rfl⟩ : ∃ f, f = dm_X33_put)
theorem em_X33_put : m_X33_put = dm_X33_put := Classical.choose_spec (⟨dm_X33_put, rfl⟩ : ∃ f, f = dm_X33_put)
def b_X33_blank_48 (s : jS) (x0 x1 x2 : Int) : Option ((jS × List Int) ⊕ (jS × Bool × Int)) :=
  if x2 < x1 then
    (m_X33_put s x0 0).bind fun q1 =>
    jth q1.2.1 (jinr (some (q1.1, true, q1.2.2))) <|
    some (.inl (q1.1, [x0, x1, W32 (x2 + 1)]))
  else
    jinr (some (s, false, 0))
def du_X33_blank_48 (s : jS) (x0 x1 x2 : Int) : Option (jS × Bool × Int) := jlpW (jc3 b_X33_blank_48) [x0, x1, x2] s
noncomputable def u_X33_blank_48 : jS → Int → Int → Int → Option (jS × Bool × Int) := Classical.choose (⟨du_X33_blank_48, rfl⟩ : ∃ f, f = du_X33_blank_48)
theorem eu_X33_blank_48 : u_X33_blank_48 = du_X33_blank_48 := Classical.choose_spec (⟨du_X33_blank_48, rfl⟩ : ∃ f, f = du_X33_blank_48)
def du_X33_blank_28 (s : jS) (x0 x1 y0 y1 : Int) : Option (jS × Bool × Int) :=
  (m_X33_need s y1 y0 18).bind fun q1 =>
  jth q1.2.1 (some (q1.1, true, q1.2.2)) <|
  (jlt q1.1 1000 (x0 + 7) 4 3).bind fun v2 =>
  (jst q1.1 1000 (x0 + 7) 4 3 (W32 (v2 + x1))).bind fun s3 =>
  some (s3, false, 0)
noncomputable def u_X33_blank_28 : jS → Int → Int → Int → Int → Option (jS × Bool × Int) := Classical.choose (⟨du_X33_blank_28, rfl⟩ : ∃ f, f = du_X33_blank_28)
theorem eu_X33_blank_28 : u_X33_blank_28 = du_X33_blank_28 := Classical.choose_spec (⟨du_X33_blank_28, rfl⟩ : ∃ f, f = du_X33_blank_28)
def dm_X33_blank (s : jS) (x0 x1 : Int) : Option (jS × Bool × Int) :=
  if (jf s 37 x0 30) = 3 then
    (jlt s 1000 (x0 + 7) 4 3).bind fun v1 =>
    if 4096 < (W32 (v1 + x1)) then
      u_X33_blank_28 s x0 x1 0 x0
    else
      u_X33_blank_28 s x0 x1 1 x0
  else
    u_X33_blank_48 s x0 x1 0
noncomputable def m_X33_blank : jS → Int → Int → Option (jS × Bool × Int) := Classical.choose (⟨dm_X33_blank, rfl⟩ : ∃ f, f = dm_X33_blank)
theorem em_X33_blank : m_X33_blank = dm_X33_blank := Classical.choose_spec (⟨dm_X33_blank, rfl⟩ : ∃ f, f = dm_X33_blank)
def dm_X33_register (s : jS) (x0 x1 : Int) : Option (Int) :=
  (m_X11_operand s (x0 + (-3890)) (W32 ((jf s 37 x0 34) + x1)) 1).bind fun v1 =>
  some v1
noncomputable def m_X33_register : jS → Int → Int → Option (Int) := Classical.choose (⟨dm_X33_register, rfl⟩ : ∃ f, f = dm_X33_register)
theorem em_X33_register : m_X33_register = dm_X33_register := Classical.choose_spec (⟨dm_X33_register, rfl⟩ : ∃ f, f = dm_X33_register)
def dm_X35_powerOf (s : jS) (x0 : Int) : Option (Int) :=
  (m_J16_numberOfLeadingZeros s x0).bind fun v1 =>
  some (W32 (31 - v1))
noncomputable def m_X35_powerOf : jS → Int → Option (Int) := Classical.choose (⟨dm_X35_powerOf, rfl⟩ : ∃ f, f = dm_X35_powerOf)
theorem em_X35_powerOf : m_X35_powerOf = dm_X35_powerOf := Classical.choose_spec (⟨dm_X35_powerOf, rfl⟩ : ∃ f, f = dm_X35_powerOf)
def du_X35_nextMove_66 (s : jS) (x0 x1 x2 x3 x4 : Int) : Option (List Int ⊕ (Int)) :=
  some (.inl [x0, x1, x2, x3, W32 (x4 + 1)])
noncomputable def u_X35_nextMove_66 : jS → Int → Int → Int → Int → Int → Option (List Int ⊕ (Int)) := Classical.choose (⟨du_X35_nextMove_66, rfl⟩ : ∃ f, f = du_X35_nextMove_66)
theorem eu_X35_nextMove_66 : u_X35_nextMove_66 = du_X35_nextMove_66 := Classical.choose_spec (⟨du_X35_nextMove_66, rfl⟩ : ∃ f, f = du_X35_nextMove_66)
def du_X35_nextMove_54 (s : jS) (x0 x1 x2 x3 x4 x5 : Int) : Option (List Int ⊕ (Int)) :=
  (m_X35_mayMove s x0 x5).bind fun v1 =>
  if v1 = 0 then
    u_X35_nextMove_66 s x0 x1 x2 x3 x4
  else
    u_X35_nextMove_66 s x0 x1 x2 x4 x4
noncomputable def u_X35_nextMove_54 : jS → Int → Int → Int → Int → Int → Int → Option (List Int ⊕ (Int)) := Classical.choose (⟨du_X35_nextMove_54, rfl⟩ : ∃ f, f = du_X35_nextMove_54)
theorem eu_X35_nextMove_54 : u_X35_nextMove_54 = du_X35_nextMove_54 := Classical.choose_spec (⟨du_X35_nextMove_54, rfl⟩ : ∃ f, f = du_X35_nextMove_54)
def b_X35_nextMove_5 (s : jS) (x0 x1 x2 x3 x4 : Int) : Option (List Int ⊕ (Int)) :=
  (jrd s 18 x1 6).bind fun v1 =>
  if x4 < v1 then
    (jrd s 18 x1 5).bind fun v2 =>
    (jld s 1012 v2 x4).bind fun v3 =>
    (jrd s 22 v3 1).bind fun v4 =>
    if v4 < x2 then
      u_X35_nextMove_66 s x0 x1 x2 x3 x4
    else
      if x3 = (-1) then
        u_X35_nextMove_54 s x0 x1 x2 x3 x4 v3
      else
        (jrd s 22 v3 1).bind fun v5 =>
        (jrd s 18 x1 5).bind fun v6 =>
        (jld s 1012 v6 x3).bind fun v7 =>
        (jrd s 22 v7 1).bind fun v8 =>
        if v5 < v8 then
          u_X35_nextMove_54 s x0 x1 x2 x3 x4 v3
        else
          u_X35_nextMove_66 s x0 x1 x2 x3 x4
  else
    jinr (some x3)
def du_X35_nextMove_5 (s : jS) (x0 x1 x2 x3 x4 : Int) : Option (Int) := jlpR (jc5 b_X35_nextMove_5) [x0, x1, x2, x3, x4] s
noncomputable def u_X35_nextMove_5 : jS → Int → Int → Int → Int → Int → Option (Int) := Classical.choose (⟨du_X35_nextMove_5, rfl⟩ : ∃ f, f = du_X35_nextMove_5)
theorem eu_X35_nextMove_5 : u_X35_nextMove_5 = du_X35_nextMove_5 := Classical.choose_spec (⟨du_X35_nextMove_5, rfl⟩ : ∃ f, f = du_X35_nextMove_5)
def dm_X35_nextMove (s : jS) (x0 x1 x2 : Int) : Option (Int) :=
  u_X35_nextMove_5 s x0 x1 x2 (-1) 0
noncomputable def m_X35_nextMove : jS → Int → Int → Int → Option (Int) := Classical.choose (⟨dm_X35_nextMove, rfl⟩ : ∃ f, f = dm_X35_nextMove)
theorem em_X35_nextMove : m_X35_nextMove = dm_X35_nextMove := Classical.choose_spec (⟨dm_X35_nextMove, rfl⟩ : ∃ f, f = dm_X35_nextMove)
def dm_X35_need (s : jS) (x0 x1 x2 : Int) : Option (jS × Bool × Int) :=
  if x1 = 0 then
    (m_X35_wrong_2 s x0 x2).bind fun q1 =>
    jck0 q1.2 (some (q1.1, true, q1.2))
  else
    some (s, false, 0)
noncomputable def m_X35_need : jS → Int → Int → Int → Option (jS × Bool × Int) := Classical.choose (⟨dm_X35_need, rfl⟩ : ∃ f, f = dm_X35_need)
theorem em_X35_need : m_X35_need = dm_X35_need := Classical.choose_spec (⟨dm_X35_need, rfl⟩ : ∃ f, f = dm_X35_need)
def dm_X35_wordAt (s : jS) (x0 x1 : Int) : Option (Int) :=
  (jix 3 0 ((x0 + 33) + 1 + 1 * 0)).bind fun v1 =>
  (m_X35_get s x0 v1 (jf s 39 x0 38) x1).bind fun v2 =>
  some (L2i v2)
noncomputable def m_X35_wordAt : jS → Int → Int → Option (Int) := Classical.choose (⟨dm_X35_wordAt, rfl⟩ : ∃ f, f = dm_X35_wordAt)
theorem em_X35_wordAt : m_X35_wordAt = dm_X35_wordAt := Classical.choose_spec (⟨dm_X35_wordAt, rfl⟩ : ∃ f, f = dm_X35_wordAt)
def du_X35_wants_247 (s : jS) (x2 : Int) : Option (Int) :=
  if x2 = 1 then
    some (Wz 1)
  else
    some (Wz 0)
noncomputable def u_X35_wants_247 : jS → Int → Option (Int) := Classical.choose (⟨du_X35_wants_247, rfl⟩ : ∃ f, f = du_X35_wants_247)
theorem eu_X35_wants_247 : u_X35_wants_247 = du_X35_wants_247 := Classical.choose_spec (⟨du_X35_wants_247, rfl⟩ : ∃ f, f = du_X35_wants_247)
def du_X35_wants_219 (s : jS) (x2 : Int) : Option (Int) :=
  if x2 < 15 then
    some (Wz 0)
  else
    if x2 < 18 then
      some (Wz 1)
    else
      some (Wz 0)
noncomputable def u_X35_wants_219 : jS → Int → Option (Int) := Classical.choose (⟨du_X35_wants_219, rfl⟩ : ∃ f, f = du_X35_wants_219)
theorem eu_X35_wants_219 : u_X35_wants_219 = du_X35_wants_219 := Classical.choose_spec (⟨du_X35_wants_219, rfl⟩ : ∃ f, f = du_X35_wants_219)
def du_X35_wants_201 (s : jS) (x2 : Int) : Option (Int) :=
  if x2 < 18 then
    some (Wz 0)
  else
    if x2 < 24 then
      some (Wz 1)
    else
      some (Wz 0)
noncomputable def u_X35_wants_201 : jS → Int → Option (Int) := Classical.choose (⟨du_X35_wants_201, rfl⟩ : ∃ f, f = du_X35_wants_201)
theorem eu_X35_wants_201 : u_X35_wants_201 = du_X35_wants_201 := Classical.choose_spec (⟨du_X35_wants_201, rfl⟩ : ∃ f, f = du_X35_wants_201)
def du_X35_wants_184 (s : jS) (x2 : Int) : Option (Int) :=
  if x2 = 3 then
    some (Wz 1)
  else
    if x2 < 10 then
      u_X35_wants_201 s x2
    else
      if x2 < 15 then
        some (Wz 1)
      else
        u_X35_wants_201 s x2
noncomputable def u_X35_wants_184 : jS → Int → Option (Int) := Classical.choose (⟨du_X35_wants_184, rfl⟩ : ∃ f, f = du_X35_wants_184)
theorem eu_X35_wants_184 : u_X35_wants_184 = du_X35_wants_184 := Classical.choose_spec (⟨du_X35_wants_184, rfl⟩ : ∃ f, f = du_X35_wants_184)
def dm_X35_wants (s : jS) (x0 x1 x2 : Int) : Option (Int) :=
  if x1 = 16 then
    if x2 < 4 then
      some (Wz 0)
    else
      if x2 < 10 then
        some (Wz 1)
      else
        some (Wz 0)
  else
  if x1 = 17 then
    if x2 = 2 then
      some (Wz 1)
    else
      some (Wz 0)
  else
  if x1 = 18 then
    u_X35_wants_247 s x2
  else
  if x1 = 19 then
    u_X35_wants_247 s x2
  else
  if x1 = 20 then
    u_X35_wants_247 s x2
  else
  if x1 = 21 then
    u_X35_wants_247 s x2
  else
  if x1 = 22 then
    u_X35_wants_247 s x2
  else
  if x1 = 23 then
    u_X35_wants_247 s x2
  else
  if x1 = 24 then
    u_X35_wants_184 s x2
  else
  if x1 = 25 then
    u_X35_wants_219 s x2
  else
  if x1 = 26 then
    if x2 = 0 then
      some (Wz 1)
    else
      some (Wz 0)
  else
  if x1 = 27 then
    u_X35_wants_184 s x2
  else
  if x1 = 28 then
    u_X35_wants_219 s x2
  else
  if x1 = 29 then
    u_X35_wants_247 s x2
  else
  if x1 = 30 then
    u_X35_wants_247 s x2
  else
  if x1 = 31 then
    u_X35_wants_247 s x2
  else
  if x1 = 32 then
    u_X35_wants_247 s x2
  else
  if x1 = 33 then
    u_X35_wants_247 s x2
  else
  if x1 = 34 then
    u_X35_wants_247 s x2
  else
  if x1 = 35 then
    u_X35_wants_247 s x2
  else
  if x1 = 36 then
    u_X35_wants_247 s x2
  else
  if x1 = 37 then
    u_X35_wants_247 s x2
  else
  if x1 = 38 then
    u_X35_wants_247 s x2
  else
  if x1 = 39 then
    u_X35_wants_247 s x2
  else
  if x1 = 40 then
    u_X35_wants_247 s x2
  else
  if x1 = 41 then
    u_X35_wants_247 s x2
  else
  if x1 = 42 then
    u_X35_wants_247 s x2
  else
  if x1 = 43 then
    u_X35_wants_247 s x2
  else
  if x1 = 44 then
    (m_X35_isOne s x0 x2 65 66).bind fun v1 =>
    some (Wz v1)
  else
  if x1 = 45 then
    (m_X35_isOne s x0 x2 53 64).bind fun v2 =>
    some (Wz v2)
  else
  u_X35_wants_247 s x2
noncomputable def m_X35_wants : jS → Int → Int → Int → Option (Int) := Classical.choose (⟨dm_X35_wants, rfl⟩ : ∃ f, f = dm_X35_wants)
theorem em_X35_wants : m_X35_wants = dm_X35_wants := Classical.choose_spec (⟨dm_X35_wants, rfl⟩ : ∃ f, f = dm_X35_wants)
def dm_X36_init (s : jS) (x0 : Int) : Option (jS × Int) :=
  jck0 x0 <|
  (jna s 1019 32 (-1)).bind fun q1 =>
  (jwr q1.1 40 x0 0 q1.2).bind fun s2 =>
  (jna s2 1020 256 (-1)).bind fun q3 =>
  (jwr q3.1 40 x0 1 q3.2).bind fun s4 =>
  (jna s4 1017 64 (-1)).bind fun q5 =>
  (jwr q5.1 40 x0 2 q5.2).bind fun s6 =>
  (jna s6 1021 256 (-1)).bind fun q7 =>
  (jwr q7.1 40 x0 3 q7.2).bind fun s8 =>
  (jna s8 1016 256 (-1)).bind fun q9 =>
  (jwr q9.1 40 x0 4 q9.2).bind fun s10 =>
  (jna s10 1015 256 (-1)).bind fun q11 =>
  (jwr q11.1 40 x0 5 q11.2).bind fun s12 =>
  (jna s12 1018 256 (-1)).bind fun q13 =>
  (jwr q13.1 40 x0 6 q13.2).bind fun s14 =>
  (jna s14 1000 4 0).bind fun q15 =>
  (jwr q15.1 40 x0 11 q15.2).bind fun s16 =>
  (jna s16 1000 4 0).bind fun q17 =>
  (jwr q17.1 40 x0 12 q17.2).bind fun s18 =>
  (jna s18 1000 4 0).bind fun q19 =>
  (jwr q19.1 40 x0 13 q19.2).bind fun s20 =>
  (jna s20 1000 256 0).bind fun q21 =>
  (jwr q21.1 40 x0 14 q21.2).bind fun s22 =>
  (jct s22 56 x0 (m_X36_renew s22 x0)).bind fun q23 =>
  some (q23.1, 0)
noncomputable def m_X36_init : jS → Int → Option (jS × Int) := Classical.choose (⟨dm_X36_init, rfl⟩ : ∃ f, f = dm_X36_init)
theorem em_X36_init : m_X36_init = dm_X36_init := Classical.choose_spec (⟨dm_X36_init, rfl⟩ : ∃ f, f = dm_X36_init)
def dm_X36_base (s : jS) (x0 x1 : Int) : Option (jS × Int) :=
  (m_X36_in s x1 0 1048576).bind fun v1 =>
  if v1 = 0 then
    some (s, Wz 0)
  else
    jls (jp s 40 x0 18 x1) fun s2 =>
    (jzb 0).bind fun v3 =>
    jls (jp s2 40 x0 19 v3) fun s4 =>
    some (s4, Wz 1)
noncomputable def m_X36_base : jS → Int → Int → Option (jS × Int) := Classical.choose (⟨dm_X36_base, rfl⟩ : ∃ f, f = dm_X36_base)
theorem em_X36_base : m_X36_base = dm_X36_base := Classical.choose_spec (⟨dm_X36_base, rfl⟩ : ∃ f, f = dm_X36_base)
def du_X36_part_63 (s : jS) (x0 x1 x2 : Int) : Option (jS × Int) :=
  (jlt s 1019 (x0 + 1) 32 (jf s 40 x0 15)).bind fun v1 =>
  (jct s 86 v1 (m_X52_renew s v1 x1 x2)).bind fun q2 =>
  jls (jp q2.1 40 x0 15 (W32 ((jf q2.1 40 x0 15) + 1))) fun s3 =>
  (jzb 0).bind fun v4 =>
  jls (jp s3 40 x0 19 v4) fun s5 =>
  some (s5, W32 ((jf s5 40 x0 15) - 1))
noncomputable def u_X36_part_63 : jS → Int → Int → Int → Option (jS × Int) := Classical.choose (⟨du_X36_part_63, rfl⟩ : ∃ f, f = du_X36_part_63)
theorem eu_X36_part_63 : u_X36_part_63 = du_X36_part_63 := Classical.choose_spec (⟨du_X36_part_63, rfl⟩ : ∃ f, f = du_X36_part_63)
def dm_X36_part (s : jS) (x0 x1 x2 : Int) : Option (jS × Int) :=
  if (jf s 40 x0 15) = 32 then
    some (s, (-1))
  else
    (m_X36_in s x1 0 3).bind fun v1 =>
    if v1 = 0 then
      some (s, (-1))
    else
      (m_X36_in s x2 0 12).bind fun v2 =>
      if v2 = 0 then
        some (s, (-1))
      else
        (jlt s 1019 (x0 + 1) 32 (jf s 40 x0 15)).bind fun v3 =>
        if v3 < 0 then
          (jnw s 70 9 (jdf 70)).bind fun q4 =>
          (jck0 q4.2 (m_X52_init q4.1 q4.2)).bind fun q5 =>
          (jst q5.1 1019 (x0 + 1) 32 (jf s 40 x0 15) q4.2).bind fun s6 =>
          u_X36_part_63 s6 x0 x1 x2
        else
          u_X36_part_63 s x0 x1 x2
noncomputable def m_X36_part : jS → Int → Int → Int → Option (jS × Int) := Classical.choose (⟨dm_X36_part, rfl⟩ : ∃ f, f = dm_X36_part)
theorem em_X36_part : m_X36_part = dm_X36_part := Classical.choose_spec (⟨dm_X36_part, rfl⟩ : ∃ f, f = dm_X36_part)
def dm_X36_can (s : jS) (x0 x1 : Int) : Option (Int) :=
  if (jf s 40 x0 16) < 256 then
    (m_X36_isPart s x0 x1).bind fun v1 =>
    if v1 = 0 then
      some (Wz 0)
    else
      some (Wz 1)
  else
    some (Wz 0)
noncomputable def m_X36_can : jS → Int → Int → Option (Int) := Classical.choose (⟨dm_X36_can, rfl⟩ : ∃ f, f = dm_X36_can)
theorem em_X36_can : m_X36_can = dm_X36_can := Classical.choose_spec (⟨dm_X36_can, rfl⟩ : ∃ f, f = dm_X36_can)
def du_X36_nextPlain_28 (s : jS) (x0 : Int) : Option (jS × Int) :=
  jls (jp s 40 x0 7 (W32 ((jf s 40 x0 7) + 1))) fun s1 =>
  (jlt s1 1021 (x0 + 4) 256 (W32 ((jf s1 40 x0 7) - 1))).bind fun v2 =>
  some (s1, v2)
noncomputable def u_X36_nextPlain_28 : jS → Int → Option (jS × Int) := Classical.choose (⟨du_X36_nextPlain_28, rfl⟩ : ∃ f, f = du_X36_nextPlain_28)
theorem eu_X36_nextPlain_28 : u_X36_nextPlain_28 = du_X36_nextPlain_28 := Classical.choose_spec (⟨du_X36_nextPlain_28, rfl⟩ : ∃ f, f = du_X36_nextPlain_28)
def dm_X36_nextPlain (s : jS) (x0 : Int) : Option (jS × Int) :=
  (jlt s 1021 (x0 + 4) 256 (jf s 40 x0 7)).bind fun v1 =>
  if v1 < 0 then
    (jnw s 72 4 (jdf 72)).bind fun q2 =>
    (jck0 q2.2 (m_X54_init q2.1 q2.2)).bind fun q3 =>
    (jst q3.1 1021 (x0 + 4) 256 (jf s 40 x0 7) q2.2).bind fun s4 =>
    u_X36_nextPlain_28 s4 x0
  else
    u_X36_nextPlain_28 s x0
noncomputable def m_X36_nextPlain : jS → Int → Option (jS × Int) := Classical.choose (⟨dm_X36_nextPlain, rfl⟩ : ∃ f, f = dm_X36_nextPlain)
theorem em_X36_nextPlain : m_X36_nextPlain = dm_X36_nextPlain := Classical.choose_spec (⟨dm_X36_nextPlain, rfl⟩ : ∃ f, f = dm_X36_nextPlain)
def dmp_X53_belong (s : jS) (x0 x1 : Int) : Option (jS × Int) := if 0 ≤ x0 ∧ jK s x0 = 72 then m_X53_belong s x0 x1 else if 0 ≤ x0 ∧ jK s x0 = 73 then m_X53_belong s x0 x1 else if 0 ≤ x0 ∧ jK s x0 = 76 then m_X53_belong s x0 x1 else if 0 ≤ x0 ∧ jK s x0 = 77 then m_X53_belong s x0 x1 else none
noncomputable def mp_X53_belong : jS → Int → Int → Option (jS × Int) := Classical.choose (⟨dmp_X53_belong, rfl⟩ : ∃ f, f = dmp_X53_belong)
theorem emp_X53_belong : mp_X53_belong = dmp_X53_belong := Classical.choose_spec (⟨dmp_X53_belong, rfl⟩ : ∃ f, f = dmp_X53_belong)
def dm_X36_add (s : jS) (x0 x1 x2 : Int) : Option (jS × Int) :=
  (jlt s 1019 (x0 + 1) 32 x1).bind fun v1 =>
  (mp_X53_belong s x2 v1).bind fun q2 =>
  (jlt q2.1 1019 (x0 + 1) 32 x1).bind fun v3 =>
  (jct q2.1 86 v3 (m_X52_add q2.1 v3 x2)).bind fun q4 =>
  (jasL q4.1 1020 [72, 73, 76, 77] (x0 + 2) (jf q4.1 40 x0 16) x2).bind fun s5 =>
  jls (jp s5 40 x0 16 (W32 ((jf s5 40 x0 16) + 1))) fun s6 =>
  (jzb 0).bind fun v7 =>
  jls (jp s6 40 x0 19 v7) fun s8 =>
  some (s8, W32 ((jf s8 40 x0 16) - 1))
noncomputable def m_X36_add : jS → Int → Int → Int → Option (jS × Int) := Classical.choose (⟨dm_X36_add, rfl⟩ : ∃ f, f = dm_X36_add)
theorem em_X36_add : m_X36_add = dm_X36_add := Classical.choose_spec (⟨dm_X36_add, rfl⟩ : ∃ f, f = dm_X36_add)
def du_X36_nextFill_28 (s : jS) (x0 : Int) : Option (jS × Int) :=
  jls (jp s 40 x0 8 (W32 ((jf s 40 x0 8) + 1))) fun s1 =>
  (jlt s1 1016 (x0 + 5) 256 (W32 ((jf s1 40 x0 8) - 1))).bind fun v2 =>
  some (s1, v2)
noncomputable def u_X36_nextFill_28 : jS → Int → Option (jS × Int) := Classical.choose (⟨du_X36_nextFill_28, rfl⟩ : ∃ f, f = du_X36_nextFill_28)
theorem eu_X36_nextFill_28 : u_X36_nextFill_28 = du_X36_nextFill_28 := Classical.choose_spec (⟨du_X36_nextFill_28, rfl⟩ : ∃ f, f = du_X36_nextFill_28)
def dm_X36_nextFill (s : jS) (x0 : Int) : Option (jS × Int) :=
  (jlt s 1016 (x0 + 5) 256 (jf s 40 x0 8)).bind fun v1 =>
  if v1 < 0 then
    (jnw s 73 5 (jdf 73)).bind fun q2 =>
    (jck0 q2.2 (m_X55_init q2.1 q2.2)).bind fun q3 =>
    (jst q3.1 1016 (x0 + 5) 256 (jf s 40 x0 8) q2.2).bind fun s4 =>
    u_X36_nextFill_28 s4 x0
  else
    u_X36_nextFill_28 s x0
noncomputable def m_X36_nextFill : jS → Int → Option (jS × Int) := Classical.choose (⟨dm_X36_nextFill, rfl⟩ : ∃ f, f = dm_X36_nextFill)
theorem em_X36_nextFill : m_X36_nextFill = dm_X36_nextFill := Classical.choose_spec (⟨dm_X36_nextFill, rfl⟩ : ∃ f, f = dm_X36_nextFill)
def du_X36_label_39 (s : jS) (x0 : Int) : Option (jS × Int) :=
  (jlt s 1017 (x0 + 3) 64 (jf s 40 x0 17)).bind fun v1 =>
  (jwr s 74 v1 0 (-1)).bind fun s2 =>
  (jlt s2 1017 (x0 + 3) 64 (jf s2 40 x0 17)).bind fun v3 =>
  (jwr s2 74 v3 1 0).bind fun s4 =>
  jls (jp s4 40 x0 17 (W32 ((jf s4 40 x0 17) + 1))) fun s5 =>
  some (s5, W32 ((jf s5 40 x0 17) - 1))
noncomputable def u_X36_label_39 : jS → Int → Option (jS × Int) := Classical.choose (⟨du_X36_label_39, rfl⟩ : ∃ f, f = du_X36_label_39)
theorem eu_X36_label_39 : u_X36_label_39 = du_X36_label_39 := Classical.choose_spec (⟨du_X36_label_39, rfl⟩ : ∃ f, f = du_X36_label_39)
def dm_X36_label (s : jS) (x0 : Int) : Option (jS × Int) :=
  if (jf s 40 x0 17) = 64 then
    some (s, (-1))
  else
    (jlt s 1017 (x0 + 3) 64 (jf s 40 x0 17)).bind fun v1 =>
    if v1 < 0 then
      (jnw s 74 2 (jdf 74)).bind fun q2 =>
      (jck0 q2.2 (m_X56_init q2.1 q2.2)).bind fun q3 =>
      (jst q3.1 1017 (x0 + 3) 64 (jf s 40 x0 17) q2.2).bind fun s4 =>
      u_X36_label_39 s4 x0
    else
      u_X36_label_39 s x0
noncomputable def m_X36_label : jS → Int → Option (jS × Int) := Classical.choose (⟨dm_X36_label, rfl⟩ : ∃ f, f = dm_X36_label)
theorem em_X36_label : m_X36_label = dm_X36_label := Classical.choose_spec (⟨dm_X36_label, rfl⟩ : ∃ f, f = dm_X36_label)
def du_X36_nextCall_28 (s : jS) (x0 : Int) : Option (jS × Int) :=
  jls (jp s 40 x0 9 (W32 ((jf s 40 x0 9) + 1))) fun s1 =>
  (jlt s1 1015 (x0 + 6) 256 (W32 ((jf s1 40 x0 9) - 1))).bind fun v2 =>
  some (s1, v2)
noncomputable def u_X36_nextCall_28 : jS → Int → Option (jS × Int) := Classical.choose (⟨du_X36_nextCall_28, rfl⟩ : ∃ f, f = du_X36_nextCall_28)
theorem eu_X36_nextCall_28 : u_X36_nextCall_28 = du_X36_nextCall_28 := Classical.choose_spec (⟨du_X36_nextCall_28, rfl⟩ : ∃ f, f = du_X36_nextCall_28)
def dm_X36_nextCall (s : jS) (x0 : Int) : Option (jS × Int) :=
  (jlt s 1015 (x0 + 6) 256 (jf s 40 x0 9)).bind fun v1 =>
  if v1 < 0 then
    (jnw s 76 8 (jdf 76)).bind fun q2 =>
    (jck0 q2.2 (m_X58_init q2.1 q2.2)).bind fun q3 =>
    (jst q3.1 1015 (x0 + 6) 256 (jf s 40 x0 9) q2.2).bind fun s4 =>
    u_X36_nextCall_28 s4 x0
  else
    u_X36_nextCall_28 s x0
noncomputable def m_X36_nextCall : jS → Int → Option (jS × Int) := Classical.choose (⟨dm_X36_nextCall, rfl⟩ : ∃ f, f = dm_X36_nextCall)
theorem em_X36_nextCall : m_X36_nextCall = dm_X36_nextCall := Classical.choose_spec (⟨dm_X36_nextCall, rfl⟩ : ∃ f, f = dm_X36_nextCall)
def du_X36_nextLoad_28 (s : jS) (x0 : Int) : Option (jS × Int) :=
  jls (jp s 40 x0 10 (W32 ((jf s 40 x0 10) + 1))) fun s1 =>
  (jlt s1 1018 (x0 + 7) 256 (W32 ((jf s1 40 x0 10) - 1))).bind fun v2 =>
  some (s1, v2)
noncomputable def u_X36_nextLoad_28 : jS → Int → Option (jS × Int) := Classical.choose (⟨du_X36_nextLoad_28, rfl⟩ : ∃ f, f = du_X36_nextLoad_28)
theorem eu_X36_nextLoad_28 : u_X36_nextLoad_28 = du_X36_nextLoad_28 := Classical.choose_spec (⟨du_X36_nextLoad_28, rfl⟩ : ∃ f, f = du_X36_nextLoad_28)
def dm_X36_nextLoad (s : jS) (x0 : Int) : Option (jS × Int) :=
  (jlt s 1018 (x0 + 7) 256 (jf s 40 x0 10)).bind fun v1 =>
  if v1 < 0 then
    (jnw s 77 9 (jdf 77)).bind fun q2 =>
    (jck0 q2.2 (m_X59_init q2.1 q2.2)).bind fun q3 =>
    (jst q3.1 1018 (x0 + 7) 256 (jf s 40 x0 10) q2.2).bind fun s4 =>
    u_X36_nextLoad_28 s4 x0
  else
    u_X36_nextLoad_28 s x0
noncomputable def m_X36_nextLoad : jS → Int → Option (jS × Int) := Classical.choose (⟨dm_X36_nextLoad, rfl⟩ : ∃ f, f = dm_X36_nextLoad)
theorem em_X36_nextLoad : m_X36_nextLoad = dm_X36_nextLoad := Classical.choose_spec (⟨dm_X36_nextLoad, rfl⟩ : ∃ f, f = dm_X36_nextLoad)
def dmp_X53_canBe (s : jS) (x0 x1 : Int) : Option (Int) := if 0 ≤ x0 ∧ jK s x0 = 72 then jct s 88 x0 (m_X54_canBe s x0 x1) else if 0 ≤ x0 ∧ jK s x0 = 73 then jct s 89 x0 (m_X55_canBe s x0 x1) else if 0 ≤ x0 ∧ jK s x0 = 76 then m_X57_canBe s x0 x1 else if 0 ≤ x0 ∧ jK s x0 = 77 then m_X57_canBe s x0 x1 else none
noncomputable def mp_X53_canBe : jS → Int → Int → Option (Int) := Classical.choose (⟨dmp_X53_canBe, rfl⟩ : ∃ f, f = dmp_X53_canBe)
theorem emp_X53_canBe : mp_X53_canBe = dmp_X53_canBe := Classical.choose_spec (⟨dmp_X53_canBe, rfl⟩ : ∃ f, f = dmp_X53_canBe)
def dm_X36_put (s : jS) (x0 x1 x2 x3 : Int) : Option (jS × Int) :=
  (m_X36_isLabel s x0 x1).bind fun v1 =>
  if v1 = 0 then
    some (s, Wz 0)
  else
    (m_X36_isPiece s x0 x2).bind fun v2 =>
    if v2 = 0 then
      some (s, Wz 0)
    else
      (jlt s 1020 (x0 + 2) 256 x2).bind fun v3 =>
      (mp_X53_canBe s v3 x3).bind fun v4 =>
      if v4 = 0 then
        some (s, Wz 0)
      else
        (jlt s 1017 (x0 + 3) 64 x1).bind fun v5 =>
        (jlt s 1020 (x0 + 2) 256 x2).bind fun v6 =>
        (jwr s 74 v5 0 v6).bind fun s7 =>
        (jlt s7 1017 (x0 + 3) 64 x1).bind fun v8 =>
        (jwr s7 74 v8 1 x3).bind fun s9 =>
        some (s9, Wz 1)
noncomputable def m_X36_put : jS → Int → Int → Int → Int → Option (jS × Int) := Classical.choose (⟨dm_X36_put, rfl⟩ : ∃ f, f = dm_X36_put)
theorem em_X36_put : m_X36_put = dm_X36_put := Classical.choose_spec (⟨dm_X36_put, rfl⟩ : ∃ f, f = dm_X36_put)
def dmp_X53_moving (s : jS) (x0 : Int) : Option (Int) := if 0 ≤ x0 ∧ jK s x0 = 72 then jct s 88 x0 (m_X54_moving s x0) else if 0 ≤ x0 ∧ jK s x0 = 73 then jct s 89 x0 (m_X55_moving s x0) else if 0 ≤ x0 ∧ jK s x0 = 76 then m_X57_moving s x0 else if 0 ≤ x0 ∧ jK s x0 = 77 then m_X57_moving s x0 else none
noncomputable def mp_X53_moving : jS → Int → Option (Int) := Classical.choose (⟨dmp_X53_moving, rfl⟩ : ∃ f, f = dmp_X53_moving)
theorem emp_X53_moving : mp_X53_moving = dmp_X53_moving := Classical.choose_spec (⟨dmp_X53_moving, rfl⟩ : ∃ f, f = dmp_X53_moving)
def dm_X36_movingAt (s : jS) (x0 x1 : Int) : Option (Int) :=
  (jlt s 1020 (x0 + 2) 256 x1).bind fun v1 =>
  (jrp s [(72, 0), (73, 0), (76, 4), (77, 4)] v1).bind fun v2 =>
  (jrd s 70 v2 4).bind fun v3 =>
  if v3 = 0 then
    (jlt s 1020 (x0 + 2) 256 x1).bind fun v4 =>
    (mp_X53_moving s v4).bind fun v5 =>
    some v5
  else
    some (-1)
noncomputable def m_X36_movingAt : jS → Int → Int → Option (Int) := Classical.choose (⟨dm_X36_movingAt, rfl⟩ : ∃ f, f = dm_X36_movingAt)
theorem em_X36_movingAt : m_X36_movingAt = dm_X36_movingAt := Classical.choose_spec (⟨dm_X36_movingAt, rfl⟩ : ∃ f, f = dm_X36_movingAt)
def dmp_X57_greatest (s : jS) (x0 : Int) : Option (Int) := if 0 ≤ x0 ∧ jK s x0 = 76 then jct s 92 x0 (m_X58_greatest s x0) else if 0 ≤ x0 ∧ jK s x0 = 77 then jct s 93 x0 (m_X59_greatest s x0) else none
noncomputable def mp_X57_greatest : jS → Int → Option (Int) := Classical.choose (⟨dmp_X57_greatest, rfl⟩ : ∃ f, f = dmp_X57_greatest)
theorem emp_X57_greatest : mp_X57_greatest = dmp_X57_greatest := Classical.choose_spec (⟨dmp_X57_greatest, rfl⟩ : ∃ f, f = dmp_X57_greatest)
def du_X36_saved_36 (s : jS) (x0 x2 y0 y1 : Int) : Option (List Int ⊕ (Int)) :=
  jlet (W32 (y1 + y0)) fun v1 =>
  some (.inl [x0, v1, W32 (x2 + 1)])
noncomputable def u_X36_saved_36 : jS → Int → Int → Int → Int → Option (List Int ⊕ (Int)) := Classical.choose (⟨du_X36_saved_36, rfl⟩ : ∃ f, f = du_X36_saved_36)
theorem eu_X36_saved_36 : u_X36_saved_36 = du_X36_saved_36 := Classical.choose_spec (⟨du_X36_saved_36, rfl⟩ : ∃ f, f = du_X36_saved_36)
def b_X36_saved_4 (s : jS) (x0 x1 x2 : Int) : Option (List Int ⊕ (Int)) :=
  if x2 < (jf s 40 x0 16) then
    (m_X36_movingAt s x0 x2).bind fun v1 =>
    if v1 < 0 then
      u_X36_saved_36 s x0 x2 0 x1
    else
      (mp_X57_greatest s v1).bind fun v2 =>
      (jrp s [(76, 2), (77, 2)] v1).bind fun v3 =>
      u_X36_saved_36 s x0 x2 (W32 (v2 - v3)) x1
  else
    jinr (some x1)
def du_X36_saved_4 (s : jS) (x0 x1 x2 : Int) : Option (Int) := jlpR (jc3 b_X36_saved_4) [x0, x1, x2] s
noncomputable def u_X36_saved_4 : jS → Int → Int → Int → Option (Int) := Classical.choose (⟨du_X36_saved_4, rfl⟩ : ∃ f, f = du_X36_saved_4)
theorem eu_X36_saved_4 : u_X36_saved_4 = du_X36_saved_4 := Classical.choose_spec (⟨du_X36_saved_4, rfl⟩ : ∃ f, f = du_X36_saved_4)
def dm_X36_saved (s : jS) (x0 : Int) : Option (Int) :=
  u_X36_saved_4 s x0 0 0
noncomputable def m_X36_saved : jS → Int → Option (Int) := Classical.choose (⟨dm_X36_saved, rfl⟩ : ∃ f, f = dm_X36_saved)
theorem em_X36_saved : m_X36_saved = dm_X36_saved := Classical.choose_spec (⟨dm_X36_saved, rfl⟩ : ∃ f, f = dm_X36_saved)
def du_X44_skip_117 (s : jS) (x0 : Int) : Option (jS × Bool × Int) :=
  (m_X44_wrong s x0 1 (jf s 53 x0 2)).bind fun q1 =>
  jck0 q1.2 (some (q1.1, true, q1.2))
noncomputable def u_X44_skip_117 : jS → Int → Option (jS × Bool × Int) := Classical.choose (⟨du_X44_skip_117, rfl⟩ : ∃ f, f = du_X44_skip_117)
theorem eu_X44_skip_117 : u_X44_skip_117 = du_X44_skip_117 := Classical.choose_spec (⟨du_X44_skip_117, rfl⟩ : ∃ f, f = du_X44_skip_117)
def du_X44_skip_127 (s : jS) (x0 : Int) : Option ((jS × List Int) ⊕ (jS × Bool × Int)) :=
  jls (jp s 53 x0 2 (W32 ((jf s 53 x0 2) + 1))) fun s1 =>
  some (.inl (s1, [x0]))
noncomputable def u_X44_skip_127 : jS → Int → Option ((jS × List Int) ⊕ (jS × Bool × Int)) := Classical.choose (⟨du_X44_skip_127, rfl⟩ : ∃ f, f = du_X44_skip_127)
theorem eu_X44_skip_127 : u_X44_skip_127 = du_X44_skip_127 := Classical.choose_spec (⟨du_X44_skip_127, rfl⟩ : ∃ f, f = du_X44_skip_127)
def b_X44_skip_53 (s : jS) (x0 : Int) : Option ((jS × List Int) ⊕ (jS × Bool × Int)) :=
  (m_X44_byteAt s x0 (jf s 53 x0 2)).bind fun v1 =>
  if v1 = 10 then
    jinr (some (s, false, 0))
  else
    (m_X44_byteAt s x0 (jf s 53 x0 2)).bind fun v2 =>
    if v2 = (-1) then
      jinr (some (s, false, 0))
    else
      (m_X44_byteAt s x0 (jf s 53 x0 2)).bind fun v3 =>
      if v3 = 9 then
        u_X44_skip_127 s x0
      else
        (m_X44_byteAt s x0 (jf s 53 x0 2)).bind fun v4 =>
        if v4 < 32 then
          jinr (u_X44_skip_117 s x0)
        else
          (m_X44_byteAt s x0 (jf s 53 x0 2)).bind fun v5 =>
          if 126 < v5 then
            jinr (u_X44_skip_117 s x0)
          else
            u_X44_skip_127 s x0
def du_X44_skip_53 (s : jS) (x0 : Int) : Option (jS × Bool × Int) := jlpW (jc1 b_X44_skip_53) [x0] s
noncomputable def u_X44_skip_53 : jS → Int → Option (jS × Bool × Int) := Classical.choose (⟨du_X44_skip_53, rfl⟩ : ∃ f, f = du_X44_skip_53)
theorem eu_X44_skip_53 : u_X44_skip_53 = du_X44_skip_53 := Classical.choose_spec (⟨du_X44_skip_53, rfl⟩ : ∃ f, f = du_X44_skip_53)
def du_X44_skip_39 (s : jS) (x0 : Int) : Option (jS × Bool × Int) :=
  (m_X44_byteAt s x0 (jf s 53 x0 2)).bind fun v1 =>
  if v1 = 35 then
    u_X44_skip_53 s x0
  else
    some (s, false, 0)
noncomputable def u_X44_skip_39 : jS → Int → Option (jS × Bool × Int) := Classical.choose (⟨du_X44_skip_39, rfl⟩ : ∃ f, f = du_X44_skip_39)
theorem eu_X44_skip_39 : u_X44_skip_39 = du_X44_skip_39 := Classical.choose_spec (⟨du_X44_skip_39, rfl⟩ : ∃ f, f = du_X44_skip_39)
def du_X44_skip_26 (s : jS) (x0 : Int) : Option ((jS × List Int) ⊕ (jS × Bool × Int)) :=
  jls (jp s 53 x0 2 (W32 ((jf s 53 x0 2) + 1))) fun s1 =>
  some (.inl (s1, [x0]))
noncomputable def u_X44_skip_26 : jS → Int → Option ((jS × List Int) ⊕ (jS × Bool × Int)) := Classical.choose (⟨du_X44_skip_26, rfl⟩ : ∃ f, f = du_X44_skip_26)
theorem eu_X44_skip_26 : u_X44_skip_26 = du_X44_skip_26 := Classical.choose_spec (⟨du_X44_skip_26, rfl⟩ : ∃ f, f = du_X44_skip_26)
def b_X44_skip_0 (s : jS) (x0 : Int) : Option ((jS × List Int) ⊕ (jS × Bool × Int)) :=
  (m_X44_byteAt s x0 (jf s 53 x0 2)).bind fun v1 =>
  if v1 = 32 then
    u_X44_skip_26 s x0
  else
    (m_X44_byteAt s x0 (jf s 53 x0 2)).bind fun v2 =>
    if v2 = 9 then
      u_X44_skip_26 s x0
    else
      jinr (u_X44_skip_39 s x0)
def du_X44_skip_0 (s : jS) (x0 : Int) : Option (jS × Bool × Int) := jlpW (jc1 b_X44_skip_0) [x0] s
noncomputable def u_X44_skip_0 : jS → Int → Option (jS × Bool × Int) := Classical.choose (⟨du_X44_skip_0, rfl⟩ : ∃ f, f = du_X44_skip_0)
theorem eu_X44_skip_0 : u_X44_skip_0 = du_X44_skip_0 := Classical.choose_spec (⟨du_X44_skip_0, rfl⟩ : ∃ f, f = du_X44_skip_0)
def dm_X44_skip (s : jS) (x0 : Int) : Option (jS × Bool × Int) :=
  u_X44_skip_0 s x0
noncomputable def m_X44_skip : jS → Int → Option (jS × Bool × Int) := Classical.choose (⟨dm_X44_skip, rfl⟩ : ∃ f, f = dm_X44_skip)
theorem em_X44_skip : m_X44_skip = dm_X44_skip := Classical.choose_spec (⟨dm_X44_skip, rfl⟩ : ∃ f, f = dm_X44_skip)
def du_X44_number_163 (s : jS) (x0 : Int) : Option (jS × Bool × Int) :=
  (m_X44_digits s x0 (jf s 53 x0 2) 10).bind fun q1 =>
  jth q1.2.1 (some (q1.1, true, q1.2.2)) <|
  some (q1.1, false, 0)
noncomputable def u_X44_number_163 : jS → Int → Option (jS × Bool × Int) := Classical.choose (⟨du_X44_number_163, rfl⟩ : ∃ f, f = du_X44_number_163)
theorem eu_X44_number_163 : u_X44_number_163 = du_X44_number_163 := Classical.choose_spec (⟨du_X44_number_163, rfl⟩ : ∃ f, f = du_X44_number_163)
def du_X44_number_150 (s : jS) (x0 y0 y1 y2 y3 : Int) : Option (jS × Bool × Int) :=
  (m_X44_is s y3 y2 (W32 (y1 + y0)) (W32 ((jf s 53 x0 2) + 2))).bind fun q1 =>
  some (q1.1, false, 0)
noncomputable def u_X44_number_150 : jS → Int → Int → Int → Int → Int → Option (jS × Bool × Int) := Classical.choose (⟨du_X44_number_150, rfl⟩ : ∃ f, f = du_X44_number_150)
theorem eu_X44_number_150 : u_X44_number_150 = du_X44_number_150 := Classical.choose_spec (⟨du_X44_number_150, rfl⟩ : ∃ f, f = du_X44_number_150)
def du_X44_number_115 (s : jS) (x0 x1 x2 : Int) : Option (jS × Bool × Int) :=
  (m_X44_byteAt s x0 (W32 ((jf s 53 x0 2) + 2))).bind fun v1 =>
  (m_X11_isInside s v1).bind fun v2 =>
  if v2 = 0 then
    if x2 = 102 then
      u_X44_number_150 s x0 1 (W32 (2 * (W32 (x1 - 48)))) 3 x0
    else
      u_X44_number_150 s x0 0 (W32 (2 * (W32 (x1 - 48)))) 3 x0
  else
    u_X44_number_163 s x0
noncomputable def u_X44_number_115 : jS → Int → Int → Int → Option (jS × Bool × Int) := Classical.choose (⟨du_X44_number_115, rfl⟩ : ∃ f, f = du_X44_number_115)
theorem eu_X44_number_115 : u_X44_number_115 = du_X44_number_115 := Classical.choose_spec (⟨du_X44_number_115, rfl⟩ : ∃ f, f = du_X44_number_115)
def du_X44_number_103 (s : jS) (x0 x1 x2 : Int) : Option (jS × Bool × Int) :=
  if x2 = 98 then
    u_X44_number_115 s x0 x1 x2
  else
    if x2 = 102 then
      u_X44_number_115 s x0 x1 x2
    else
      u_X44_number_163 s x0
noncomputable def u_X44_number_103 : jS → Int → Int → Int → Option (jS × Bool × Int) := Classical.choose (⟨du_X44_number_103, rfl⟩ : ∃ f, f = du_X44_number_103)
theorem eu_X44_number_103 : u_X44_number_103 = du_X44_number_103 := Classical.choose_spec (⟨du_X44_number_103, rfl⟩ : ∃ f, f = du_X44_number_103)
def du_X44_number_89 (s : jS) (x0 : Int) : Option (jS × Bool × Int) :=
  (m_X44_digits s x0 (W32 ((jf s 53 x0 2) + 2)) 2).bind fun q1 =>
  jth q1.2.1 (some (q1.1, true, q1.2.2)) <|
  some (q1.1, false, 0)
noncomputable def u_X44_number_89 : jS → Int → Option (jS × Bool × Int) := Classical.choose (⟨du_X44_number_89, rfl⟩ : ∃ f, f = du_X44_number_89)
theorem eu_X44_number_89 : u_X44_number_89 = du_X44_number_89 := Classical.choose_spec (⟨du_X44_number_89, rfl⟩ : ∃ f, f = du_X44_number_89)
def du_X44_number_47 (s : jS) (x0 x1 x2 : Int) : Option (jS × Bool × Int) :=
  if x1 = 48 then
    if x2 = 98 then
      (m_X44_byteAt s x0 (W32 ((jf s 53 x0 2) + 2))).bind fun v1 =>
      if v1 = 48 then
        u_X44_number_89 s x0
      else
        (m_X44_byteAt s x0 (W32 ((jf s 53 x0 2) + 2))).bind fun v2 =>
        if v2 = 49 then
          u_X44_number_89 s x0
        else
          u_X44_number_103 s x0 x1 x2
    else
      u_X44_number_103 s x0 x1 x2
  else
    u_X44_number_103 s x0 x1 x2
noncomputable def u_X44_number_47 : jS → Int → Int → Int → Option (jS × Bool × Int) := Classical.choose (⟨du_X44_number_47, rfl⟩ : ∃ f, f = du_X44_number_47)
theorem eu_X44_number_47 : u_X44_number_47 = du_X44_number_47 := Classical.choose_spec (⟨du_X44_number_47, rfl⟩ : ∃ f, f = du_X44_number_47)
def dm_X44_number (s : jS) (x0 : Int) : Option (jS × Bool × Int) :=
  (m_X44_byteAt s x0 (jf s 53 x0 2)).bind fun v1 =>
  (m_X44_byteAt s x0 (W32 ((jf s 53 x0 2) + 1))).bind fun v2 =>
  if v1 = 48 then
    if v2 = 120 then
      (m_X44_digits s x0 (W32 ((jf s 53 x0 2) + 2)) 16).bind fun q3 =>
      jth q3.2.1 (some (q3.1, true, q3.2.2)) <|
      some (q3.1, false, 0)
    else
      u_X44_number_47 s x0 v1 v2
  else
    u_X44_number_47 s x0 v1 v2
noncomputable def m_X44_number : jS → Int → Option (jS × Bool × Int) := Classical.choose (⟨dm_X44_number, rfl⟩ : ∃ f, f = dm_X44_number)
theorem em_X44_number : m_X44_number = dm_X44_number := Classical.choose_spec (⟨dm_X44_number, rfl⟩ : ∃ f, f = dm_X44_number)
def du_X44_character_28 (s : jS) (x0 : Int) : Option (jS × Bool × Int) :=
  (m_X44_wrong s x0 4 (jf s 53 x0 2)).bind fun q1 =>
  jck0 q1.2 (some (q1.1, true, q1.2))
noncomputable def u_X44_character_28 : jS → Int → Option (jS × Bool × Int) := Classical.choose (⟨du_X44_character_28, rfl⟩ : ∃ f, f = du_X44_character_28)
theorem eu_X44_character_28 : u_X44_character_28 = du_X44_character_28 := Classical.choose_spec (⟨du_X44_character_28, rfl⟩ : ∃ f, f = du_X44_character_28)
def dm_X44_character (s : jS) (x0 : Int) : Option (jS × Bool × Int) :=
  (m_X44_inside s x0 (W32 ((jf s 53 x0 2) + 1)) 39).bind fun q1 =>
  if q1.2 = (-1) then
    u_X44_character_28 q1.1 x0
  else
    (m_X44_byteAt q1.1 x0 q1.2).bind fun v2 =>
    if v2 = 39 then
      (m_X44_is q1.1 x0 2 (jf q1.1 53 x0 7) (W32 (q1.2 + 1))).bind fun q3 =>
      some (q3.1, false, 0)
    else
      u_X44_character_28 q1.1 x0
noncomputable def m_X44_character : jS → Int → Option (jS × Bool × Int) := Classical.choose (⟨dm_X44_character, rfl⟩ : ∃ f, f = dm_X44_character)
theorem em_X44_character : m_X44_character = dm_X44_character := Classical.choose_spec (⟨dm_X44_character, rfl⟩ : ∃ f, f = dm_X44_character)
def dm_X44_statement (s : jS) (x0 x1 x2 x3 : Int) : Option (jS × Int) :=
  (jnw s 62 6 (jdf 62)).bind fun q1 =>
  (jck0 q1.2 (m_X45_init q1.1 q1.2)).bind fun q2 =>
  jls (jp q2.1 62 q1.2 0 x1) fun s3 =>
  jls (jp s3 62 q1.2 1 x2) fun s4 =>
  (jrd s4 16 (jf s4 53 x0 10) 6).bind fun v5 =>
  jls (jp s4 62 q1.2 2 v5) fun s6 =>
  jls (jp s6 62 q1.2 4 x3) fun s7 =>
  jls (jp s7 62 q1.2 5 (jf s7 53 x0 3)) fun s8 =>
  (jrd s8 16 (jf s8 53 x0 10) 0).bind fun v9 =>
  (jrd s8 16 (jf s8 53 x0 10) 5).bind fun v10 =>
  (jas s8 1025 62 v9 v10 q1.2).bind fun s11 =>
  (jrd s11 16 (jf s11 53 x0 10) 5).bind fun v12 =>
  (jwr s11 16 (jf s11 53 x0 10) 5 (W32 (v12 + 1))).bind fun s13 =>
  some (s13, q1.2)
noncomputable def m_X44_statement : jS → Int → Int → Int → Int → Option (jS × Int) := Classical.choose (⟨dm_X44_statement, rfl⟩ : ∃ f, f = dm_X44_statement)
theorem em_X44_statement : m_X44_statement = dm_X44_statement := Classical.choose_spec (⟨dm_X44_statement, rfl⟩ : ∃ f, f = dm_X44_statement)
def dm_X44_isHere (s : jS) (x0 : Int) : Option (Int) :=
  if (jf s 53 x0 5) = 1 then
    (mp_J2_equals s (jf s 53 x0 9) (jc s 194)).bind fun v1 =>
    if v1 = 0 then
      some (Wz 0)
    else
      some (Wz 1)
  else
    some (Wz 0)
noncomputable def m_X44_isHere : jS → Int → Option (Int) := Classical.choose (⟨dm_X44_isHere, rfl⟩ : ∃ f, f = dm_X44_isHere)
theorem em_X44_isHere : m_X44_isHere = dm_X44_isHere := Classical.choose_spec (⟨dm_X44_isHere, rfl⟩ : ∃ f, f = dm_X44_isHere)
def dm_X44_named (s : jS) (x0 : Int) : Option (jS × Bool × Int) :=
  (jct s 32 (jf s 53 x0 10) (m_X12_find s (jf s 53 x0 10) (jf s 53 x0 9))).bind fun v1 =>
  if v1 = (-1) then
    (jrd s 16 (jf s 53 x0 10) 8).bind fun v2 =>
    if v2 = 150 then
      (m_X44_wrong s x0 8 (jf s 53 x0 6)).bind fun q3 =>
      jck0 q3.2 (some (q3.1, true, q3.2))
    else
      (jrd s 16 (jf s 53 x0 10) 4).bind fun v4 =>
      (jrd s 16 (jf s 53 x0 10) 8).bind fun v5 =>
      (jas s 1026 9 v4 v5 (jf s 53 x0 9)).bind fun s6 =>
      (jrd s6 16 (jf s6 53 x0 10) 8).bind fun v7 =>
      (jwr s6 16 (jf s6 53 x0 10) 8 (W32 (v7 + 1))).bind fun s8 =>
      (jrd s8 16 (jf s8 53 x0 10) 8).bind fun v9 =>
      some (s8, false, W32 (v9 - 1))
  else
    some (s, false, v1)
noncomputable def m_X44_named : jS → Int → Option (jS × Bool × Int) := Classical.choose (⟨dm_X44_named, rfl⟩ : ∃ f, f = dm_X44_named)
theorem em_X44_named : m_X44_named = dm_X44_named := Classical.choose_spec (⟨dm_X44_named, rfl⟩ : ∃ f, f = dm_X44_named)
def dm_X51_is (s : jS) (x0 x1 : Int) : Option (Int) :=
  (m_X51_width s x0 0).bind fun v1 =>
  if v1 < 0 then
    some (Wz 0)
  else
    if x1 = 0 then
      some (Wz 1)
    else
      if x0 = 1 then
        some (Wz 1)
      else
        (m_X13_in s x0 33 39).bind fun v2 =>
        if v2 = 0 then
          some (Wz 0)
        else
          some (Wz 1)
noncomputable def m_X51_is : jS → Int → Int → Option (Int) := Classical.choose (⟨dm_X51_is, rfl⟩ : ∃ f, f = dm_X51_is)
theorem em_X51_is : m_X51_is = dm_X51_is := Classical.choose_spec (⟨dm_X51_is, rfl⟩ : ∃ f, f = dm_X51_is)
def dm_X55_size (s : jS) (x0 : Int) : Option (Int) :=
  (m_X55_lack s x0).bind fun v1 =>
  some (jmi v1 (jf s 73 x0 4))
noncomputable def m_X55_size : jS → Int → Option (Int) := Classical.choose (⟨dm_X55_size, rfl⟩ : ∃ f, f = dm_X55_size)
theorem em_X55_size : m_X55_size = dm_X55_size := Classical.choose_spec (⟨dm_X55_size, rfl⟩ : ∃ f, f = dm_X55_size)
def dm_X55_behind (s : jS) (x0 x1 : Int) : Option (Int) :=
  if x1 = 0 then
    some 0
  else
    (m_X55_size s x0).bind fun v1 =>
    some v1
noncomputable def m_X55_behind : jS → Int → Int → Option (Int) := Classical.choose (⟨dm_X55_behind, rfl⟩ : ∃ f, f = dm_X55_behind)
theorem em_X55_behind : m_X55_behind = dm_X55_behind := Classical.choose_spec (⟨dm_X55_behind, rfl⟩ : ∃ f, f = dm_X55_behind)
def dmp_X53_behind (s : jS) (x0 x1 : Int) : Option (Int) := if 0 ≤ x0 ∧ jK s x0 = 72 then jct s 88 x0 (m_X54_behind s x0 x1) else if 0 ≤ x0 ∧ jK s x0 = 73 then jct s 89 x0 (m_X55_behind s x0 x1) else if 0 ≤ x0 ∧ jK s x0 = 76 then m_X57_behind s x0 x1 else if 0 ≤ x0 ∧ jK s x0 = 77 then m_X57_behind s x0 x1 else none
noncomputable def mp_X53_behind : jS → Int → Int → Option (Int) := Classical.choose (⟨dmp_X53_behind, rfl⟩ : ∃ f, f = dmp_X53_behind)
theorem emp_X53_behind : mp_X53_behind = dmp_X53_behind := Classical.choose_spec (⟨dmp_X53_behind, rfl⟩ : ∃ f, f = dmp_X53_behind)
def dm_X56_value (s : jS) (x0 : Int) : Option (Int) :=
  (jrp s [(72, 1), (73, 1), (76, 5), (77, 5)] (jf s 74 x0 0)).bind fun v1 =>
  (mp_X53_behind s (jf s 74 x0 0) (jf s 74 x0 1)).bind fun v2 =>
  some (W32 (v1 + v2))
noncomputable def m_X56_value : jS → Int → Option (Int) := Classical.choose (⟨dm_X56_value, rfl⟩ : ∃ f, f = dm_X56_value)
theorem em_X56_value : m_X56_value = dm_X56_value := Classical.choose_spec (⟨dm_X56_value, rfl⟩ : ∃ f, f = dm_X56_value)
def dm_X57_aimed (s : jS) (x0 x1 x2 : Int) : Option (jS × Int) :=
  (jwp s [(76, 0), (77, 0)] x0 x1).bind fun s1 =>
  (jwp s1 [(76, 1), (77, 1)] x0 x2).bind fun s2 =>
  (mp_X57_greatest s2 x0).bind fun v3 =>
  (jwp s2 [(76, 2), (77, 2)] x0 v3).bind fun s4 =>
  (jzb 0).bind fun v5 =>
  (jwp s4 [(76, 3), (77, 3)] x0 v5).bind fun s6 =>
  some (s6, x0)
noncomputable def m_X57_aimed : jS → Int → Int → Int → Option (jS × Int) := Classical.choose (⟨dm_X57_aimed, rfl⟩ : ∃ f, f = dm_X57_aimed)
theorem em_X57_aimed : m_X57_aimed = dm_X57_aimed := Classical.choose_spec (⟨dm_X57_aimed, rfl⟩ : ∃ f, f = dm_X57_aimed)
def dm_X57_aim (s : jS) (x0 : Int) : Option (Int) :=
  (jrp s [(76, 0), (77, 0)] x0).bind fun v1 =>
  (jct s 90 v1 (m_X56_value s v1)).bind fun v2 =>
  (jrp s [(76, 1), (77, 1)] x0).bind fun v3 =>
  some (W64 (v2 + v3))
noncomputable def m_X57_aim : jS → Int → Option (Int) := Classical.choose (⟨dm_X57_aim, rfl⟩ : ∃ f, f = dm_X57_aim)
theorem em_X57_aim : m_X57_aim = dm_X57_aim := Classical.choose_spec (⟨dm_X57_aim, rfl⟩ : ∃ f, f = dm_X57_aim)
abbrev GT_move : Type := (jS → Int → Int → Int → Int → Int → Option (jS × Bool × Int))
def du_X33_move_110 (R : GT_move) (s : jS) (x0 x2 : Int) : Option (jS × Bool × Int) :=
  (R s x0 51 x2 (-1) 0).bind fun q1 =>
  jth q1.2.1 (some (q1.1, true, q1.2.2)) <|
  some (q1.1, false, 0)
noncomputable def u_X33_move_110 : GT_move → jS → Int → Int → Option (jS × Bool × Int) := Classical.choose (⟨du_X33_move_110, rfl⟩ : ∃ f, f = du_X33_move_110)
theorem eu_X33_move_110 : u_X33_move_110 = du_X33_move_110 := Classical.choose_spec (⟨du_X33_move_110, rfl⟩ : ∃ f, f = du_X33_move_110)
def du_X33_move_16 (R : GT_move) (s : jS) (x0 x1 x2 x3 x4 y0 y1 : Int) : Option (jS × Bool × Int) :=
  (m_X33_need s y1 y0 18).bind fun q1 =>
  jth q1.2.1 (some (q1.1, true, q1.2.2)) <|
  (jst q1.1 1000 (x0 + 10) 300 (jf q1.1 37 x0 28) (jf q1.1 37 x0 30)).bind fun s2 =>
  (jst s2 1000 (x0 + 11) 300 (jf s2 37 x0 28) x2).bind fun s3 =>
  (jst s3 1000 (x0 + 12) 300 (jf s3 37 x0 28) x1).bind fun s4 =>
  (jst s4 1000 (x0 + 13) 300 (jf s4 37 x0 28) x3).bind fun s5 =>
  (jst s5 1000 (x0 + 14) 300 (jf s5 37 x0 28) x4).bind fun s6 =>
  jls (jp s6 37 x0 28 (W32 ((jf s6 37 x0 28) + 1))) fun s7 =>
  if (jf s7 37 x0 40) = 0 then
    some (s7, false, 0)
  else
    if x1 = 19 then
      u_X33_move_110 R s7 x0 x2
    else
      if x1 < 23 then
        some (s7, false, 0)
      else
        if 28 < x1 then
          some (s7, false, 0)
        else
          u_X33_move_110 R s7 x0 x2
noncomputable def u_X33_move_16 : GT_move → jS → Int → Int → Int → Int → Int → Int → Int → Option (jS × Bool × Int) := Classical.choose (⟨du_X33_move_16, rfl⟩ : ∃ f, f = du_X33_move_16)
theorem eu_X33_move_16 : u_X33_move_16 = du_X33_move_16 := Classical.choose_spec (⟨du_X33_move_16, rfl⟩ : ∃ f, f = du_X33_move_16)
def dmR_X33_move (R : GT_move) (s : jS) (x0 x1 x2 x3 x4 : Int) : Option (jS × Bool × Int) :=
  if (jf s 37 x0 28) < 300 then
    u_X33_move_16 R s x0 x1 x2 x3 x4 1 x0
  else
    u_X33_move_16 R s x0 x1 x2 x3 x4 0 x0
noncomputable def mR_X33_move : GT_move → jS → Int → Int → Int → Int → Int → Option (jS × Bool × Int) := Classical.choose (⟨dmR_X33_move, rfl⟩ : ∃ f, f = dmR_X33_move)
theorem emR_X33_move : mR_X33_move = dmR_X33_move := Classical.choose_spec (⟨dmR_X33_move, rfl⟩ : ∃ f, f = dmR_X33_move)
noncomputable def gr_move : Nat → GT_move
  | 0 => fun _ _ _ _ _ _ => none
  | n + 1 => mR_X33_move (gr_move n)
noncomputable def m_X33_move : (jS → Int → Int → Int → Int → Int → Option (jS × Bool × Int)) := Classical.choose (⟨(gr_move 4), rfl⟩ : ∃ f, f = (gr_move 4))
theorem em_X33_move : m_X33_move = (gr_move 4) := Classical.choose_spec (⟨(gr_move 4), rfl⟩ : ∃ f, f = (gr_move 4))
def dm_X1_extend (s : jS) (x0 x1 x2 x3 : Int) : Option (jS × Int) :=
  if x1 = (-1) then
    (m_X22_feed s (x0 + 3992) x2 x3).bind fun q1 =>
    some (q1.1, Wz q1.2)
  else
    (m_X1_isUnit s x1).bind fun v2 =>
    if v2 = 0 then
      some (s, Wz 0)
    else
      (jix 6 x1 ((x0 + 275) + 4041 + 1858 * x1)).bind fun v3 =>
      (m_X13_feed s v3 x2 x3).bind fun q4 =>
      if q4.2 = 0 then
        some (q4.1, Wz 0)
      else
        some (q4.1, Wz 1)
noncomputable def m_X1_extend : jS → Int → Int → Int → Int → Option (jS × Int) := Classical.choose (⟨dm_X1_extend, rfl⟩ : ∃ f, f = dm_X1_extend)
theorem em_X1_extend : m_X1_extend = dm_X1_extend := Classical.choose_spec (⟨dm_X1_extend, rfl⟩ : ∃ f, f = dm_X1_extend)
def dm_X1_spoil (s : jS) (x0 x1 x2 x3 : Int) : Option (jS × Int) :=
  if x1 = (-1) then
    (m_X22_spoil s (x0 + 3992) x2 x3).bind fun q1 =>
    some (q1.1, q1.2)
  else
    (m_X1_isUnit s x1).bind fun v2 =>
    if v2 = 0 then
      some (s, (-1))
    else
      (jix 6 x1 ((x0 + 275) + 4041 + 1858 * x1)).bind fun v3 =>
      (m_X13_spoil s v3 x2 x3).bind fun q4 =>
      some (q4.1, q4.2)
noncomputable def m_X1_spoil : jS → Int → Int → Int → Int → Option (jS × Int) := Classical.choose (⟨dm_X1_spoil, rfl⟩ : ∃ f, f = dm_X1_spoil)
theorem em_X1_spoil : m_X1_spoil = dm_X1_spoil := Classical.choose_spec (⟨dm_X1_spoil, rfl⟩ : ∃ f, f = dm_X1_spoil)
def dm_X1_byteAt (s : jS) (x0 x1 x2 : Int) : Option (Int) :=
  if x1 = (-1) then
    (m_X22_byteAt s (x0 + 3992) x2).bind fun v1 =>
    some v1
  else
    (m_X1_isUnit s x1).bind fun v2 =>
    if v2 = 0 then
      some (-1)
    else
      (jix 6 x1 ((x0 + 275) + 4041 + 1858 * x1)).bind fun v3 =>
      (m_X13_byteAt s v3 x2).bind fun v4 =>
      some v4
noncomputable def m_X1_byteAt : jS → Int → Int → Int → Option (Int) := Classical.choose (⟨dm_X1_byteAt, rfl⟩ : ∃ f, f = dm_X1_byteAt)
theorem em_X1_byteAt : m_X1_byteAt = dm_X1_byteAt := Classical.choose_spec (⟨dm_X1_byteAt, rfl⟩ : ∃ f, f = dm_X1_byteAt)
def dm_X1_rights (s : jS) (x0 x1 : Int) : Option (Int) :=
  (m_X29_rights s (x0 + 4029) x1).bind fun v1 =>
  some v1
noncomputable def m_X1_rights : jS → Int → Int → Option (Int) := Classical.choose (⟨dm_X1_rights, rfl⟩ : ∃ f, f = dm_X1_rights)
theorem em_X1_rights : m_X1_rights = dm_X1_rights := Classical.choose_spec (⟨dm_X1_rights, rfl⟩ : ∃ f, f = dm_X1_rights)
def b_X1_copy_8 (s : jS) (x0 x1 x3 : Int) : Option ((jS × List Int) ⊕ (jS × Int)) :=
  (jct s 33 x0 (m_X13_size s x0)).bind fun v1 =>
  if x3 < v1 then
    (jct s 33 x0 (m_X13_byteAt s x0 x3)).bind fun v2 =>
    (jct s 33 x1 (m_X13_feed s x1 1 (L_shl v2 56))).bind fun q3 =>
    some (.inl (q3.1, [x0, x1, W32 (x3 + 1)]))
  else
    jinr (some (s, 0))
def du_X1_copy_8 (s : jS) (x0 x1 x3 : Int) : Option (jS × Int) := jlpW (jc3 b_X1_copy_8) [x0, x1, x3] s
noncomputable def u_X1_copy_8 : jS → Int → Int → Int → Option (jS × Int) := Classical.choose (⟨du_X1_copy_8, rfl⟩ : ∃ f, f = du_X1_copy_8)
theorem eu_X1_copy_8 : u_X1_copy_8 = du_X1_copy_8 := Classical.choose_spec (⟨du_X1_copy_8, rfl⟩ : ∃ f, f = du_X1_copy_8)
def dm_X1_copy (s : jS) (x0 x1 : Int) : Option (jS × Int) :=
  (jct s 33 x1 (m_X13_cut s x1 0)).bind fun q1 =>
  u_X1_copy_8 q1.1 x0 x1 0
noncomputable def m_X1_copy : jS → Int → Int → Option (jS × Int) := Classical.choose (⟨dm_X1_copy, rfl⟩ : ∃ f, f = dm_X1_copy)
theorem em_X1_copy : m_X1_copy = dm_X1_copy := Classical.choose_spec (⟨dm_X1_copy, rfl⟩ : ∃ f, f = dm_X1_copy)
def du_X1_take_58 (s : jS) (x0 x1 : Int) : Option (jS × Bool × Int) :=
  jls (jp s 15 (x0 + 258) 2 0) fun s1 =>
  (jix 6 x1 ((x0 + 275) + 4041 + 1858 * x1)).bind fun v2 =>
  (m_X13_size s1 v2).bind fun v3 =>
  some (s1, false, v3)
noncomputable def u_X1_take_58 : jS → Int → Int → Option (jS × Bool × Int) := Classical.choose (⟨du_X1_take_58, rfl⟩ : ∃ f, f = du_X1_take_58)
theorem eu_X1_take_58 : u_X1_take_58 = du_X1_take_58 := Classical.choose_spec (⟨du_X1_take_58, rfl⟩ : ∃ f, f = du_X1_take_58)
def b_X1_take_17 (s : jS) (x0 x1 x3 : Int) : Option ((jS × List Int) ⊕ (jS × Bool × Int)) :=
  if x3 < (jf s 15 (x0 + 258) 2) then
    (jix 6 x1 ((x0 + 275) + 4041 + 1858 * x1)).bind fun v1 =>
    (jlt s 1001 ((x0 + 258) + 2) 3000 x3).bind fun v2 =>
    (m_X13_feed s v1 1 (L_shl v2 56)).bind fun q3 =>
    some (.inl (q3.1, [x0, x1, W32 (x3 + 1)]))
  else
    jinr (u_X1_take_58 s x0 x1)
def du_X1_take_17 (s : jS) (x0 x1 x3 : Int) : Option (jS × Bool × Int) := jlpW (jc3 b_X1_take_17) [x0, x1, x3] s
noncomputable def u_X1_take_17 : jS → Int → Int → Int → Option (jS × Bool × Int) := Classical.choose (⟨du_X1_take_17, rfl⟩ : ∃ f, f = du_X1_take_17)
theorem eu_X1_take_17 : u_X1_take_17 = du_X1_take_17 := Classical.choose_spec (⟨du_X1_take_17, rfl⟩ : ∃ f, f = du_X1_take_17)
def dm_X1_take (s : jS) (x0 x1 : Int) : Option (jS × Bool × Int) :=
  (m_X1_there s x1).bind fun q1 =>
  jth q1.2.1 (some (q1.1, true, q1.2.2)) <|
  (jix 6 x1 ((x0 + 275) + 4041 + 1858 * x1)).bind fun v2 =>
  (m_X13_cut q1.1 v2 0).bind fun q3 =>
  u_X1_take_17 q3.1 x0 x1 0
noncomputable def m_X1_take : jS → Int → Int → Option (jS × Bool × Int) := Classical.choose (⟨dm_X1_take, rfl⟩ : ∃ f, f = dm_X1_take)
theorem em_X1_take : m_X1_take = dm_X1_take := Classical.choose_spec (⟨dm_X1_take, rfl⟩ : ∃ f, f = dm_X1_take)
def dm_X2_load (s : jS) (x0 x1 x2 x3 : Int) : Option (jS × Int) :=
  (jnw s 11 7 (jdf 11)).bind fun q1 =>
  (jck0 q1.2 (m_X7_init q1.1 q1.2 x1 3 (I_or x2 (I_shl x3 12)) 4 (jf q1.1 2 x0 0) (jf q1.1 2 x0 1) (-1) (jf q1.1 2 x0 9))).bind fun q2 =>
  some (q2.1, q1.2)
noncomputable def m_X2_load : jS → Int → Int → Int → Int → Option (jS × Int) := Classical.choose (⟨dm_X2_load, rfl⟩ : ∃ f, f = dm_X2_load)
theorem em_X2_load : m_X2_load = dm_X2_load := Classical.choose_spec (⟨dm_X2_load, rfl⟩ : ∃ f, f = dm_X2_load)
def dm_X2_rowKind (s : jS) (x0 x1 x2 x3 : Int) : Option (jS × Int) :=
  (jnw s 11 7 (jdf 11)).bind fun q1 =>
  (jck0 q1.2 (m_X7_init q1.1 q1.2 x1 1 (I_or (I_or 51 (I_shl x2 12)) (I_shl x3 25)) 4 (jf q1.1 2 x0 0) (jf q1.1 2 x0 1) (jf q1.1 2 x0 2) (-1))).bind fun q2 =>
  some (q2.1, q1.2)
noncomputable def m_X2_rowKind : jS → Int → Int → Int → Int → Option (jS × Int) := Classical.choose (⟨dm_X2_rowKind, rfl⟩ : ∃ f, f = dm_X2_rowKind)
theorem em_X2_rowKind : m_X2_rowKind = dm_X2_rowKind := Classical.choose_spec (⟨dm_X2_rowKind, rfl⟩ : ∃ f, f = dm_X2_rowKind)
def dm_X2_bare (s : jS) (x0 x1 x2 : Int) : Option (jS × Int) :=
  (jnw s 11 7 (jdf 11)).bind fun q1 =>
  (jck0 q1.2 (m_X7_init q1.1 q1.2 x0 0 x1 x2 (-1) (-1) (-1) (-1))).bind fun q2 =>
  some (q2.1, q1.2)
noncomputable def m_X2_bare : jS → Int → Int → Int → Option (jS × Int) := Classical.choose (⟨dm_X2_bare, rfl⟩ : ∃ f, f = dm_X2_bare)
theorem em_X2_bare : m_X2_bare = dm_X2_bare := Classical.choose_spec (⟨dm_X2_bare, rfl⟩ : ∃ f, f = dm_X2_bare)
def dm_X2_half (s : jS) (x0 x1 x2 x3 x4 x5 x6 : Int) : Option (jS × Int) :=
  (jnw s 11 7 (jdf 11)).bind fun q1 =>
  (jck0 q1.2 (m_X7_init q1.1 q1.2 x0 x1 x2 2 x3 x4 x5 x6)).bind fun q2 =>
  some (q2.1, q1.2)
noncomputable def m_X2_half : jS → Int → Int → Int → Int → Int → Int → Int → Option (jS × Int) := Classical.choose (⟨dm_X2_half, rfl⟩ : ∃ f, f = dm_X2_half)
theorem em_X2_half : m_X2_half = dm_X2_half := Classical.choose_spec (⟨dm_X2_half, rfl⟩ : ∃ f, f = dm_X2_half)
def dm_X2_from (s : jS) (x0 x1 x2 : Int) : Option (Int) :=
  if x2 < 0 then
    (jct s 27 x0 (m_X7_part s x0 x1 (W32 ((-1) - x2)))).bind fun v1 =>
    some v1
  else
    some x2
noncomputable def m_X2_from : jS → Int → Int → Int → Option (Int) := Classical.choose (⟨dm_X2_from, rfl⟩ : ∃ f, f = dm_X2_from)
theorem em_X2_from : m_X2_from = dm_X2_from := Classical.choose_spec (⟨dm_X2_from, rfl⟩ : ∃ f, f = dm_X2_from)
def dm_X2_about (s : jS) (x0 x1 x2 : Int) : Option (Int) :=
  (m_X2_isKind s x0 x1).bind fun v1 =>
  if v1 = 0 then
    some (-1)
  else
    (jlt s 1008 (x0 + 23) 75 x1).bind fun v2 =>
    if x2 = 0 then
      (jrd s 11 v2 1).bind fun v3 =>
      some v3
    else
    if x2 = 1 then
      (jct s 27 v2 (m_X7_parts s v2)).bind fun v4 =>
      some v4
    else
    if x2 = 2 then
      (jrd s 11 v2 4).bind fun v5 =>
      some v5
    else
    if x2 = 3 then
      (jrd s 11 v2 0).bind fun v6 =>
      (mp_J2_length s v6).bind fun v7 =>
      some v7
    else
    some (-1)
noncomputable def m_X2_about : jS → Int → Int → Int → Option (Int) := Classical.choose (⟨dm_X2_about, rfl⟩ : ∃ f, f = dm_X2_about)
theorem em_X2_about : m_X2_about = dm_X2_about := Classical.choose_spec (⟨dm_X2_about, rfl⟩ : ∃ f, f = dm_X2_about)
def dmp_X3_may (s : jS) (x0 x1 : Int) : Option (Int) := if 0 ≤ x0 ∧ jK s x0 = 4 then jct s 20 x0 (m_X4_may s x0 x1) else if 0 ≤ x0 ∧ jK s x0 = 5 then jct s 21 x0 (m_X5_may s x0 x1) else if 0 ≤ x0 ∧ jK s x0 = 6 then m_X6_may s x0 x1 else if 0 ≤ x0 ∧ jK s x0 = 12 then jct s 28 x0 (m_X8_may s x0 x1) else if 0 ≤ x0 ∧ jK s x0 = 14 then jct s 30 x0 (m_X10_may s x0 x1) else none
noncomputable def mp_X3_may : jS → Int → Int → Option (Int) := Classical.choose (⟨dmp_X3_may, rfl⟩ : ∃ f, f = dmp_X3_may)
theorem emp_X3_may : mp_X3_may = dmp_X3_may := Classical.choose_spec (⟨dmp_X3_may, rfl⟩ : ∃ f, f = dmp_X3_may)
def dm_X2_may (s : jS) (x0 x1 x2 : Int) : Option (Int) :=
  (m_X2_isKind s x0 x1).bind fun v1 =>
  if v1 = 0 then
    some (Wz 0)
  else
    (jlt s 1008 (x0 + 23) 75 x1).bind fun v2 =>
    (jrd s 11 v2 5).bind fun v3 =>
    (jld s 1007 v3 3).bind fun v4 =>
    if v4 < 0 then
      some (Wz 0)
    else
      (jlt s 1008 (x0 + 23) 75 x1).bind fun v5 =>
      (jrd s 11 v5 5).bind fun v6 =>
      (jld s 1007 v6 3).bind fun v7 =>
      (mp_X3_may s v7 x2).bind fun v8 =>
      if v8 = 0 then
        some (Wz 0)
      else
        some (Wz 1)
noncomputable def m_X2_may : jS → Int → Int → Int → Option (Int) := Classical.choose (⟨dm_X2_may, rfl⟩ : ∃ f, f = dm_X2_may)
theorem em_X2_may : m_X2_may = dm_X2_may := Classical.choose_spec (⟨dm_X2_may, rfl⟩ : ∃ f, f = dm_X2_may)
def du_X7_is_65 (s : jS) (x0 x1 x3 y0 : Int) : Option (List Int ⊕ (Int)) :=
  some (.inl [x0, x1, y0, W32 (x3 + 1)])
noncomputable def u_X7_is_65 : jS → Int → Int → Int → Int → Option (List Int ⊕ (Int)) := Classical.choose (⟨du_X7_is_65, rfl⟩ : ∃ f, f = du_X7_is_65)
theorem eu_X7_is_65 : u_X7_is_65 = du_X7_is_65 := Classical.choose_spec (⟨du_X7_is_65, rfl⟩ : ∃ f, f = du_X7_is_65)
def du_X7_is_60 (s : jS) (x0 x1 x3 : Int) : Option (List Int ⊕ (Int)) :=
  u_X7_is_65 s x0 x1 x3 1
noncomputable def u_X7_is_60 : jS → Int → Int → Int → Option (List Int ⊕ (Int)) := Classical.choose (⟨du_X7_is_60, rfl⟩ : ∃ f, f = du_X7_is_60)
theorem eu_X7_is_60 : u_X7_is_60 = du_X7_is_60 := Classical.choose_spec (⟨du_X7_is_60, rfl⟩ : ∃ f, f = du_X7_is_60)
def b_X7_is_19 (s : jS) (x0 x1 x2 x3 : Int) : Option (List Int ⊕ (Int)) :=
  if x3 < 4 then
    if x2 = 0 then
      jinr (some (Wz x2))
    else
      (jld s 1007 (jf s 11 x0 5) x3).bind fun v1 =>
      if v1 < 0 then
        u_X7_is_60 s x0 x1 x3
      else
        (jld s 1007 (jf s 11 x0 5) x3).bind fun v2 =>
        (jld s 1007 (jf s 11 x0 5) x3).bind fun v3 =>
        (mp_X3_take s v3 x1).bind fun v4 =>
        (mp_X3_may s v2 v4).bind fun v5 =>
        if v5 = 0 then
          u_X7_is_65 s x0 x1 x3 0
        else
          u_X7_is_60 s x0 x1 x3
  else
    jinr (some (Wz x2))
def du_X7_is_19 (s : jS) (x0 x1 x2 x3 : Int) : Option (Int) := jlpR (jc4 b_X7_is_19) [x0, x1, x2, x3] s
noncomputable def u_X7_is_19 : jS → Int → Int → Int → Int → Option (Int) := Classical.choose (⟨du_X7_is_19, rfl⟩ : ∃ f, f = du_X7_is_19)
theorem eu_X7_is_19 : u_X7_is_19 = du_X7_is_19 := Classical.choose_spec (⟨du_X7_is_19, rfl⟩ : ∃ f, f = du_X7_is_19)
def dm_X7_is (s : jS) (x0 x1 : Int) : Option (Int) :=
  if (I_and x1 (jf s 11 x0 3)) = (jf s 11 x0 2) then
    u_X7_is_19 s x0 x1 1 0
  else
    some (Wz 0)
noncomputable def m_X7_is : jS → Int → Int → Option (Int) := Classical.choose (⟨dm_X7_is, rfl⟩ : ∃ f, f = dm_X7_is)
theorem em_X7_is : m_X7_is = dm_X7_is := Classical.choose_spec (⟨dm_X7_is, rfl⟩ : ∃ f, f = dm_X7_is)
def dm_X7_may (s : jS) (x0 x1 x2 : Int) : Option (Int) :=
  (jld s 1007 (jf s 11 x0 5) x1).bind fun v1 =>
  if v1 < 0 then
    some (Wz 1)
  else
    (jld s 1007 (jf s 11 x0 5) x1).bind fun v2 =>
    (mp_X3_may s v2 x2).bind fun v3 =>
    if v3 = 0 then
      some (Wz 0)
    else
      some (Wz 1)
noncomputable def m_X7_may : jS → Int → Int → Int → Option (Int) := Classical.choose (⟨dm_X7_may, rfl⟩ : ∃ f, f = dm_X7_may)
theorem em_X7_may : m_X7_may = dm_X7_may := Classical.choose_spec (⟨dm_X7_may, rfl⟩ : ∃ f, f = dm_X7_may)
def dm_X13_count (s : jS) (x0 x1 : Int) : Option (Int) :=
  if x1 = 0 then
    some (jf s 18 (x0 + 614) 2)
  else
    if x1 = 1 then
      some (jf s 18 (x0 + 614) 4)
    else
      if x1 = 2 then
        some (jf s 18 (x0 + 614) 6)
      else
        if x1 = 3 then
          (m_X14_shorts s (x0 + 614)).bind fun v1 =>
          some v1
        else
          some (-1)
noncomputable def m_X13_count : jS → Int → Int → Option (Int) := Classical.choose (⟨dm_X13_count, rfl⟩ : ∃ f, f = dm_X13_count)
theorem em_X13_count : m_X13_count = dm_X13_count := Classical.choose_spec (⟨dm_X13_count, rfl⟩ : ∃ f, f = dm_X13_count)
def dm_X13_clear (s : jS) (x0 : Int) : Option (jS × Int) :=
  (m_X14_clear s (x0 + 1)).bind fun q1 =>
  jls (jp q1.1 21 (x0 + 1227) 1 0) fun s2 =>
  some (s2, 0)
noncomputable def m_X13_clear : jS → Int → Option (jS × Int) := Classical.choose (⟨dm_X13_clear, rfl⟩ : ∃ f, f = dm_X13_clear)
theorem em_X13_clear : m_X13_clear = dm_X13_clear := Classical.choose_spec (⟨dm_X13_clear, rfl⟩ : ∃ f, f = dm_X13_clear)
def du_X13_symbol_139 (s : jS) (x0 x6 x7 : Int) : Option (jS × Int) :=
  jls (jp s 21 (x0 + 1227) 1 0) fun s1 =>
  if x7 = 0 then
    some (s1, (-1))
  else
    (jct s1 36 x6 (m_X16_wrong s1 x6)).bind fun v2 =>
    if 0 < v2 then
      some (s1, (-1))
    else
      jls (jp s1 18 (x0 + 1) 4 (W32 ((jf s1 18 (x0 + 1) 4) + 1))) fun s3 =>
      some (s3, W32 ((jf s3 18 (x0 + 1) 4) - 1))
noncomputable def u_X13_symbol_139 : jS → Int → Int → Int → Option (jS × Int) := Classical.choose (⟨du_X13_symbol_139, rfl⟩ : ∃ f, f = du_X13_symbol_139)
theorem eu_X13_symbol_139 : u_X13_symbol_139 = du_X13_symbol_139 := Classical.choose_spec (⟨du_X13_symbol_139, rfl⟩ : ∃ f, f = du_X13_symbol_139)
def du_X13_symbol_108 (s : jS) (x0 x1 x2 x3 x4 x5 x6 y0 : Int) : Option (jS × Int) :=
  if y0 = 0 then
    u_X13_symbol_139 s x0 x6 y0
  else
    (jct s 36 x6 (m_X16_set s x6 x1 x2 x3 x4 x5)).bind fun q1 =>
    (jrd q1.1 20 x6 0).bind fun v2 =>
    (jct q1.1 37 v2 (m_X17_set q1.1 v2 (x0 + 1227))).bind fun q3 =>
    u_X13_symbol_139 q3.1 x0 x6 y0
noncomputable def u_X13_symbol_108 : jS → Int → Int → Int → Int → Int → Int → Int → Int → Option (jS × Int) := Classical.choose (⟨du_X13_symbol_108, rfl⟩ : ∃ f, f = du_X13_symbol_108)
theorem eu_X13_symbol_108 : u_X13_symbol_108 = du_X13_symbol_108 := Classical.choose_spec (⟨du_X13_symbol_108, rfl⟩ : ∃ f, f = du_X13_symbol_108)
def du_X13_symbol_107 (s : jS) (x0 x1 x2 x3 x4 x5 x6 : Int) : Option (jS × Int) :=
  u_X13_symbol_108 s x0 x1 x2 x3 x4 x5 x6 0
noncomputable def u_X13_symbol_107 : jS → Int → Int → Int → Int → Int → Int → Int → Option (jS × Int) := Classical.choose (⟨du_X13_symbol_107, rfl⟩ : ∃ f, f = du_X13_symbol_107)
theorem eu_X13_symbol_107 : u_X13_symbol_107 = du_X13_symbol_107 := Classical.choose_spec (⟨du_X13_symbol_107, rfl⟩ : ∃ f, f = du_X13_symbol_107)
def du_X13_symbol_103 (s : jS) (x0 x1 x2 x3 x4 x5 x6 : Int) : Option (jS × Int) :=
  u_X13_symbol_108 s x0 x1 x2 x3 x4 x5 x6 1
noncomputable def u_X13_symbol_103 : jS → Int → Int → Int → Int → Int → Int → Int → Option (jS × Int) := Classical.choose (⟨du_X13_symbol_103, rfl⟩ : ∃ f, f = du_X13_symbol_103)
theorem eu_X13_symbol_103 : u_X13_symbol_103 = du_X13_symbol_103 := Classical.choose_spec (⟨du_X13_symbol_103, rfl⟩ : ∃ f, f = du_X13_symbol_103)
def du_X13_symbol_31 (s : jS) (x0 x1 x2 x3 x4 x5 y0 : Int) : Option (jS × Int) :=
  if y0 < 0 then
    u_X13_symbol_107 s x0 x1 x2 x3 x4 x5 y0
  else
    if 0 < (jf s 21 (x0 + 1227) 1) then
      (m_X13_in s x1 (-1) 5).bind fun v1 =>
      if v1 = 0 then
        u_X13_symbol_107 s x0 x1 x2 x3 x4 x5 y0
      else
        (m_X13_in s x4 0 2).bind fun v2 =>
        if v2 = 0 then
          u_X13_symbol_107 s x0 x1 x2 x3 x4 x5 y0
        else
          (m_X13_in s x5 0 2).bind fun v3 =>
          if v3 = 0 then
            u_X13_symbol_107 s x0 x1 x2 x3 x4 x5 y0
          else
            if x4 = 0 then
              u_X13_symbol_103 s x0 x1 x2 x3 x4 x5 y0
            else
              (m_X14_isTaken s (x0 + 1) (x0 + 1227) (jf s 18 (x0 + 1) 4)).bind fun v4 =>
              if v4 = 0 then
                u_X13_symbol_103 s x0 x1 x2 x3 x4 x5 y0
              else
                u_X13_symbol_107 s x0 x1 x2 x3 x4 x5 y0
    else
      u_X13_symbol_107 s x0 x1 x2 x3 x4 x5 y0
noncomputable def u_X13_symbol_31 : jS → Int → Int → Int → Int → Int → Int → Int → Option (jS × Int) := Classical.choose (⟨du_X13_symbol_31, rfl⟩ : ∃ f, f = du_X13_symbol_31)
theorem eu_X13_symbol_31 : u_X13_symbol_31 = du_X13_symbol_31 := Classical.choose_spec (⟨du_X13_symbol_31, rfl⟩ : ∃ f, f = du_X13_symbol_31)
def dm_X13_symbol (s : jS) (x0 x1 x2 x3 x4 x5 : Int) : Option (jS × Int) :=
  if (jf s 18 (x0 + 1) 4) < 100 then
    (jix 100 (jf s 18 (x0 + 1) 4) (((x0 + 1) + 3) + 10 + 3 * (jf s 18 (x0 + 1) 4))).bind fun v1 =>
    u_X13_symbol_31 s x0 x1 x2 x3 x4 x5 v1
  else
    u_X13_symbol_31 s x0 x1 x2 x3 x4 x5 (-1)
noncomputable def m_X13_symbol : jS → Int → Int → Int → Int → Int → Int → Option (jS × Int) := Classical.choose (⟨dm_X13_symbol, rfl⟩ : ∃ f, f = dm_X13_symbol)
theorem em_X13_symbol : m_X13_symbol = dm_X13_symbol := Classical.choose_spec (⟨dm_X13_symbol, rfl⟩ : ∃ f, f = dm_X13_symbol)
def du_X13_relocation_81 (s : jS) (x0 x1 x2 x3 x4 x5 : Int) : Option (jS × Int) :=
  (jix 300 (jf s 18 (x0 + 1) 6) (((x0 + 1) + 4) + 309 + 1 * (jf s 18 (x0 + 1) 6))).bind fun v1 =>
  (m_X18_set s v1 x1 x2 x3 x4 x5).bind fun q2 =>
  jls (jp q2.1 18 (x0 + 1) 6 (W32 ((jf q2.1 18 (x0 + 1) 6) + 1))) fun s3 =>
  some (s3, W32 ((jf s3 18 (x0 + 1) 6) - 1))
noncomputable def u_X13_relocation_81 : jS → Int → Int → Int → Int → Int → Int → Option (jS × Int) := Classical.choose (⟨du_X13_relocation_81, rfl⟩ : ∃ f, f = du_X13_relocation_81)
theorem eu_X13_relocation_81 : u_X13_relocation_81 = du_X13_relocation_81 := Classical.choose_spec (⟨du_X13_relocation_81, rfl⟩ : ∃ f, f = du_X13_relocation_81)
def dm_X13_relocation (s : jS) (x0 x1 x2 x3 x4 x5 : Int) : Option (jS × Int) :=
  if (jf s 18 (x0 + 1) 6) = 300 then
    some (s, (-1))
  else
    (m_X13_in s x1 0 2).bind fun v1 =>
    if v1 = 0 then
      some (s, (-1))
    else
      (m_X51_is s x3 x1).bind fun v2 =>
      if v2 = 0 then
        some (s, (-1))
      else
        if x2 < 0 then
          some (s, (-1))
        else
          (m_X51_isAddend s x3 x5).bind fun v3 =>
          if v3 = 0 then
            some (s, (-1))
          else
            (m_X51_isPlain s x3).bind fun v4 =>
            if v4 = 0 then
              (m_X13_in s x4 0 (W32 ((jf s 18 (x0 + 1) 4) - 1))).bind fun v5 =>
              if v5 = 0 then
                some (s, (-1))
              else
                u_X13_relocation_81 s x0 x1 x2 x3 x4 x5
            else
              if x4 = (-1) then
                u_X13_relocation_81 s x0 x1 x2 x3 x4 x5
              else
                some (s, (-1))
noncomputable def m_X13_relocation : jS → Int → Int → Int → Int → Int → Int → Option (jS × Int) := Classical.choose (⟨dm_X13_relocation, rfl⟩ : ∃ f, f = dm_X13_relocation)
theorem em_X13_relocation : m_X13_relocation = dm_X13_relocation := Classical.choose_spec (⟨dm_X13_relocation, rfl⟩ : ∃ f, f = dm_X13_relocation)
def b_X14_init_107 (s : jS) (x0 x1 : Int) : Option ((jS × List Int) ⊕ (jS × Int)) :=
  if x1 < 300 then
    (jrd s 18 x0 5).bind fun v1 =>
    (jnw s 22 5 (jdf 22)).bind fun q2 =>
    (jct q2.1 38 q2.2 (jck0 q2.2 (m_X18_init q2.1 q2.2))).bind fun q3 =>
    (jas q3.1 1012 22 v1 x1 q2.2).bind fun s4 =>
    some (.inl (s4, [x0, W32 (x1 + 1)]))
  else
    jinr (some (s, 0))
def du_X14_init_107 (s : jS) (x0 x1 : Int) : Option (jS × Int) := jlpW (jc2 b_X14_init_107) [x0, x1] s
noncomputable def u_X14_init_107 : jS → Int → Int → Option (jS × Int) := Classical.choose (⟨du_X14_init_107, rfl⟩ : ∃ f, f = du_X14_init_107)
theorem eu_X14_init_107 : u_X14_init_107 = du_X14_init_107 := Classical.choose_spec (⟨du_X14_init_107, rfl⟩ : ∃ f, f = du_X14_init_107)
def du_X14_init_105 (s : jS) (x0 : Int) : Option (jS × Int) :=
  u_X14_init_107 s x0 0
noncomputable def u_X14_init_105 : jS → Int → Option (jS × Int) := Classical.choose (⟨du_X14_init_105, rfl⟩ : ∃ f, f = du_X14_init_105)
theorem eu_X14_init_105 : u_X14_init_105 = du_X14_init_105 := Classical.choose_spec (⟨du_X14_init_105, rfl⟩ : ∃ f, f = du_X14_init_105)
def b_X14_init_80 (s : jS) (x0 x1 : Int) : Option ((jS × List Int) ⊕ (jS × Int)) :=
  if x1 < 100 then
    (jrd s 18 x0 3).bind fun v1 =>
    (jnw s 20 6 (jdf 20)).bind fun q2 =>
    (jck0 q2.2 (m_X16_init q2.1 q2.2)).bind fun q3 =>
    (jas q3.1 1014 20 v1 x1 q2.2).bind fun s4 =>
    some (.inl (s4, [x0, W32 (x1 + 1)]))
  else
    jinr (u_X14_init_105 s x0)
def du_X14_init_80 (s : jS) (x0 x1 : Int) : Option (jS × Int) := jlpW (jc2 b_X14_init_80) [x0, x1] s
noncomputable def u_X14_init_80 : jS → Int → Int → Option (jS × Int) := Classical.choose (⟨du_X14_init_80, rfl⟩ : ∃ f, f = du_X14_init_80)
theorem eu_X14_init_80 : u_X14_init_80 = du_X14_init_80 := Classical.choose_spec (⟨du_X14_init_80, rfl⟩ : ∃ f, f = du_X14_init_80)
def du_X14_init_78 (s : jS) (x0 : Int) : Option (jS × Int) :=
  u_X14_init_80 s x0 0
noncomputable def u_X14_init_78 : jS → Int → Option (jS × Int) := Classical.choose (⟨du_X14_init_78, rfl⟩ : ∃ f, f = du_X14_init_78)
theorem eu_X14_init_78 : u_X14_init_78 = du_X14_init_78 := Classical.choose_spec (⟨du_X14_init_78, rfl⟩ : ∃ f, f = du_X14_init_78)
def du_X14_init_68 (s : jS) (x0 x1 y0 y1 y2 y3 y4 : Int) : Option ((jS × List Int) ⊕ (jS × Int)) :=
  (jck0 y1 (m_X15_init s y1 y0)).bind fun q1 =>
  (jas q1.1 1013 19 y4 y3 y2).bind fun s2 =>
  some (.inl (s2, [x0, W32 (x1 + 1)]))
noncomputable def u_X14_init_68 : jS → Int → Int → Int → Int → Int → Int → Int → Option ((jS × List Int) ⊕ (jS × Int)) := Classical.choose (⟨du_X14_init_68, rfl⟩ : ∃ f, f = du_X14_init_68)
theorem eu_X14_init_68 : u_X14_init_68 = du_X14_init_68 := Classical.choose_spec (⟨du_X14_init_68, rfl⟩ : ∃ f, f = du_X14_init_68)
def b_X14_init_42 (s : jS) (x0 x1 : Int) : Option ((jS × List Int) ⊕ (jS × Int)) :=
  if x1 < 4 then
    (jrd s 18 x0 0).bind fun v1 =>
    (jnw s 19 3 (jdf 19)).bind fun q2 =>
    if x1 = 3 then
      u_X14_init_68 q2.1 x0 x1 0 q2.2 q2.2 x1 v1
    else
      u_X14_init_68 q2.1 x0 x1 2048 q2.2 q2.2 x1 v1
  else
    jinr (u_X14_init_78 s x0)
def du_X14_init_42 (s : jS) (x0 x1 : Int) : Option (jS × Int) := jlpW (jc2 b_X14_init_42) [x0, x1] s
noncomputable def u_X14_init_42 : jS → Int → Int → Option (jS × Int) := Classical.choose (⟨du_X14_init_42, rfl⟩ : ∃ f, f = du_X14_init_42)
theorem eu_X14_init_42 : u_X14_init_42 = du_X14_init_42 := Classical.choose_spec (⟨du_X14_init_42, rfl⟩ : ∃ f, f = du_X14_init_42)
def dm_X14_init (s : jS) (x0 : Int) : Option (jS × Int) :=
  jck0 x0 <|
  (jna s 1013 4 (-1)).bind fun q1 =>
  (jwr q1.1 18 x0 0 q1.2).bind fun s2 =>
  (jna s2 1003 1024 0).bind fun q3 =>
  (jwr q3.1 18 x0 1 q3.2).bind fun s4 =>
  (jna s4 1014 100 (-1)).bind fun q5 =>
  (jwr q5.1 18 x0 3 q5.2).bind fun s6 =>
  (jna s6 1012 300 (-1)).bind fun q7 =>
  (jwr q7.1 18 x0 5 q7.2).bind fun s8 =>
  u_X14_init_42 s8 x0 0
noncomputable def m_X14_init : jS → Int → Option (jS × Int) := Classical.choose (⟨dm_X14_init, rfl⟩ : ∃ f, f = dm_X14_init)
theorem em_X14_init : m_X14_init = dm_X14_init := Classical.choose_spec (⟨dm_X14_init, rfl⟩ : ∃ f, f = dm_X14_init)
def b_X14_beyond_83 (s : jS) (x0 x1 : Int) : Option (List Int ⊕ (Int)) :=
  if x1 < (jf s 18 x0 6) then
    (jix 300 x1 ((x0 + 4) + 309 + 1 * x1)).bind fun v1 =>
    (jix 300 x1 ((x0 + 4) + 309 + 1 * x1)).bind fun v2 =>
    (m_X14_room s x0 (jf s 22 v2 0)).bind fun v3 =>
    (m_X18_isWithin s v1 v3).bind fun v4 =>
    if v4 = 0 then
      jinr (some (-3))
    else
      some (.inl [x0, W32 (x1 + 1)])
  else
    jinr (some 0)
def du_X14_beyond_83 (s : jS) (x0 x1 : Int) : Option (Int) := jlpR (jc2 b_X14_beyond_83) [x0, x1] s
noncomputable def u_X14_beyond_83 : jS → Int → Int → Option (Int) := Classical.choose (⟨du_X14_beyond_83, rfl⟩ : ∃ f, f = du_X14_beyond_83)
theorem eu_X14_beyond_83 : u_X14_beyond_83 = du_X14_beyond_83 := Classical.choose_spec (⟨du_X14_beyond_83, rfl⟩ : ∃ f, f = du_X14_beyond_83)
def du_X14_beyond_81 (s : jS) (x0 : Int) : Option (Int) :=
  u_X14_beyond_83 s x0 0
noncomputable def u_X14_beyond_81 : jS → Int → Option (Int) := Classical.choose (⟨du_X14_beyond_81, rfl⟩ : ∃ f, f = du_X14_beyond_81)
theorem eu_X14_beyond_81 : u_X14_beyond_81 = du_X14_beyond_81 := Classical.choose_spec (⟨du_X14_beyond_81, rfl⟩ : ∃ f, f = du_X14_beyond_81)
def du_X14_beyond_75 (s : jS) (x0 x1 : Int) : Option (List Int ⊕ (Int)) :=
  some (.inl [x0, W32 (x1 + 1)])
noncomputable def u_X14_beyond_75 : jS → Int → Int → Option (List Int ⊕ (Int)) := Classical.choose (⟨du_X14_beyond_75, rfl⟩ : ∃ f, f = du_X14_beyond_75)
theorem eu_X14_beyond_75 : u_X14_beyond_75 = du_X14_beyond_75 := Classical.choose_spec (⟨du_X14_beyond_75, rfl⟩ : ∃ f, f = du_X14_beyond_75)
def b_X14_beyond_30 (s : jS) (x0 x1 : Int) : Option (List Int ⊕ (Int)) :=
  if x1 < (jf s 18 x0 4) then
    (jix 100 x1 ((x0 + 3) + 10 + 3 * x1)).bind fun v1 =>
    (m_X13_in s (jf s 20 v1 1) 0 3).bind fun v2 =>
    if v2 = 0 then
      u_X14_beyond_75 s x0 x1
    else
      (m_X14_room s x0 (jf s 20 v1 1)).bind fun v3 =>
      (m_X16_beyond s v1 v3).bind fun v4 =>
      if 0 < v4 then
        jinr (some (-2))
      else
        u_X14_beyond_75 s x0 x1
  else
    jinr (u_X14_beyond_81 s x0)
def du_X14_beyond_30 (s : jS) (x0 x1 : Int) : Option (Int) := jlpR (jc2 b_X14_beyond_30) [x0, x1] s
noncomputable def u_X14_beyond_30 : jS → Int → Int → Option (Int) := Classical.choose (⟨du_X14_beyond_30, rfl⟩ : ∃ f, f = du_X14_beyond_30)
theorem eu_X14_beyond_30 : u_X14_beyond_30 = du_X14_beyond_30 := Classical.choose_spec (⟨du_X14_beyond_30, rfl⟩ : ∃ f, f = du_X14_beyond_30)
def du_X14_beyond_28 (s : jS) (x0 : Int) : Option (Int) :=
  u_X14_beyond_30 s x0 0
noncomputable def u_X14_beyond_28 : jS → Int → Option (Int) := Classical.choose (⟨du_X14_beyond_28, rfl⟩ : ∃ f, f = du_X14_beyond_28)
theorem eu_X14_beyond_28 : u_X14_beyond_28 = du_X14_beyond_28 := Classical.choose_spec (⟨du_X14_beyond_28, rfl⟩ : ∃ f, f = du_X14_beyond_28)
def dm_X14_beyond (s : jS) (x0 : Int) : Option (Int) :=
  if 0 < (jf s 18 x0 2) then
    (jlt s 1003 (x0 + 2) 1024 (W32 ((jf s 18 x0 2) - 1))).bind fun v1 =>
    (m_X14_room s x0 0).bind fun v2 =>
    if v1 < v2 then
      u_X14_beyond_28 s x0
    else
      some (-1)
  else
    u_X14_beyond_28 s x0
noncomputable def m_X14_beyond : jS → Int → Option (Int) := Classical.choose (⟨dm_X14_beyond, rfl⟩ : ∃ f, f = dm_X14_beyond)
theorem em_X14_beyond : m_X14_beyond = dm_X14_beyond := Classical.choose_spec (⟨dm_X14_beyond, rfl⟩ : ∃ f, f = dm_X14_beyond)
def b_X14_set_113 (s : jS) (x0 x1 x2 : Int) : Option ((jS × List Int) ⊕ (jS × Int)) :=
  if x2 < (jf s 18 x0 6) then
    (jix 300 x2 ((x0 + 4) + 309 + 1 * x2)).bind fun v1 =>
    (jrd s 18 x1 5).bind fun v2 =>
    (jld s 1012 v2 x2).bind fun v3 =>
    (m_X18_set_2 s v1 v3).bind fun q4 =>
    some (.inl (q4.1, [x0, x1, W32 (x2 + 1)]))
  else
    jinr (some (s, 0))
def du_X14_set_113 (s : jS) (x0 x1 x2 : Int) : Option (jS × Int) := jlpW (jc3 b_X14_set_113) [x0, x1, x2] s
noncomputable def u_X14_set_113 : jS → Int → Int → Int → Option (jS × Int) := Classical.choose (⟨du_X14_set_113, rfl⟩ : ∃ f, f = du_X14_set_113)
theorem eu_X14_set_113 : u_X14_set_113 = du_X14_set_113 := Classical.choose_spec (⟨du_X14_set_113, rfl⟩ : ∃ f, f = du_X14_set_113)
def du_X14_set_111 (s : jS) (x0 x1 : Int) : Option (jS × Int) :=
  u_X14_set_113 s x0 x1 0
noncomputable def u_X14_set_111 : jS → Int → Int → Option (jS × Int) := Classical.choose (⟨du_X14_set_111, rfl⟩ : ∃ f, f = du_X14_set_111)
theorem eu_X14_set_111 : u_X14_set_111 = du_X14_set_111 := Classical.choose_spec (⟨du_X14_set_111, rfl⟩ : ∃ f, f = du_X14_set_111)
def b_X14_set_82 (s : jS) (x0 x1 x2 : Int) : Option ((jS × List Int) ⊕ (jS × Int)) :=
  if x2 < (jf s 18 x0 4) then
    (jix 100 x2 ((x0 + 3) + 10 + 3 * x2)).bind fun v1 =>
    (jrd s 18 x1 3).bind fun v2 =>
    (jld s 1014 v2 x2).bind fun v3 =>
    (m_X16_set_2 s v1 v3).bind fun q4 =>
    some (.inl (q4.1, [x0, x1, W32 (x2 + 1)]))
  else
    jinr (u_X14_set_111 s x0 x1)
def du_X14_set_82 (s : jS) (x0 x1 x2 : Int) : Option (jS × Int) := jlpW (jc3 b_X14_set_82) [x0, x1, x2] s
noncomputable def u_X14_set_82 : jS → Int → Int → Int → Option (jS × Int) := Classical.choose (⟨du_X14_set_82, rfl⟩ : ∃ f, f = du_X14_set_82)
theorem eu_X14_set_82 : u_X14_set_82 = du_X14_set_82 := Classical.choose_spec (⟨du_X14_set_82, rfl⟩ : ∃ f, f = du_X14_set_82)
def du_X14_set_80 (s : jS) (x0 x1 : Int) : Option (jS × Int) :=
  u_X14_set_82 s x0 x1 0
noncomputable def u_X14_set_80 : jS → Int → Int → Option (jS × Int) := Classical.choose (⟨du_X14_set_80, rfl⟩ : ∃ f, f = du_X14_set_80)
theorem eu_X14_set_80 : u_X14_set_80 = du_X14_set_80 := Classical.choose_spec (⟨du_X14_set_80, rfl⟩ : ∃ f, f = du_X14_set_80)
def b_X14_set_54 (s : jS) (x0 x1 x2 : Int) : Option ((jS × List Int) ⊕ (jS × Int)) :=
  if x2 < (jf s 18 x0 2) then
    (jrd s 18 x1 1).bind fun v1 =>
    (jld s 1003 v1 x2).bind fun v2 =>
    (jst s 1003 (x0 + 2) 1024 x2 (W16 v2)).bind fun s3 =>
    some (.inl (s3, [x0, x1, W32 (x2 + 1)]))
  else
    jinr (u_X14_set_80 s x0 x1)
def du_X14_set_54 (s : jS) (x0 x1 x2 : Int) : Option (jS × Int) := jlpW (jc3 b_X14_set_54) [x0, x1, x2] s
noncomputable def u_X14_set_54 : jS → Int → Int → Int → Option (jS × Int) := Classical.choose (⟨du_X14_set_54, rfl⟩ : ∃ f, f = du_X14_set_54)
theorem eu_X14_set_54 : u_X14_set_54 = du_X14_set_54 := Classical.choose_spec (⟨du_X14_set_54, rfl⟩ : ∃ f, f = du_X14_set_54)
def du_X14_set_28 (s : jS) (x0 x1 : Int) : Option (jS × Int) :=
  (jrd s 18 x1 2).bind fun v1 =>
  jls (jp s 18 x0 2 v1) fun s2 =>
  (jrd s2 18 x1 4).bind fun v3 =>
  jls (jp s2 18 x0 4 v3) fun s4 =>
  (jrd s4 18 x1 6).bind fun v5 =>
  jls (jp s4 18 x0 6 v5) fun s6 =>
  u_X14_set_54 s6 x0 x1 0
noncomputable def u_X14_set_28 : jS → Int → Int → Option (jS × Int) := Classical.choose (⟨du_X14_set_28, rfl⟩ : ∃ f, f = du_X14_set_28)
theorem eu_X14_set_28 : u_X14_set_28 = du_X14_set_28 := Classical.choose_spec (⟨du_X14_set_28, rfl⟩ : ∃ f, f = du_X14_set_28)
def b_X14_set_2 (s : jS) (x0 x1 x2 : Int) : Option ((jS × List Int) ⊕ (jS × Int)) :=
  if x2 < 4 then
    (jix 4 x2 ((x0 + 1) + 4 + 2 * x2)).bind fun v1 =>
    (jrd s 18 x1 0).bind fun v2 =>
    (jld s 1013 v2 x2).bind fun v3 =>
    (m_X15_set s v1 v3).bind fun q4 =>
    some (.inl (q4.1, [x0, x1, W32 (x2 + 1)]))
  else
    jinr (u_X14_set_28 s x0 x1)
def du_X14_set_2 (s : jS) (x0 x1 x2 : Int) : Option (jS × Int) := jlpW (jc3 b_X14_set_2) [x0, x1, x2] s
noncomputable def u_X14_set_2 : jS → Int → Int → Int → Option (jS × Int) := Classical.choose (⟨du_X14_set_2, rfl⟩ : ∃ f, f = du_X14_set_2)
theorem eu_X14_set_2 : u_X14_set_2 = du_X14_set_2 := Classical.choose_spec (⟨du_X14_set_2, rfl⟩ : ∃ f, f = du_X14_set_2)
def dm_X14_set (s : jS) (x0 x1 : Int) : Option (jS × Int) :=
  u_X14_set_2 s x0 x1 0
noncomputable def m_X14_set : jS → Int → Int → Option (jS × Int) := Classical.choose (⟨dm_X14_set, rfl⟩ : ∃ f, f = dm_X14_set)
theorem em_X14_set : m_X14_set = dm_X14_set := Classical.choose_spec (⟨dm_X14_set, rfl⟩ : ∃ f, f = dm_X14_set)
def dm_X21_init (s : jS) (x0 : Int) : Option (jS × Int) :=
  jck0 x0 <|
  (jna s 1000 12 0).bind fun q1 =>
  (jwr q1.1 25 x0 5 q1.2).bind fun s2 =>
  (jna s2 1000 16 0).bind fun q3 =>
  (jwr q3.1 25 x0 6 q3.2).bind fun s4 =>
  (jnw s4 18 7 (jdf 18)).bind fun q5 =>
  (jck0 q5.2 (m_X14_init q5.1 q5.2)).bind fun q6 =>
  (jwr q6.1 25 x0 7 q5.2).bind fun s7 =>
  (jnw s7 20 6 (jdf 20)).bind fun q8 =>
  (jck0 q8.2 (m_X16_init q8.1 q8.2)).bind fun q9 =>
  (jwr q9.1 25 x0 8 q8.2).bind fun s10 =>
  some (s10, 0)
noncomputable def m_X21_init : jS → Int → Option (jS × Int) := Classical.choose (⟨dm_X21_init, rfl⟩ : ∃ f, f = dm_X21_init)
theorem em_X21_init : m_X21_init = dm_X21_init := Classical.choose_spec (⟨dm_X21_init, rfl⟩ : ∃ f, f = dm_X21_init)
def du_X21_entries_367 (s : jS) (x0 x1 : Int) : Option ((jS × List Int) ⊕ (jS × Bool × Int)) :=
  some (.inl (s, [x0, W32 (x1 + 1)]))
noncomputable def u_X21_entries_367 : jS → Int → Int → Option ((jS × List Int) ⊕ (jS × Bool × Int)) := Classical.choose (⟨du_X21_entries_367, rfl⟩ : ∃ f, f = du_X21_entries_367)
theorem eu_X21_entries_367 : u_X21_entries_367 = du_X21_entries_367 := Classical.choose_spec (⟨du_X21_entries_367, rfl⟩ : ∃ f, f = du_X21_entries_367)
def du_X21_entries_353 (s : jS) (x0 x1 x5 : Int) : Option ((jS × List Int) ⊕ (jS × Bool × Int)) :=
  (m_X21_field s x0 x1 4).bind fun v1 =>
  (m_X21_need s x0 x5 14 v1).bind fun q2 =>
  jth q2.2.1 (jinr (some (q2.1, true, q2.2.2))) <|
  u_X21_entries_367 q2.1 x0 x1
noncomputable def u_X21_entries_353 : jS → Int → Int → Int → Option ((jS × List Int) ⊕ (jS × Bool × Int)) := Classical.choose (⟨du_X21_entries_353, rfl⟩ : ∃ f, f = du_X21_entries_353)
theorem eu_X21_entries_353 : u_X21_entries_353 = du_X21_entries_353 := Classical.choose_spec (⟨du_X21_entries_353, rfl⟩ : ∃ f, f = du_X21_entries_353)
def du_X21_entries_345 (s : jS) (x0 x1 x6 y0 : Int) : Option ((jS × List Int) ⊕ ((jS × List Int) ⊕ (jS × Bool × Int))) :=
  some (.inl (s, [x0, x1, y0, W32 (x6 + 1)]))
noncomputable def u_X21_entries_345 : jS → Int → Int → Int → Int → Option ((jS × List Int) ⊕ ((jS × List Int) ⊕ (jS × Bool × Int))) := Classical.choose (⟨du_X21_entries_345, rfl⟩ : ∃ f, f = du_X21_entries_345)
theorem eu_X21_entries_345 : u_X21_entries_345 = du_X21_entries_345 := Classical.choose_spec (⟨du_X21_entries_345, rfl⟩ : ∃ f, f = du_X21_entries_345)
def du_X21_entries_344 (s : jS) (x0 x1 x6 : Int) : Option ((jS × List Int) ⊕ ((jS × List Int) ⊕ (jS × Bool × Int))) :=
  u_X21_entries_345 s x0 x1 x6 0
noncomputable def u_X21_entries_344 : jS → Int → Int → Int → Option ((jS × List Int) ⊕ ((jS × List Int) ⊕ (jS × Bool × Int))) := Classical.choose (⟨du_X21_entries_344, rfl⟩ : ∃ f, f = du_X21_entries_344)
theorem eu_X21_entries_344 : u_X21_entries_344 = du_X21_entries_344 := Classical.choose_spec (⟨du_X21_entries_344, rfl⟩ : ∃ f, f = du_X21_entries_344)
def du_X21_entries_340 (s : jS) (x0 x1 x6 : Int) : Option ((jS × List Int) ⊕ ((jS × List Int) ⊕ (jS × Bool × Int))) :=
  u_X21_entries_345 s x0 x1 x6 1
noncomputable def u_X21_entries_340 : jS → Int → Int → Int → Option ((jS × List Int) ⊕ ((jS × List Int) ⊕ (jS × Bool × Int))) := Classical.choose (⟨du_X21_entries_340, rfl⟩ : ∃ f, f = du_X21_entries_340)
theorem eu_X21_entries_340 : u_X21_entries_340 = du_X21_entries_340 := Classical.choose_spec (⟨du_X21_entries_340, rfl⟩ : ∃ f, f = du_X21_entries_340)
def b_X21_entries_282 (s : jS) (x0 x1 x5 x6 : Int) : Option ((jS × List Int) ⊕ ((jS × List Int) ⊕ (jS × Bool × Int))) :=
  if x6 < x1 then
    if x5 = 0 then
      u_X21_entries_344 s x0 x1 x6
    else
      (m_X21_isStored s x0 x6).bind fun v1 =>
      if v1 = 0 then
        u_X21_entries_340 s x0 x1 x6
      else
        (m_X21_sizeOf s x0 x6).bind fun v2 =>
        if 0 < v2 then
          (m_X21_from s x0 x1).bind fun v3 =>
          (m_X21_sizeOf s x0 x1).bind fun v4 =>
          (m_X21_from s x0 x6).bind fun v5 =>
          (m_X21_sizeOf s x0 x6).bind fun v6 =>
          (m_X21_meets s x0 v3 v4 v5 v6).bind fun v7 =>
          if v7 = 0 then
            u_X21_entries_340 s x0 x1 x6
          else
            u_X21_entries_344 s x0 x1 x6
        else
          u_X21_entries_340 s x0 x1 x6
  else
    jinr (u_X21_entries_353 s x0 x1 x5)
def du_X21_entries_282 (s : jS) (x0 x1 x5 x6 : Int) : Option ((jS × List Int) ⊕ (jS × Bool × Int)) := jlpW (jc4 b_X21_entries_282) [x0, x1, x5, x6] s
noncomputable def u_X21_entries_282 : jS → Int → Int → Int → Int → Option ((jS × List Int) ⊕ (jS × Bool × Int)) := Classical.choose (⟨du_X21_entries_282, rfl⟩ : ∃ f, f = du_X21_entries_282)
theorem eu_X21_entries_282 : u_X21_entries_282 = du_X21_entries_282 := Classical.choose_spec (⟨du_X21_entries_282, rfl⟩ : ∃ f, f = du_X21_entries_282)
def du_X21_entries_277 (s : jS) (x0 x1 y0 : Int) : Option ((jS × List Int) ⊕ (jS × Bool × Int)) :=
  u_X21_entries_282 s x0 x1 y0 1
noncomputable def u_X21_entries_277 : jS → Int → Int → Int → Option ((jS × List Int) ⊕ (jS × Bool × Int)) := Classical.choose (⟨du_X21_entries_277, rfl⟩ : ∃ f, f = du_X21_entries_277)
theorem eu_X21_entries_277 : u_X21_entries_277 = du_X21_entries_277 := Classical.choose_spec (⟨du_X21_entries_277, rfl⟩ : ∃ f, f = du_X21_entries_277)
def du_X21_entries_216 (s : jS) (x0 x1 x4 y0 y1 : Int) : Option ((jS × List Int) ⊕ (jS × Bool × Int)) :=
  (m_X21_field s x0 x1 8).bind fun v1 =>
  (m_X21_need s y1 y0 13 v1).bind fun q2 =>
  jth q2.2.1 (jinr (some (q2.1, true, q2.2.2))) <|
  if x4 = 0 then
    u_X21_entries_367 q2.1 x0 x1
  else
    (m_X21_sizeOf q2.1 x0 x1).bind fun v3 =>
    if v3 = 0 then
      u_X21_entries_367 q2.1 x0 x1
    else
      (m_X21_from q2.1 x0 x1).bind fun v4 =>
      (m_X21_sizeOf q2.1 x0 x1).bind fun v5 =>
      (m_X21_meets q2.1 x0 v4 v5 (jf q2.1 25 x0 2) (W32 (40 * (jf q2.1 25 x0 3)))).bind fun v6 =>
      if v6 = 0 then
        u_X21_entries_277 q2.1 x0 x1 1
      else
        u_X21_entries_277 q2.1 x0 x1 0
noncomputable def u_X21_entries_216 : jS → Int → Int → Int → Int → Int → Option ((jS × List Int) ⊕ (jS × Bool × Int)) := Classical.choose (⟨du_X21_entries_216, rfl⟩ : ∃ f, f = du_X21_entries_216)
theorem eu_X21_entries_216 : u_X21_entries_216 = du_X21_entries_216 := Classical.choose_spec (⟨du_X21_entries_216, rfl⟩ : ∃ f, f = du_X21_entries_216)
def du_X21_entries_215 (s : jS) (x0 x1 x4 y0 : Int) : Option ((jS × List Int) ⊕ (jS × Bool × Int)) :=
  u_X21_entries_216 s x0 x1 x4 0 y0
noncomputable def u_X21_entries_215 : jS → Int → Int → Int → Int → Option ((jS × List Int) ⊕ (jS × Bool × Int)) := Classical.choose (⟨du_X21_entries_215, rfl⟩ : ∃ f, f = du_X21_entries_215)
theorem eu_X21_entries_215 : u_X21_entries_215 = du_X21_entries_215 := Classical.choose_spec (⟨du_X21_entries_215, rfl⟩ : ∃ f, f = du_X21_entries_215)
def du_X21_entries_211 (s : jS) (x0 x1 x4 y0 : Int) : Option ((jS × List Int) ⊕ (jS × Bool × Int)) :=
  u_X21_entries_216 s x0 x1 x4 1 y0
noncomputable def u_X21_entries_211 : jS → Int → Int → Int → Int → Option ((jS × List Int) ⊕ (jS × Bool × Int)) := Classical.choose (⟨du_X21_entries_211, rfl⟩ : ∃ f, f = du_X21_entries_211)
theorem eu_X21_entries_211 : u_X21_entries_211 = du_X21_entries_211 := Classical.choose_spec (⟨du_X21_entries_211, rfl⟩ : ∃ f, f = du_X21_entries_211)
def du_X21_entries_162 (s : jS) (x0 x1 x4 y0 y1 : Int) : Option ((jS × List Int) ⊕ (jS × Bool × Int)) :=
  (m_X21_field s x0 x1 4).bind fun v1 =>
  (m_X21_need s y1 y0 12 v1).bind fun q2 =>
  jth q2.2.1 (jinr (some (q2.1, true, q2.2.2))) <|
  (m_X21_told q2.1 x0 x1 8).bind fun v3 =>
  (m_X13_isAlignment q2.1 v3).bind fun v4 =>
  if v4 = 0 then
    u_X21_entries_215 q2.1 x0 x1 x4 x0
  else
    if x4 = 0 then
      u_X21_entries_211 q2.1 x0 x1 x4 x0
    else
      (m_X21_told q2.1 x0 x1 4).bind fun v5 =>
      (m_X21_told q2.1 x0 x1 8).bind fun v6 =>
      (jdv v6 (L_rem v5 v6)).bind fun v7 =>
      if (L_cmp v7 0) = 0 then
        u_X21_entries_211 q2.1 x0 x1 x4 x0
      else
        u_X21_entries_215 q2.1 x0 x1 x4 x0
noncomputable def u_X21_entries_162 : jS → Int → Int → Int → Int → Int → Option ((jS × List Int) ⊕ (jS × Bool × Int)) := Classical.choose (⟨du_X21_entries_162, rfl⟩ : ∃ f, f = du_X21_entries_162)
theorem eu_X21_entries_162 : u_X21_entries_162 = du_X21_entries_162 := Classical.choose_spec (⟨du_X21_entries_162, rfl⟩ : ∃ f, f = du_X21_entries_162)
def du_X21_entries_161 (s : jS) (x0 x1 x4 y0 : Int) : Option ((jS × List Int) ⊕ (jS × Bool × Int)) :=
  u_X21_entries_162 s x0 x1 x4 0 y0
noncomputable def u_X21_entries_161 : jS → Int → Int → Int → Int → Option ((jS × List Int) ⊕ (jS × Bool × Int)) := Classical.choose (⟨du_X21_entries_161, rfl⟩ : ∃ f, f = du_X21_entries_161)
theorem eu_X21_entries_161 : u_X21_entries_161 = du_X21_entries_161 := Classical.choose_spec (⟨du_X21_entries_161, rfl⟩ : ∃ f, f = du_X21_entries_161)
def du_X21_entries_157 (s : jS) (x0 x1 x4 y0 : Int) : Option ((jS × List Int) ⊕ (jS × Bool × Int)) :=
  u_X21_entries_162 s x0 x1 x4 1 y0
noncomputable def u_X21_entries_157 : jS → Int → Int → Int → Int → Option ((jS × List Int) ⊕ (jS × Bool × Int)) := Classical.choose (⟨du_X21_entries_157, rfl⟩ : ∃ f, f = du_X21_entries_157)
theorem eu_X21_entries_157 : u_X21_entries_157 = du_X21_entries_157 := Classical.choose_spec (⟨du_X21_entries_157, rfl⟩ : ∃ f, f = du_X21_entries_157)
def du_X21_entries_87 (s : jS) (x0 x1 y0 y1 : Int) : Option ((jS × List Int) ⊕ (jS × Bool × Int)) :=
  (m_X21_field s x0 x1 1).bind fun v1 =>
  (m_X21_need s y1 y0 11 v1).bind fun q2 =>
  jth q2.2.1 (jinr (some (q2.1, true, q2.2.2))) <|
  (m_X21_isStored q2.1 x0 x1).bind fun v3 =>
  if v3 = 0 then
    u_X21_entries_157 q2.1 x0 x1 v3 x0
  else
    (m_X21_told q2.1 x0 x1 4).bind fun v4 =>
    (m_X21_told q2.1 x0 x1 5).bind fun v5 =>
    if 0 < (L_cmp (W64 (v4 + v5)) (jf q2.1 25 x0 1)) then
      u_X21_entries_161 q2.1 x0 x1 v3 x0
    else
      (m_X21_told q2.1 x0 x1 5).bind fun v6 =>
      if (L_cmp v6 0) = 0 then
        u_X21_entries_157 q2.1 x0 x1 v3 x0
      else
        (m_X21_told q2.1 x0 x1 4).bind fun v7 =>
        if (L_cmp v7 52) < 0 then
          u_X21_entries_161 q2.1 x0 x1 v3 x0
        else
          u_X21_entries_157 q2.1 x0 x1 v3 x0
noncomputable def u_X21_entries_87 : jS → Int → Int → Int → Int → Option ((jS × List Int) ⊕ (jS × Bool × Int)) := Classical.choose (⟨du_X21_entries_87, rfl⟩ : ∃ f, f = du_X21_entries_87)
theorem eu_X21_entries_87 : u_X21_entries_87 = du_X21_entries_87 := Classical.choose_spec (⟨du_X21_entries_87, rfl⟩ : ∃ f, f = du_X21_entries_87)
def du_X21_entries_82 (s : jS) (x0 x1 y0 : Int) : Option ((jS × List Int) ⊕ (jS × Bool × Int)) :=
  u_X21_entries_87 s x0 x1 1 y0
noncomputable def u_X21_entries_82 : jS → Int → Int → Int → Option ((jS × List Int) ⊕ (jS × Bool × Int)) := Classical.choose (⟨du_X21_entries_82, rfl⟩ : ∃ f, f = du_X21_entries_82)
theorem eu_X21_entries_82 : u_X21_entries_82 = du_X21_entries_82 := Classical.choose_spec (⟨du_X21_entries_82, rfl⟩ : ∃ f, f = du_X21_entries_82)
def du_X21_entries_74 (s : jS) (x0 x1 x2 y0 : Int) : Option ((jS × List Int) ⊕ (jS × Bool × Int)) :=
  if (L_cmp x2 8) = 0 then
    u_X21_entries_82 s x0 x1 y0
  else
    u_X21_entries_87 s x0 x1 0 y0
noncomputable def u_X21_entries_74 : jS → Int → Int → Int → Int → Option ((jS × List Int) ⊕ (jS × Bool × Int)) := Classical.choose (⟨du_X21_entries_74, rfl⟩ : ∃ f, f = du_X21_entries_74)
theorem eu_X21_entries_74 : u_X21_entries_74 = du_X21_entries_74 := Classical.choose_spec (⟨du_X21_entries_74, rfl⟩ : ∃ f, f = du_X21_entries_74)
def b_X21_entries_44 (s : jS) (x0 x1 : Int) : Option ((jS × List Int) ⊕ (jS × Bool × Int)) :=
  if x1 < (jf s 25 x0 3) then
    (m_X21_told s x0 x1 1).bind fun v1 =>
    if (L_cmp v1 1) < 0 then
      u_X21_entries_74 s x0 x1 v1 x0
    else
      if 0 < (L_cmp v1 4) then
        u_X21_entries_74 s x0 x1 v1 x0
      else
        u_X21_entries_82 s x0 x1 x0
  else
    jinr (some (s, false, 0))
def du_X21_entries_44 (s : jS) (x0 x1 : Int) : Option (jS × Bool × Int) := jlpW (jc2 b_X21_entries_44) [x0, x1] s
noncomputable def u_X21_entries_44 : jS → Int → Int → Option (jS × Bool × Int) := Classical.choose (⟨du_X21_entries_44, rfl⟩ : ∃ f, f = du_X21_entries_44)
theorem eu_X21_entries_44 : u_X21_entries_44 = du_X21_entries_44 := Classical.choose_spec (⟨du_X21_entries_44, rfl⟩ : ∃ f, f = du_X21_entries_44)
def du_X21_entries_42 (s : jS) (x0 : Int) : Option (jS × Bool × Int) :=
  u_X21_entries_44 s x0 1
noncomputable def u_X21_entries_42 : jS → Int → Option (jS × Bool × Int) := Classical.choose (⟨du_X21_entries_42, rfl⟩ : ∃ f, f = du_X21_entries_42)
theorem eu_X21_entries_42 : u_X21_entries_42 = du_X21_entries_42 := Classical.choose_spec (⟨du_X21_entries_42, rfl⟩ : ∃ f, f = du_X21_entries_42)
def du_X21_entries_25 (s : jS) (x0 x1 y0 y1 : Int) : Option ((jS × List Int) ⊕ (jS × Bool × Int)) :=
  (m_X21_field s x0 0 x1).bind fun v1 =>
  (m_X21_need s y1 y0 11 v1).bind fun q2 =>
  jth q2.2.1 (jinr (some (q2.1, true, q2.2.2))) <|
  some (.inl (q2.1, [x0, W32 (x1 + 1)]))
noncomputable def u_X21_entries_25 : jS → Int → Int → Int → Int → Option ((jS × List Int) ⊕ (jS × Bool × Int)) := Classical.choose (⟨du_X21_entries_25, rfl⟩ : ∃ f, f = du_X21_entries_25)
theorem eu_X21_entries_25 : u_X21_entries_25 = du_X21_entries_25 := Classical.choose_spec (⟨du_X21_entries_25, rfl⟩ : ∃ f, f = du_X21_entries_25)
def b_X21_entries_2 (s : jS) (x0 x1 : Int) : Option ((jS × List Int) ⊕ (jS × Bool × Int)) :=
  if x1 < 10 then
    (m_X21_told s x0 0 x1).bind fun v1 =>
    if (L_cmp v1 0) = 0 then
      u_X21_entries_25 s x0 x1 1 x0
    else
      u_X21_entries_25 s x0 x1 0 x0
  else
    jinr (u_X21_entries_42 s x0)
def du_X21_entries_2 (s : jS) (x0 x1 : Int) : Option (jS × Bool × Int) := jlpW (jc2 b_X21_entries_2) [x0, x1] s
noncomputable def u_X21_entries_2 : jS → Int → Int → Option (jS × Bool × Int) := Classical.choose (⟨du_X21_entries_2, rfl⟩ : ∃ f, f = du_X21_entries_2)
theorem eu_X21_entries_2 : u_X21_entries_2 = du_X21_entries_2 := Classical.choose_spec (⟨du_X21_entries_2, rfl⟩ : ∃ f, f = du_X21_entries_2)
def dm_X21_entries (s : jS) (x0 : Int) : Option (jS × Bool × Int) :=
  u_X21_entries_2 s x0 0
noncomputable def m_X21_entries : jS → Int → Option (jS × Bool × Int) := Classical.choose (⟨dm_X21_entries, rfl⟩ : ∃ f, f = dm_X21_entries)
theorem em_X21_entries : m_X21_entries = dm_X21_entries := Classical.choose_spec (⟨dm_X21_entries, rfl⟩ : ∃ f, f = dm_X21_entries)
def du_X21_symbols_113 (s : jS) (x0 x1 y0 y1 : Int) : Option (jS × Bool × Int) :=
  (m_X21_field s x0 x1 7).bind fun v1 =>
  (m_X21_need s y1 y0 28 v1).bind fun q2 =>
  jth q2.2.1 (some (q2.1, true, q2.2.2)) <|
  some (q2.1, false, 0)
noncomputable def u_X21_symbols_113 : jS → Int → Int → Int → Int → Option (jS × Bool × Int) := Classical.choose (⟨du_X21_symbols_113, rfl⟩ : ∃ f, f = du_X21_symbols_113)
theorem eu_X21_symbols_113 : u_X21_symbols_113 = du_X21_symbols_113 := Classical.choose_spec (⟨du_X21_symbols_113, rfl⟩ : ∃ f, f = du_X21_symbols_113)
def du_X21_symbols_86 (s : jS) (x0 x1 : Int) : Option (jS × Bool × Int) :=
  (m_X21_told s x0 x1 7).bind fun v1 =>
  (m_X14_locals s (x0 + 3)).bind fun v2 =>
  if (L_cmp v1 (W64 (1 + v2))) = 0 then
    u_X21_symbols_113 s x0 x1 1 x0
  else
    u_X21_symbols_113 s x0 x1 0 x0
noncomputable def u_X21_symbols_86 : jS → Int → Int → Option (jS × Bool × Int) := Classical.choose (⟨du_X21_symbols_86, rfl⟩ : ∃ f, f = du_X21_symbols_86)
theorem eu_X21_symbols_86 : u_X21_symbols_86 = du_X21_symbols_86 := Classical.choose_spec (⟨du_X21_symbols_86, rfl⟩ : ∃ f, f = du_X21_symbols_86)
def b_X21_symbols_60 (s : jS) (x0 x1 x2 : Int) : Option ((jS × List Int) ⊕ (jS × Bool × Int)) :=
  (m_X21_sizeOf s x0 x1).bind fun v1 =>
  if x2 < v1 then
    (m_X21_from s x0 x1).bind fun v2 =>
    (m_X21_readSymbol s x0 (W32 (v2 + x2))).bind fun q3 =>
    jth q3.2.1 (jinr (some (q3.1, true, q3.2.2))) <|
    some (.inl (q3.1, [x0, x1, W32 (x2 + 16)]))
  else
    jinr (u_X21_symbols_86 s x0 x1)
def du_X21_symbols_60 (s : jS) (x0 x1 x2 : Int) : Option (jS × Bool × Int) := jlpW (jc3 b_X21_symbols_60) [x0, x1, x2] s
noncomputable def u_X21_symbols_60 : jS → Int → Int → Int → Option (jS × Bool × Int) := Classical.choose (⟨du_X21_symbols_60, rfl⟩ : ∃ f, f = du_X21_symbols_60)
theorem eu_X21_symbols_60 : u_X21_symbols_60 = du_X21_symbols_60 := Classical.choose_spec (⟨du_X21_symbols_60, rfl⟩ : ∃ f, f = du_X21_symbols_60)
def du_X21_symbols_57 (s : jS) (x0 x1 : Int) : Option (jS × Bool × Int) :=
  u_X21_symbols_60 s x0 x1 16
noncomputable def u_X21_symbols_57 : jS → Int → Int → Option (jS × Bool × Int) := Classical.choose (⟨du_X21_symbols_57, rfl⟩ : ∃ f, f = du_X21_symbols_57)
theorem eu_X21_symbols_57 : u_X21_symbols_57 = du_X21_symbols_57 := Classical.choose_spec (⟨du_X21_symbols_57, rfl⟩ : ∃ f, f = du_X21_symbols_57)
def du_X21_symbols_39 (s : jS) (x0 x1 x2 y0 y1 : Int) : Option ((jS × List Int) ⊕ (jS × Bool × Int)) :=
  (m_X21_from s x0 x1).bind fun v1 =>
  (m_X21_need s y1 y0 21 (W32 (v1 + x2))).bind fun q2 =>
  jth q2.2.1 (jinr (some (q2.1, true, q2.2.2))) <|
  some (.inl (q2.1, [x0, x1, W32 (x2 + 1)]))
noncomputable def u_X21_symbols_39 : jS → Int → Int → Int → Int → Int → Option ((jS × List Int) ⊕ (jS × Bool × Int)) := Classical.choose (⟨du_X21_symbols_39, rfl⟩ : ∃ f, f = du_X21_symbols_39)
theorem eu_X21_symbols_39 : u_X21_symbols_39 = du_X21_symbols_39 := Classical.choose_spec (⟨du_X21_symbols_39, rfl⟩ : ∃ f, f = du_X21_symbols_39)
def b_X21_symbols_10 (s : jS) (x0 x1 x2 : Int) : Option ((jS × List Int) ⊕ (jS × Bool × Int)) :=
  if x2 < 16 then
    (m_X21_from s x0 x1).bind fun v1 =>
    (jct s 39 (jf s 25 x0 0) (m_X19_u1 s (jf s 25 x0 0) (W32 (v1 + x2)))).bind fun v2 =>
    if v2 = 0 then
      u_X21_symbols_39 s x0 x1 x2 1 x0
    else
      u_X21_symbols_39 s x0 x1 x2 0 x0
  else
    jinr (u_X21_symbols_57 s x0 x1)
def du_X21_symbols_10 (s : jS) (x0 x1 x2 : Int) : Option (jS × Bool × Int) := jlpW (jc3 b_X21_symbols_10) [x0, x1, x2] s
noncomputable def u_X21_symbols_10 : jS → Int → Int → Int → Option (jS × Bool × Int) := Classical.choose (⟨du_X21_symbols_10, rfl⟩ : ∃ f, f = du_X21_symbols_10)
theorem eu_X21_symbols_10 : u_X21_symbols_10 = du_X21_symbols_10 := Classical.choose_spec (⟨du_X21_symbols_10, rfl⟩ : ∃ f, f = du_X21_symbols_10)
def dm_X21_symbols (s : jS) (x0 : Int) : Option (jS × Bool × Int) :=
  (jlt s 1000 (x0 + 1) 12 9).bind fun v1 =>
  u_X21_symbols_10 s x0 v1 0
noncomputable def m_X21_symbols : jS → Int → Option (jS × Bool × Int) := Classical.choose (⟨dm_X21_symbols, rfl⟩ : ∃ f, f = dm_X21_symbols)
theorem em_X21_symbols : m_X21_symbols = dm_X21_symbols := Classical.choose_spec (⟨dm_X21_symbols, rfl⟩ : ∃ f, f = dm_X21_symbols)
def du_X21_move_79 (s : jS) (x0 x1 x2 x3 x4 y0 y1 : Int) : Option (jS × Bool × Int) :=
  (m_X21_need s y1 y0 30 (W32 (x2 + 4))).bind fun q1 =>
  jth q1.2.1 (some (q1.1, true, q1.2.2)) <|
  (jct q1.1 39 (jf q1.1 25 x0 0) (m_X19_s4 q1.1 (jf q1.1 25 x0 0) (W32 (x2 + 8)))).bind fun v2 =>
  (m_X51_isAddend q1.1 x3 v2).bind fun v3 =>
  (m_X21_need q1.1 x0 v3 31 (W32 (x2 + 8))).bind fun q4 =>
  jth q4.2.1 (some (q4.1, true, q4.2.2)) <|
  (jix 300 (jf q4.1 18 (x0 + 3) 6) (((x0 + 3) + 4) + 309 + 1 * (jf q4.1 18 (x0 + 3) 6))).bind fun v5 =>
  (jct q4.1 39 (jf q4.1 25 x0 0) (m_X19_s4 q4.1 (jf q4.1 25 x0 0) x2)).bind fun v6 =>
  (m_X18_set q4.1 v5 x1 v6 x3 (W32 ((L2i x4) - 1)) v2).bind fun q7 =>
  (m_X14_room q7.1 (x0 + 3) x1).bind fun v8 =>
  (m_X18_isWithin q7.1 v5 v8).bind fun v9 =>
  (m_X21_need q7.1 x0 v9 32 x2).bind fun q10 =>
  jth q10.2.1 (some (q10.1, true, q10.2.2)) <|
  jls (jp q10.1 18 (x0 + 3) 6 (W32 ((jf q10.1 18 (x0 + 3) 6) + 1))) fun s11 =>
  some (s11, false, 0)
noncomputable def u_X21_move_79 : jS → Int → Int → Int → Int → Int → Int → Int → Option (jS × Bool × Int) := Classical.choose (⟨du_X21_move_79, rfl⟩ : ∃ f, f = du_X21_move_79)
theorem eu_X21_move_79 : u_X21_move_79 = du_X21_move_79 := Classical.choose_spec (⟨du_X21_move_79, rfl⟩ : ∃ f, f = du_X21_move_79)
def du_X21_move_78 (s : jS) (x0 x1 x2 x3 x4 y0 : Int) : Option (jS × Bool × Int) :=
  u_X21_move_79 s x0 x1 x2 x3 x4 0 y0
noncomputable def u_X21_move_78 : jS → Int → Int → Int → Int → Int → Int → Option (jS × Bool × Int) := Classical.choose (⟨du_X21_move_78, rfl⟩ : ∃ f, f = du_X21_move_78)
theorem eu_X21_move_78 : u_X21_move_78 = du_X21_move_78 := Classical.choose_spec (⟨du_X21_move_78, rfl⟩ : ∃ f, f = du_X21_move_78)
def du_X21_move_67 (s : jS) (x0 x1 x2 x3 x4 y0 y1 : Int) : Option (jS × Bool × Int) :=
  (m_X51_isPlain s x3).bind fun v1 =>
  if y0 = v1 then
    u_X21_move_79 s x0 x1 x2 x3 x4 1 y1
  else
    u_X21_move_78 s x0 x1 x2 x3 x4 y1
noncomputable def u_X21_move_67 : jS → Int → Int → Int → Int → Int → Int → Int → Option (jS × Bool × Int) := Classical.choose (⟨du_X21_move_67, rfl⟩ : ∃ f, f = du_X21_move_67)
theorem eu_X21_move_67 : u_X21_move_67 = du_X21_move_67 := Classical.choose_spec (⟨du_X21_move_67, rfl⟩ : ∃ f, f = du_X21_move_67)
def dm_X21_move (s : jS) (x0 x1 x2 : Int) : Option (jS × Bool × Int) :=
  (jct s 39 (jf s 25 x0 0) (m_X19_u1 s (jf s 25 x0 0) (W32 (x2 + 4)))).bind fun v1 =>
  (jct s 39 (jf s 25 x0 0) (m_X19_u4 s (jf s 25 x0 0) (W32 (x2 + 4)))).bind fun v2 =>
  jlet (L_shr v2 8) fun v3 =>
  (m_X51_is s v1 x1).bind fun v4 =>
  (m_X21_need s x0 v4 29 (W32 (x2 + 4))).bind fun q5 =>
  jth q5.2.1 (some (q5.1, true, q5.2.2)) <|
  if 0 < (L_cmp v3 (jf q5.1 18 (x0 + 3) 4)) then
    u_X21_move_78 q5.1 x0 x1 x2 v1 v3 x0
  else
    if (L_cmp v3 0) = 0 then
      u_X21_move_67 q5.1 x0 x1 x2 v1 v3 1 x0
    else
      u_X21_move_67 q5.1 x0 x1 x2 v1 v3 0 x0
noncomputable def m_X21_move : jS → Int → Int → Int → Option (jS × Bool × Int) := Classical.choose (⟨dm_X21_move, rfl⟩ : ∃ f, f = dm_X21_move)
theorem em_X21_move : m_X21_move = dm_X21_move := Classical.choose_spec (⟨dm_X21_move, rfl⟩ : ∃ f, f = dm_X21_move)
def dm_X22_init (s : jS) (x0 : Int) : Option (jS × Int) :=
  jck0 x0 <|
  (jnw s 27 7 (jdf 27)).bind fun q1 =>
  (jck0 q1.2 (m_X23_init q1.1 q1.2)).bind fun q2 =>
  (jwr q2.1 26 x0 0 q1.2).bind fun s3 =>
  (jnw s3 27 7 (jdf 27)).bind fun q4 =>
  (jck0 q4.2 (m_X23_init q4.1 q4.2)).bind fun q5 =>
  (jwr q5.1 26 x0 1 q4.2).bind fun s6 =>
  (jnw s6 29 2 (jdf 29)).bind fun q7 =>
  (jck0 q7.2 (m_X25_init q7.1 q7.2 16384)).bind fun q8 =>
  (jwr q8.1 26 x0 2 q7.2).bind fun s9 =>
  (jnw s9 30 2 (jdf 30)).bind fun q10 =>
  (jck0 q10.2 (m_X26_init q10.1 q10.2)).bind fun q11 =>
  (jwr q11.1 26 x0 3 q10.2).bind fun s12 =>
  (jnw s12 32 10 (jdf 32)).bind fun q13 =>
  (jck0 q13.2 (m_X28_init q13.1 q13.2)).bind fun q14 =>
  (jwr q14.1 26 x0 4 q13.2).bind fun s15 =>
  (jwr s15 26 x0 5 (-1)).bind fun s16 =>
  some (s16, 0)
noncomputable def m_X22_init : jS → Int → Option (jS × Int) := Classical.choose (⟨dm_X22_init, rfl⟩ : ∃ f, f = dm_X22_init)
theorem em_X22_init : m_X22_init = dm_X22_init := Classical.choose_spec (⟨dm_X22_init, rfl⟩ : ∃ f, f = dm_X22_init)
def dm_X22_byteIn (s : jS) (x0 x1 : Int) : Option (Int) :=
  (m_X23_at s (x0 + 10) x1).bind fun v1 =>
  if v1 < 0 then
    some (-1)
  else
    (jct s 44 v1 (m_X24_byteAt s v1 x1)).bind fun v2 =>
    some v2
noncomputable def m_X22_byteIn : jS → Int → Int → Option (Int) := Classical.choose (⟨dm_X22_byteIn, rfl⟩ : ∃ f, f = dm_X22_byteIn)
theorem em_X22_byteIn : m_X22_byteIn = dm_X22_byteIn := Classical.choose_spec (⟨dm_X22_byteIn, rfl⟩ : ∃ f, f = dm_X22_byteIn)
def dm_X22_marked (s : jS) (x0 x1 : Int) : Option (Int) :=
  (m_X23_isMark s (x0 + 10) x1).bind fun v1 =>
  if v1 = 0 then
    some 0
  else
    (m_X23_text s (x0 + 10)).bind fun v2 =>
    (jrd s 28 v2 3).bind fun v3 =>
    (jdv 2 (I_div (W32 (x1 - v3)) 2)).bind fun v4 =>
    (m_X23_length s (x0 + 10) v4).bind fun v5 =>
    some v5
noncomputable def m_X22_marked : jS → Int → Int → Option (Int) := Classical.choose (⟨dm_X22_marked, rfl⟩ : ∃ f, f = dm_X22_marked)
theorem em_X22_marked : m_X22_marked = dm_X22_marked := Classical.choose_spec (⟨dm_X22_marked, rfl⟩ : ∃ f, f = dm_X22_marked)
def dm_X23_wrongSegments (s : jS) (x0 : Int) : Option (jS × Int) :=
  (m_X23_hasText s x0).bind fun v1 =>
  if v1 = 0 then
    some (s, 1)
  else
    (m_X23_isWithin s x0).bind fun q2 =>
    if q2.2 = 0 then
      some (q2.1, 2)
    else
      (m_X23_areApart q2.1 x0).bind fun q3 =>
      if q3.2 = 0 then
        some (q3.1, 3)
      else
        some (q3.1, 0)
noncomputable def m_X23_wrongSegments : jS → Int → Option (jS × Int) := Classical.choose (⟨dm_X23_wrongSegments, rfl⟩ : ∃ f, f = dm_X23_wrongSegments)
theorem em_X23_wrongSegments : m_X23_wrongSegments = dm_X23_wrongSegments := Classical.choose_spec (⟨dm_X23_wrongSegments, rfl⟩ : ∃ f, f = dm_X23_wrongSegments)
def du_X23_areMarksGood_75 (s : jS) (x0 x1 : Int) : Option ((jS × List Int) ⊕ (jS × Int)) :=
  some (.inl (s, [x0, W32 (x1 + 1)]))
noncomputable def u_X23_areMarksGood_75 : jS → Int → Int → Option ((jS × List Int) ⊕ (jS × Int)) := Classical.choose (⟨du_X23_areMarksGood_75, rfl⟩ : ∃ f, f = du_X23_areMarksGood_75)
theorem eu_X23_areMarksGood_75 : u_X23_areMarksGood_75 = du_X23_areMarksGood_75 := Classical.choose_spec (⟨du_X23_areMarksGood_75, rfl⟩ : ∃ f, f = du_X23_areMarksGood_75)
def b_X23_areMarksGood_2 (s : jS) (x0 x1 : Int) : Option ((jS × List Int) ⊕ (jS × Int)) :=
  if x1 < 2048 then
    (jlt s 1002 (x0 + 2) 2048 x1).bind fun v1 =>
    if v1 = 0 then
      u_X23_areMarksGood_75 s x0 x1
    else
      jls (jp s 27 x0 4 x1) fun s2 =>
      (m_X23_places s2 x0).bind fun v3 =>
      if x1 < v3 then
        (m_X23_length s2 x0 x1).bind fun v4 =>
        (m_X23_text s2 x0).bind fun v5 =>
        (jrd s2 28 v5 4).bind fun v6 =>
        if v6 < (W32 ((W32 (2 * x1)) + v4)) then
          jinr (some (s2, Wz 0))
        else
          (m_X23_length s2 x0 x1).bind fun v7 =>
          if v7 = 4 then
            (jlt s2 1002 (x0 + 2) 2048 (W32 (x1 + 1))).bind fun v8 =>
            if v8 = 0 then
              u_X23_areMarksGood_75 s2 x0 x1
            else
              jinr (some (s2, Wz 0))
          else
            u_X23_areMarksGood_75 s2 x0 x1
      else
        jinr (some (s2, Wz 0))
  else
    jinr (some (s, Wz 1))
def du_X23_areMarksGood_2 (s : jS) (x0 x1 : Int) : Option (jS × Int) := jlpW (jc2 b_X23_areMarksGood_2) [x0, x1] s
noncomputable def u_X23_areMarksGood_2 : jS → Int → Int → Option (jS × Int) := Classical.choose (⟨du_X23_areMarksGood_2, rfl⟩ : ∃ f, f = du_X23_areMarksGood_2)
theorem eu_X23_areMarksGood_2 : u_X23_areMarksGood_2 = du_X23_areMarksGood_2 := Classical.choose_spec (⟨du_X23_areMarksGood_2, rfl⟩ : ∃ f, f = du_X23_areMarksGood_2)
def dm_X23_areMarksGood (s : jS) (x0 : Int) : Option (jS × Int) :=
  u_X23_areMarksGood_2 s x0 0
noncomputable def m_X23_areMarksGood : jS → Int → Option (jS × Int) := Classical.choose (⟨dm_X23_areMarksGood, rfl⟩ : ∃ f, f = dm_X23_areMarksGood)
theorem em_X23_areMarksGood : m_X23_areMarksGood = dm_X23_areMarksGood := Classical.choose_spec (⟨dm_X23_areMarksGood, rfl⟩ : ∃ f, f = dm_X23_areMarksGood)
def du_X23_sum_140 (s : jS) (x1 : Int) : Option (jS × Int) :=
  (jct s 47 x1 (m_X27_end s x1)).bind fun v1 =>
  some (s, v1)
noncomputable def u_X23_sum_140 : jS → Int → Option (jS × Int) := Classical.choose (⟨du_X23_sum_140, rfl⟩ : ∃ f, f = du_X23_sum_140)
theorem eu_X23_sum_140 : u_X23_sum_140 = du_X23_sum_140 := Classical.choose_spec (⟨du_X23_sum_140, rfl⟩ : ∃ f, f = du_X23_sum_140)
def b_X23_sum_107 (s : jS) (x0 x1 x2 : Int) : Option ((jS × List Int) ⊕ (jS × Int)) :=
  (m_X23_text s x0).bind fun v1 =>
  (jrd s 28 v1 2).bind fun v2 =>
  if v2 = 0 then
    jinr (u_X23_sum_140 s x1)
  else
    (m_X23_markBytes s x0).bind fun v3 =>
    if x2 < v3 then
      (m_X23_markByte s x0 x2).bind fun v4 =>
      (jct s 47 x1 (m_X27_take s x1 v4)).bind fun q5 =>
      some (.inl (q5.1, [x0, x1, W32 (x2 + 1)]))
    else
      jinr (u_X23_sum_140 s x1)
def du_X23_sum_107 (s : jS) (x0 x1 x2 : Int) : Option (jS × Int) := jlpW (jc3 b_X23_sum_107) [x0, x1, x2] s
noncomputable def u_X23_sum_107 : jS → Int → Int → Int → Option (jS × Int) := Classical.choose (⟨du_X23_sum_107, rfl⟩ : ∃ f, f = du_X23_sum_107)
theorem eu_X23_sum_107 : u_X23_sum_107 = du_X23_sum_107 := Classical.choose_spec (⟨du_X23_sum_107, rfl⟩ : ∃ f, f = du_X23_sum_107)
def du_X23_sum_105 (s : jS) (x0 x1 : Int) : Option (jS × Int) :=
  u_X23_sum_107 s x0 x1 0
noncomputable def u_X23_sum_105 : jS → Int → Int → Option (jS × Int) := Classical.choose (⟨du_X23_sum_105, rfl⟩ : ∃ f, f = du_X23_sum_105)
theorem eu_X23_sum_105 : u_X23_sum_105 = du_X23_sum_105 := Classical.choose_spec (⟨du_X23_sum_105, rfl⟩ : ∃ f, f = du_X23_sum_105)
def du_X23_sum_99 (s : jS) (x0 x1 x2 x3 x4 : Int) : Option ((jS × List Int) ⊕ (jS × Int)) :=
  some (.inl (s, [x0, x1, x2, x3, W32 (x4 + 1)]))
noncomputable def u_X23_sum_99 : jS → Int → Int → Int → Int → Int → Option ((jS × List Int) ⊕ (jS × Int)) := Classical.choose (⟨du_X23_sum_99, rfl⟩ : ∃ f, f = du_X23_sum_99)
theorem eu_X23_sum_99 : u_X23_sum_99 = du_X23_sum_99 := Classical.choose_spec (⟨du_X23_sum_99, rfl⟩ : ∃ f, f = du_X23_sum_99)
def b_X23_sum_67 (s : jS) (x0 x1 x2 x3 x4 x5 x6 : Int) : Option ((jS × List Int) ⊕ ((jS × List Int) ⊕ (jS × Int))) :=
  if x6 < (jf s 28 x5 4) then
    (jlt s 1001 (x5 + 1) 4096 x6).bind fun v1 =>
    (jct s 47 x1 (m_X27_take s x1 (I_and v1 255))).bind fun q2 =>
    some (.inl (q2.1, [x0, x1, x2, x3, x4, x5, W32 (x6 + 1)]))
  else
    jinr (u_X23_sum_99 s x0 x1 x2 x3 x4)
def du_X23_sum_67 (s : jS) (x0 x1 x2 x3 x4 x5 x6 : Int) : Option ((jS × List Int) ⊕ (jS × Int)) := jlpW (jc7 b_X23_sum_67) [x0, x1, x2, x3, x4, x5, x6] s
noncomputable def u_X23_sum_67 : jS → Int → Int → Int → Int → Int → Int → Int → Option ((jS × List Int) ⊕ (jS × Int)) := Classical.choose (⟨du_X23_sum_67, rfl⟩ : ∃ f, f = du_X23_sum_67)
theorem eu_X23_sum_67 : u_X23_sum_67 = du_X23_sum_67 := Classical.choose_spec (⟨du_X23_sum_67, rfl⟩ : ∃ f, f = du_X23_sum_67)
def b_X23_sum_23 (s : jS) (x0 x1 x2 x3 x4 : Int) : Option ((jS × List Int) ⊕ (jS × Int)) :=
  if x4 < x3 then
    (jix 3 x4 (x2 + 2 + 2 * x4)).bind fun v1 =>
    if (jf s 28 v1 2) = 0 then
      u_X23_sum_99 s x0 x1 x2 x3 x4
    else
      (jct s 47 x1 (m_X27_take4 s x1 (jf s 28 v1 3))).bind fun q2 =>
      (jct q2.1 47 x1 (m_X27_take4 q2.1 x1 (jf q2.1 28 v1 5))).bind fun q3 =>
      u_X23_sum_67 q3.1 x0 x1 x2 x3 x4 v1 0
  else
    jinr (u_X23_sum_105 s x0 x1)
def du_X23_sum_23 (s : jS) (x0 x1 x2 x3 x4 : Int) : Option (jS × Int) := jlpW (jc5 b_X23_sum_23) [x0, x1, x2, x3, x4] s
noncomputable def u_X23_sum_23 : jS → Int → Int → Int → Int → Int → Option (jS × Int) := Classical.choose (⟨du_X23_sum_23, rfl⟩ : ∃ f, f = du_X23_sum_23)
theorem eu_X23_sum_23 : u_X23_sum_23 = du_X23_sum_23 := Classical.choose_spec (⟨du_X23_sum_23, rfl⟩ : ∃ f, f = du_X23_sum_23)
def dm_X23_sum (s : jS) (x0 x1 : Int) : Option (jS × Int) :=
  (jct s 47 x1 (m_X27_begin s x1)).bind fun q1 =>
  (jct q1.1 47 x1 (m_X27_take4 q1.1 x1 (jf q1.1 27 x0 2))).bind fun q2 =>
  u_X23_sum_23 q2.1 x0 x1 (x0 + 1) 3 0
noncomputable def m_X23_sum : jS → Int → Int → Option (jS × Int) := Classical.choose (⟨dm_X23_sum, rfl⟩ : ∃ f, f = dm_X23_sum)
theorem em_X23_sum : m_X23_sum = dm_X23_sum := Classical.choose_spec (⟨dm_X23_sum, rfl⟩ : ∃ f, f = dm_X23_sum)
def b_X26_note_104 (s : jS) (x0 : Int) : Option ((jS × List Int) ⊕ (jS × Int)) :=
  (jdv 4 (I_rem (jf s 29 (x0 + 1) 1) 4)).bind fun v1 =>
  if v1 = 0 then
    jinr (some (s, 0))
  else
    (m_X25_put1 s (x0 + 1) 0).bind fun q2 =>
    some (.inl (q2.1, [x0]))
def du_X26_note_104 (s : jS) (x0 : Int) : Option (jS × Int) := jlpW (jc1 b_X26_note_104) [x0] s
noncomputable def u_X26_note_104 : jS → Int → Option (jS × Int) := Classical.choose (⟨du_X26_note_104, rfl⟩ : ∃ f, f = du_X26_note_104)
theorem eu_X26_note_104 : u_X26_note_104 = du_X26_note_104 := Classical.choose_spec (⟨du_X26_note_104, rfl⟩ : ∃ f, f = du_X26_note_104)
def b_X26_note_78 (s : jS) (x0 x1 x2 : Int) : Option ((jS × List Int) ⊕ (jS × Int)) :=
  (jct s 43 x1 (m_X23_markBytes s x1)).bind fun v1 =>
  if x2 < v1 then
    (jct s 43 x1 (m_X23_markByte s x1 x2)).bind fun v2 =>
    (m_X25_put1 s (x0 + 1) v2).bind fun q3 =>
    some (.inl (q3.1, [x0, x1, W32 (x2 + 1)]))
  else
    jinr (u_X26_note_104 s x0)
def du_X26_note_78 (s : jS) (x0 x1 x2 : Int) : Option (jS × Int) := jlpW (jc3 b_X26_note_78) [x0, x1, x2] s
noncomputable def u_X26_note_78 : jS → Int → Int → Int → Option (jS × Int) := Classical.choose (⟨du_X26_note_78, rfl⟩ : ∃ f, f = du_X26_note_78)
theorem eu_X26_note_78 : u_X26_note_78 = du_X26_note_78 := Classical.choose_spec (⟨du_X26_note_78, rfl⟩ : ∃ f, f = du_X26_note_78)
def dm_X26_note (s : jS) (x0 x1 : Int) : Option (jS × Int) :=
  (m_X25_put4 s (x0 + 1) 6).bind fun q1 =>
  (m_X26_noteSize q1.1 x0 x1).bind fun v2 =>
  (m_X25_put4 q1.1 (x0 + 1) (W32 (v2 - 20))).bind fun q3 =>
  (m_X25_put4 q3.1 (x0 + 1) 1).bind fun q4 =>
  (m_X25_put4 q4.1 (x0 + 1) 1802658125).bind fun q5 =>
  (m_X25_put4 q5.1 (x0 + 1) 115).bind fun q6 =>
  (jct q6.1 43 x1 (m_X23_places q6.1 x1)).bind fun v7 =>
  (m_X25_put4 q6.1 (x0 + 1) v7).bind fun q8 =>
  (jct q8.1 43 x1 (m_X23_sum q8.1 x1 (x0 + 3))).bind fun q9 =>
  (m_X25_put4 q9.1 (x0 + 1) q9.2).bind fun q10 =>
  u_X26_note_78 q10.1 x0 x1 0
noncomputable def m_X26_note : jS → Int → Int → Option (jS × Int) := Classical.choose (⟨dm_X26_note, rfl⟩ : ∃ f, f = dm_X26_note)
theorem em_X26_note : m_X26_note = dm_X26_note := Classical.choose_spec (⟨dm_X26_note, rfl⟩ : ∃ f, f = dm_X26_note)
def du_X28_row_623 (s : jS) (x0 x1 x4 x8 : Int) : Option (jS × Bool × Int) :=
  if x4 = 0 then
    (jst s 1000 (x0 + 11) 3 x8 x1).bind fun s1 =>
    some (s1, false, 0)
  else
    jls (jp s 32 x0 7 x1) fun s2 =>
    some (s2, false, 0)
noncomputable def u_X28_row_623 : jS → Int → Int → Int → Int → Option (jS × Bool × Int) := Classical.choose (⟨du_X28_row_623, rfl⟩ : ∃ f, f = du_X28_row_623)
theorem eu_X28_row_623 : u_X28_row_623 = du_X28_row_623 := Classical.choose_spec (⟨du_X28_row_623, rfl⟩ : ∃ f, f = du_X28_row_623)
def du_X28_row_609 (s : jS) (x0 x1 x4 x8 x11 : Int) : Option (jS × Bool × Int) :=
  (m_X28_field s x0 x1 1).bind fun v1 =>
  (m_X28_need s x0 x11 19 v1).bind fun q2 =>
  jth q2.2.1 (some (q2.1, true, q2.2.2)) <|
  u_X28_row_623 q2.1 x0 x1 x4 x8
noncomputable def u_X28_row_609 : jS → Int → Int → Int → Int → Int → Option (jS × Bool × Int) := Classical.choose (⟨du_X28_row_609, rfl⟩ : ∃ f, f = du_X28_row_609)
theorem eu_X28_row_609 : u_X28_row_609 = du_X28_row_609 := Classical.choose_spec (⟨du_X28_row_609, rfl⟩ : ∃ f, f = du_X28_row_609)
def du_X28_row_601 (s : jS) (x0 x1 x4 x8 x12 y0 : Int) : Option ((jS × List Int) ⊕ (jS × Bool × Int)) :=
  some (.inl (s, [x0, x1, x4, x8, y0, W32 (x12 + 1)]))
noncomputable def u_X28_row_601 : jS → Int → Int → Int → Int → Int → Int → Option ((jS × List Int) ⊕ (jS × Bool × Int)) := Classical.choose (⟨du_X28_row_601, rfl⟩ : ∃ f, f = du_X28_row_601)
theorem eu_X28_row_601 : u_X28_row_601 = du_X28_row_601 := Classical.choose_spec (⟨du_X28_row_601, rfl⟩ : ∃ f, f = du_X28_row_601)
def du_X28_row_600 (s : jS) (x0 x1 x4 x8 x12 : Int) : Option ((jS × List Int) ⊕ (jS × Bool × Int)) :=
  u_X28_row_601 s x0 x1 x4 x8 x12 0
noncomputable def u_X28_row_600 : jS → Int → Int → Int → Int → Int → Option ((jS × List Int) ⊕ (jS × Bool × Int)) := Classical.choose (⟨du_X28_row_600, rfl⟩ : ∃ f, f = du_X28_row_600)
theorem eu_X28_row_600 : u_X28_row_600 = du_X28_row_600 := Classical.choose_spec (⟨du_X28_row_600, rfl⟩ : ∃ f, f = du_X28_row_600)
def du_X28_row_596 (s : jS) (x0 x1 x4 x8 x12 : Int) : Option ((jS × List Int) ⊕ (jS × Bool × Int)) :=
  u_X28_row_601 s x0 x1 x4 x8 x12 1
noncomputable def u_X28_row_596 : jS → Int → Int → Int → Int → Int → Option ((jS × List Int) ⊕ (jS × Bool × Int)) := Classical.choose (⟨du_X28_row_596, rfl⟩ : ∃ f, f = du_X28_row_596)
theorem eu_X28_row_596 : u_X28_row_596 = du_X28_row_596 := Classical.choose_spec (⟨du_X28_row_596, rfl⟩ : ∃ f, f = du_X28_row_596)
def b_X28_row_551 (s : jS) (x0 x1 x4 x8 x11 x12 : Int) : Option ((jS × List Int) ⊕ (jS × Bool × Int)) :=
  if x12 < x1 then
    if x11 = 0 then
      u_X28_row_600 s x0 x1 x4 x8 x12
    else
      (m_X28_number s x0 x12 0).bind fun v1 =>
      if (L_cmp v1 0) = 0 then
        u_X28_row_596 s x0 x1 x4 x8 x12
      else
        (m_X28_value s x0 x12 1).bind fun v2 =>
        (m_X28_value s x0 x12 4).bind fun v3 =>
        (m_X28_isOver s x0 x1 v2 v3).bind fun v4 =>
        if v4 = 0 then
          u_X28_row_596 s x0 x1 x4 x8 x12
        else
          u_X28_row_600 s x0 x1 x4 x8 x12
  else
    jinr (u_X28_row_609 s x0 x1 x4 x8 x11)
def du_X28_row_551 (s : jS) (x0 x1 x4 x8 x11 x12 : Int) : Option (jS × Bool × Int) := jlpW (jc6 b_X28_row_551) [x0, x1, x4, x8, x11, x12] s
noncomputable def u_X28_row_551 : jS → Int → Int → Int → Int → Int → Int → Option (jS × Bool × Int) := Classical.choose (⟨du_X28_row_551, rfl⟩ : ∃ f, f = du_X28_row_551)
theorem eu_X28_row_551 : u_X28_row_551 = du_X28_row_551 := Classical.choose_spec (⟨du_X28_row_551, rfl⟩ : ∃ f, f = du_X28_row_551)
def du_X28_row_546 (s : jS) (x0 x1 x4 x8 y0 : Int) : Option (jS × Bool × Int) :=
  u_X28_row_551 s x0 x1 x4 x8 y0 0
noncomputable def u_X28_row_546 : jS → Int → Int → Int → Int → Int → Option (jS × Bool × Int) := Classical.choose (⟨du_X28_row_546, rfl⟩ : ∃ f, f = du_X28_row_546)
theorem eu_X28_row_546 : u_X28_row_546 = du_X28_row_546 := Classical.choose_spec (⟨du_X28_row_546, rfl⟩ : ∃ f, f = du_X28_row_546)
def du_X28_row_500 (s : jS) (x0 x1 x4 x8 y0 y1 : Int) : Option (jS × Bool × Int) :=
  (m_X28_field s x0 x1 5).bind fun v1 =>
  (m_X28_need s y1 y0 18 v1).bind fun q2 =>
  jth q2.2.1 (some (q2.1, true, q2.2.2)) <|
  (m_X28_number q2.1 x0 x1 4).bind fun v3 =>
  if 0 < (L_cmp v3 0) then
    (m_X28_isOver q2.1 x0 x1 (jf q2.1 32 x0 5) (W32 (32 * (jf q2.1 32 x0 6)))).bind fun v4 =>
    if v4 = 0 then
      u_X28_row_546 q2.1 x0 x1 x4 x8 1
    else
      u_X28_row_546 q2.1 x0 x1 x4 x8 0
  else
    u_X28_row_623 q2.1 x0 x1 x4 x8
noncomputable def u_X28_row_500 : jS → Int → Int → Int → Int → Int → Int → Option (jS × Bool × Int) := Classical.choose (⟨du_X28_row_500, rfl⟩ : ∃ f, f = du_X28_row_500)
theorem eu_X28_row_500 : u_X28_row_500 = du_X28_row_500 := Classical.choose_spec (⟨du_X28_row_500, rfl⟩ : ∃ f, f = du_X28_row_500)
def du_X28_row_497 (s : jS) (x0 x1 x4 x8 y0 y1 y2 y3 : Int) : Option (jS × Bool × Int) :=
  (m_X22_in s y2 y1 y0).bind fun v1 =>
  u_X28_row_500 s x0 x1 x4 x8 v1 y3
noncomputable def u_X28_row_497 : jS → Int → Int → Int → Int → Int → Int → Int → Int → Option (jS × Bool × Int) := Classical.choose (⟨du_X28_row_497, rfl⟩ : ∃ f, f = du_X28_row_497)
theorem eu_X28_row_497 : u_X28_row_497 = du_X28_row_497 := Classical.choose_spec (⟨du_X28_row_497, rfl⟩ : ∃ f, f = du_X28_row_497)
def du_X28_row_430 (s : jS) (x0 x1 x4 x8 y0 y1 : Int) : Option (jS × Bool × Int) :=
  (m_X28_field s x0 x1 4).bind fun v1 =>
  (m_X28_need s y1 y0 17 v1).bind fun q2 =>
  jth q2.2.1 (some (q2.1, true, q2.2.2)) <|
  (m_X28_number q2.1 x0 x1 5).bind fun v3 =>
  (m_X28_number q2.1 x0 x1 4).bind fun v4 =>
  jlet (W64 (v3 - v4)) fun v5 =>
  if x4 = 0 then
    if x8 = 2 then
      u_X28_row_497 q2.1 x0 x1 x4 x8 32768 0 v5 x0
    else
      u_X28_row_497 q2.1 x0 x1 x4 x8 0 0 v5 x0
  else
    (m_X28_number q2.1 x0 x1 5).bind fun v6 =>
    if (L_cmp v6 0) = 0 then
      u_X28_row_500 q2.1 x0 x1 x4 x8 1 x0
    else
      u_X28_row_500 q2.1 x0 x1 x4 x8 0 x0
noncomputable def u_X28_row_430 : jS → Int → Int → Int → Int → Int → Int → Option (jS × Bool × Int) := Classical.choose (⟨du_X28_row_430, rfl⟩ : ∃ f, f = du_X28_row_430)
theorem eu_X28_row_430 : u_X28_row_430 = du_X28_row_430 := Classical.choose_spec (⟨du_X28_row_430, rfl⟩ : ∃ f, f = du_X28_row_430)
def du_X28_row_425 (s : jS) (x0 x1 x4 x8 y0 : Int) : Option (jS × Bool × Int) :=
  u_X28_row_430 s x0 x1 x4 x8 1 y0
noncomputable def u_X28_row_425 : jS → Int → Int → Int → Int → Int → Option (jS × Bool × Int) := Classical.choose (⟨du_X28_row_425, rfl⟩ : ∃ f, f = du_X28_row_425)
theorem eu_X28_row_425 : u_X28_row_425 = du_X28_row_425 := Classical.choose_spec (⟨du_X28_row_425, rfl⟩ : ∃ f, f = du_X28_row_425)
def du_X28_row_395 (s : jS) (x0 x1 x4 x8 y0 y1 : Int) : Option (jS × Bool × Int) :=
  (m_X28_field s x0 x1 3).bind fun v1 =>
  (m_X28_need s y1 y0 16 v1).bind fun q2 =>
  jth q2.2.1 (some (q2.1, true, q2.2.2)) <|
  if x4 = 0 then
    (m_X28_number q2.1 x0 x1 4).bind fun v3 =>
    if 0 < (L_cmp v3 4096) then
      u_X28_row_430 q2.1 x0 x1 x4 x8 0 x0
    else
      u_X28_row_425 q2.1 x0 x1 x4 x8 x0
  else
    u_X28_row_425 q2.1 x0 x1 x4 x8 x0
noncomputable def u_X28_row_395 : jS → Int → Int → Int → Int → Int → Int → Option (jS × Bool × Int) := Classical.choose (⟨du_X28_row_395, rfl⟩ : ∃ f, f = du_X28_row_395)
theorem eu_X28_row_395 : u_X28_row_395 = du_X28_row_395 := Classical.choose_spec (⟨du_X28_row_395, rfl⟩ : ∃ f, f = du_X28_row_395)
def du_X28_row_362 (s : jS) (x0 x1 x4 x8 y0 y1 : Int) : Option (jS × Bool × Int) :=
  (m_X28_field s x0 x1 2).bind fun v1 =>
  (m_X28_need s y1 y0 15 v1).bind fun q2 =>
  jth q2.2.1 (some (q2.1, true, q2.2.2)) <|
  (m_X28_number q2.1 x0 x1 3).bind fun v3 =>
  (m_X28_number q2.1 x0 x1 2).bind fun v4 =>
  if (L_cmp v3 v4) = 0 then
    u_X28_row_395 q2.1 x0 x1 x4 x8 1 x0
  else
    u_X28_row_395 q2.1 x0 x1 x4 x8 0 x0
noncomputable def u_X28_row_362 : jS → Int → Int → Int → Int → Int → Int → Option (jS × Bool × Int) := Classical.choose (⟨du_X28_row_362, rfl⟩ : ∃ f, f = du_X28_row_362)
theorem eu_X28_row_362 : u_X28_row_362 = du_X28_row_362 := Classical.choose_spec (⟨du_X28_row_362, rfl⟩ : ∃ f, f = du_X28_row_362)
def du_X28_row_307 (s : jS) (x0 x1 x4 x8 y0 y1 : Int) : Option (jS × Bool × Int) :=
  (m_X28_field s x0 x1 6).bind fun v1 =>
  (m_X28_need s y1 y0 14 v1).bind fun q2 =>
  jth q2.2.1 (some (q2.1, true, q2.2.2)) <|
  if x4 = 0 then
    (m_X28_number q2.1 x0 x1 2).bind fun v3 =>
    if (L_cmp v3 131072) < 0 then
      u_X28_row_362 q2.1 x0 x1 x4 x8 1 x0
    else
      u_X28_row_362 q2.1 x0 x1 x4 x8 0 x0
  else
    (m_X28_number q2.1 x0 x1 2).bind fun v4 =>
    if (L_cmp v4 0) = 0 then
      u_X28_row_362 q2.1 x0 x1 x4 x8 1 x0
    else
      u_X28_row_362 q2.1 x0 x1 x4 x8 0 x0
noncomputable def u_X28_row_307 : jS → Int → Int → Int → Int → Int → Int → Option (jS × Bool × Int) := Classical.choose (⟨du_X28_row_307, rfl⟩ : ∃ f, f = du_X28_row_307)
theorem eu_X28_row_307 : u_X28_row_307 = du_X28_row_307 := Classical.choose_spec (⟨du_X28_row_307, rfl⟩ : ∃ f, f = du_X28_row_307)
def du_X28_row_306 (s : jS) (x0 x1 x4 x8 y0 : Int) : Option (jS × Bool × Int) :=
  u_X28_row_307 s x0 x1 x4 x8 0 y0
noncomputable def u_X28_row_306 : jS → Int → Int → Int → Int → Int → Option (jS × Bool × Int) := Classical.choose (⟨du_X28_row_306, rfl⟩ : ∃ f, f = du_X28_row_306)
theorem eu_X28_row_306 : u_X28_row_306 = du_X28_row_306 := Classical.choose_spec (⟨du_X28_row_306, rfl⟩ : ∃ f, f = du_X28_row_306)
def du_X28_row_282 (s : jS) (x0 x1 x4 x8 y0 : Int) : Option (jS × Bool × Int) :=
  u_X28_row_307 s x0 x1 x4 x8 0 y0
noncomputable def u_X28_row_282 : jS → Int → Int → Int → Int → Int → Option (jS × Bool × Int) := Classical.choose (⟨du_X28_row_282, rfl⟩ : ∃ f, f = du_X28_row_282)
theorem eu_X28_row_282 : u_X28_row_282 = du_X28_row_282 := Classical.choose_spec (⟨du_X28_row_282, rfl⟩ : ∃ f, f = du_X28_row_282)
def du_X28_row_225 (s : jS) (x0 x1 x4 y0 y1 : Int) : Option (jS × Bool × Int) :=
  (m_X28_field s x0 x1 7).bind fun v1 =>
  (m_X28_need s y1 y0 13 v1).bind fun q2 =>
  jth q2.2.1 (some (q2.1, true, q2.2.2)) <|
  (m_X28_number q2.1 x0 x1 6).bind fun v3 =>
  (m_X28_segmentOf q2.1 x0 v3).bind fun v4 =>
  if x4 = 0 then
    if v4 < 0 then
      u_X28_row_306 q2.1 x0 x1 x4 v4 x0
    else
      (jlt q2.1 1000 (x0 + 11) 3 v4).bind fun v5 =>
      if v5 = (-1) then
        u_X28_row_307 q2.1 x0 x1 x4 v4 1 x0
      else
        u_X28_row_306 q2.1 x0 x1 x4 v4 x0
  else
    (m_X28_number q2.1 x0 x1 6).bind fun v6 =>
    if (L_cmp v6 4) = 0 then
      if (jf q2.1 32 x0 7) = (-1) then
        u_X28_row_307 q2.1 x0 x1 x4 v4 1 x0
      else
        u_X28_row_282 q2.1 x0 x1 x4 v4 x0
    else
      u_X28_row_282 q2.1 x0 x1 x4 v4 x0
noncomputable def u_X28_row_225 : jS → Int → Int → Int → Int → Int → Option (jS × Bool × Int) := Classical.choose (⟨du_X28_row_225, rfl⟩ : ∃ f, f = du_X28_row_225)
theorem eu_X28_row_225 : u_X28_row_225 = du_X28_row_225 := Classical.choose_spec (⟨du_X28_row_225, rfl⟩ : ∃ f, f = du_X28_row_225)
def du_X28_row_224 (s : jS) (x0 x1 x4 y0 : Int) : Option (jS × Bool × Int) :=
  u_X28_row_225 s x0 x1 x4 0 y0
noncomputable def u_X28_row_224 : jS → Int → Int → Int → Int → Option (jS × Bool × Int) := Classical.choose (⟨du_X28_row_224, rfl⟩ : ∃ f, f = du_X28_row_224)
theorem eu_X28_row_224 : u_X28_row_224 = du_X28_row_224 := Classical.choose_spec (⟨du_X28_row_224, rfl⟩ : ∃ f, f = du_X28_row_224)
def du_X28_row_220 (s : jS) (x0 x1 x4 y0 : Int) : Option (jS × Bool × Int) :=
  u_X28_row_225 s x0 x1 x4 1 y0
noncomputable def u_X28_row_220 : jS → Int → Int → Int → Int → Option (jS × Bool × Int) := Classical.choose (⟨du_X28_row_220, rfl⟩ : ∃ f, f = du_X28_row_220)
theorem eu_X28_row_220 : u_X28_row_220 = du_X28_row_220 := Classical.choose_spec (⟨du_X28_row_220, rfl⟩ : ∃ f, f = du_X28_row_220)
def du_X28_row_167 (s : jS) (x0 x1 x4 x5 y0 : Int) : Option (jS × Bool × Int) :=
  if y0 = 0 then
    u_X28_row_224 s x0 x1 x4 x0
  else
    if x4 = 0 then
      (m_X28_number s x0 x1 1).bind fun v1 =>
      (jdv x5 (L_rem v1 x5)).bind fun v2 =>
      (m_X28_number s x0 x1 2).bind fun v3 =>
      (jdv x5 (L_rem v3 x5)).bind fun v4 =>
      if (L_cmp v2 v4) = 0 then
        u_X28_row_220 s x0 x1 x4 x0
      else
        u_X28_row_224 s x0 x1 x4 x0
    else
      (m_X28_number s x0 x1 1).bind fun v5 =>
      (jdv 4 (L_rem v5 4)).bind fun v6 =>
      if (L_cmp v6 0) = 0 then
        u_X28_row_220 s x0 x1 x4 x0
      else
        u_X28_row_224 s x0 x1 x4 x0
noncomputable def u_X28_row_167 : jS → Int → Int → Int → Int → Int → Option (jS × Bool × Int) := Classical.choose (⟨du_X28_row_167, rfl⟩ : ∃ f, f = du_X28_row_167)
theorem eu_X28_row_167 : u_X28_row_167 = du_X28_row_167 := Classical.choose_spec (⟨du_X28_row_167, rfl⟩ : ∃ f, f = du_X28_row_167)
def du_X28_row_166 (s : jS) (x0 x1 x4 x5 : Int) : Option (jS × Bool × Int) :=
  u_X28_row_167 s x0 x1 x4 x5 0
noncomputable def u_X28_row_166 : jS → Int → Int → Int → Int → Option (jS × Bool × Int) := Classical.choose (⟨du_X28_row_166, rfl⟩ : ∃ f, f = du_X28_row_166)
theorem eu_X28_row_166 : u_X28_row_166 = du_X28_row_166 := Classical.choose_spec (⟨du_X28_row_166, rfl⟩ : ∃ f, f = du_X28_row_166)
def du_X28_row_118 (s : jS) (x0 x1 x4 y0 y1 : Int) : Option (jS × Bool × Int) :=
  (m_X28_field s x0 x1 1).bind fun v1 =>
  (m_X28_need s y1 y0 12 v1).bind fun q2 =>
  jth q2.2.1 (some (q2.1, true, q2.2.2)) <|
  (m_X28_number q2.1 x0 x1 7).bind fun v3 =>
  (m_X22_in q2.1 v3 1 4096).bind fun v4 =>
  if v4 = 0 then
    u_X28_row_166 q2.1 x0 x1 x4 v3
  else
    if (L_cmp (L_and v3 (W64 (v3 - 1))) 0) = 0 then
      u_X28_row_167 q2.1 x0 x1 x4 v3 1
    else
      u_X28_row_166 q2.1 x0 x1 x4 v3
noncomputable def u_X28_row_118 : jS → Int → Int → Int → Int → Int → Option (jS × Bool × Int) := Classical.choose (⟨du_X28_row_118, rfl⟩ : ∃ f, f = du_X28_row_118)
theorem eu_X28_row_118 : u_X28_row_118 = du_X28_row_118 := Classical.choose_spec (⟨du_X28_row_118, rfl⟩ : ∃ f, f = du_X28_row_118)
def du_X28_row_117 (s : jS) (x0 x1 x4 y0 : Int) : Option (jS × Bool × Int) :=
  u_X28_row_118 s x0 x1 x4 0 y0
noncomputable def u_X28_row_117 : jS → Int → Int → Int → Int → Option (jS × Bool × Int) := Classical.choose (⟨du_X28_row_117, rfl⟩ : ∃ f, f = du_X28_row_117)
theorem eu_X28_row_117 : u_X28_row_117 = du_X28_row_117 := Classical.choose_spec (⟨du_X28_row_117, rfl⟩ : ∃ f, f = du_X28_row_117)
def du_X28_row_113 (s : jS) (x0 x1 x4 y0 : Int) : Option (jS × Bool × Int) :=
  u_X28_row_118 s x0 x1 x4 1 y0
noncomputable def u_X28_row_113 : jS → Int → Int → Int → Int → Option (jS × Bool × Int) := Classical.choose (⟨du_X28_row_113, rfl⟩ : ∃ f, f = du_X28_row_113)
theorem eu_X28_row_113 : u_X28_row_113 = du_X28_row_113 := Classical.choose_spec (⟨du_X28_row_113, rfl⟩ : ∃ f, f = du_X28_row_113)
def du_X28_row_64 (s : jS) (x0 x1 y0 : Int) : Option (jS × Bool × Int) :=
  (m_X28_number s x0 x1 1).bind fun v1 =>
  (m_X28_number s x0 x1 4).bind fun v2 =>
  if 0 < (L_cmp (W64 (v1 + v2)) (jf s 32 x0 4)) then
    u_X28_row_117 s x0 x1 y0 x0
  else
    (m_X28_number s x0 x1 4).bind fun v3 =>
    if (L_cmp v3 0) = 0 then
      u_X28_row_113 s x0 x1 y0 x0
    else
      (m_X28_number s x0 x1 1).bind fun v4 =>
      if (L_cmp v4 52) < 0 then
        u_X28_row_117 s x0 x1 y0 x0
      else
        u_X28_row_113 s x0 x1 y0 x0
noncomputable def u_X28_row_64 : jS → Int → Int → Int → Option (jS × Bool × Int) := Classical.choose (⟨du_X28_row_64, rfl⟩ : ∃ f, f = du_X28_row_64)
theorem eu_X28_row_64 : u_X28_row_64 = du_X28_row_64 := Classical.choose_spec (⟨du_X28_row_64, rfl⟩ : ∃ f, f = du_X28_row_64)
def du_X28_row_33 (s : jS) (x0 x1 x2 y0 y1 : Int) : Option (jS × Bool × Int) :=
  (m_X28_field s x0 x1 0).bind fun v1 =>
  (m_X28_need s y1 y0 11 v1).bind fun q2 =>
  jth q2.2.1 (some (q2.1, true, q2.2.2)) <|
  if (L_cmp x2 0) = 0 then
    some (q2.1, false, 0)
  else
    if (L_cmp x2 4) = 0 then
      u_X28_row_64 q2.1 x0 x1 1
    else
      u_X28_row_64 q2.1 x0 x1 0
noncomputable def u_X28_row_33 : jS → Int → Int → Int → Int → Int → Option (jS × Bool × Int) := Classical.choose (⟨du_X28_row_33, rfl⟩ : ∃ f, f = du_X28_row_33)
theorem eu_X28_row_33 : u_X28_row_33 = du_X28_row_33 := Classical.choose_spec (⟨du_X28_row_33, rfl⟩ : ∃ f, f = du_X28_row_33)
def du_X28_row_28 (s : jS) (x0 x1 x2 y0 : Int) : Option (jS × Bool × Int) :=
  u_X28_row_33 s x0 x1 x2 1 y0
noncomputable def u_X28_row_28 : jS → Int → Int → Int → Int → Option (jS × Bool × Int) := Classical.choose (⟨du_X28_row_28, rfl⟩ : ∃ f, f = du_X28_row_28)
theorem eu_X28_row_28 : u_X28_row_28 = du_X28_row_28 := Classical.choose_spec (⟨du_X28_row_28, rfl⟩ : ∃ f, f = du_X28_row_28)
def dm_X28_row (s : jS) (x0 x1 : Int) : Option (jS × Bool × Int) :=
  (m_X28_number s x0 x1 0).bind fun v1 =>
  if (L_cmp v1 0) = 0 then
    u_X28_row_28 s x0 x1 v1 x0
  else
    if (L_cmp v1 1) = 0 then
      u_X28_row_28 s x0 x1 v1 x0
    else
      if (L_cmp v1 4) = 0 then
        u_X28_row_28 s x0 x1 v1 x0
      else
        u_X28_row_33 s x0 x1 v1 0 x0
noncomputable def m_X28_row : jS → Int → Int → Option (jS × Bool × Int) := Classical.choose (⟨dm_X28_row, rfl⟩ : ∃ f, f = dm_X28_row)
theorem em_X28_row : m_X28_row = dm_X28_row := Classical.choose_spec (⟨dm_X28_row, rfl⟩ : ∃ f, f = dm_X28_row)
def du_X28_segments_270 (s : jS) (y0 y1 y2 y3 : Int) : Option (jS × Bool × Int) :=
  (m_X28_need s y3 y2 y1 y0).bind fun q1 =>
  jth q1.2.1 (some (q1.1, true, q1.2.2)) <|
  some (q1.1, false, 0)
noncomputable def u_X28_segments_270 : jS → Int → Int → Int → Int → Option (jS × Bool × Int) := Classical.choose (⟨du_X28_segments_270, rfl⟩ : ∃ f, f = du_X28_segments_270)
theorem eu_X28_segments_270 : u_X28_segments_270 = du_X28_segments_270 := Classical.choose_spec (⟨du_X28_segments_270, rfl⟩ : ∃ f, f = du_X28_segments_270)
def du_X28_segments_227 (s : jS) (x0 x1 y0 y1 : Int) : Option (jS × Bool × Int) :=
  if x1 = 3 then
    (jlt s 1000 (x0 + 11) 3 (jf s 27 (x0 + 1) 5)).bind fun v1 =>
    (jlt s 1000 (x0 + 11) 3 (jf s 27 (x0 + 1) 6)).bind fun v2 =>
    (m_X28_field s x0 (jmx v1 v2) 2).bind fun v3 =>
    u_X28_segments_270 s v3 23 y0 y1
  else
    u_X28_segments_270 s 0 23 y0 y1
noncomputable def u_X28_segments_227 : jS → Int → Int → Int → Int → Option (jS × Bool × Int) := Classical.choose (⟨du_X28_segments_227, rfl⟩ : ∃ f, f = du_X28_segments_227)
theorem eu_X28_segments_227 : u_X28_segments_227 = du_X28_segments_227 := Classical.choose_spec (⟨du_X28_segments_227, rfl⟩ : ∃ f, f = du_X28_segments_227)
def du_X28_segments_213 (s : jS) (x0 x1 y0 y1 y2 y3 : Int) : Option (jS × Bool × Int) :=
  (m_X28_need s y3 y2 y1 y0).bind fun q1 =>
  jth q1.2.1 (some (q1.1, true, q1.2.2)) <|
  if x1 = 3 then
    u_X28_segments_227 q1.1 x0 x1 0 x0
  else
    u_X28_segments_227 q1.1 x0 x1 1 x0
noncomputable def u_X28_segments_213 : jS → Int → Int → Int → Int → Int → Int → Option (jS × Bool × Int) := Classical.choose (⟨du_X28_segments_213, rfl⟩ : ∃ f, f = du_X28_segments_213)
theorem eu_X28_segments_213 : u_X28_segments_213 = du_X28_segments_213 := Classical.choose_spec (⟨du_X28_segments_213, rfl⟩ : ∃ f, f = du_X28_segments_213)
def du_X28_segments_185 (s : jS) (x0 x1 y0 y1 : Int) : Option (jS × Bool × Int) :=
  if x1 = 2 then
    (jlt s 1000 (x0 + 11) 3 (jf s 27 (x0 + 1) 5)).bind fun v1 =>
    (m_X28_field s x0 v1 5).bind fun v2 =>
    u_X28_segments_213 s x0 x1 v2 22 y0 y1
  else
    u_X28_segments_213 s x0 x1 0 22 y0 y1
noncomputable def u_X28_segments_185 : jS → Int → Int → Int → Int → Option (jS × Bool × Int) := Classical.choose (⟨du_X28_segments_185, rfl⟩ : ∃ f, f = du_X28_segments_185)
theorem eu_X28_segments_185 : u_X28_segments_185 = du_X28_segments_185 := Classical.choose_spec (⟨du_X28_segments_185, rfl⟩ : ∃ f, f = du_X28_segments_185)
def du_X28_segments_167 (s : jS) (x0 x1 y0 y1 : Int) : Option (jS × Bool × Int) :=
  (m_X28_need s y1 y0 21 44).bind fun q1 =>
  jth q1.2.1 (some (q1.1, true, q1.2.2)) <|
  if x1 = 2 then
    u_X28_segments_185 q1.1 x0 x1 0 x0
  else
    u_X28_segments_185 q1.1 x0 x1 1 x0
noncomputable def u_X28_segments_167 : jS → Int → Int → Int → Int → Option (jS × Bool × Int) := Classical.choose (⟨du_X28_segments_167, rfl⟩ : ∃ f, f = du_X28_segments_167)
theorem eu_X28_segments_167 : u_X28_segments_167 = du_X28_segments_167 := Classical.choose_spec (⟨du_X28_segments_167, rfl⟩ : ∃ f, f = du_X28_segments_167)
def du_X28_segments_148 (s : jS) (x0 : Int) : Option (jS × Bool × Int) :=
  (m_X23_wrongSegments s (x0 + 1)).bind fun q1 =>
  if q1.2 = 1 then
    u_X28_segments_167 q1.1 x0 q1.2 0 x0
  else
    u_X28_segments_167 q1.1 x0 q1.2 1 x0
noncomputable def u_X28_segments_148 : jS → Int → Option (jS × Bool × Int) := Classical.choose (⟨du_X28_segments_148, rfl⟩ : ∃ f, f = du_X28_segments_148)
theorem eu_X28_segments_148 : u_X28_segments_148 = du_X28_segments_148 := Classical.choose_spec (⟨du_X28_segments_148, rfl⟩ : ∃ f, f = du_X28_segments_148)
def du_X28_segments_142 (s : jS) (x0 x1 : Int) : Option ((jS × List Int) ⊕ (jS × Bool × Int)) :=
  some (.inl (s, [x0, W32 (x1 + 1)]))
noncomputable def u_X28_segments_142 : jS → Int → Int → Option ((jS × List Int) ⊕ (jS × Bool × Int)) := Classical.choose (⟨du_X28_segments_142, rfl⟩ : ∃ f, f = du_X28_segments_142)
theorem eu_X28_segments_142 : u_X28_segments_142 = du_X28_segments_142 := Classical.choose_spec (⟨du_X28_segments_142, rfl⟩ : ∃ f, f = du_X28_segments_142)
def du_X28_segments_118 (s : jS) (x0 x1 x2 : Int) : Option ((jS × List Int) ⊕ (jS × Bool × Int)) :=
  (m_X28_value s x0 x2 7).bind fun v1 =>
  jls (jp s 27 (x0 + 1) 3 (jmx (jf s 27 (x0 + 1) 3) v1)) fun s2 =>
  u_X28_segments_142 s2 x0 x1
noncomputable def u_X28_segments_118 : jS → Int → Int → Int → Option ((jS × List Int) ⊕ (jS × Bool × Int)) := Classical.choose (⟨du_X28_segments_118, rfl⟩ : ∃ f, f = du_X28_segments_118)
theorem eu_X28_segments_118 : u_X28_segments_118 = du_X28_segments_118 := Classical.choose_spec (⟨du_X28_segments_118, rfl⟩ : ∃ f, f = du_X28_segments_118)
def b_X28_segments_81 (s : jS) (x0 x1 x2 x3 x4 : Int) : Option ((jS × List Int) ⊕ ((jS × List Int) ⊕ (jS × Bool × Int))) :=
  (m_X28_value s x0 x2 4).bind fun v1 =>
  if x4 < v1 then
    (m_X28_value s x0 x2 1).bind fun v2 =>
    (jct s 45 (jf s 32 x0 3) (m_X25_u1 s (jf s 32 x0 3) (W32 (v2 + x4)))).bind fun v3 =>
    (m_X24_add s x3 v3).bind fun q4 =>
    some (.inl (q4.1, [x0, x1, x2, x3, W32 (x4 + 1)]))
  else
    jinr (u_X28_segments_118 s x0 x1 x2)
def du_X28_segments_81 (s : jS) (x0 x1 x2 x3 x4 : Int) : Option ((jS × List Int) ⊕ (jS × Bool × Int)) := jlpW (jc5 b_X28_segments_81) [x0, x1, x2, x3, x4] s
noncomputable def u_X28_segments_81 : jS → Int → Int → Int → Int → Int → Option ((jS × List Int) ⊕ (jS × Bool × Int)) := Classical.choose (⟨du_X28_segments_81, rfl⟩ : ∃ f, f = du_X28_segments_81)
theorem eu_X28_segments_81 : u_X28_segments_81 = du_X28_segments_81 := Classical.choose_spec (⟨du_X28_segments_81, rfl⟩ : ∃ f, f = du_X28_segments_81)
def b_X28_segments_25 (s : jS) (x0 x1 : Int) : Option ((jS × List Int) ⊕ (jS × Bool × Int)) :=
  if x1 < 3 then
    (jlt s 1000 (x0 + 11) 3 x1).bind fun v1 =>
    if v1 = (-1) then
      u_X28_segments_142 s x0 x1
    else
      (jix 3 x1 (((x0 + 1) + 1) + 2 + 2 * x1)).bind fun v2 =>
      (m_X28_value s x0 v1 2).bind fun v3 =>
      (m_X28_value s x0 v1 5).bind fun v4 =>
      (m_X28_value s x0 v1 4).bind fun v5 =>
      (m_X24_lie s v2 v3 (W32 (v4 - v5))).bind fun q6 =>
      u_X28_segments_81 q6.1 x0 x1 v1 v2 0
  else
    jinr (u_X28_segments_148 s x0)
def du_X28_segments_25 (s : jS) (x0 x1 : Int) : Option (jS × Bool × Int) := jlpW (jc2 b_X28_segments_25) [x0, x1] s
noncomputable def u_X28_segments_25 : jS → Int → Int → Option (jS × Bool × Int) := Classical.choose (⟨du_X28_segments_25, rfl⟩ : ∃ f, f = du_X28_segments_25)
theorem eu_X28_segments_25 : u_X28_segments_25 = du_X28_segments_25 := Classical.choose_spec (⟨du_X28_segments_25, rfl⟩ : ∃ f, f = du_X28_segments_25)
def dm_X28_segments (s : jS) (x0 : Int) : Option (jS × Bool × Int) :=
  (m_X23_clear s (x0 + 1)).bind fun q1 =>
  (jct q1.1 45 (jf q1.1 32 x0 3) (m_X25_s4 q1.1 (jf q1.1 32 x0 3) 24)).bind fun v2 =>
  jls (jp q1.1 27 (x0 + 1) 2 v2) fun s3 =>
  u_X28_segments_25 s3 x0 0
noncomputable def m_X28_segments : jS → Int → Option (jS × Bool × Int) := Classical.choose (⟨dm_X28_segments, rfl⟩ : ∃ f, f = dm_X28_segments)
theorem em_X28_segments : m_X28_segments = dm_X28_segments := Classical.choose_spec (⟨dm_X28_segments, rfl⟩ : ∃ f, f = dm_X28_segments)
def du_X29_fetches_22 (s : jS) (x0 x1 x2 : Int) : Option (jS × Int) :=
  (m_X29_fails s x0 1 (W32 (x1 + x2))).bind fun q1 =>
  some (q1.1, Wz 0)
noncomputable def u_X29_fetches_22 : jS → Int → Int → Int → Option (jS × Int) := Classical.choose (⟨du_X29_fetches_22, rfl⟩ : ∃ f, f = du_X29_fetches_22)
theorem eu_X29_fetches_22 : u_X29_fetches_22 = du_X29_fetches_22 := Classical.choose_spec (⟨du_X29_fetches_22, rfl⟩ : ∃ f, f = du_X29_fetches_22)
def b_X29_fetches_2 (s : jS) (x0 x1 x2 : Int) : Option ((jS × List Int) ⊕ (jS × Int)) :=
  if x2 < 2 then
    (m_X29_rightsOf s x0 (W32 (x1 + x2))).bind fun v1 =>
    if (I_and v1 4) = 0 then
      jinr (u_X29_fetches_22 s x0 x1 x2)
    else
      some (.inl (s, [x0, x1, W32 (x2 + 1)]))
  else
    jinr (some (s, Wz 1))
def du_X29_fetches_2 (s : jS) (x0 x1 x2 : Int) : Option (jS × Int) := jlpW (jc3 b_X29_fetches_2) [x0, x1, x2] s
noncomputable def u_X29_fetches_2 : jS → Int → Int → Int → Option (jS × Int) := Classical.choose (⟨du_X29_fetches_2, rfl⟩ : ∃ f, f = du_X29_fetches_2)
theorem eu_X29_fetches_2 : u_X29_fetches_2 = du_X29_fetches_2 := Classical.choose_spec (⟨du_X29_fetches_2, rfl⟩ : ∃ f, f = du_X29_fetches_2)
def dm_X29_fetches (s : jS) (x0 x1 : Int) : Option (jS × Int) :=
  u_X29_fetches_2 s x0 x1 0
noncomputable def m_X29_fetches : jS → Int → Int → Option (jS × Int) := Classical.choose (⟨dm_X29_fetches, rfl⟩ : ∃ f, f = dm_X29_fetches)
theorem em_X29_fetches : m_X29_fetches = dm_X29_fetches := Classical.choose_spec (⟨dm_X29_fetches, rfl⟩ : ∃ f, f = dm_X29_fetches)
def du_X29_takeSecond_268 (s : jS) (y0 y1 : Int) : Option (jS × Int) :=
  (m_X29_only s y1 y0).bind fun q1 =>
  some (q1.1, 0)
noncomputable def u_X29_takeSecond_268 : jS → Int → Int → Option (jS × Int) := Classical.choose (⟨du_X29_takeSecond_268, rfl⟩ : ∃ f, f = du_X29_takeSecond_268)
theorem eu_X29_takeSecond_268 : u_X29_takeSecond_268 = du_X29_takeSecond_268 := Classical.choose_spec (⟨du_X29_takeSecond_268, rfl⟩ : ∃ f, f = du_X29_takeSecond_268)
def du_X29_takeSecond_267 (s : jS) (y0 : Int) : Option (jS × Int) :=
  u_X29_takeSecond_268 s 0 y0
noncomputable def u_X29_takeSecond_267 : jS → Int → Option (jS × Int) := Classical.choose (⟨du_X29_takeSecond_267, rfl⟩ : ∃ f, f = du_X29_takeSecond_267)
theorem eu_X29_takeSecond_267 : u_X29_takeSecond_267 = du_X29_takeSecond_267 := Classical.choose_spec (⟨du_X29_takeSecond_267, rfl⟩ : ∃ f, f = du_X29_takeSecond_267)
def du_X29_takeSecond_263 (s : jS) (y0 : Int) : Option (jS × Int) :=
  u_X29_takeSecond_268 s 1 y0
noncomputable def u_X29_takeSecond_263 : jS → Int → Option (jS × Int) := Classical.choose (⟨du_X29_takeSecond_263, rfl⟩ : ∃ f, f = du_X29_takeSecond_263)
theorem eu_X29_takeSecond_263 : u_X29_takeSecond_263 = du_X29_takeSecond_263 := Classical.choose_spec (⟨du_X29_takeSecond_263, rfl⟩ : ∃ f, f = du_X29_takeSecond_263)
def du_X29_takeSecond_240 (s : jS) (x0 x2 x4 x5 : Int) : Option (jS × Int) :=
  if x2 = 0 then
    u_X29_takeSecond_267 s x0
  else
    if x2 = 2 then
      if x5 = 0 then
        u_X29_takeSecond_267 s x0
      else
        u_X29_takeSecond_263 s x0
    else
      if x4 = 0 then
        u_X29_takeSecond_267 s x0
      else
        u_X29_takeSecond_263 s x0
noncomputable def u_X29_takeSecond_240 : jS → Int → Int → Int → Int → Option (jS × Int) := Classical.choose (⟨du_X29_takeSecond_240, rfl⟩ : ∃ f, f = du_X29_takeSecond_240)
theorem eu_X29_takeSecond_240 : u_X29_takeSecond_240 = du_X29_takeSecond_240 := Classical.choose_spec (⟨du_X29_takeSecond_240, rfl⟩ : ∃ f, f = du_X29_takeSecond_240)
def du_X29_takeSecond_144 (s : jS) (y0 y1 : Int) : Option (jS × Int) :=
  (m_X29_only s y1 y0).bind fun q1 =>
  some (q1.1, 0)
noncomputable def u_X29_takeSecond_144 : jS → Int → Int → Option (jS × Int) := Classical.choose (⟨du_X29_takeSecond_144, rfl⟩ : ∃ f, f = du_X29_takeSecond_144)
theorem eu_X29_takeSecond_144 : u_X29_takeSecond_144 = du_X29_takeSecond_144 := Classical.choose_spec (⟨du_X29_takeSecond_144, rfl⟩ : ∃ f, f = du_X29_takeSecond_144)
def du_X29_takeSecond_104 (s : jS) (y0 y1 : Int) : Option (jS × Int) :=
  (m_X29_only s y1 y0).bind fun q1 =>
  some (q1.1, 0)
noncomputable def u_X29_takeSecond_104 : jS → Int → Int → Option (jS × Int) := Classical.choose (⟨du_X29_takeSecond_104, rfl⟩ : ∃ f, f = du_X29_takeSecond_104)
theorem eu_X29_takeSecond_104 : u_X29_takeSecond_104 = du_X29_takeSecond_104 := Classical.choose_spec (⟨du_X29_takeSecond_104, rfl⟩ : ∃ f, f = du_X29_takeSecond_104)
def du_X29_takeSecond_103 (s : jS) (y0 : Int) : Option (jS × Int) :=
  u_X29_takeSecond_104 s 0 y0
noncomputable def u_X29_takeSecond_103 : jS → Int → Option (jS × Int) := Classical.choose (⟨du_X29_takeSecond_103, rfl⟩ : ∃ f, f = du_X29_takeSecond_103)
theorem eu_X29_takeSecond_103 : u_X29_takeSecond_103 = du_X29_takeSecond_103 := Classical.choose_spec (⟨du_X29_takeSecond_103, rfl⟩ : ∃ f, f = du_X29_takeSecond_103)
def du_X29_takeSecond_99 (s : jS) (y0 : Int) : Option (jS × Int) :=
  u_X29_takeSecond_104 s 1 y0
noncomputable def u_X29_takeSecond_99 : jS → Int → Option (jS × Int) := Classical.choose (⟨du_X29_takeSecond_99, rfl⟩ : ∃ f, f = du_X29_takeSecond_99)
theorem eu_X29_takeSecond_99 : u_X29_takeSecond_99 = du_X29_takeSecond_99 := Classical.choose_spec (⟨du_X29_takeSecond_99, rfl⟩ : ∃ f, f = du_X29_takeSecond_99)
def dm_X29_takeSecond (s : jS) (x0 x1 : Int) : Option (jS × Int) :=
  (m_X29_bits s x1 11 7).bind fun v1 =>
  (m_X29_bits s x1 9 7).bind fun v2 =>
  jlet (W32 (8 + v2)) fun v3 =>
  (m_X29_six s x1).bind fun v4 =>
  if (I_ushr x1 13) = 0 then
    (jct s 50 x0 (m_X30_is s x0 18 v1 v1 0 v4)).bind fun q5 =>
    if x1 = 1 then
      u_X29_takeSecond_99 q5.1 x0
    else
      if v1 = 0 then
        u_X29_takeSecond_103 q5.1 x0
      else
        if v4 = 0 then
          u_X29_takeSecond_103 q5.1 x0
        else
          u_X29_takeSecond_99 q5.1 x0
  else
  if (I_ushr x1 13) = 1 then
    (m_X29_jump s x1).bind fun v6 =>
    (jct s 50 x0 (m_X30_is s x0 2 1 0 0 v6)).bind fun q7 =>
    some (q7.1, 0)
  else
  if (I_ushr x1 13) = 2 then
    (jct s 50 x0 (m_X30_is s x0 18 v1 0 0 v4)).bind fun q8 =>
    if v1 = 0 then
      u_X29_takeSecond_144 q8.1 0 x0
    else
      u_X29_takeSecond_144 q8.1 1 x0
  else
  if (I_ushr x1 13) = 3 then
    (m_X29_bits s x1 12 12).bind fun v9 =>
    (m_X29_bits s x1 4 3).bind fun v10 =>
    (m_X29_bits s x1 5 5).bind fun v11 =>
    (m_X29_bits s x1 2 2).bind fun v12 =>
    (m_X29_bits s x1 6 6).bind fun v13 =>
    (m_X29_signed s (I_or (I_or (I_or (I_or (I_shl v9 9) (I_shl v10 7)) (I_shl v11 6)) (I_shl v12 5)) (I_shl v13 4)) 10).bind fun v14 =>
    if v1 = 2 then
      (jct s 50 x0 (m_X30_is s x0 18 2 2 0 v14)).bind fun q15 =>
      u_X29_takeSecond_240 q15.1 x0 v1 v4 v14
    else
      (jct s 50 x0 (m_X30_is s x0 0 v1 0 0 (I_and v4 1048575))).bind fun q16 =>
      u_X29_takeSecond_240 q16.1 x0 v1 v4 v14
  else
  if (I_ushr x1 13) = 4 then
    (m_X29_takePairs s x0 x1 v3 v4).bind fun q17 =>
    some (q17.1, 0)
  else
  if (I_ushr x1 13) = 5 then
    (m_X29_jump s x1).bind fun v18 =>
    (jct s 50 x0 (m_X30_is s x0 2 0 0 0 v18)).bind fun q19 =>
    some (q19.1, 0)
  else
  if (I_ushr x1 13) = 6 then
    (m_X29_branch s x1).bind fun v20 =>
    (jct s 50 x0 (m_X30_is s x0 4 0 v3 0 v20)).bind fun q21 =>
    some (q21.1, 0)
  else
  (m_X29_branch s x1).bind fun v22 =>
  (jct s 50 x0 (m_X30_is s x0 5 0 v3 0 v22)).bind fun q23 =>
  some (q23.1, 0)
noncomputable def m_X29_takeSecond : jS → Int → Int → Option (jS × Int) := Classical.choose (⟨dm_X29_takeSecond, rfl⟩ : ∃ f, f = dm_X29_takeSecond)
theorem em_X29_takeSecond : m_X29_takeSecond = dm_X29_takeSecond := Classical.choose_spec (⟨dm_X29_takeSecond, rfl⟩ : ∃ f, f = dm_X29_takeSecond)
def du_X29_takeLong_472 (s : jS) (y0 y1 : Int) : Option (jS × Int) :=
  (jct s 50 y1 (m_X30_is s y1 y0 0 0 0 0)).bind fun q1 =>
  some (q1.1, 0)
noncomputable def u_X29_takeLong_472 : jS → Int → Int → Option (jS × Int) := Classical.choose (⟨du_X29_takeLong_472, rfl⟩ : ∃ f, f = du_X29_takeLong_472)
theorem eu_X29_takeLong_472 : u_X29_takeLong_472 = du_X29_takeLong_472 := Classical.choose_spec (⟨du_X29_takeLong_472, rfl⟩ : ∃ f, f = du_X29_takeLong_472)
def du_X29_takeLong_391 (s : jS) (x2 x3 x4 x6 y0 y1 : Int) : Option (jS × Int) :=
  (jct s 50 y1 (m_X30_is s y1 y0 0 x3 x4 (I_or (I_and x6 (-32)) x2))).bind fun q1 =>
  some (q1.1, 0)
noncomputable def u_X29_takeLong_391 : jS → Int → Int → Int → Int → Int → Int → Option (jS × Int) := Classical.choose (⟨du_X29_takeLong_391, rfl⟩ : ∃ f, f = du_X29_takeLong_391)
theorem eu_X29_takeLong_391 : u_X29_takeLong_391 = du_X29_takeLong_391 := Classical.choose_spec (⟨du_X29_takeLong_391, rfl⟩ : ∃ f, f = du_X29_takeLong_391)
def du_X29_takeLong_365 (s : jS) (x2 x3 x6 y0 y1 : Int) : Option (jS × Int) :=
  (jct s 50 y1 (m_X30_is s y1 y0 x2 x3 0 x6)).bind fun q1 =>
  some (q1.1, 0)
noncomputable def u_X29_takeLong_365 : jS → Int → Int → Int → Int → Int → Option (jS × Int) := Classical.choose (⟨du_X29_takeLong_365, rfl⟩ : ∃ f, f = du_X29_takeLong_365)
theorem eu_X29_takeLong_365 : u_X29_takeLong_365 = du_X29_takeLong_365 := Classical.choose_spec (⟨du_X29_takeLong_365, rfl⟩ : ∃ f, f = du_X29_takeLong_365)
def du_X29_takeLong_356 (s : jS) (x2 x3 x5 x6 y0 : Int) : Option (jS × Int) :=
  u_X29_takeLong_365 s x2 x3 x6 (W32 (9 + x5)) y0
noncomputable def u_X29_takeLong_356 : jS → Int → Int → Int → Int → Int → Option (jS × Int) := Classical.choose (⟨du_X29_takeLong_356, rfl⟩ : ∃ f, f = du_X29_takeLong_356)
theorem eu_X29_takeLong_356 : u_X29_takeLong_356 = du_X29_takeLong_356 := Classical.choose_spec (⟨du_X29_takeLong_356, rfl⟩ : ∃ f, f = du_X29_takeLong_356)
def du_X29_takeLong_270 (s : jS) (x1 x3 x4 y0 y1 : Int) : Option (jS × Int) :=
  (m_X29_bits s x1 31 31).bind fun v1 =>
  (m_X29_bits s x1 7 7).bind fun v2 =>
  (m_X29_bits s x1 30 25).bind fun v3 =>
  (m_X29_bits s x1 11 8).bind fun v4 =>
  (m_X29_signed s (I_or (I_or (I_or (I_shl v1 12) (I_shl v2 11)) (I_shl v3 5)) (I_shl v4 1)) 13).bind fun v5 =>
  (jct s 50 y1 (m_X30_is s y1 y0 0 x3 x4 v5)).bind fun q6 =>
  some (q6.1, 0)
noncomputable def u_X29_takeLong_270 : jS → Int → Int → Int → Int → Int → Option (jS × Int) := Classical.choose (⟨du_X29_takeLong_270, rfl⟩ : ∃ f, f = du_X29_takeLong_270)
theorem eu_X29_takeLong_270 : u_X29_takeLong_270 = du_X29_takeLong_270 := Classical.choose_spec (⟨du_X29_takeLong_270, rfl⟩ : ∃ f, f = du_X29_takeLong_270)
def du_X29_takeLong_232 (s : jS) (x2 x3 x6 y0 y1 : Int) : Option (jS × Int) :=
  (jct s 50 y1 (m_X30_is s y1 y0 x2 x3 0 x6)).bind fun q1 =>
  some (q1.1, 0)
noncomputable def u_X29_takeLong_232 : jS → Int → Int → Int → Int → Int → Option (jS × Int) := Classical.choose (⟨du_X29_takeLong_232, rfl⟩ : ∃ f, f = du_X29_takeLong_232)
theorem eu_X29_takeLong_232 : u_X29_takeLong_232 = du_X29_takeLong_232 := Classical.choose_spec (⟨du_X29_takeLong_232, rfl⟩ : ∃ f, f = du_X29_takeLong_232)
def dm_X29_takeLong (s : jS) (x0 x1 : Int) : Option (jS × Int) :=
  (m_X29_bits s x1 11 7).bind fun v1 =>
  (m_X29_bits s x1 19 15).bind fun v2 =>
  (m_X29_bits s x1 24 20).bind fun v3 =>
  (m_X29_bits s x1 14 12).bind fun v4 =>
  jlet (I_shr x1 20) fun v5 =>
  if (I_and x1 127) = 3 then
    if v4 < 3 then
      u_X29_takeLong_365 s v1 v2 v5 (W32 (10 + v4)) x0
    else
      if v4 = 4 then
        u_X29_takeLong_356 s v1 v2 v4 v5 x0
      else
        if v4 = 5 then
          u_X29_takeLong_356 s v1 v2 v4 v5 x0
        else
          u_X29_takeLong_365 s v1 v2 v5 (-1) x0
  else
  if (I_and x1 127) = 19 then
    (m_X29_takeSums s x0 x1 v1 v2 v4).bind fun q6 =>
    some (q6.1, 0)
  else
  if (I_and x1 127) = 23 then
    (jct s 50 x0 (m_X30_is s x0 1 v1 0 0 (I_ushr x1 12))).bind fun q7 =>
    some (q7.1, 0)
  else
  if (I_and x1 127) = 35 then
    if v4 < 3 then
      u_X29_takeLong_391 s v1 v2 v3 v5 (W32 (15 + v4)) x0
    else
      u_X29_takeLong_391 s v1 v2 v3 v5 (-1) x0
  else
  if (I_and x1 127) = 51 then
    (m_X29_rowKind s v4 (I_ushr x1 25)).bind fun v8 =>
    (jct s 50 x0 (m_X30_is s x0 v8 v1 v2 v3 0)).bind fun q9 =>
    some (q9.1, 0)
  else
  if (I_and x1 127) = 55 then
    (jct s 50 x0 (m_X30_is s x0 0 v1 0 0 (I_ushr x1 12))).bind fun q10 =>
    some (q10.1, 0)
  else
  if (I_and x1 127) = 99 then
    if v4 < 2 then
      u_X29_takeLong_270 s x1 v2 v3 (W32 (4 + v4)) x0
    else
      if v4 < 4 then
        u_X29_takeLong_270 s x1 v2 v3 (-1) x0
      else
        u_X29_takeLong_270 s x1 v2 v3 (W32 (2 + v4)) x0
  else
  if (I_and x1 127) = 103 then
    if v4 = 0 then
      u_X29_takeLong_232 s v1 v2 v5 3 x0
    else
      u_X29_takeLong_232 s v1 v2 v5 (-1) x0
  else
  if (I_and x1 127) = 111 then
    (m_X29_bits s x1 31 31).bind fun v11 =>
    (m_X29_bits s x1 19 12).bind fun v12 =>
    (m_X29_bits s x1 20 20).bind fun v13 =>
    (m_X29_bits s x1 30 21).bind fun v14 =>
    (m_X29_signed s (I_or (I_or (I_or (I_shl v11 20) (I_shl v12 12)) (I_shl v13 11)) (I_shl v14 1)) 21).bind fun v15 =>
    (jct s 50 x0 (m_X30_is s x0 2 v1 0 0 v15)).bind fun q16 =>
    some (q16.1, 0)
  else
  if x1 = 267386895 then
    u_X29_takeLong_472 s 45 x0
  else
    if x1 = 115 then
      u_X29_takeLong_472 s 46 x0
    else
      if x1 = 1048691 then
        u_X29_takeLong_472 s 47 x0
      else
        u_X29_takeLong_472 s (-1) x0
noncomputable def m_X29_takeLong : jS → Int → Int → Option (jS × Int) := Classical.choose (⟨dm_X29_takeLong, rfl⟩ : ∃ f, f = dm_X29_takeLong)
theorem em_X29_takeLong : m_X29_takeLong = dm_X29_takeLong := Classical.choose_spec (⟨dm_X29_takeLong, rfl⟩ : ∃ f, f = dm_X29_takeLong)
def du_X29_isAllowed_66 (s : jS) (x0 x2 x3 : Int) : Option (jS × Int) :=
  if x2 < 15 then
    some (s, Wz 1)
  else
    if 17 < x2 then
      some (s, Wz 1)
    else
      (m_X29_may s x0 x3 (I_shl 1 (W32 (x2 - 15))) 2).bind fun q1 =>
      if q1.2 = 0 then
        some (q1.1, Wz 0)
      else
        some (q1.1, Wz 1)
noncomputable def u_X29_isAllowed_66 : jS → Int → Int → Int → Option (jS × Int) := Classical.choose (⟨du_X29_isAllowed_66, rfl⟩ : ∃ f, f = du_X29_isAllowed_66)
theorem eu_X29_isAllowed_66 : u_X29_isAllowed_66 = du_X29_isAllowed_66 := Classical.choose_spec (⟨du_X29_isAllowed_66, rfl⟩ : ∃ f, f = du_X29_isAllowed_66)
def du_X29_isAllowed_61 (s : jS) (y0 y1 y2 : Int) : Option (jS × Int) :=
  (m_X29_may s y2 y1 y0 1).bind fun q1 =>
  some (q1.1, Wz q1.2)
noncomputable def u_X29_isAllowed_61 : jS → Int → Int → Int → Option (jS × Int) := Classical.choose (⟨du_X29_isAllowed_61, rfl⟩ : ∃ f, f = du_X29_isAllowed_61)
theorem eu_X29_isAllowed_61 : u_X29_isAllowed_61 = du_X29_isAllowed_61 := Classical.choose_spec (⟨du_X29_isAllowed_61, rfl⟩ : ∃ f, f = du_X29_isAllowed_61)
def du_X29_isAllowed_46 (s : jS) (y0 y1 : Int) : Option (jS × Int) :=
  u_X29_isAllowed_61 s 1 y0 y1
noncomputable def u_X29_isAllowed_46 : jS → Int → Int → Option (jS × Int) := Classical.choose (⟨du_X29_isAllowed_46, rfl⟩ : ∃ f, f = du_X29_isAllowed_46)
theorem eu_X29_isAllowed_46 : u_X29_isAllowed_46 = du_X29_isAllowed_46 := Classical.choose_spec (⟨du_X29_isAllowed_46, rfl⟩ : ∃ f, f = du_X29_isAllowed_46)
def dm_X29_isAllowed (s : jS) (x0 x1 : Int) : Option (jS × Int) :=
  (jrd s 34 x1 0).bind fun v1 =>
  (jrd s 34 x1 2).bind fun v2 =>
  (jlt s 1000 (x0 + 4) 32 v2).bind fun v3 =>
  (jrd s 34 x1 4).bind fun v4 =>
  jlet (W32 (v3 + v4)) fun v5 =>
  if v1 < 10 then
    u_X29_isAllowed_66 s x0 v1 v5
  else
    if v1 < 15 then
      if v1 = 10 then
        u_X29_isAllowed_46 s v5 x0
      else
        if v1 = 13 then
          u_X29_isAllowed_46 s v5 x0
        else
          if v1 = 12 then
            u_X29_isAllowed_61 s 4 v5 x0
          else
            u_X29_isAllowed_61 s 2 v5 x0
    else
      u_X29_isAllowed_66 s x0 v1 v5
noncomputable def m_X29_isAllowed : jS → Int → Int → Option (jS × Int) := Classical.choose (⟨dm_X29_isAllowed, rfl⟩ : ∃ f, f = dm_X29_isAllowed)
theorem em_X29_isAllowed : m_X29_isAllowed = dm_X29_isAllowed := Classical.choose_spec (⟨dm_X29_isAllowed, rfl⟩ : ∃ f, f = dm_X29_isAllowed)
def du_X29_does_339 (s : jS) (x0 x4 : Int) : Option (jS × Int) :=
  jls (jp s 33 x0 10 x4) fun s1 =>
  some (s1, 0)
noncomputable def u_X29_does_339 : jS → Int → Int → Option (jS × Int) := Classical.choose (⟨du_X29_does_339, rfl⟩ : ∃ f, f = du_X29_does_339)
theorem eu_X29_does_339 : u_X29_does_339 = du_X29_does_339 := Classical.choose_spec (⟨du_X29_does_339, rfl⟩ : ∃ f, f = du_X29_does_339)
def du_X29_does_310 (s : jS) (x0 x1 x2 x3 x4 x6 : Int) : Option (jS × Int) :=
  if x6 < 27 then
    u_X29_does_339 s x0 x4
  else
    if x6 < 45 then
      (jrd s 34 x1 1).bind fun v1 =>
      (m_X29_reckoned s x6 x2 x3).bind fun v2 =>
      (m_X29_put s x0 v1 v2).bind fun q3 =>
      u_X29_does_339 q3.1 x0 x4
    else
      u_X29_does_339 s x0 x4
noncomputable def u_X29_does_310 : jS → Int → Int → Int → Int → Int → Int → Option (jS × Int) := Classical.choose (⟨du_X29_does_310, rfl⟩ : ∃ f, f = du_X29_does_310)
theorem eu_X29_does_310 : u_X29_does_310 = du_X29_does_310 := Classical.choose_spec (⟨du_X29_does_310, rfl⟩ : ∃ f, f = du_X29_does_310)
def du_X29_does_272 (s : jS) (x0 x1 x2 x3 x4 x6 : Int) : Option (jS × Int) :=
  if x6 < 18 then
    u_X29_does_310 s x0 x1 x2 x3 x4 x6
  else
    if x6 < 27 then
      (jrd s 34 x1 1).bind fun v1 =>
      (m_X29_asRow s x6).bind fun v2 =>
      (jrd s 34 x1 4).bind fun v3 =>
      (m_X29_reckoned s v2 x2 v3).bind fun v4 =>
      (m_X29_put s x0 v1 v4).bind fun q5 =>
      u_X29_does_339 q5.1 x0 x4
    else
      u_X29_does_310 s x0 x1 x2 x3 x4 x6
noncomputable def u_X29_does_272 : jS → Int → Int → Int → Int → Int → Int → Option (jS × Int) := Classical.choose (⟨du_X29_does_272, rfl⟩ : ∃ f, f = du_X29_does_272)
theorem eu_X29_does_272 : u_X29_does_272 = du_X29_does_272 := Classical.choose_spec (⟨du_X29_does_272, rfl⟩ : ∃ f, f = du_X29_does_272)
def du_X29_does_230 (s : jS) (x0 x4 y0 y1 y2 y3 : Int) : Option (jS × Int) :=
  (m_X29_put s y3 y2 (W32 (y1 + y0))).bind fun q1 =>
  u_X29_does_339 q1.1 x0 x4
noncomputable def u_X29_does_230 : jS → Int → Int → Int → Int → Int → Int → Option (jS × Int) := Classical.choose (⟨du_X29_does_230, rfl⟩ : ∃ f, f = du_X29_does_230)
theorem eu_X29_does_230 : u_X29_does_230 = du_X29_does_230 := Classical.choose_spec (⟨du_X29_does_230, rfl⟩ : ∃ f, f = du_X29_does_230)
def du_X29_does_200 (s : jS) (x0 x1 x2 x3 x4 x5 x6 : Int) : Option (jS × Int) :=
  if x6 < 2 then
    (jrd s 34 x1 1).bind fun v1 =>
    (jrd s 34 x1 4).bind fun v2 =>
    if x6 = 1 then
      u_X29_does_230 s x0 x4 x5 (I_shl v2 12) v1 x0
    else
      u_X29_does_230 s x0 x4 0 (I_shl v2 12) v1 x0
  else
    if x6 < 15 then
      u_X29_does_272 s x0 x1 x2 x3 x4 x6
    else
      if x6 < 18 then
        (jrd s 34 x1 4).bind fun v3 =>
        (m_X29_store s x0 (W32 (x2 + v3)) (I_shl 1 (W32 (x6 - 15))) x3).bind fun q4 =>
        u_X29_does_339 q4.1 x0 x4
      else
        u_X29_does_272 s x0 x1 x2 x3 x4 x6
noncomputable def u_X29_does_200 : jS → Int → Int → Int → Int → Int → Int → Int → Option (jS × Int) := Classical.choose (⟨du_X29_does_200, rfl⟩ : ∃ f, f = du_X29_does_200)
theorem eu_X29_does_200 : u_X29_does_200 = du_X29_does_200 := Classical.choose_spec (⟨du_X29_does_200, rfl⟩ : ∃ f, f = du_X29_does_200)
def du_X29_does_157 (s : jS) (y0 y1 : Int) : Option (jS × Int) :=
  (m_X29_jumps s y1 y0).bind fun q1 =>
  some (q1.1, 0)
noncomputable def u_X29_does_157 : jS → Int → Int → Option (jS × Int) := Classical.choose (⟨du_X29_does_157, rfl⟩ : ∃ f, f = du_X29_does_157)
theorem eu_X29_does_157 : u_X29_does_157 = du_X29_does_157 := Classical.choose_spec (⟨du_X29_does_157, rfl⟩ : ∃ f, f = du_X29_does_157)
def du_X29_does_121 (s : jS) (x0 x1 x2 x4 x5 x6 : Int) : Option (jS × Int) :=
  (jrd s 34 x1 1).bind fun v1 =>
  (m_X29_put s x0 v1 x4).bind fun q2 =>
  if x6 = 2 then
    (jrd q2.1 34 x1 4).bind fun v3 =>
    u_X29_does_157 q2.1 (W32 (x5 + v3)) x0
  else
    (jrd q2.1 34 x1 4).bind fun v4 =>
    u_X29_does_157 q2.1 (I_and (W32 (x2 + v4)) (-2)) x0
noncomputable def u_X29_does_121 : jS → Int → Int → Int → Int → Int → Int → Option (jS × Int) := Classical.choose (⟨du_X29_does_121, rfl⟩ : ∃ f, f = du_X29_does_121)
theorem eu_X29_does_121 : u_X29_does_121 = du_X29_does_121 := Classical.choose_spec (⟨du_X29_does_121, rfl⟩ : ∃ f, f = du_X29_does_121)
def du_X29_does_73 (s : jS) (x0 x1 x2 x3 x4 x5 x6 : Int) : Option (jS × Int) :=
  if x6 = 46 then
    (m_X29_serves s x0 x4).bind fun q1 =>
    some (q1.1, 0)
  else
    if x6 = 47 then
      (m_X29_fails s x0 6 (jf s 33 x0 10)).bind fun q2 =>
      some (q2.1, 0)
    else
      if x6 = 2 then
        u_X29_does_121 s x0 x1 x2 x4 x5 x6
      else
        if x6 = 3 then
          u_X29_does_121 s x0 x1 x2 x4 x5 x6
        else
          if x6 < 4 then
            u_X29_does_200 s x0 x1 x2 x3 x4 x5 x6
          else
            if x6 < 10 then
              (m_X29_holds s x6 x2 x3).bind fun v3 =>
              if v3 = 0 then
                u_X29_does_200 s x0 x1 x2 x3 x4 x5 x6
              else
                (jrd s 34 x1 4).bind fun v4 =>
                (m_X29_jumps s x0 (W32 (x5 + v4))).bind fun q5 =>
                some (q5.1, 0)
            else
              u_X29_does_200 s x0 x1 x2 x3 x4 x5 x6
noncomputable def u_X29_does_73 : jS → Int → Int → Int → Int → Int → Int → Int → Option (jS × Int) := Classical.choose (⟨du_X29_does_73, rfl⟩ : ∃ f, f = du_X29_does_73)
theorem eu_X29_does_73 : u_X29_does_73 = du_X29_does_73 := Classical.choose_spec (⟨du_X29_does_73, rfl⟩ : ∃ f, f = du_X29_does_73)
def dm_X29_does (s : jS) (x0 x1 : Int) : Option (jS × Int) :=
  (jrd s 34 x1 2).bind fun v1 =>
  (jlt s 1000 (x0 + 4) 32 v1).bind fun v2 =>
  (jrd s 34 x1 3).bind fun v3 =>
  (jlt s 1000 (x0 + 4) 32 v3).bind fun v4 =>
  (jrd s 34 x1 5).bind fun v5 =>
  jlet (W32 ((jf s 33 x0 10) + v5)) fun v6 =>
  (jrd s 34 x1 0).bind fun v7 =>
  if v7 < 10 then
    u_X29_does_73 s x0 x1 v2 v4 v6 (jf s 33 x0 10) v7
  else
    if v7 < 15 then
      (jrd s 34 x1 4).bind fun v8 =>
      (m_X29_loads s x0 x1 (W32 (v2 + v8)) v6).bind fun q9 =>
      some (q9.1, 0)
    else
      u_X29_does_73 s x0 x1 v2 v4 v6 (jf s 33 x0 10) v7
noncomputable def m_X29_does : jS → Int → Int → Option (jS × Int) := Classical.choose (⟨dm_X29_does, rfl⟩ : ∃ f, f = dm_X29_does)
theorem em_X29_does : m_X29_does = dm_X29_does := Classical.choose_spec (⟨dm_X29_does, rfl⟩ : ∃ f, f = dm_X29_does)
def du_X33_newSymbol_15 (s : jS) (x0 x1 y0 y1 : Int) : Option (jS × Bool × Int) :=
  (m_X33_need s y1 y0 18).bind fun q1 =>
  jth q1.2.1 (some (q1.1, true, q1.2.2)) <|
  (jix 100 (jf q1.1 37 x0 25) ((x0 + 1) + 26 + 1 * (jf q1.1 37 x0 25))).bind fun v2 =>
  (m_X34_begin q1.1 v2 x1).bind fun q3 =>
  jls (jp q3.1 37 x0 25 (W32 ((jf q3.1 37 x0 25) + 1))) fun s4 =>
  some (s4, false, W32 ((jf s4 37 x0 25) - 1))
noncomputable def u_X33_newSymbol_15 : jS → Int → Int → Int → Int → Option (jS × Bool × Int) := Classical.choose (⟨du_X33_newSymbol_15, rfl⟩ : ∃ f, f = du_X33_newSymbol_15)
theorem eu_X33_newSymbol_15 : u_X33_newSymbol_15 = du_X33_newSymbol_15 := Classical.choose_spec (⟨du_X33_newSymbol_15, rfl⟩ : ∃ f, f = du_X33_newSymbol_15)
def dm_X33_newSymbol (s : jS) (x0 x1 : Int) : Option (jS × Bool × Int) :=
  if (jf s 37 x0 25) < 100 then
    u_X33_newSymbol_15 s x0 x1 1 x0
  else
    u_X33_newSymbol_15 s x0 x1 0 x0
noncomputable def m_X33_newSymbol : jS → Int → Int → Option (jS × Bool × Int) := Classical.choose (⟨dm_X33_newSymbol, rfl⟩ : ∃ f, f = dm_X33_newSymbol)
theorem em_X33_newSymbol : m_X33_newSymbol = dm_X33_newSymbol := Classical.choose_spec (⟨dm_X33_newSymbol, rfl⟩ : ∃ f, f = dm_X33_newSymbol)
def dm_X33_hiddenSymbol (s : jS) (x0 : Int) : Option (jS × Bool × Int) :=
  (m_X33_newSymbol s x0 (W32 ((-1) - (jf s 37 x0 26)))).bind fun q1 =>
  jth q1.2.1 (some (q1.1, true, q1.2.2)) <|
  jls (jp q1.1 37 x0 26 (W32 ((jf q1.1 37 x0 26) + 1))) fun s2 =>
  some (s2, false, q1.2.2)
noncomputable def m_X33_hiddenSymbol : jS → Int → Option (jS × Bool × Int) := Classical.choose (⟨dm_X33_hiddenSymbol, rfl⟩ : ∃ f, f = dm_X33_hiddenSymbol)
theorem em_X33_hiddenSymbol : m_X33_hiddenSymbol = dm_X33_hiddenSymbol := Classical.choose_spec (⟨dm_X33_hiddenSymbol, rfl⟩ : ∃ f, f = dm_X33_hiddenSymbol)
def dm_X33_isName (s : jS) (x0 x1 : Int) : Option (Int) :=
  (m_X33_isExpression s x0 x1).bind fun v1 =>
  if v1 = 0 then
    some (Wz 0)
  else
    (m_X11_operand s (x0 + (-3890)) (W32 ((jf s 37 x0 34) + x1)) 4).bind fun v2 =>
    if v2 = 1 then
      (m_X11_operand s (x0 + (-3890)) (W32 ((jf s 37 x0 34) + x1)) 3).bind fun v3 =>
      (m_X11_item s (x0 + (-3890)) v3 0).bind fun v4 =>
      if v4 = 1 then
        some (Wz 1)
      else
        some (Wz 0)
    else
      some (Wz 0)
noncomputable def m_X33_isName : jS → Int → Int → Option (Int) := Classical.choose (⟨dm_X33_isName, rfl⟩ : ∃ f, f = dm_X33_isName)
theorem em_X33_isName : m_X33_isName = dm_X33_isName := Classical.choose_spec (⟨dm_X33_isName, rfl⟩ : ∃ f, f = dm_X33_isName)
def du_X33_local_51 (s : jS) (x0 x1 : Int) : Option (jS × Bool × Int) :=
  (jlt s 1000 (x0 + 16) 10 x1).bind fun v1 =>
  some (s, false, v1)
noncomputable def u_X33_local_51 : jS → Int → Int → Option (jS × Bool × Int) := Classical.choose (⟨du_X33_local_51, rfl⟩ : ∃ f, f = du_X33_local_51)
theorem eu_X33_local_51 : u_X33_local_51 = du_X33_local_51 := Classical.choose_spec (⟨du_X33_local_51, rfl⟩ : ∃ f, f = du_X33_local_51)
def dm_X33_local (s : jS) (x0 x1 x2 x3 : Int) : Option (jS × Bool × Int) :=
  if x2 = 0 then
    (jlt s 1000 (x0 + 15) 10 x1).bind fun v1 =>
    some (s, false, v1)
  else
    (jlt s 1000 (x0 + 16) 10 x1).bind fun v2 =>
    if v2 = (-1) then
      (m_X33_hiddenSymbol s x0).bind fun q3 =>
      jth q3.2.1 (some (q3.1, true, q3.2.2)) <|
      (jst q3.1 1000 (x0 + 16) 10 x1 q3.2.2).bind fun s4 =>
      (m_X11_operand s4 (x0 + (-3890)) (W32 ((jf s4 37 x0 34) + x3)) 5).bind fun v5 =>
      (jst s4 1000 (x0 + 17) 10 x1 v5).bind fun s6 =>
      u_X33_local_51 s6 x0 x1
    else
      u_X33_local_51 s x0 x1
noncomputable def m_X33_local : jS → Int → Int → Int → Int → Option (jS × Bool × Int) := Classical.choose (⟨dm_X33_local, rfl⟩ : ∃ f, f = dm_X33_local)
theorem em_X33_local : m_X33_local = dm_X33_local := Classical.choose_spec (⟨dm_X33_local, rfl⟩ : ∃ f, f = dm_X33_local)
def du_X33_hereSymbol_33 (s : jS) (x0 : Int) : Option (jS × Bool × Int) :=
  some (s, false, jf s 37 x0 31)
noncomputable def u_X33_hereSymbol_33 : jS → Int → Option (jS × Bool × Int) := Classical.choose (⟨du_X33_hereSymbol_33, rfl⟩ : ∃ f, f = du_X33_hereSymbol_33)
theorem eu_X33_hereSymbol_33 : u_X33_hereSymbol_33 = du_X33_hereSymbol_33 := Classical.choose_spec (⟨du_X33_hereSymbol_33, rfl⟩ : ∃ f, f = du_X33_hereSymbol_33)
def dm_X33_hereSymbol (s : jS) (x0 : Int) : Option (jS × Bool × Int) :=
  if (jf s 37 x0 31) = (-1) then
    (m_X33_hiddenSymbol s x0).bind fun q1 =>
    jth q1.2.1 (some (q1.1, true, q1.2.2)) <|
    jls (jp q1.1 37 x0 31 q1.2.2) fun s2 =>
    (m_X33_define s2 x0 (jf s2 37 x0 31) (jf s2 37 x0 30) (jf s2 37 x0 32) 0).bind fun q3 =>
    jth q3.2.1 (some (q3.1, true, q3.2.2)) <|
    u_X33_hereSymbol_33 q3.1 x0
  else
    u_X33_hereSymbol_33 s x0
noncomputable def m_X33_hereSymbol : jS → Int → Option (jS × Bool × Int) := Classical.choose (⟨dm_X33_hereSymbol, rfl⟩ : ∃ f, f = dm_X33_hereSymbol)
theorem em_X33_hereSymbol : m_X33_hereSymbol = dm_X33_hereSymbol := Classical.choose_spec (⟨dm_X33_hereSymbol, rfl⟩ : ∃ f, f = dm_X33_hereSymbol)
def b_X33_putNumber_2 (s : jS) (x0 x1 x2 x3 : Int) : Option ((jS × List Int) ⊕ (jS × Bool × Int)) :=
  if x3 < x2 then
    (m_X33_put s x0 (I_shr x1 (W32 (8 * x3)))).bind fun q1 =>
    jth q1.2.1 (jinr (some (q1.1, true, q1.2.2))) <|
    some (.inl (q1.1, [x0, x1, x2, W32 (x3 + 1)]))
  else
    jinr (some (s, false, 0))
def du_X33_putNumber_2 (s : jS) (x0 x1 x2 x3 : Int) : Option (jS × Bool × Int) := jlpW (jc4 b_X33_putNumber_2) [x0, x1, x2, x3] s
noncomputable def u_X33_putNumber_2 : jS → Int → Int → Int → Int → Option (jS × Bool × Int) := Classical.choose (⟨du_X33_putNumber_2, rfl⟩ : ∃ f, f = du_X33_putNumber_2)
theorem eu_X33_putNumber_2 : u_X33_putNumber_2 = du_X33_putNumber_2 := Classical.choose_spec (⟨du_X33_putNumber_2, rfl⟩ : ∃ f, f = du_X33_putNumber_2)
def dm_X33_putNumber (s : jS) (x0 x1 x2 : Int) : Option (jS × Bool × Int) :=
  u_X33_putNumber_2 s x0 x1 x2 0
noncomputable def m_X33_putNumber : jS → Int → Int → Int → Option (jS × Bool × Int) := Classical.choose (⟨dm_X33_putNumber, rfl⟩ : ∃ f, f = dm_X33_putNumber)
theorem em_X33_putNumber : m_X33_putNumber = dm_X33_putNumber := Classical.choose_spec (⟨dm_X33_putNumber, rfl⟩ : ∃ f, f = dm_X33_putNumber)
def dm_X35_init (s : jS) (x0 x1 x2 x3 : Int) : Option (jS × Int) :=
  jck0 x0 <|
  (jnw s 40 20 (jdf 40)).bind fun q1 =>
  (jck0 q1.2 (m_X36_init q1.1 q1.2)).bind fun q2 =>
  (jwr q2.1 39 x0 3 q1.2).bind fun s3 =>
  (jna s3 1000 6 0).bind fun q4 =>
  (jwr q4.1 39 x0 4 q4.2).bind fun s5 =>
  (jna s5 1000 600 0).bind fun q6 =>
  (jwr q6.1 39 x0 9 q6.2).bind fun s7 =>
  (jna s7 1000 600 0).bind fun q8 =>
  (jwr q8.1 39 x0 10 q8.2).bind fun s9 =>
  (jna s9 1000 600 0).bind fun q10 =>
  (jwr q10.1 39 x0 11 q10.2).bind fun s11 =>
  (jna s11 1000 600 0).bind fun q12 =>
  (jwr q12.1 39 x0 12 q12.2).bind fun s13 =>
  (jna s13 1000 600 0).bind fun q14 =>
  (jwr q14.1 39 x0 13 q14.2).bind fun s15 =>
  (jna s15 1000 600 0).bind fun q16 =>
  (jwr q16.1 39 x0 14 q16.2).bind fun s17 =>
  (jna s17 1000 600 0).bind fun q18 =>
  (jwr q18.1 39 x0 15 q18.2).bind fun s19 =>
  (jna s19 1000 600 0).bind fun q20 =>
  (jwr q20.1 39 x0 16 q20.2).bind fun s21 =>
  (jna s21 1000 600 0).bind fun q22 =>
  (jwr q22.1 39 x0 17 q22.2).bind fun s23 =>
  (jna s23 1000 600 0).bind fun q24 =>
  (jwr q24.1 39 x0 18 q24.2).bind fun s25 =>
  (jna s25 1000 600 0).bind fun q26 =>
  (jwr q26.1 39 x0 19 q26.2).bind fun s27 =>
  (jna s27 1000 256 0).bind fun q28 =>
  (jwr q28.1 39 x0 21 q28.2).bind fun s29 =>
  (jna s29 1000 256 0).bind fun q30 =>
  (jwr q30.1 39 x0 22 q30.2).bind fun s31 =>
  (jna s31 1000 256 0).bind fun q32 =>
  (jwr q32.1 39 x0 23 q32.2).bind fun s33 =>
  (jna s33 1000 256 0).bind fun q34 =>
  (jwr q34.1 39 x0 24 q34.2).bind fun s35 =>
  (jna s35 1000 32 0).bind fun q36 =>
  (jwr q36.1 39 x0 25 q36.2).bind fun s37 =>
  (jna s37 1000 32 0).bind fun q38 =>
  (jwr q38.1 39 x0 26 q38.2).bind fun s39 =>
  (jna s39 1000 64 0).bind fun q40 =>
  (jwr q40.1 39 x0 27 q40.2).bind fun s41 =>
  (jna s41 1000 64 0).bind fun q42 =>
  (jwr q42.1 39 x0 28 q42.2).bind fun s43 =>
  (jmna s43 4096).bind fun q44 =>
  (jwr q44.1 39 x0 32 q44.2).bind fun s45 =>
  (jna s45 1002 2049 0).bind fun q46 =>
  (jwr q46.1 39 x0 34 q46.2).bind fun s47 =>
  (jna s47 1001 9600 0).bind fun q48 =>
  (jwr q48.1 39 x0 42 q48.2).bind fun s49 =>
  (jna s49 1000 600 0).bind fun q50 =>
  (jwr q50.1 39 x0 43 q50.2).bind fun s51 =>
  (jna s51 1000 600 0).bind fun q52 =>
  (jwr q52.1 39 x0 44 q52.2).bind fun s53 =>
  (jwr s53 39 x0 0 x1).bind fun s54 =>
  (jwr s54 39 x0 1 x2).bind fun s55 =>
  (jwr s55 39 x0 2 x3).bind fun s56 =>
  some (s56, 0)
noncomputable def m_X35_init : jS → Int → Int → Int → Int → Option (jS × Int) := Classical.choose (⟨dm_X35_init, rfl⟩ : ∃ f, f = dm_X35_init)
theorem em_X35_init : m_X35_init = dm_X35_init := Classical.choose_spec (⟨dm_X35_init, rfl⟩ : ∃ f, f = dm_X35_init)
def du_X35_nameAll_285 (s : jS) (x0 x1 : Int) : Option ((jS × List Int) ⊕ (jS × Bool × Int)) :=
  some (.inl (s, [x0, W32 (x1 + 1)]))
noncomputable def u_X35_nameAll_285 : jS → Int → Int → Option ((jS × List Int) ⊕ (jS × Bool × Int)) := Classical.choose (⟨du_X35_nameAll_285, rfl⟩ : ∃ f, f = du_X35_nameAll_285)
theorem eu_X35_nameAll_285 : u_X35_nameAll_285 = du_X35_nameAll_285 := Classical.choose_spec (⟨du_X35_nameAll_285, rfl⟩ : ∃ f, f = du_X35_nameAll_285)
def b_X35_nameAll_251 (s : jS) (x0 x1 : Int) : Option ((jS × List Int) ⊕ (jS × Bool × Int)) :=
  if x1 < (jf s 39 x0 20) then
    (jlt s 1000 (x0 + 17) 600 x1).bind fun v1 =>
    if v1 = 4 then
      (jlt s 1000 (x0 + 20) 600 x1).bind fun v2 =>
      if 0 < v2 then
        (jst s 1000 (x0 + 17) 600 x1 1).bind fun s3 =>
        u_X35_nameAll_285 s3 x0 x1
      else
        u_X35_nameAll_285 s x0 x1
    else
      u_X35_nameAll_285 s x0 x1
  else
    jinr (some (s, false, 0))
def du_X35_nameAll_251 (s : jS) (x0 x1 : Int) : Option (jS × Bool × Int) := jlpW (jc2 b_X35_nameAll_251) [x0, x1] s
noncomputable def u_X35_nameAll_251 : jS → Int → Int → Option (jS × Bool × Int) := Classical.choose (⟨du_X35_nameAll_251, rfl⟩ : ∃ f, f = du_X35_nameAll_251)
theorem eu_X35_nameAll_251 : u_X35_nameAll_251 = du_X35_nameAll_251 := Classical.choose_spec (⟨du_X35_nameAll_251, rfl⟩ : ∃ f, f = du_X35_nameAll_251)
def du_X35_nameAll_249 (s : jS) (x0 : Int) : Option (jS × Bool × Int) :=
  u_X35_nameAll_251 s x0 0
noncomputable def u_X35_nameAll_249 : jS → Int → Option (jS × Bool × Int) := Classical.choose (⟨du_X35_nameAll_249, rfl⟩ : ∃ f, f = du_X35_nameAll_249)
theorem eu_X35_nameAll_249 : u_X35_nameAll_249 = du_X35_nameAll_249 := Classical.choose_spec (⟨du_X35_nameAll_249, rfl⟩ : ∃ f, f = du_X35_nameAll_249)
def du_X35_nameAll_162 (s : jS) (x0 x2 x3 : Int) : Option (jS × Bool × Int) :=
  (m_X35_wrong s x0 3 x2 x3).bind fun q1 =>
  jck0 q1.2 (some (q1.1, true, q1.2))
noncomputable def u_X35_nameAll_162 : jS → Int → Int → Int → Option (jS × Bool × Int) := Classical.choose (⟨du_X35_nameAll_162, rfl⟩ : ∃ f, f = du_X35_nameAll_162)
theorem eu_X35_nameAll_162 : u_X35_nameAll_162 = du_X35_nameAll_162 := Classical.choose_spec (⟨du_X35_nameAll_162, rfl⟩ : ∃ f, f = du_X35_nameAll_162)
def du_X35_nameAll_243 (s : jS) (x0 x1 : Int) : Option ((jS × List Int) ⊕ (jS × Bool × Int)) :=
  some (.inl (s, [x0, W32 (x1 + 1)]))
noncomputable def u_X35_nameAll_243 : jS → Int → Int → Option ((jS × List Int) ⊕ (jS × Bool × Int)) := Classical.choose (⟨du_X35_nameAll_243, rfl⟩ : ∃ f, f = du_X35_nameAll_243)
theorem eu_X35_nameAll_243 : u_X35_nameAll_243 = du_X35_nameAll_243 := Classical.choose_spec (⟨du_X35_nameAll_243, rfl⟩ : ∃ f, f = du_X35_nameAll_243)
def du_X35_nameAll_237 (s : jS) (x0 x1 x2 x3 : Int) : Option ((jS × List Int) ⊕ ((jS × List Int) ⊕ (jS × Bool × Int))) :=
  some (.inl (s, [x0, x1, x2, W32 (x3 + 1)]))
noncomputable def u_X35_nameAll_237 : jS → Int → Int → Int → Int → Option ((jS × List Int) ⊕ ((jS × List Int) ⊕ (jS × Bool × Int))) := Classical.choose (⟨du_X35_nameAll_237, rfl⟩ : ∃ f, f = du_X35_nameAll_237)
theorem eu_X35_nameAll_237 : u_X35_nameAll_237 = du_X35_nameAll_237 := Classical.choose_spec (⟨du_X35_nameAll_237, rfl⟩ : ∃ f, f = du_X35_nameAll_237)
def du_X35_nameAll_184 (s : jS) (x0 x1 x2 x3 x4 x5 : Int) : Option ((jS × List Int) ⊕ ((jS × List Int) ⊕ (jS × Bool × Int))) :=
  (jrd s 20 x4 1).bind fun v1 =>
  if v1 = 5 then
    (jlt s 1000 (x0 + 20) 600 x5).bind fun v2 =>
    (jrd s 20 x4 3).bind fun v3 =>
    (jst s 1000 (x0 + 20) 600 x5 (jmx v2 v3)).bind fun s4 =>
    (jlt s4 1000 (x0 + 21) 600 x5).bind fun v5 =>
    (jrd s4 20 x4 2).bind fun v6 =>
    (jst s4 1000 (x0 + 21) 600 x5 (jmx v5 v6)).bind fun s7 =>
    u_X35_nameAll_237 s7 x0 x1 x2 x3
  else
    u_X35_nameAll_237 s x0 x1 x2 x3
noncomputable def u_X35_nameAll_184 : jS → Int → Int → Int → Int → Int → Int → Option ((jS × List Int) ⊕ ((jS × List Int) ⊕ (jS × Bool × Int))) := Classical.choose (⟨du_X35_nameAll_184, rfl⟩ : ∃ f, f = du_X35_nameAll_184)
theorem eu_X35_nameAll_184 : u_X35_nameAll_184 = du_X35_nameAll_184 := Classical.choose_spec (⟨du_X35_nameAll_184, rfl⟩ : ∃ f, f = du_X35_nameAll_184)
def du_X35_nameAll_170 (s : jS) (x0 x1 x2 x3 x4 x5 x7 : Int) : Option ((jS × List Int) ⊕ ((jS × List Int) ⊕ (jS × Bool × Int))) :=
  if x7 = 0 then
    u_X35_nameAll_184 s x0 x1 x2 x3 x4 x5
  else
    (m_X35_means s x0 x5 0 x2 x3).bind fun q1 =>
    u_X35_nameAll_184 q1.1 x0 x1 x2 x3 x4 x5
noncomputable def u_X35_nameAll_170 : jS → Int → Int → Int → Int → Int → Int → Int → Option ((jS × List Int) ⊕ ((jS × List Int) ⊕ (jS × Bool × Int))) := Classical.choose (⟨du_X35_nameAll_170, rfl⟩ : ∃ f, f = du_X35_nameAll_170)
theorem eu_X35_nameAll_170 : u_X35_nameAll_170 = du_X35_nameAll_170 := Classical.choose_spec (⟨du_X35_nameAll_170, rfl⟩ : ∃ f, f = du_X35_nameAll_170)
def du_X35_nameAll_145 (s : jS) (x0 x1 x2 x3 x4 x5 y0 : Int) : Option ((jS × List Int) ⊕ ((jS × List Int) ⊕ (jS × Bool × Int))) :=
  if y0 = 0 then
    u_X35_nameAll_170 s x0 x1 x2 x3 x4 x5 y0
  else
    (jlt s 1000 (x0 + 17) 600 x5).bind fun v1 =>
    if v1 = 0 then
      jinr (jinr (u_X35_nameAll_162 s x0 x2 x3))
    else
      u_X35_nameAll_170 s x0 x1 x2 x3 x4 x5 y0
noncomputable def u_X35_nameAll_145 : jS → Int → Int → Int → Int → Int → Int → Int → Option ((jS × List Int) ⊕ ((jS × List Int) ⊕ (jS × Bool × Int))) := Classical.choose (⟨du_X35_nameAll_145, rfl⟩ : ∃ f, f = du_X35_nameAll_145)
theorem eu_X35_nameAll_145 : u_X35_nameAll_145 = du_X35_nameAll_145 := Classical.choose_spec (⟨du_X35_nameAll_145, rfl⟩ : ∃ f, f = du_X35_nameAll_145)
def du_X35_nameAll_144 (s : jS) (x0 x1 x2 x3 x4 x5 : Int) : Option ((jS × List Int) ⊕ ((jS × List Int) ⊕ (jS × Bool × Int))) :=
  u_X35_nameAll_145 s x0 x1 x2 x3 x4 x5 0
noncomputable def u_X35_nameAll_144 : jS → Int → Int → Int → Int → Int → Int → Option ((jS × List Int) ⊕ ((jS × List Int) ⊕ (jS × Bool × Int))) := Classical.choose (⟨du_X35_nameAll_144, rfl⟩ : ∃ f, f = du_X35_nameAll_144)
theorem eu_X35_nameAll_144 : u_X35_nameAll_144 = du_X35_nameAll_144 := Classical.choose_spec (⟨du_X35_nameAll_144, rfl⟩ : ∃ f, f = du_X35_nameAll_144)
def du_X35_nameAll_124 (s : jS) (x0 x1 x2 x3 x4 x5 y0 : Int) : Option ((jS × List Int) ⊕ ((jS × List Int) ⊕ (jS × Bool × Int))) :=
  (jrd s 20 x4 4).bind fun v1 =>
  if v1 = 1 then
    if y0 = 0 then
      u_X35_nameAll_144 s x0 x1 x2 x3 x4 x5
    else
      u_X35_nameAll_145 s x0 x1 x2 x3 x4 x5 1
  else
    u_X35_nameAll_144 s x0 x1 x2 x3 x4 x5
noncomputable def u_X35_nameAll_124 : jS → Int → Int → Int → Int → Int → Int → Int → Option ((jS × List Int) ⊕ ((jS × List Int) ⊕ (jS × Bool × Int))) := Classical.choose (⟨du_X35_nameAll_124, rfl⟩ : ∃ f, f = du_X35_nameAll_124)
theorem eu_X35_nameAll_124 : u_X35_nameAll_124 = du_X35_nameAll_124 := Classical.choose_spec (⟨du_X35_nameAll_124, rfl⟩ : ∃ f, f = du_X35_nameAll_124)
def du_X35_nameAll_123 (s : jS) (x0 x1 x2 x3 x4 x5 : Int) : Option ((jS × List Int) ⊕ ((jS × List Int) ⊕ (jS × Bool × Int))) :=
  u_X35_nameAll_124 s x0 x1 x2 x3 x4 x5 0
noncomputable def u_X35_nameAll_123 : jS → Int → Int → Int → Int → Int → Int → Option ((jS × List Int) ⊕ ((jS × List Int) ⊕ (jS × Bool × Int))) := Classical.choose (⟨du_X35_nameAll_123, rfl⟩ : ∃ f, f = du_X35_nameAll_123)
theorem eu_X35_nameAll_123 : u_X35_nameAll_123 = du_X35_nameAll_123 := Classical.choose_spec (⟨du_X35_nameAll_123, rfl⟩ : ∃ f, f = du_X35_nameAll_123)
def b_X35_nameAll_24 (s : jS) (x0 x1 x2 x3 : Int) : Option ((jS × List Int) ⊕ ((jS × List Int) ⊕ (jS × Bool × Int))) :=
  (jix 6 x2 ((x0 + (-4000)) + 4041 + 1858 * x2)).bind fun v1 =>
  (m_X13_count s v1 1).bind fun v2 =>
  if x3 < v2 then
    (m_X35_symbol s x0 x2 x3).bind fun v3 =>
    (jst s 1000 (x0 + 14) 600 (W32 ((W32 (100 * x2)) + x3)) (-1)).bind fun s4 =>
    (jst s4 1000 (x0 + 24) 600 (W32 ((W32 (100 * x2)) + x3)) (-1)).bind fun s5 =>
    (jrd s5 20 v3 4).bind fun v6 =>
    if v6 = 0 then
      u_X35_nameAll_237 s5 x0 x1 x2 x3
    else
      (m_X35_globalFor s5 x0 x2 x3).bind fun q7 =>
      (jst q7.1 1000 (x0 + 14) 600 (W32 ((W32 (100 * x2)) + x3)) q7.2).bind fun s8 =>
      (jrd s8 20 v3 1).bind fun v9 =>
      if v9 < 0 then
        u_X35_nameAll_123 s8 x0 x1 x2 x3 v3 q7.2
      else
        (jrd s8 20 v3 1).bind fun v10 =>
        if 4 < v10 then
          u_X35_nameAll_123 s8 x0 x1 x2 x3 v3 q7.2
        else
          u_X35_nameAll_124 s8 x0 x1 x2 x3 v3 q7.2 1
  else
    jinr (u_X35_nameAll_243 s x0 x1)
def du_X35_nameAll_24 (s : jS) (x0 x1 x2 x3 : Int) : Option ((jS × List Int) ⊕ (jS × Bool × Int)) := jlpW (jc4 b_X35_nameAll_24) [x0, x1, x2, x3] s
noncomputable def u_X35_nameAll_24 : jS → Int → Int → Int → Int → Option ((jS × List Int) ⊕ (jS × Bool × Int)) := Classical.choose (⟨du_X35_nameAll_24, rfl⟩ : ∃ f, f = du_X35_nameAll_24)
theorem eu_X35_nameAll_24 : u_X35_nameAll_24 = du_X35_nameAll_24 := Classical.choose_spec (⟨du_X35_nameAll_24, rfl⟩ : ∃ f, f = du_X35_nameAll_24)
def b_X35_nameAll_7 (s : jS) (x0 x1 : Int) : Option ((jS × List Int) ⊕ (jS × Bool × Int)) :=
  if x1 < (jf s 39 x0 5) then
    (jlt s 1000 (x0 + 13) 6 x1).bind fun v1 =>
    u_X35_nameAll_24 s x0 x1 v1 0
  else
    jinr (u_X35_nameAll_249 s x0)
def du_X35_nameAll_7 (s : jS) (x0 x1 : Int) : Option (jS × Bool × Int) := jlpW (jc2 b_X35_nameAll_7) [x0, x1] s
noncomputable def u_X35_nameAll_7 : jS → Int → Int → Option (jS × Bool × Int) := Classical.choose (⟨du_X35_nameAll_7, rfl⟩ : ∃ f, f = du_X35_nameAll_7)
theorem eu_X35_nameAll_7 : u_X35_nameAll_7 = du_X35_nameAll_7 := Classical.choose_spec (⟨du_X35_nameAll_7, rfl⟩ : ∃ f, f = du_X35_nameAll_7)
def dm_X35_nameAll (s : jS) (x0 : Int) : Option (jS × Bool × Int) :=
  jls (jp s 39 x0 20 0) fun s1 =>
  u_X35_nameAll_7 s1 x0 0
noncomputable def m_X35_nameAll : jS → Int → Option (jS × Bool × Int) := Classical.choose (⟨dm_X35_nameAll, rfl⟩ : ∃ f, f = dm_X35_nameAll)
theorem em_X35_nameAll : m_X35_nameAll = dm_X35_nameAll := Classical.choose_spec (⟨dm_X35_nameAll, rfl⟩ : ∃ f, f = dm_X35_nameAll)
def dm_X35_part (s : jS) (x0 x1 x2 : Int) : Option (jS × Bool × Int) :=
  (m_X35_powerOf s x2).bind fun v1 =>
  (m_X36_part s (x0 + 1) x1 v1).bind fun q2 =>
  if q2.2 = (-1) then
    (m_X35_wrong q2.1 x0 6 (-1) (-1)).bind fun q3 =>
    jck0 q3.2 (some (q3.1, true, q3.2))
  else
    (jst q2.1 1000 (x0 + 29) 32 q2.2 (jf q2.1 39 x0 29)).bind fun s4 =>
    (jst s4 1000 (x0 + 30) 32 q2.2 (jf s4 39 x0 29)).bind fun s5 =>
    jls (jp s5 39 x0 30 (W32 (q2.2 + 1))) fun s6 =>
    some (s6, false, q2.2)
noncomputable def m_X35_part : jS → Int → Int → Int → Option (jS × Bool × Int) := Classical.choose (⟨dm_X35_part, rfl⟩ : ∃ f, f = dm_X35_part)
theorem em_X35_part : m_X35_part = dm_X35_part := Classical.choose_spec (⟨dm_X35_part, rfl⟩ : ∃ f, f = dm_X35_part)
def du_X35_labelFor_101 (s : jS) (x0 x1 x2 x4 : Int) : Option (jS × Bool × Int) :=
  (jst s 1000 (x0 + 31) 64 x4 x1).bind fun s1 =>
  (jst s1 1000 (x0 + 32) 64 x4 x2).bind fun s2 =>
  jls (jp s2 39 x0 31 (W32 (x4 + 1))) fun s3 =>
  some (s3, false, x4)
noncomputable def u_X35_labelFor_101 : jS → Int → Int → Int → Int → Option (jS × Bool × Int) := Classical.choose (⟨du_X35_labelFor_101, rfl⟩ : ∃ f, f = du_X35_labelFor_101)
theorem eu_X35_labelFor_101 : u_X35_labelFor_101 = du_X35_labelFor_101 := Classical.choose_spec (⟨du_X35_labelFor_101, rfl⟩ : ∃ f, f = du_X35_labelFor_101)
def du_X35_labelFor_37 (s : jS) (x0 x1 x2 x3 y0 : Int) : Option (jS × Bool × Int) :=
  if y0 = (-1) then
    (m_X36_label s (x0 + 1)).bind fun q1 =>
    if q1.2 = (-1) then
      (m_X35_wrong q1.1 x0 6 (-1) (-1)).bind fun q2 =>
      jck0 q2.2 (some (q2.1, true, q2.2))
    else
      if x3 = (-1) then
        (jst q1.1 1000 (x0 + 24) 600 (W32 ((W32 (100 * x1)) + x2)) q1.2).bind fun s3 =>
        u_X35_labelFor_101 s3 x0 x1 x2 q1.2
      else
        (jst q1.1 1000 (x0 + 23) 600 x3 q1.2).bind fun s4 =>
        u_X35_labelFor_101 s4 x0 x1 x2 q1.2
  else
    some (s, false, y0)
noncomputable def u_X35_labelFor_37 : jS → Int → Int → Int → Int → Int → Option (jS × Bool × Int) := Classical.choose (⟨du_X35_labelFor_37, rfl⟩ : ∃ f, f = du_X35_labelFor_37)
theorem eu_X35_labelFor_37 : u_X35_labelFor_37 = du_X35_labelFor_37 := Classical.choose_spec (⟨du_X35_labelFor_37, rfl⟩ : ∃ f, f = du_X35_labelFor_37)
def dm_X35_labelFor (s : jS) (x0 x1 x2 : Int) : Option (jS × Bool × Int) :=
  (jlt s 1000 (x0 + 14) 600 (W32 ((W32 (100 * x1)) + x2))).bind fun v1 =>
  if v1 = (-1) then
    (jlt s 1000 (x0 + 24) 600 (W32 ((W32 (100 * x1)) + x2))).bind fun v2 =>
    u_X35_labelFor_37 s x0 x1 x2 v1 v2
  else
    (jlt s 1000 (x0 + 23) 600 v1).bind fun v3 =>
    u_X35_labelFor_37 s x0 x1 x2 v1 v3
noncomputable def m_X35_labelFor : jS → Int → Int → Int → Option (jS × Bool × Int) := Classical.choose (⟨dm_X35_labelFor, rfl⟩ : ∃ f, f = dm_X35_labelFor)
theorem em_X35_labelFor : m_X35_labelFor = dm_X35_labelFor := Classical.choose_spec (⟨dm_X35_labelFor, rfl⟩ : ∃ f, f = dm_X35_labelFor)
def dm_X36_plain (s : jS) (x0 x1 x2 : Int) : Option (jS × Int) :=
  (m_X36_can s x0 x1).bind fun v1 =>
  if v1 = 0 then
    some (s, (-1))
  else
    (m_X36_in s x2 0 4194304).bind fun v2 =>
    if v2 = 0 then
      some (s, (-1))
    else
      (m_X36_nextPlain s x0).bind fun q3 =>
      (jct q3.1 88 q3.2 (m_X54_renew q3.1 q3.2 x2)).bind fun q4 =>
      (m_X36_add q4.1 x0 x1 q4.2).bind fun q5 =>
      some (q5.1, q5.2)
noncomputable def m_X36_plain : jS → Int → Int → Int → Option (jS × Int) := Classical.choose (⟨dm_X36_plain, rfl⟩ : ∃ f, f = dm_X36_plain)
theorem em_X36_plain : m_X36_plain = dm_X36_plain := Classical.choose_spec (⟨dm_X36_plain, rfl⟩ : ∃ f, f = dm_X36_plain)
def dm_X36_fill (s : jS) (x0 x1 x2 x3 : Int) : Option (jS × Int) :=
  (m_X36_can s x0 x1).bind fun v1 =>
  if v1 = 0 then
    some (s, (-1))
  else
    (m_X36_in s x2 0 12).bind fun v2 =>
    if v2 = 0 then
      some (s, (-1))
    else
      (m_X36_in s x3 0 4096).bind fun v3 =>
      if v3 = 0 then
        some (s, (-1))
      else
        (m_X36_nextFill s x0).bind fun q4 =>
        (jct q4.1 89 q4.2 (m_X55_renew q4.1 q4.2 x2 x3)).bind fun q5 =>
        (m_X36_add q5.1 x0 x1 q5.2).bind fun q6 =>
        some (q6.1, q6.2)
noncomputable def m_X36_fill : jS → Int → Int → Int → Int → Option (jS × Int) := Classical.choose (⟨dm_X36_fill, rfl⟩ : ∃ f, f = dm_X36_fill)
theorem em_X36_fill : m_X36_fill = dm_X36_fill := Classical.choose_spec (⟨dm_X36_fill, rfl⟩ : ∃ f, f = dm_X36_fill)
def dmp_X58_aimed (s : jS) (x0 x1 x2 : Int) : Option (jS × Int) := if 0 ≤ x0 ∧ jK s x0 = 76 then m_X57_aimed s x0 x1 x2 else none
noncomputable def mp_X58_aimed : jS → Int → Int → Int → Option (jS × Int) := Classical.choose (⟨dmp_X58_aimed, rfl⟩ : ∃ f, f = dmp_X58_aimed)
theorem emp_X58_aimed : mp_X58_aimed = dmp_X58_aimed := Classical.choose_spec (⟨dmp_X58_aimed, rfl⟩ : ∃ f, f = dmp_X58_aimed)
def dm_X36_call (s : jS) (x0 x1 x2 x3 x4 : Int) : Option (jS × Int) :=
  (m_X36_can s x0 x1).bind fun v1 =>
  if v1 = 0 then
    some (s, (-1))
  else
    (m_X36_isLabel s x0 x2).bind fun v2 =>
    if v2 = 0 then
      some (s, (-1))
    else
      (m_X36_nextCall s x0).bind fun q3 =>
      (jct q3.1 92 q3.2 (m_X58_renew q3.1 q3.2 x4)).bind fun q4 =>
      (jlt q4.1 1017 (x0 + 3) 64 x2).bind fun v5 =>
      (mp_X58_aimed q4.1 q4.2 v5 x3).bind fun q6 =>
      (m_X36_add q6.1 x0 x1 q6.2).bind fun q7 =>
      some (q7.1, q7.2)
noncomputable def m_X36_call : jS → Int → Int → Int → Int → Int → Option (jS × Int) := Classical.choose (⟨dm_X36_call, rfl⟩ : ∃ f, f = dm_X36_call)
theorem em_X36_call : m_X36_call = dm_X36_call := Classical.choose_spec (⟨dm_X36_call, rfl⟩ : ∃ f, f = dm_X36_call)
def dmp_X59_aimed (s : jS) (x0 x1 x2 : Int) : Option (jS × Int) := if 0 ≤ x0 ∧ jK s x0 = 77 then m_X57_aimed s x0 x1 x2 else none
noncomputable def mp_X59_aimed : jS → Int → Int → Int → Option (jS × Int) := Classical.choose (⟨dmp_X59_aimed, rfl⟩ : ∃ f, f = dmp_X59_aimed)
theorem emp_X59_aimed : mp_X59_aimed = dmp_X59_aimed := Classical.choose_spec (⟨dmp_X59_aimed, rfl⟩ : ∃ f, f = dmp_X59_aimed)
def dm_X36_upper (s : jS) (x0 x1 x2 x3 x4 : Int) : Option (jS × Int) :=
  (m_X36_can s x0 x1).bind fun v1 =>
  if v1 = 0 then
    some (s, (-1))
  else
    (m_X36_isLabel s x0 x2).bind fun v2 =>
    if v2 = 0 then
      some (s, (-1))
    else
      (m_X36_nextLoad s x0).bind fun q3 =>
      (jct q3.1 93 q3.2 (m_X59_renew q3.1 q3.2 1 x4)).bind fun q4 =>
      (jlt q4.1 1017 (x0 + 3) 64 x2).bind fun v5 =>
      (mp_X59_aimed q4.1 q4.2 v5 x3).bind fun q6 =>
      (m_X36_add q6.1 x0 x1 q6.2).bind fun q7 =>
      some (q7.1, q7.2)
noncomputable def m_X36_upper : jS → Int → Int → Int → Int → Int → Option (jS × Int) := Classical.choose (⟨dm_X36_upper, rfl⟩ : ∃ f, f = dm_X36_upper)
theorem em_X36_upper : m_X36_upper = dm_X36_upper := Classical.choose_spec (⟨dm_X36_upper, rfl⟩ : ∃ f, f = dm_X36_upper)
def dm_X36_near (s : jS) (x0 x1 x2 x3 : Int) : Option (jS × Int) :=
  (m_X36_can s x0 x1).bind fun v1 =>
  if v1 = 0 then
    some (s, (-1))
  else
    (m_X36_isLabel s x0 x2).bind fun v2 =>
    if v2 = 0 then
      some (s, (-1))
    else
      (m_X36_nextLoad s x0).bind fun q3 =>
      (jct q3.1 93 q3.2 (m_X59_renew q3.1 q3.2 0 0)).bind fun q4 =>
      (jlt q4.1 1017 (x0 + 3) 64 x2).bind fun v5 =>
      (mp_X59_aimed q4.1 q4.2 v5 x3).bind fun q6 =>
      (m_X36_add q6.1 x0 x1 q6.2).bind fun q7 =>
      some (q7.1, q7.2)
noncomputable def m_X36_near : jS → Int → Int → Int → Int → Option (jS × Int) := Classical.choose (⟨dm_X36_near, rfl⟩ : ∃ f, f = dm_X36_near)
theorem em_X36_near : m_X36_near = dm_X36_near := Classical.choose_spec (⟨dm_X36_near, rfl⟩ : ∃ f, f = dm_X36_near)
def dmp_X53_size (s : jS) (x0 : Int) : Option (Int) := if 0 ≤ x0 ∧ jK s x0 = 72 then jct s 88 x0 (m_X54_size s x0) else if 0 ≤ x0 ∧ jK s x0 = 73 then jct s 89 x0 (m_X55_size s x0) else if 0 ≤ x0 ∧ jK s x0 = 76 then m_X57_size s x0 else if 0 ≤ x0 ∧ jK s x0 = 77 then m_X57_size s x0 else none
noncomputable def mp_X53_size : jS → Int → Option (Int) := Classical.choose (⟨dmp_X53_size, rfl⟩ : ∃ f, f = dmp_X53_size)
theorem emp_X53_size : mp_X53_size = dmp_X53_size := Classical.choose_spec (⟨dmp_X53_size, rfl⟩ : ∃ f, f = dmp_X53_size)
def du_X36_layPart_52 (s : jS) (x1 x3 : Int) : Option (jS × Int) :=
  (jwr s 70 x1 3 x3).bind fun s1 =>
  some (s1, x3)
noncomputable def u_X36_layPart_52 : jS → Int → Int → Option (jS × Int) := Classical.choose (⟨du_X36_layPart_52, rfl⟩ : ∃ f, f = du_X36_layPart_52)
theorem eu_X36_layPart_52 : u_X36_layPart_52 = du_X36_layPart_52 := Classical.choose_spec (⟨du_X36_layPart_52, rfl⟩ : ∃ f, f = du_X36_layPart_52)
def b_X36_layPart_23 (s : jS) (x1 x3 x4 : Int) : Option ((jS × List Int) ⊕ (jS × Int)) :=
  if x4 < 0 then
    jinr (u_X36_layPart_52 s x1 x3)
  else
    (jwp s [(72, 1), (73, 1), (76, 5), (77, 5)] x4 x3).bind fun s1 =>
    (mp_X53_size s1 x4).bind fun v2 =>
    jlet (W32 (x3 + v2)) fun v3 =>
    (jrp s1 [(72, 2), (73, 2), (76, 6), (77, 6)] x4).bind fun v4 =>
    some (.inl (s1, [x1, v3, v4]))
def du_X36_layPart_23 (s : jS) (x1 x3 x4 : Int) : Option (jS × Int) := jlpW (jc3 b_X36_layPart_23) [x1, x3, x4] s
noncomputable def u_X36_layPart_23 : jS → Int → Int → Int → Option (jS × Int) := Classical.choose (⟨du_X36_layPart_23, rfl⟩ : ∃ f, f = du_X36_layPart_23)
theorem eu_X36_layPart_23 : u_X36_layPart_23 = du_X36_layPart_23 := Classical.choose_spec (⟨du_X36_layPart_23, rfl⟩ : ∃ f, f = du_X36_layPart_23)
def dm_X36_layPart (s : jS) (x0 x1 x2 : Int) : Option (jS × Int) :=
  (jrd s 70 x1 1).bind fun v1 =>
  (m_X36_up s x2 v1).bind fun v2 =>
  (jwr s 70 x1 2 v2).bind fun s3 =>
  (jrd s3 70 x1 2).bind fun v4 =>
  (jrd s3 70 x1 6).bind fun v5 =>
  u_X36_layPart_23 s3 x1 v4 v5
noncomputable def m_X36_layPart : jS → Int → Int → Int → Option (jS × Int) := Classical.choose (⟨dm_X36_layPart, rfl⟩ : ∃ f, f = dm_X36_layPart)
theorem em_X36_layPart : m_X36_layPart = dm_X36_layPart := Classical.choose_spec (⟨dm_X36_layPart, rfl⟩ : ∃ f, f = dm_X36_layPart)
def dmp_X57_hasAim (s : jS) (x0 : Int) : Option (Int) := if 0 ≤ x0 ∧ jK s x0 = 76 then m_X57_hasAim s x0 else if 0 ≤ x0 ∧ jK s x0 = 77 then m_X57_hasAim s x0 else none
noncomputable def mp_X57_hasAim : jS → Int → Option (Int) := Classical.choose (⟨dmp_X57_hasAim, rfl⟩ : ∃ f, f = dmp_X57_hasAim)
theorem emp_X57_hasAim : mp_X57_hasAim = dmp_X57_hasAim := Classical.choose_spec (⟨dmp_X57_hasAim, rfl⟩ : ∃ f, f = dmp_X57_hasAim)
def dmp_X57_aim (s : jS) (x0 : Int) : Option (Int) := if 0 ≤ x0 ∧ jK s x0 = 76 then m_X57_aim s x0 else if 0 ≤ x0 ∧ jK s x0 = 77 then m_X57_aim s x0 else none
noncomputable def mp_X57_aim : jS → Int → Option (Int) := Classical.choose (⟨dmp_X57_aim, rfl⟩ : ∃ f, f = dmp_X57_aim)
theorem emp_X57_aim : mp_X57_aim = dmp_X57_aim := Classical.choose_spec (⟨dmp_X57_aim, rfl⟩ : ∃ f, f = dmp_X57_aim)
def dmp_X57_least (s : jS) (x0 x1 x2 : Int) : Option (Int) := if 0 ≤ x0 ∧ jK s x0 = 76 then jct s 92 x0 (m_X58_least s x0 x1 x2) else if 0 ≤ x0 ∧ jK s x0 = 77 then jct s 93 x0 (m_X59_least s x0 x1 x2) else none
noncomputable def mp_X57_least : jS → Int → Int → Int → Option (Int) := Classical.choose (⟨dmp_X57_least, rfl⟩ : ∃ f, f = dmp_X57_least)
theorem emp_X57_least : mp_X57_least = dmp_X57_least := Classical.choose_spec (⟨dmp_X57_least, rfl⟩ : ∃ f, f = dmp_X57_least)
def dm_X57_least (s : jS) (x0 x1 : Int) : Option (Int) :=
  (mp_X57_hasAim s x0).bind fun v1 =>
  if v1 = 0 then
    (mp_X57_greatest s x0).bind fun v2 =>
    some v2
  else
    (mp_X57_aim s x0).bind fun v3 =>
    (mp_X57_least s x0 v3 x1).bind fun v4 =>
    some v4
noncomputable def m_X57_least : jS → Int → Int → Option (Int) := Classical.choose (⟨dm_X57_least, rfl⟩ : ∃ f, f = dm_X57_least)
theorem em_X57_least : m_X57_least = dm_X57_least := Classical.choose_spec (⟨dm_X57_least, rfl⟩ : ∃ f, f = dm_X57_least)
def dm_X1_object (s : jS) (x0 x1 x2 x3 : Int) : Option (Int) :=
  if x1 = 0 then
    (m_X13_section s (x0 + 2134) x2 x3).bind fun v1 =>
    some v1
  else
  if x1 = 1 then
    if x3 = 0 then
      (m_X13_startAt s (x0 + 2134) x2).bind fun v2 =>
      some v2
    else
      some (-1)
  else
  if x1 = 2 then
    (m_X13_symbolAt s (x0 + 2134) x2 x3).bind fun v3 =>
    some v3
  else
  if x1 = 3 then
    (m_X13_relocationAt s (x0 + 2134) x2 x3).bind fun v4 =>
    some v4
  else
  if x1 = 4 then
    (m_X13_count s (x0 + 2134) x3).bind fun v5 =>
    some v5
  else
  if x1 = 5 then
    if x3 = 0 then
      (m_X13_place s (x0 + 2134)).bind fun v6 =>
      some v6
    else
      some (-1)
  else
  some (-1)
noncomputable def m_X1_object : jS → Int → Int → Int → Int → Option (Int) := Classical.choose (⟨dm_X1_object, rfl⟩ : ∃ f, f = dm_X1_object)
theorem em_X1_object : m_X1_object = dm_X1_object := Classical.choose_spec (⟨dm_X1_object, rfl⟩ : ∃ f, f = dm_X1_object)
def du_X2_longs_1032 (s : jS) (x0 : Int) : Option (jS × Int) :=
  (m_X2_bare s (jc s 118) 267386895 4).bind fun q1 =>
  (jav q1.1 11 q1.2).bind fun v3 =>
  (jst q1.1 1008 (x0 + 23) 75 45 v3).bind fun s2 =>
  (m_X2_bare s2 (jc s2 119) 115 4).bind fun q4 =>
  (jav q4.1 11 q4.2).bind fun v6 =>
  (jst q4.1 1008 (x0 + 23) 75 46 v6).bind fun s5 =>
  (m_X2_bare s5 (jc s5 120) 1048691 4).bind fun q7 =>
  (jav q7.1 11 q7.2).bind fun v9 =>
  (jst q7.1 1008 (x0 + 23) 75 47 v9).bind fun s8 =>
  some (s8, 0)
noncomputable def u_X2_longs_1032 : jS → Int → Option (jS × Int) := Classical.choose (⟨du_X2_longs_1032, rfl⟩ : ∃ f, f = du_X2_longs_1032)
theorem eu_X2_longs_1032 : u_X2_longs_1032 = du_X2_longs_1032 := Classical.choose_spec (⟨du_X2_longs_1032, rfl⟩ : ∃ f, f = du_X2_longs_1032)
def b_X2_longs_997 (s : jS) (x0 x10 x11 : Int) : Option ((jS × List Int) ⊕ (jS × Int)) :=
  if x11 < 8 then
    (jld s 1026 x10 x11).bind fun v1 =>
    (m_X2_rowKind s x0 v1 x11 1).bind fun q2 =>
    (jav q2.1 11 q2.2).bind fun v4 =>
    (jst q2.1 1008 (x0 + 23) 75 (W32 (37 + x11)) v4).bind fun s3 =>
    some (.inl (s3, [x0, x10, W32 (x11 + 1)]))
  else
    jinr (u_X2_longs_1032 s x0)
def du_X2_longs_997 (s : jS) (x0 x10 x11 : Int) : Option (jS × Int) := jlpW (jc3 b_X2_longs_997) [x0, x10, x11] s
noncomputable def u_X2_longs_997 : jS → Int → Int → Int → Option (jS × Int) := Classical.choose (⟨du_X2_longs_997, rfl⟩ : ∃ f, f = du_X2_longs_997)
theorem eu_X2_longs_997 : u_X2_longs_997 = du_X2_longs_997 := Classical.choose_spec (⟨du_X2_longs_997, rfl⟩ : ∃ f, f = du_X2_longs_997)
def du_X2_longs_945 (s : jS) (x0 : Int) : Option (jS × Int) :=
  (jna s 1026 8 (-1)).bind fun q1 =>
  (jas q1.1 1026 9 q1.2 0 (jc q1.1 110)).bind fun s2 =>
  (jas s2 1026 9 q1.2 1 (jc s2 111)).bind fun s3 =>
  (jas s3 1026 9 q1.2 2 (jc s3 112)).bind fun s4 =>
  (jas s4 1026 9 q1.2 3 (jc s4 113)).bind fun s5 =>
  (jas s5 1026 9 q1.2 4 (jc s5 114)).bind fun s6 =>
  (jas s6 1026 9 q1.2 5 (jc s6 115)).bind fun s7 =>
  (jas s7 1026 9 q1.2 6 (jc s7 116)).bind fun s8 =>
  (jas s8 1026 9 q1.2 7 (jc s8 117)).bind fun s9 =>
  u_X2_longs_997 s9 x0 q1.2 0
noncomputable def u_X2_longs_945 : jS → Int → Option (jS × Int) := Classical.choose (⟨du_X2_longs_945, rfl⟩ : ∃ f, f = du_X2_longs_945)
theorem eu_X2_longs_945 : u_X2_longs_945 = du_X2_longs_945 := Classical.choose_spec (⟨du_X2_longs_945, rfl⟩ : ∃ f, f = du_X2_longs_945)
def du_X2_longs_935 (s : jS) (x0 x8 x9 x10 y0 y1 y2 y3 y4 y5 : Int) : Option ((jS × List Int) ⊕ (jS × Int)) :=
  (m_X2_rowKind s y3 y2 y1 y0).bind fun q1 =>
  (jav q1.1 11 q1.2).bind fun v3 =>
  (jst q1.1 1008 y5 75 y4 v3).bind fun s2 =>
  some (.inl (s2, [x0, x8, x9, W32 (x10 + 1)]))
noncomputable def u_X2_longs_935 : jS → Int → Int → Int → Int → Int → Int → Int → Int → Int → Int → Option ((jS × List Int) ⊕ (jS × Int)) := Classical.choose (⟨du_X2_longs_935, rfl⟩ : ∃ f, f = du_X2_longs_935)
theorem eu_X2_longs_935 : u_X2_longs_935 = du_X2_longs_935 := Classical.choose_spec (⟨du_X2_longs_935, rfl⟩ : ∃ f, f = du_X2_longs_935)
def du_X2_longs_929 (s : jS) (x0 x8 x9 x10 y0 y1 y2 y3 y4 : Int) : Option ((jS × List Int) ⊕ (jS × Int)) :=
  u_X2_longs_935 s x0 x8 x9 x10 32 y0 y1 y2 y3 y4
noncomputable def u_X2_longs_929 : jS → Int → Int → Int → Int → Int → Int → Int → Int → Int → Option ((jS × List Int) ⊕ (jS × Int)) := Classical.choose (⟨du_X2_longs_929, rfl⟩ : ∃ f, f = du_X2_longs_929)
theorem eu_X2_longs_929 : u_X2_longs_929 = du_X2_longs_929 := Classical.choose_spec (⟨du_X2_longs_929, rfl⟩ : ∃ f, f = du_X2_longs_929)
def b_X2_longs_889 (s : jS) (x0 x8 x9 x10 : Int) : Option ((jS × List Int) ⊕ (jS × Int)) :=
  if x10 < 10 then
    (jld s 1026 x8 x10).bind fun v1 =>
    (jld s 1000 x9 x10).bind fun v2 =>
    if x10 = 1 then
      u_X2_longs_929 s x0 x8 x9 x10 v2 v1 x0 (W32 (27 + x10)) (x0 + 23)
    else
      if x10 = 7 then
        u_X2_longs_929 s x0 x8 x9 x10 v2 v1 x0 (W32 (27 + x10)) (x0 + 23)
      else
        u_X2_longs_935 s x0 x8 x9 x10 0 v2 v1 x0 (W32 (27 + x10)) (x0 + 23)
  else
    jinr (u_X2_longs_945 s x0)
def du_X2_longs_889 (s : jS) (x0 x8 x9 x10 : Int) : Option (jS × Int) := jlpW (jc4 b_X2_longs_889) [x0, x8, x9, x10] s
noncomputable def u_X2_longs_889 : jS → Int → Int → Int → Int → Option (jS × Int) := Classical.choose (⟨du_X2_longs_889, rfl⟩ : ∃ f, f = du_X2_longs_889)
theorem eu_X2_longs_889 : u_X2_longs_889 = du_X2_longs_889 := Classical.choose_spec (⟨du_X2_longs_889, rfl⟩ : ∃ f, f = du_X2_longs_889)
def du_X2_longs_773 (s : jS) (x0 : Int) : Option (jS × Int) :=
  (jna s 1026 10 (-1)).bind fun q1 =>
  (jas q1.1 1026 9 q1.2 0 (jc q1.1 100)).bind fun s2 =>
  (jas s2 1026 9 q1.2 1 (jc s2 101)).bind fun s3 =>
  (jas s3 1026 9 q1.2 2 (jc s3 102)).bind fun s4 =>
  (jas s4 1026 9 q1.2 3 (jc s4 103)).bind fun s5 =>
  (jas s5 1026 9 q1.2 4 (jc s5 104)).bind fun s6 =>
  (jas s6 1026 9 q1.2 5 (jc s6 105)).bind fun s7 =>
  (jas s7 1026 9 q1.2 6 (jc s7 106)).bind fun s8 =>
  (jas s8 1026 9 q1.2 7 (jc s8 107)).bind fun s9 =>
  (jas s9 1026 9 q1.2 8 (jc s9 108)).bind fun s10 =>
  (jas s10 1026 9 q1.2 9 (jc s10 109)).bind fun s11 =>
  (jna s11 1000 10 0).bind fun q12 =>
  (jsa q12.1 1000 q12.2 0 0).bind fun s13 =>
  (jsa s13 1000 q12.2 1 0).bind fun s14 =>
  (jsa s14 1000 q12.2 2 1).bind fun s15 =>
  (jsa s15 1000 q12.2 3 2).bind fun s16 =>
  (jsa s16 1000 q12.2 4 3).bind fun s17 =>
  (jsa s17 1000 q12.2 5 4).bind fun s18 =>
  (jsa s18 1000 q12.2 6 5).bind fun s19 =>
  (jsa s19 1000 q12.2 7 5).bind fun s20 =>
  (jsa s20 1000 q12.2 8 6).bind fun s21 =>
  (jsa s21 1000 q12.2 9 7).bind fun s22 =>
  u_X2_longs_889 s22 x0 q1.2 q12.2 0
noncomputable def u_X2_longs_773 : jS → Int → Option (jS × Int) := Classical.choose (⟨du_X2_longs_773, rfl⟩ : ∃ f, f = du_X2_longs_773)
theorem eu_X2_longs_773 : u_X2_longs_773 = du_X2_longs_773 := Classical.choose_spec (⟨du_X2_longs_773, rfl⟩ : ∃ f, f = du_X2_longs_773)
def du_X2_longs_748 (s : jS) (x0 x7 x8 y0 y1 y2 y3 y4 y5 y6 y7 : Int) : Option ((jS × List Int) ⊕ (jS × Int)) :=
  (jck0 y4 (m_X7_init s y4 y3 y2 (I_or y1 y0) 4 (jf s 2 x0 0) (jf s 2 x0 1) (-1) (jf s 2 x0 11))).bind fun q1 =>
  (jst q1.1 1008 y7 75 y6 y5).bind fun s2 =>
  some (.inl (s2, [x0, x7, W32 (x8 + 1)]))
noncomputable def u_X2_longs_748 : jS → Int → Int → Int → Int → Int → Int → Int → Int → Int → Int → Int → Option ((jS × List Int) ⊕ (jS × Int)) := Classical.choose (⟨du_X2_longs_748, rfl⟩ : ∃ f, f = du_X2_longs_748)
theorem eu_X2_longs_748 : u_X2_longs_748 = du_X2_longs_748 := Classical.choose_spec (⟨du_X2_longs_748, rfl⟩ : ∃ f, f = du_X2_longs_748)
def du_X2_longs_732 (s : jS) (x0 x7 x8 y0 y1 y2 y3 y4 y5 y6 y7 : Int) : Option ((jS × List Int) ⊕ (jS × Int)) :=
  if x8 = 2 then
    u_X2_longs_748 s x0 x7 x8 1073741824 (I_or y1 (I_shl y0 12)) y2 y3 y4 y5 y6 y7
  else
    u_X2_longs_748 s x0 x7 x8 0 (I_or y1 (I_shl y0 12)) y2 y3 y4 y5 y6 y7
noncomputable def u_X2_longs_732 : jS → Int → Int → Int → Int → Int → Int → Int → Int → Int → Int → Int → Option ((jS × List Int) ⊕ (jS × Int)) := Classical.choose (⟨du_X2_longs_732, rfl⟩ : ∃ f, f = du_X2_longs_732)
theorem eu_X2_longs_732 : u_X2_longs_732 = du_X2_longs_732 := Classical.choose_spec (⟨du_X2_longs_732, rfl⟩ : ∃ f, f = du_X2_longs_732)
def b_X2_longs_695 (s : jS) (x0 x7 x8 : Int) : Option ((jS × List Int) ⊕ (jS × Int)) :=
  if x8 < 3 then
    (jnw s 11 7 (jdf 11)).bind fun q1 =>
    (jld q1.1 1026 x7 x8).bind fun v2 =>
    if x8 = 0 then
      u_X2_longs_732 q1.1 x0 x7 x8 1 19 2 v2 q1.2 q1.2 (W32 (24 + x8)) (x0 + 23)
    else
      u_X2_longs_732 q1.1 x0 x7 x8 5 19 2 v2 q1.2 q1.2 (W32 (24 + x8)) (x0 + 23)
  else
    jinr (u_X2_longs_773 s x0)
def du_X2_longs_695 (s : jS) (x0 x7 x8 : Int) : Option (jS × Int) := jlpW (jc3 b_X2_longs_695) [x0, x7, x8] s
noncomputable def u_X2_longs_695 : jS → Int → Int → Int → Option (jS × Int) := Classical.choose (⟨du_X2_longs_695, rfl⟩ : ∃ f, f = du_X2_longs_695)
theorem eu_X2_longs_695 : u_X2_longs_695 = du_X2_longs_695 := Classical.choose_spec (⟨du_X2_longs_695, rfl⟩ : ∃ f, f = du_X2_longs_695)
def du_X2_longs_671 (s : jS) (x0 : Int) : Option (jS × Int) :=
  (jna s 1026 3 (-1)).bind fun q1 =>
  (jas q1.1 1026 9 q1.2 0 (jc q1.1 97)).bind fun s2 =>
  (jas s2 1026 9 q1.2 1 (jc s2 98)).bind fun s3 =>
  (jas s3 1026 9 q1.2 2 (jc s3 99)).bind fun s4 =>
  u_X2_longs_695 s4 x0 q1.2 0
noncomputable def u_X2_longs_671 : jS → Int → Option (jS × Int) := Classical.choose (⟨du_X2_longs_671, rfl⟩ : ∃ f, f = du_X2_longs_671)
theorem eu_X2_longs_671 : u_X2_longs_671 = du_X2_longs_671 := Classical.choose_spec (⟨du_X2_longs_671, rfl⟩ : ∃ f, f = du_X2_longs_671)
def du_X2_longs_643 (s : jS) (x0 x6 x7 y0 y1 y2 y3 y4 y5 y6 y7 : Int) : Option ((jS × List Int) ⊕ (jS × Int)) :=
  (jck0 y4 (m_X7_init s y4 y3 y2 (I_or y1 (I_shl y0 12)) 4 (jf s 2 x0 0) (jf s 2 x0 1) (-1) (jf s 2 x0 9))).bind fun q1 =>
  (jst q1.1 1008 y7 75 y6 y5).bind fun s2 =>
  some (.inl (s2, [x0, x6, W32 (x7 + 1)]))
noncomputable def u_X2_longs_643 : jS → Int → Int → Int → Int → Int → Int → Int → Int → Int → Int → Int → Option ((jS × List Int) ⊕ (jS × Int)) := Classical.choose (⟨du_X2_longs_643, rfl⟩ : ∃ f, f = du_X2_longs_643)
theorem eu_X2_longs_643 : u_X2_longs_643 = du_X2_longs_643 := Classical.choose_spec (⟨du_X2_longs_643, rfl⟩ : ∃ f, f = du_X2_longs_643)
def b_X2_longs_589 (s : jS) (x0 x6 x7 : Int) : Option ((jS × List Int) ⊕ (jS × Int)) :=
  if x7 < 6 then
    (jnw s 11 7 (jdf 11)).bind fun q1 =>
    (jld q1.1 1026 x6 x7).bind fun v2 =>
    if x7 = 0 then
      u_X2_longs_643 q1.1 x0 x6 x7 0 19 2 v2 q1.2 q1.2 (W32 (18 + x7)) (x0 + 23)
    else
      if x7 < 4 then
        u_X2_longs_643 q1.1 x0 x6 x7 (W32 (x7 + 1)) 19 2 v2 q1.2 q1.2 (W32 (18 + x7)) (x0 + 23)
      else
        u_X2_longs_643 q1.1 x0 x6 x7 (W32 (x7 + 2)) 19 2 v2 q1.2 q1.2 (W32 (18 + x7)) (x0 + 23)
  else
    jinr (u_X2_longs_671 s x0)
def du_X2_longs_589 (s : jS) (x0 x6 x7 : Int) : Option (jS × Int) := jlpW (jc3 b_X2_longs_589) [x0, x6, x7] s
noncomputable def u_X2_longs_589 : jS → Int → Int → Int → Option (jS × Int) := Classical.choose (⟨du_X2_longs_589, rfl⟩ : ∃ f, f = du_X2_longs_589)
theorem eu_X2_longs_589 : u_X2_longs_589 = du_X2_longs_589 := Classical.choose_spec (⟨du_X2_longs_589, rfl⟩ : ∃ f, f = du_X2_longs_589)
def du_X2_longs_549 (s : jS) (x0 : Int) : Option (jS × Int) :=
  (jna s 1026 6 (-1)).bind fun q1 =>
  (jas q1.1 1026 9 q1.2 0 (jc q1.1 91)).bind fun s2 =>
  (jas s2 1026 9 q1.2 1 (jc s2 92)).bind fun s3 =>
  (jas s3 1026 9 q1.2 2 (jc s3 93)).bind fun s4 =>
  (jas s4 1026 9 q1.2 3 (jc s4 94)).bind fun s5 =>
  (jas s5 1026 9 q1.2 4 (jc s5 95)).bind fun s6 =>
  (jas s6 1026 9 q1.2 5 (jc s6 96)).bind fun s7 =>
  u_X2_longs_589 s7 x0 q1.2 0
noncomputable def u_X2_longs_549 : jS → Int → Option (jS × Int) := Classical.choose (⟨du_X2_longs_549, rfl⟩ : ∃ f, f = du_X2_longs_549)
theorem eu_X2_longs_549 : u_X2_longs_549 = du_X2_longs_549 := Classical.choose_spec (⟨du_X2_longs_549, rfl⟩ : ∃ f, f = du_X2_longs_549)
def b_X2_longs_492 (s : jS) (x0 x5 x6 : Int) : Option ((jS × List Int) ⊕ (jS × Int)) :=
  if x6 < 3 then
    (jnw s 11 7 (jdf 11)).bind fun q1 =>
    (jld q1.1 1026 x5 x6).bind fun v2 =>
    (jck0 q1.2 (m_X7_init q1.1 q1.2 v2 4 (I_or 35 (I_shl x6 12)) 4 (-1) (jf q1.1 2 x0 1) (jf q1.1 2 x0 2) (jf q1.1 2 x0 10))).bind fun q3 =>
    (jst q3.1 1008 (x0 + 23) 75 (W32 (15 + x6)) q1.2).bind fun s4 =>
    some (.inl (s4, [x0, x5, W32 (x6 + 1)]))
  else
    jinr (u_X2_longs_549 s x0)
def du_X2_longs_492 (s : jS) (x0 x5 x6 : Int) : Option (jS × Int) := jlpW (jc3 b_X2_longs_492) [x0, x5, x6] s
noncomputable def u_X2_longs_492 : jS → Int → Int → Int → Option (jS × Int) := Classical.choose (⟨du_X2_longs_492, rfl⟩ : ∃ f, f = du_X2_longs_492)
theorem eu_X2_longs_492 : u_X2_longs_492 = du_X2_longs_492 := Classical.choose_spec (⟨du_X2_longs_492, rfl⟩ : ∃ f, f = du_X2_longs_492)
def du_X2_longs_468 (s : jS) (x0 : Int) : Option (jS × Int) :=
  (jna s 1026 3 (-1)).bind fun q1 =>
  (jas q1.1 1026 9 q1.2 0 (jc q1.1 88)).bind fun s2 =>
  (jas s2 1026 9 q1.2 1 (jc s2 89)).bind fun s3 =>
  (jas s3 1026 9 q1.2 2 (jc s3 90)).bind fun s4 =>
  u_X2_longs_492 s4 x0 q1.2 0
noncomputable def u_X2_longs_468 : jS → Int → Option (jS × Int) := Classical.choose (⟨du_X2_longs_468, rfl⟩ : ∃ f, f = du_X2_longs_468)
theorem eu_X2_longs_468 : u_X2_longs_468 = du_X2_longs_468 := Classical.choose_spec (⟨du_X2_longs_468, rfl⟩ : ∃ f, f = du_X2_longs_468)
def du_X2_longs_458 (s : jS) (x0 x4 x5 y0 y1 y2 y3 y4 y5 : Int) : Option ((jS × List Int) ⊕ (jS × Int)) :=
  (m_X2_load s y3 y2 y1 y0).bind fun q1 =>
  (jav q1.1 11 q1.2).bind fun v3 =>
  (jst q1.1 1008 y5 75 y4 v3).bind fun s2 =>
  some (.inl (s2, [x0, x4, W32 (x5 + 1)]))
noncomputable def u_X2_longs_458 : jS → Int → Int → Int → Int → Int → Int → Int → Int → Int → Option ((jS × List Int) ⊕ (jS × Int)) := Classical.choose (⟨du_X2_longs_458, rfl⟩ : ∃ f, f = du_X2_longs_458)
theorem eu_X2_longs_458 : u_X2_longs_458 = du_X2_longs_458 := Classical.choose_spec (⟨du_X2_longs_458, rfl⟩ : ∃ f, f = du_X2_longs_458)
def b_X2_longs_421 (s : jS) (x0 x4 x5 : Int) : Option ((jS × List Int) ⊕ (jS × Int)) :=
  if x5 < 5 then
    (jld s 1026 x4 x5).bind fun v1 =>
    if x5 < 3 then
      u_X2_longs_458 s x0 x4 x5 x5 3 v1 x0 (W32 (10 + x5)) (x0 + 23)
    else
      u_X2_longs_458 s x0 x4 x5 (W32 (x5 + 1)) 3 v1 x0 (W32 (10 + x5)) (x0 + 23)
  else
    jinr (u_X2_longs_468 s x0)
def du_X2_longs_421 (s : jS) (x0 x4 x5 : Int) : Option (jS × Int) := jlpW (jc3 b_X2_longs_421) [x0, x4, x5] s
noncomputable def u_X2_longs_421 : jS → Int → Int → Int → Option (jS × Int) := Classical.choose (⟨du_X2_longs_421, rfl⟩ : ∃ f, f = du_X2_longs_421)
theorem eu_X2_longs_421 : u_X2_longs_421 = du_X2_longs_421 := Classical.choose_spec (⟨du_X2_longs_421, rfl⟩ : ∃ f, f = du_X2_longs_421)
def du_X2_longs_387 (s : jS) (x0 : Int) : Option (jS × Int) :=
  (jna s 1026 5 (-1)).bind fun q1 =>
  (jas q1.1 1026 9 q1.2 0 (jc q1.1 83)).bind fun s2 =>
  (jas s2 1026 9 q1.2 1 (jc s2 84)).bind fun s3 =>
  (jas s3 1026 9 q1.2 2 (jc s3 85)).bind fun s4 =>
  (jas s4 1026 9 q1.2 3 (jc s4 86)).bind fun s5 =>
  (jas s5 1026 9 q1.2 4 (jc s5 87)).bind fun s6 =>
  u_X2_longs_421 s6 x0 q1.2 0
noncomputable def u_X2_longs_387 : jS → Int → Option (jS × Int) := Classical.choose (⟨du_X2_longs_387, rfl⟩ : ∃ f, f = du_X2_longs_387)
theorem eu_X2_longs_387 : u_X2_longs_387 = du_X2_longs_387 := Classical.choose_spec (⟨du_X2_longs_387, rfl⟩ : ∃ f, f = du_X2_longs_387)
def du_X2_longs_362 (s : jS) (x0 x2 x3 x4 y0 y1 y2 y3 y4 y5 y6 y7 : Int) : Option ((jS × List Int) ⊕ (jS × Int)) :=
  (jck0 y4 (m_X7_init s y4 y3 y2 (I_or y1 (I_shl y0 12)) 4 (-1) (jf s 2 x0 1) (jf s 2 x0 2) x2)).bind fun q1 =>
  (jst q1.1 1008 y7 75 y6 y5).bind fun s2 =>
  some (.inl (s2, [x0, x2, x3, W32 (x4 + 1)]))
noncomputable def u_X2_longs_362 : jS → Int → Int → Int → Int → Int → Int → Int → Int → Int → Int → Int → Int → Option ((jS × List Int) ⊕ (jS × Int)) := Classical.choose (⟨du_X2_longs_362, rfl⟩ : ∃ f, f = du_X2_longs_362)
theorem eu_X2_longs_362 : u_X2_longs_362 = du_X2_longs_362 := Classical.choose_spec (⟨du_X2_longs_362, rfl⟩ : ∃ f, f = du_X2_longs_362)
def b_X2_longs_321 (s : jS) (x0 x2 x3 x4 : Int) : Option ((jS × List Int) ⊕ (jS × Int)) :=
  if x4 < 6 then
    (jnw s 11 7 (jdf 11)).bind fun q1 =>
    (jld q1.1 1026 x3 x4).bind fun v2 =>
    if x4 < 2 then
      u_X2_longs_362 q1.1 x0 x2 x3 x4 x4 99 5 v2 q1.2 q1.2 (W32 (4 + x4)) (x0 + 23)
    else
      u_X2_longs_362 q1.1 x0 x2 x3 x4 (W32 (x4 + 2)) 99 5 v2 q1.2 q1.2 (W32 (4 + x4)) (x0 + 23)
  else
    jinr (u_X2_longs_387 s x0)
def du_X2_longs_321 (s : jS) (x0 x2 x3 x4 : Int) : Option (jS × Int) := jlpW (jc4 b_X2_longs_321) [x0, x2, x3, x4] s
noncomputable def u_X2_longs_321 : jS → Int → Int → Int → Int → Option (jS × Int) := Classical.choose (⟨du_X2_longs_321, rfl⟩ : ∃ f, f = du_X2_longs_321)
theorem eu_X2_longs_321 : u_X2_longs_321 = du_X2_longs_321 := Classical.choose_spec (⟨du_X2_longs_321, rfl⟩ : ∃ f, f = du_X2_longs_321)
def dm_X2_longs (s : jS) (x0 : Int) : Option (jS × Int) :=
  (jnw s 11 7 (jdf 11)).bind fun q1 =>
  (jck0 q1.2 (m_X7_init q1.1 q1.2 (jc q1.1 73) 6 55 4 (jf q1.1 2 x0 0) (-1) (-1) (jf q1.1 2 x0 12))).bind fun q2 =>
  (jst q2.1 1008 (x0 + 23) 75 0 q1.2).bind fun s3 =>
  (jnw s3 11 7 (jdf 11)).bind fun q4 =>
  (jck0 q4.2 (m_X7_init q4.1 q4.2 (jc q4.1 74) 6 23 4 (jf q4.1 2 x0 0) (-1) (-1) (jf q4.1 2 x0 12))).bind fun q5 =>
  (jst q5.1 1008 (x0 + 23) 75 1 q4.2).bind fun s6 =>
  (jna s6 1000 12 0).bind fun q7 =>
  (jsa q7.1 1000 q7.2 0 20).bind fun s8 =>
  (jsa s8 1000 q7.2 1 10).bind fun s9 =>
  (jsa s9 1000 q7.2 2 9).bind fun s10 =>
  (jsa s10 1000 q7.2 3 8).bind fun s11 =>
  (jsa s11 1000 q7.2 4 7).bind fun s12 =>
  (jsa s12 1000 q7.2 5 6).bind fun s13 =>
  (jsa s13 1000 q7.2 6 5).bind fun s14 =>
  (jsa s14 1000 q7.2 7 4).bind fun s15 =>
  (jsa s15 1000 q7.2 8 3).bind fun s16 =>
  (jsa s16 1000 q7.2 9 2).bind fun s17 =>
  (jsa s17 1000 q7.2 10 1).bind fun s18 =>
  (jsa s18 1000 q7.2 11 11).bind fun s19 =>
  (m_X2_row s19 q7.2).bind fun v20 =>
  (m_X2_down s19 19 12).bind fun q21 =>
  (m_X2_places_2 q21.1 21 31 v20 19 q21.2).bind fun q22 =>
  (jnw q22.1 11 7 (jdf 11)).bind fun q23 =>
  (jnw q23.1 6 2 (jdf 6)).bind fun q24 =>
  (jck0 q24.2 (m_X6_init q24.1 q24.2 q22.2 1)).bind fun q25 =>
  (jck0 q23.2 (m_X7_init q25.1 q23.2 (jc q23.1 75) 7 111 4 (jf q23.1 2 x0 0) (-1) (-1) q24.2)).bind fun q26 =>
  (jst q26.1 1008 (x0 + 23) 75 2 q23.2).bind fun s27 =>
  (m_X2_load s27 x0 (jc s27 76) 103 0).bind fun q28 =>
  (jav q28.1 11 q28.2).bind fun v30 =>
  (jst q28.1 1008 (x0 + 23) 75 3 v30).bind fun s29 =>
  (jnw s29 6 2 (jdf 6)).bind fun q31 =>
  (jna q31.1 1000 7 0).bind fun q32 =>
  (jsa q32.1 1000 q32.2 0 12).bind fun s33 =>
  (jsa s33 1000 q32.2 1 10).bind fun s34 =>
  (jsa s34 1000 q32.2 2 9).bind fun s35 =>
  (jsa s35 1000 q32.2 3 8).bind fun s36 =>
  (jsa s36 1000 q32.2 4 7).bind fun s37 =>
  (jsa s37 1000 q32.2 5 6).bind fun s38 =>
  (jsa s38 1000 q32.2 6 5).bind fun s39 =>
  (m_X2_row s39 q32.2).bind fun v40 =>
  (jna s39 1000 5 0).bind fun q41 =>
  (jsa q41.1 1000 q41.2 0 4).bind fun s42 =>
  (jsa s42 1000 q41.2 1 3).bind fun s43 =>
  (jsa s43 1000 q41.2 2 2).bind fun s44 =>
  (jsa s44 1000 q41.2 3 1).bind fun s45 =>
  (jsa s45 1000 q41.2 4 11).bind fun s46 =>
  (m_X2_row s46 q41.2).bind fun v47 =>
  (m_X2_places_2 s46 13 31 v40 11 v47).bind fun q48 =>
  (jck0 q31.2 (m_X6_init q48.1 q31.2 q48.2 1)).bind fun q49 =>
  (jna q49.1 1026 6 (-1)).bind fun q50 =>
  (jas q50.1 1026 9 q50.2 0 (jc q50.1 77)).bind fun s51 =>
  (jas s51 1026 9 q50.2 1 (jc s51 78)).bind fun s52 =>
  (jas s52 1026 9 q50.2 2 (jc s52 79)).bind fun s53 =>
  (jas s53 1026 9 q50.2 3 (jc s53 80)).bind fun s54 =>
  (jas s54 1026 9 q50.2 4 (jc s54 81)).bind fun s55 =>
  (jas s55 1026 9 q50.2 5 (jc s55 82)).bind fun s56 =>
  u_X2_longs_321 s56 x0 q31.2 q50.2 0
noncomputable def m_X2_longs : jS → Int → Option (jS × Int) := Classical.choose (⟨dm_X2_longs, rfl⟩ : ∃ f, f = dm_X2_longs)
theorem em_X2_longs : m_X2_longs = dm_X2_longs := Classical.choose_spec (⟨dm_X2_longs, rfl⟩ : ∃ f, f = dm_X2_longs)
def du_X2_shorts_1345 (s : jS) : Option (jS × Int) :=
  some (s, 0)
noncomputable def u_X2_shorts_1345 : jS → Option (jS × Int) := Classical.choose (⟨du_X2_shorts_1345, rfl⟩ : ∃ f, f = du_X2_shorts_1345)
theorem eu_X2_shorts_1345 : u_X2_shorts_1345 = du_X2_shorts_1345 := Classical.choose_spec (⟨du_X2_shorts_1345, rfl⟩ : ∃ f, f = du_X2_shorts_1345)
def du_X2_shorts_1197 (s : jS) (x0 x1 x2 x3 : Int) : Option (jS × Int) :=
  (m_X2_half s (jc s 145) 11 36866 (-1) (jf s 2 x0 3) (-1) (-1)).bind fun q1 =>
  (jct q1.1 27 q1.2 (m_X7_as q1.1 q1.2 3 1 x2 0)).bind fun q2 =>
  (jav q2.1 11 q2.2).bind fun v4 =>
  (jst q2.1 1008 (x0 + 23) 75 72 v4).bind fun s3 =>
  (m_X2_half s3 (jc s3 146) 10 36866 (jf s3 2 x0 3) (-1) (jf s3 2 x0 4) (-1)).bind fun q5 =>
  (jct q5.1 27 q5.2 (m_X7_as q5.1 q5.2 27 x1 x1 x3)).bind fun q6 =>
  (jav q6.1 11 q6.2).bind fun v8 =>
  (jst q6.1 1008 (x0 + 23) 75 73 v8).bind fun s7 =>
  (jnw s7 6 2 (jdf 6)).bind fun q9 =>
  (jna q9.1 1000 6 0).bind fun q10 =>
  (jsa q10.1 1000 q10.2 0 5).bind fun s11 =>
  (jsa s11 1000 q10.2 1 4).bind fun s12 =>
  (jsa s12 1000 q10.2 2 3).bind fun s13 =>
  (jsa s13 1000 q10.2 3 2).bind fun s14 =>
  (jsa s14 1000 q10.2 4 7).bind fun s15 =>
  (jsa s15 1000 q10.2 5 6).bind fun s16 =>
  (m_X2_row s16 q10.2).bind fun v17 =>
  (m_X2_places s16 8 12 v17).bind fun q18 =>
  (jck0 q9.2 (m_X6_init q18.1 q9.2 q18.2 0)).bind fun q19 =>
  (m_X2_half q19.1 (jc s7 147) 14 49154 (-1) (-1) (jf s7 2 x0 5) q9.2).bind fun q20 =>
  (jct q20.1 27 q20.2 (m_X7_as q20.1 q20.2 17 0 2 x3)).bind fun q21 =>
  (jav q21.1 11 q21.2).bind fun v23 =>
  (jst q21.1 1008 (x0 + 23) 75 74 v23).bind fun s22 =>
  u_X2_shorts_1345 s22 
noncomputable def u_X2_shorts_1197 : jS → Int → Int → Int → Int → Option (jS × Int) := Classical.choose (⟨du_X2_shorts_1197, rfl⟩ : ∃ f, f = du_X2_shorts_1197)
theorem eu_X2_shorts_1197 : u_X2_shorts_1197 = du_X2_shorts_1197 := Classical.choose_spec (⟨du_X2_shorts_1197, rfl⟩ : ∃ f, f = du_X2_shorts_1197)
def du_X2_shorts_1104 (s : jS) (x0 x1 x2 x3 : Int) : Option (jS × Int) :=
  (m_X2_half s (jc s 142) 11 32770 (-1) (jf s 2 x0 3) (-1) (-1)).bind fun q1 =>
  (jct q1.1 27 q1.2 (m_X7_as q1.1 q1.2 3 0 x2 0)).bind fun q2 =>
  (jav q2.1 11 q2.2).bind fun v4 =>
  (jst q2.1 1008 (x0 + 23) 75 69 v4).bind fun s3 =>
  (m_X2_half s3 (jc s3 143) 10 32770 (jf s3 2 x0 3) (-1) (jf s3 2 x0 4) (-1)).bind fun q5 =>
  (jct q5.1 27 q5.2 (m_X7_as q5.1 q5.2 27 x1 0 x3)).bind fun q6 =>
  (jav q6.1 11 q6.2).bind fun v8 =>
  (jst q6.1 1008 (x0 + 23) 75 70 v8).bind fun s7 =>
  (m_X2_bare s7 (jc s7 144) 36866 2).bind fun q9 =>
  (jct q9.1 27 q9.2 (m_X7_as q9.1 q9.2 47 0 0 0)).bind fun q10 =>
  (jav q10.1 11 q10.2).bind fun v12 =>
  (jst q10.1 1008 (x0 + 23) 75 71 v12).bind fun s11 =>
  u_X2_shorts_1197 s11 x0 x1 x2 x3
noncomputable def u_X2_shorts_1104 : jS → Int → Int → Int → Int → Option (jS × Int) := Classical.choose (⟨du_X2_shorts_1104, rfl⟩ : ∃ f, f = du_X2_shorts_1104)
theorem eu_X2_shorts_1104 : u_X2_shorts_1104 = du_X2_shorts_1104 := Classical.choose_spec (⟨du_X2_shorts_1104, rfl⟩ : ∃ f, f = du_X2_shorts_1104)
def du_X2_shorts_1017 (s : jS) (x0 x1 x2 x3 : Int) : Option (jS × Int) :=
  (jnw s 6 2 (jdf 6)).bind fun q1 =>
  (jna q1.1 1000 1 0).bind fun q2 =>
  (jsa q2.1 1000 q2.2 0 5).bind fun s3 =>
  (m_X2_row s3 q2.2).bind fun v4 =>
  (jna s3 1000 5 0).bind fun q5 =>
  (jsa q5.1 1000 q5.2 0 4).bind fun s6 =>
  (jsa s6 1000 q5.2 1 3).bind fun s7 =>
  (jsa s7 1000 q5.2 2 2).bind fun s8 =>
  (jsa s8 1000 q5.2 3 7).bind fun s9 =>
  (jsa s9 1000 q5.2 4 6).bind fun s10 =>
  (m_X2_row s10 q5.2).bind fun v11 =>
  (m_X2_places_2 s10 8 12 v4 6 v11).bind fun q12 =>
  (jck0 q1.2 (m_X6_init q12.1 q1.2 q12.2 0)).bind fun q13 =>
  (m_X2_half q13.1 (jc s 141) 13 16386 (jf s 2 x0 3) (-1) (-1) q1.2).bind fun q14 =>
  (jct q14.1 27 q14.2 (m_X7_as q14.1 q14.2 12 x1 2 0)).bind fun q15 =>
  (jav q15.1 11 q15.2).bind fun v17 =>
  (jst q15.1 1008 (x0 + 23) 75 68 v17).bind fun s16 =>
  u_X2_shorts_1104 s16 x0 x1 x2 x3
noncomputable def u_X2_shorts_1017 : jS → Int → Int → Int → Int → Option (jS × Int) := Classical.choose (⟨du_X2_shorts_1017, rfl⟩ : ∃ f, f = du_X2_shorts_1017)
theorem eu_X2_shorts_1017 : u_X2_shorts_1017 = du_X2_shorts_1017 := Classical.choose_spec (⟨du_X2_shorts_1017, rfl⟩ : ∃ f, f = du_X2_shorts_1017)
def du_X2_shorts_919 (s : jS) (x0 x1 x2 x3 x7 x9 : Int) : Option (jS × Int) :=
  (m_X2_half s (jc s 138) 9 49153 (-1) (jf s 2 x0 8) (-1) x9).bind fun q1 =>
  (jct q1.1 27 q1.2 (m_X7_as q1.1 q1.2 4 0 x2 0)).bind fun q2 =>
  (jav q2.1 11 q2.2).bind fun v4 =>
  (jst q2.1 1008 (x0 + 23) 75 65 v4).bind fun s3 =>
  (m_X2_half s3 (jc s3 139) 9 57345 (-1) (jf s3 2 x0 8) (-1) x9).bind fun q5 =>
  (jct q5.1 27 q5.2 (m_X7_as q5.1 q5.2 5 0 x2 0)).bind fun q6 =>
  (jav q6.1 11 q6.2).bind fun v8 =>
  (jst q6.1 1008 (x0 + 23) 75 66 v8).bind fun s7 =>
  (m_X2_half s7 (jc s7 140) 12 2 (jf s7 2 x0 3) (-1) (-1) x7).bind fun q9 =>
  (jct q9.1 27 q9.2 (m_X7_as q9.1 q9.2 24 x1 x1 0)).bind fun q10 =>
  (jav q10.1 11 q10.2).bind fun v12 =>
  (jst q10.1 1008 (x0 + 23) 75 67 v12).bind fun s11 =>
  u_X2_shorts_1017 s11 x0 x1 x2 x3
noncomputable def u_X2_shorts_919 : jS → Int → Int → Int → Int → Int → Int → Option (jS × Int) := Classical.choose (⟨du_X2_shorts_919, rfl⟩ : ∃ f, f = du_X2_shorts_919)
theorem eu_X2_shorts_919 : u_X2_shorts_919 = du_X2_shorts_919 := Classical.choose_spec (⟨du_X2_shorts_919, rfl⟩ : ∃ f, f = du_X2_shorts_919)
def du_X2_shorts_889 (s : jS) (x0 x1 x2 x3 x7 x8 x9 : Int) : Option (jS × Int) :=
  (m_X2_half s (jc s 137) 8 40961 (-1) (-1) (-1) x8).bind fun q1 =>
  (jct q1.1 27 q1.2 (m_X7_as q1.1 q1.2 2 0 0 0)).bind fun q2 =>
  (jav q2.1 11 q2.2).bind fun v4 =>
  (jst q2.1 1008 (x0 + 23) 75 64 v4).bind fun s3 =>
  u_X2_shorts_919 s3 x0 x1 x2 x3 x7 x9
noncomputable def u_X2_shorts_889 : jS → Int → Int → Int → Int → Int → Int → Int → Option (jS × Int) := Classical.choose (⟨du_X2_shorts_889, rfl⟩ : ∃ f, f = du_X2_shorts_889)
theorem eu_X2_shorts_889 : u_X2_shorts_889 = du_X2_shorts_889 := Classical.choose_spec (⟨du_X2_shorts_889, rfl⟩ : ∃ f, f = du_X2_shorts_889)
def b_X2_shorts_828 (s : jS) (x0 x1 x2 x3 x7 x8 x9 x10 x11 x12 : Int) : Option ((jS × List Int) ⊕ (jS × Int)) :=
  if x12 < 4 then
    (jld s 1026 x10 x12).bind fun v1 =>
    (m_X2_half s v1 10 (I_or 35841 (I_shl x12 5)) (jf s 2 x0 8) (-1) (jf s 2 x0 7) (-1)).bind fun q2 =>
    (jld q2.1 1000 x11 x12).bind fun v3 =>
    (jct q2.1 27 q2.2 (m_X7_as q2.1 q2.2 v3 x1 x1 x3)).bind fun q4 =>
    (jav q4.1 11 q4.2).bind fun v6 =>
    (jst q4.1 1008 (x0 + 23) 75 (W32 (60 + x12)) v6).bind fun s5 =>
    some (.inl (s5, [x0, x1, x2, x3, x7, x8, x9, x10, x11, W32 (x12 + 1)]))
  else
    jinr (u_X2_shorts_889 s x0 x1 x2 x3 x7 x8 x9)
def du_X2_shorts_828 (s : jS) (x0 x1 x2 x3 x7 x8 x9 x10 x11 x12 : Int) : Option (jS × Int) := jlpW (jc10 b_X2_shorts_828) [x0, x1, x2, x3, x7, x8, x9, x10, x11, x12] s
noncomputable def u_X2_shorts_828 : jS → Int → Int → Int → Int → Int → Int → Int → Int → Int → Int → Option (jS × Int) := Classical.choose (⟨du_X2_shorts_828, rfl⟩ : ∃ f, f = du_X2_shorts_828)
theorem eu_X2_shorts_828 : u_X2_shorts_828 = du_X2_shorts_828 := Classical.choose_spec (⟨du_X2_shorts_828, rfl⟩ : ∃ f, f = du_X2_shorts_828)
def du_X2_shorts_825 (s : jS) (x0 x1 x2 x3 x7 x8 x9 x10 x11 : Int) : Option (jS × Int) :=
  u_X2_shorts_828 s x0 x1 x2 x3 x7 x8 x9 x10 x11 0
noncomputable def u_X2_shorts_825 : jS → Int → Int → Int → Int → Int → Int → Int → Int → Int → Option (jS × Int) := Classical.choose (⟨du_X2_shorts_825, rfl⟩ : ∃ f, f = du_X2_shorts_825)
theorem eu_X2_shorts_825 : u_X2_shorts_825 = du_X2_shorts_825 := Classical.choose_spec (⟨du_X2_shorts_825, rfl⟩ : ∃ f, f = du_X2_shorts_825)
def du_X2_shorts_736 (s : jS) (x0 x1 x2 x3 x6 x7 x8 x9 : Int) : Option (jS × Int) :=
  (m_X2_half s (jc s 132) 12 34817 (jf s 2 x0 8) (-1) (-1) x6).bind fun q1 =>
  (jct q1.1 27 q1.2 (m_X7_as q1.1 q1.2 23 x1 x1 0)).bind fun q2 =>
  (jav q2.1 11 q2.2).bind fun v4 =>
  (jst q2.1 1008 (x0 + 23) 75 59 v4).bind fun s3 =>
  (jna s3 1026 4 (-1)).bind fun q5 =>
  (jas q5.1 1026 9 q5.2 0 (jc q5.1 133)).bind fun s6 =>
  (jas s6 1026 9 q5.2 1 (jc s6 134)).bind fun s7 =>
  (jas s7 1026 9 q5.2 2 (jc s7 135)).bind fun s8 =>
  (jas s8 1026 9 q5.2 3 (jc s8 136)).bind fun s9 =>
  (jna s9 1000 4 0).bind fun q10 =>
  (jsa q10.1 1000 q10.2 0 28).bind fun s11 =>
  (jsa s11 1000 q10.2 1 32).bind fun s12 =>
  (jsa s12 1000 q10.2 2 35).bind fun s13 =>
  (jsa s13 1000 q10.2 3 36).bind fun s14 =>
  u_X2_shorts_825 s14 x0 x1 x2 x3 x7 x8 x9 q5.2 q10.2
noncomputable def u_X2_shorts_736 : jS → Int → Int → Int → Int → Int → Int → Int → Int → Option (jS × Int) := Classical.choose (⟨du_X2_shorts_736, rfl⟩ : ∃ f, f = du_X2_shorts_736)
theorem eu_X2_shorts_736 : u_X2_shorts_736 = du_X2_shorts_736 := Classical.choose_spec (⟨du_X2_shorts_736, rfl⟩ : ∃ f, f = du_X2_shorts_736)
def du_X2_shorts_630 (s : jS) (x0 x1 x2 x3 x5 x6 x7 x8 x9 : Int) : Option (jS × Int) :=
  (jnw s 14 2 (jdf 14)).bind fun q1 =>
  (jck0 q1.2 (m_X10_init q1.1 q1.2 x5)).bind fun q2 =>
  (m_X2_half q2.1 (jc s 129) 6 24577 (jf s 2 x0 6) (-1) (-1) q1.2).bind fun q3 =>
  (jct q3.1 27 q3.2 (m_X7_as q3.1 q3.2 0 x1 0 0)).bind fun q4 =>
  (jav q4.1 11 q4.2).bind fun v6 =>
  (jst q4.1 1008 (x0 + 23) 75 56 v6).bind fun s5 =>
  (m_X2_half s5 (jc s5 130) 12 32769 (jf s5 2 x0 8) (-1) (-1) x7).bind fun q7 =>
  (jct q7.1 27 q7.2 (m_X7_as q7.1 q7.2 25 x1 x1 0)).bind fun q8 =>
  (jav q8.1 11 q8.2).bind fun v10 =>
  (jst q8.1 1008 (x0 + 23) 75 57 v10).bind fun s9 =>
  (m_X2_half s9 (jc s9 131) 12 33793 (jf s9 2 x0 8) (-1) (-1) x7).bind fun q11 =>
  (jct q11.1 27 q11.2 (m_X7_as q11.1 q11.2 26 x1 x1 0)).bind fun q12 =>
  (jav q12.1 11 q12.2).bind fun v14 =>
  (jst q12.1 1008 (x0 + 23) 75 58 v14).bind fun s13 =>
  u_X2_shorts_736 s13 x0 x1 x2 x3 x6 x7 x8 x9
noncomputable def u_X2_shorts_630 : jS → Int → Int → Int → Int → Int → Int → Int → Int → Int → Option (jS × Int) := Classical.choose (⟨du_X2_shorts_630, rfl⟩ : ∃ f, f = du_X2_shorts_630)
theorem eu_X2_shorts_630 : u_X2_shorts_630 = du_X2_shorts_630 := Classical.choose_spec (⟨du_X2_shorts_630, rfl⟩ : ∃ f, f = du_X2_shorts_630)
def du_X2_shorts_545 (s : jS) (x0 x1 x2 x3 x5 x6 x7 x8 x9 : Int) : Option (jS × Int) :=
  (jnw s 12 2 (jdf 12)).bind fun q1 =>
  (jna q1.1 1000 1 0).bind fun q2 =>
  (jsa q2.1 1000 q2.2 0 9).bind fun s3 =>
  (m_X2_row s3 q2.2).bind fun v4 =>
  (jna s3 1000 5 0).bind fun q5 =>
  (jsa q5.1 1000 q5.2 0 4).bind fun s6 =>
  (jsa s6 1000 q5.2 1 6).bind fun s7 =>
  (jsa s7 1000 q5.2 2 8).bind fun s8 =>
  (jsa s8 1000 q5.2 3 7).bind fun s9 =>
  (jsa s9 1000 q5.2 4 5).bind fun s10 =>
  (m_X2_row s10 q5.2).bind fun v11 =>
  (m_X2_places_2 s10 10 12 v4 6 v11).bind fun q12 =>
  (jck0 q1.2 (m_X8_init q12.1 q1.2 q12.2 1)).bind fun q13 =>
  (m_X2_half q13.1 (jc s 128) 16 24833 (-1) (-1) (-1) q1.2).bind fun q14 =>
  (jct q14.1 27 q14.2 (m_X7_as q14.1 q14.2 18 2 2 0)).bind fun q15 =>
  (jav q15.1 11 q15.2).bind fun v17 =>
  (jst q15.1 1008 (x0 + 23) 75 55 v17).bind fun s16 =>
  u_X2_shorts_630 s16 x0 x1 x2 x3 x5 x6 x7 x8 x9
noncomputable def u_X2_shorts_545 : jS → Int → Int → Int → Int → Int → Int → Int → Int → Int → Option (jS × Int) := Classical.choose (⟨du_X2_shorts_545, rfl⟩ : ∃ f, f = du_X2_shorts_545)
theorem eu_X2_shorts_545 : u_X2_shorts_545 = du_X2_shorts_545 := Classical.choose_spec (⟨du_X2_shorts_545, rfl⟩ : ∃ f, f = du_X2_shorts_545)
def du_X2_shorts_444 (s : jS) (x0 x1 x2 x3 x5 x6 x7 x8 x9 : Int) : Option (jS × Int) :=
  (jnw s 12 2 (jdf 12)).bind fun q1 =>
  (jck0 q1.2 (m_X8_init q1.1 q1.2 x5 1)).bind fun q2 =>
  (m_X2_half q2.1 (jc s 125) 12 1 (jf s 2 x0 3) (-1) (-1) q1.2).bind fun q3 =>
  (jct q3.1 27 q3.2 (m_X7_as q3.1 q3.2 18 x1 x1 0)).bind fun q4 =>
  (jav q4.1 11 q4.2).bind fun v6 =>
  (jst q4.1 1008 (x0 + 23) 75 52 v6).bind fun s5 =>
  (m_X2_half s5 (jc s5 126) 8 8193 (-1) (-1) (-1) x8).bind fun q7 =>
  (jct q7.1 27 q7.2 (m_X7_as q7.1 q7.2 2 1 0 0)).bind fun q8 =>
  (jav q8.1 11 q8.2).bind fun v10 =>
  (jst q8.1 1008 (x0 + 23) 75 53 v10).bind fun s9 =>
  (m_X2_half s9 (jc s9 127) 12 16385 (jf s9 2 x0 3) (-1) (-1) x6).bind fun q11 =>
  (jct q11.1 27 q11.2 (m_X7_as q11.1 q11.2 18 x1 0 0)).bind fun q12 =>
  (jav q12.1 11 q12.2).bind fun v14 =>
  (jst q12.1 1008 (x0 + 23) 75 54 v14).bind fun s13 =>
  u_X2_shorts_545 s13 x0 x1 x2 x3 x5 x6 x7 x8 x9
noncomputable def u_X2_shorts_444 : jS → Int → Int → Int → Int → Int → Int → Int → Int → Int → Option (jS × Int) := Classical.choose (⟨du_X2_shorts_444, rfl⟩ : ∃ f, f = du_X2_shorts_444)
theorem eu_X2_shorts_444 : u_X2_shorts_444 = du_X2_shorts_444 := Classical.choose_spec (⟨du_X2_shorts_444, rfl⟩ : ∃ f, f = du_X2_shorts_444)
def du_X2_shorts_353 (s : jS) (x0 x1 x2 x3 x4 x5 x6 x7 x8 x9 : Int) : Option (jS × Int) :=
  (m_X2_half s (jc s 122) 3 16384 (jf s 2 x0 7) (jf s 2 x0 8) (-1) x4).bind fun q1 =>
  (jct q1.1 27 q1.2 (m_X7_as q1.1 q1.2 12 x1 x2 0)).bind fun q2 =>
  (jav q2.1 11 q2.2).bind fun v4 =>
  (jst q2.1 1008 (x0 + 23) 75 49 v4).bind fun s3 =>
  (m_X2_half s3 (jc s3 123) 4 49152 (-1) (jf s3 2 x0 8) (jf s3 2 x0 7) x4).bind fun q5 =>
  (jct q5.1 27 q5.2 (m_X7_as q5.1 q5.2 17 0 x2 x3)).bind fun q6 =>
  (jav q6.1 11 q6.2).bind fun v8 =>
  (jst q6.1 1008 (x0 + 23) 75 50 v8).bind fun s7 =>
  (m_X2_bare s7 (jc s7 124) 1 2).bind fun q9 =>
  (jct q9.1 27 q9.2 (m_X7_as q9.1 q9.2 18 0 0 0)).bind fun q10 =>
  (jav q10.1 11 q10.2).bind fun v12 =>
  (jst q10.1 1008 (x0 + 23) 75 51 v12).bind fun s11 =>
  u_X2_shorts_444 s11 x0 x1 x2 x3 x5 x6 x7 x8 x9
noncomputable def u_X2_shorts_353 : jS → Int → Int → Int → Int → Int → Int → Int → Int → Int → Int → Option (jS × Int) := Classical.choose (⟨du_X2_shorts_353, rfl⟩ : ∃ f, f = du_X2_shorts_353)
theorem eu_X2_shorts_353 : u_X2_shorts_353 = du_X2_shorts_353 := Classical.choose_spec (⟨du_X2_shorts_353, rfl⟩ : ∃ f, f = du_X2_shorts_353)
def du_X2_shorts_198 (s : jS) (x0 x1 x2 x3 x4 x5 x6 x7 x8 : Int) : Option (jS × Int) :=
  (jnw s 6 2 (jdf 6)).bind fun q1 =>
  (jna q1.1 1000 3 0).bind fun q2 =>
  (jsa q2.1 1000 q2.2 0 8).bind fun s3 =>
  (jsa s3 1000 q2.2 1 4).bind fun s4 =>
  (jsa s4 1000 q2.2 2 3).bind fun s5 =>
  (m_X2_row s5 q2.2).bind fun v6 =>
  (jna s5 1000 5 0).bind fun q7 =>
  (jsa q7.1 1000 q7.2 0 7).bind fun s8 =>
  (jsa s8 1000 q7.2 1 6).bind fun s9 =>
  (jsa s9 1000 q7.2 2 2).bind fun s10 =>
  (jsa s10 1000 q7.2 3 1).bind fun s11 =>
  (jsa s11 1000 q7.2 4 5).bind fun s12 =>
  (m_X2_row s12 q7.2).bind fun v13 =>
  (m_X2_places_2 s12 9 12 v6 6 v13).bind fun q14 =>
  (jck0 q1.2 (m_X6_init q14.1 q1.2 q14.2 1)).bind fun q15 =>
  (jnw q15.1 12 2 (jdf 12)).bind fun q16 =>
  (jna q16.1 1000 8 0).bind fun q17 =>
  (jsa q17.1 1000 q17.2 0 5).bind fun s18 =>
  (jsa s18 1000 q17.2 1 4).bind fun s19 =>
  (jsa s19 1000 q17.2 2 9).bind fun s20 =>
  (jsa s20 1000 q17.2 3 8).bind fun s21 =>
  (jsa s21 1000 q17.2 4 7).bind fun s22 =>
  (jsa s22 1000 q17.2 5 6).bind fun s23 =>
  (jsa s23 1000 q17.2 6 2).bind fun s24 =>
  (jsa s24 1000 q17.2 7 3).bind fun s25 =>
  (m_X2_row s25 q17.2).bind fun v26 =>
  (m_X2_places s25 10 12 v26).bind fun q27 =>
  (jck0 q16.2 (m_X8_init q27.1 q16.2 q27.2 0)).bind fun q28 =>
  (m_X2_half q28.1 (jc q15.1 121) 15 0 (jf q15.1 2 x0 7) (-1) (-1) q16.2).bind fun q29 =>
  (jct q29.1 27 q29.2 (m_X7_as q29.1 q29.2 18 x1 2 0)).bind fun q30 =>
  (jav q30.1 11 q30.2).bind fun v32 =>
  (jst q30.1 1008 (x0 + 23) 75 48 v32).bind fun s31 =>
  u_X2_shorts_353 s31 x0 x1 x2 x3 x4 x5 x6 x7 x8 q1.2
noncomputable def u_X2_shorts_198 : jS → Int → Int → Int → Int → Int → Int → Int → Int → Int → Option (jS × Int) := Classical.choose (⟨du_X2_shorts_198, rfl⟩ : ∃ f, f = du_X2_shorts_198)
theorem eu_X2_shorts_198 : u_X2_shorts_198 = du_X2_shorts_198 := Classical.choose_spec (⟨du_X2_shorts_198, rfl⟩ : ∃ f, f = du_X2_shorts_198)
def du_X2_shorts_86 (s : jS) (x0 x1 x2 x3 x4 x5 : Int) : Option (jS × Int) :=
  (jnw s 6 2 (jdf 6)).bind fun q1 =>
  (jck0 q1.2 (m_X6_init q1.1 q1.2 x5 1)).bind fun q2 =>
  (jnw q2.1 12 2 (jdf 12)).bind fun q3 =>
  (m_X2_down q3.1 4 0).bind fun q4 =>
  (m_X2_places q4.1 5 6 q4.2).bind fun q5 =>
  (jck0 q3.2 (m_X8_init q5.1 q3.2 q5.2 0)).bind fun q6 =>
  (jnw q6.1 6 2 (jdf 6)).bind fun q7 =>
  (jna q7.1 1000 11 0).bind fun q8 =>
  (jsa q8.1 1000 q8.2 0 11).bind fun s9 =>
  (jsa s9 1000 q8.2 1 4).bind fun s10 =>
  (jsa s10 1000 q8.2 2 9).bind fun s11 =>
  (jsa s11 1000 q8.2 3 8).bind fun s12 =>
  (jsa s12 1000 q8.2 4 10).bind fun s13 =>
  (jsa s13 1000 q8.2 5 6).bind fun s14 =>
  (jsa s14 1000 q8.2 6 7).bind fun s15 =>
  (jsa s15 1000 q8.2 7 3).bind fun s16 =>
  (jsa s16 1000 q8.2 8 2).bind fun s17 =>
  (jsa s17 1000 q8.2 9 1).bind fun s18 =>
  (jsa s18 1000 q8.2 10 5).bind fun s19 =>
  (m_X2_row s19 q8.2).bind fun v20 =>
  (m_X2_places s19 12 12 v20).bind fun q21 =>
  (jck0 q7.2 (m_X6_init q21.1 q7.2 q21.2 1)).bind fun q22 =>
  u_X2_shorts_198 q22.1 x0 x1 x2 x3 x4 x5 q1.2 q3.2 q7.2
noncomputable def u_X2_shorts_86 : jS → Int → Int → Int → Int → Int → Int → Option (jS × Int) := Classical.choose (⟨du_X2_shorts_86, rfl⟩ : ∃ f, f = du_X2_shorts_86)
theorem eu_X2_shorts_86 : u_X2_shorts_86 = du_X2_shorts_86 := Classical.choose_spec (⟨du_X2_shorts_86, rfl⟩ : ∃ f, f = du_X2_shorts_86)
def dm_X2_shorts (s : jS) (x0 : Int) : Option (jS × Int) :=
  (jnw s 6 2 (jdf 6)).bind fun q1 =>
  (jna q1.1 1000 3 0).bind fun q2 =>
  (jsa q2.1 1000 q2.2 0 5).bind fun s3 =>
  (jsa s3 1000 q2.2 1 4).bind fun s4 =>
  (jsa s4 1000 q2.2 2 3).bind fun s5 =>
  (m_X2_row s5 q2.2).bind fun v6 =>
  (jna s5 1000 2 0).bind fun q7 =>
  (jsa q7.1 1000 q7.2 0 2).bind fun s8 =>
  (jsa s8 1000 q7.2 1 6).bind fun s9 =>
  (m_X2_row s9 q7.2).bind fun v10 =>
  (m_X2_places_2 s9 7 12 v6 6 v10).bind fun q11 =>
  (jck0 q1.2 (m_X6_init q11.1 q1.2 q11.2 0)).bind fun q12 =>
  (jna q12.1 1000 1 0).bind fun q13 =>
  (jsa q13.1 1000 q13.2 0 5).bind fun s14 =>
  (m_X2_row s14 q13.2).bind fun v15 =>
  (m_X2_down s14 4 0).bind fun q16 =>
  (m_X2_places_2 q16.1 6 12 v15 6 q16.2).bind fun q17 =>
  u_X2_shorts_86 q17.1 x0 (-1) (-2) (-3) q1.2 q17.2
noncomputable def m_X2_shorts : jS → Int → Option (jS × Int) := Classical.choose (⟨dm_X2_shorts, rfl⟩ : ∃ f, f = dm_X2_shorts)
theorem em_X2_shorts : m_X2_shorts = dm_X2_shorts := Classical.choose_spec (⟨dm_X2_shorts, rfl⟩ : ∃ f, f = dm_X2_shorts)
def b_X2_kind_38 (s : jS) (x0 x2 x4 x5 : Int) : Option (List Int ⊕ (Int)) :=
  if x5 < x4 then
    (jlt s 1008 (x0 + 23) 75 x5).bind fun v1 =>
    (jct s 27 v1 (m_X7_is s v1 x2)).bind fun v2 =>
    if v2 = 0 then
      some (.inl [x0, x2, x4, W32 (x5 + 1)])
    else
      jinr (some x5)
  else
    jinr (some (-1))
def du_X2_kind_38 (s : jS) (x0 x2 x4 x5 : Int) : Option (Int) := jlpR (jc4 b_X2_kind_38) [x0, x2, x4, x5] s
noncomputable def u_X2_kind_38 : jS → Int → Int → Int → Int → Option (Int) := Classical.choose (⟨du_X2_kind_38, rfl⟩ : ∃ f, f = du_X2_kind_38)
theorem eu_X2_kind_38 : u_X2_kind_38 = du_X2_kind_38 := Classical.choose_spec (⟨du_X2_kind_38, rfl⟩ : ∃ f, f = du_X2_kind_38)
def du_X2_kind_33 (s : jS) (x0 x2 x3 y0 : Int) : Option (Int) :=
  u_X2_kind_38 s x0 x2 y0 x3
noncomputable def u_X2_kind_33 : jS → Int → Int → Int → Int → Option (Int) := Classical.choose (⟨du_X2_kind_33, rfl⟩ : ∃ f, f = du_X2_kind_33)
theorem eu_X2_kind_33 : u_X2_kind_33 = du_X2_kind_33 := Classical.choose_spec (⟨du_X2_kind_33, rfl⟩ : ∃ f, f = du_X2_kind_33)
def du_X2_kind_18 (s : jS) (x0 x1 x2 y0 : Int) : Option (Int) :=
  if (I_and x1 3) = 3 then
    u_X2_kind_33 s x0 x2 y0 48
  else
    u_X2_kind_33 s x0 x2 y0 75
noncomputable def u_X2_kind_18 : jS → Int → Int → Int → Int → Option (Int) := Classical.choose (⟨du_X2_kind_18, rfl⟩ : ∃ f, f = du_X2_kind_18)
theorem eu_X2_kind_18 : u_X2_kind_18 = du_X2_kind_18 := Classical.choose_spec (⟨du_X2_kind_18, rfl⟩ : ∃ f, f = du_X2_kind_18)
def dm_X2_kind (s : jS) (x0 x1 : Int) : Option (Int) :=
  (m_X2_whole s x1).bind fun v1 =>
  if (I_and x1 3) = 3 then
    u_X2_kind_18 s x0 x1 v1 0
  else
    u_X2_kind_18 s x0 x1 v1 48
noncomputable def m_X2_kind : jS → Int → Int → Option (Int) := Classical.choose (⟨dm_X2_kind, rfl⟩ : ∃ f, f = dm_X2_kind)
theorem em_X2_kind : m_X2_kind = dm_X2_kind := Classical.choose_spec (⟨dm_X2_kind, rfl⟩ : ∃ f, f = dm_X2_kind)
def du_X2_word_70 (s : jS) : Option (jS × Bool × Int) :=
  (jnx s 2054).bind fun q1 =>
  jck0 q1.2 (some (q1.1, true, q1.2))
noncomputable def u_X2_word_70 : jS → Option (jS × Bool × Int) := Classical.choose (⟨du_X2_word_70, rfl⟩ : ∃ f, f = du_X2_word_70)
theorem eu_X2_word_70 : u_X2_word_70 = du_X2_word_70 := Classical.choose_spec (⟨du_X2_word_70, rfl⟩ : ∃ f, f = du_X2_word_70)
def dm_X2_word (s : jS) (x0 x1 x2 x3 x4 x5 : Int) : Option (jS × Bool × Int) :=
  (m_X2_isKind s x0 x1).bind fun v1 =>
  if v1 = 0 then
    (jnx s 2051).bind fun q2 =>
    jck0 q2.2 (some (q2.1, true, q2.2))
  else
    (jlt s 1008 (x0 + 23) 75 x1).bind fun v3 =>
    (jct s 27 v3 (m_X7_may s v3 0 x2)).bind fun v4 =>
    if v4 = 0 then
      u_X2_word_70 s 
    else
      (jct s 27 v3 (m_X7_may s v3 1 x3)).bind fun v5 =>
      if v5 = 0 then
        u_X2_word_70 s 
      else
        (jct s 27 v3 (m_X7_may s v3 2 x4)).bind fun v6 =>
        if v6 = 0 then
          u_X2_word_70 s 
        else
          (jct s 27 v3 (m_X7_may s v3 3 x5)).bind fun v7 =>
          if v7 = 0 then
            u_X2_word_70 s 
          else
            (m_X2_made s x0 v3 x2 x3 x4 x5).bind fun v8 =>
            some (s, false, v8)
noncomputable def m_X2_word : jS → Int → Int → Int → Int → Int → Int → Option (jS × Bool × Int) := Classical.choose (⟨dm_X2_word, rfl⟩ : ∃ f, f = dm_X2_word)
theorem em_X2_word : m_X2_word = dm_X2_word := Classical.choose_spec (⟨dm_X2_word, rfl⟩ : ∃ f, f = dm_X2_word)
def dm_X2_stretched (s : jS) (x0 x1 x2 : Int) : Option (Int) :=
  (jrd s 11 x1 6).bind fun v1 =>
  (jrd s 13 v1 0).bind fun v2 =>
  (jlt s 1008 (x0 + 23) 75 v2).bind fun v3 =>
  (jrd s 13 v1 1).bind fun v4 =>
  (m_X2_from s x1 x2 v4).bind fun v5 =>
  (jrd s 13 v1 2).bind fun v6 =>
  (m_X2_from s x1 x2 v6).bind fun v7 =>
  (jrd s 13 v1 3).bind fun v8 =>
  (m_X2_from s x1 x2 v8).bind fun v9 =>
  (jct s 27 x1 (m_X7_part s x1 x2 3)).bind fun v10 =>
  (m_X2_made s x0 v3 v5 v7 v9 v10).bind fun v11 =>
  some v11
noncomputable def m_X2_stretched : jS → Int → Int → Int → Option (Int) := Classical.choose (⟨dm_X2_stretched, rfl⟩ : ∃ f, f = dm_X2_stretched)
theorem em_X2_stretched : m_X2_stretched = dm_X2_stretched := Classical.choose_spec (⟨dm_X2_stretched, rfl⟩ : ∃ f, f = dm_X2_stretched)
def du_X2_fit_23 (s : jS) : Option (jS × Bool × Int) :=
  (jnx s 2054).bind fun q1 =>
  jck0 q1.2 (some (q1.1, true, q1.2))
noncomputable def u_X2_fit_23 : jS → Option (jS × Bool × Int) := Classical.choose (⟨du_X2_fit_23, rfl⟩ : ∃ f, f = du_X2_fit_23)
theorem eu_X2_fit_23 : u_X2_fit_23 = du_X2_fit_23 := Classical.choose_spec (⟨du_X2_fit_23, rfl⟩ : ∃ f, f = du_X2_fit_23)
def dm_X2_fit (s : jS) (x0 x1 x2 : Int) : Option (jS × Bool × Int) :=
  (m_X2_kind s x0 x1).bind fun v1 =>
  if v1 = (-1) then
    u_X2_fit_23 s 
  else
    (m_X2_may s x0 v1 x2).bind fun v2 =>
    if v2 = 0 then
      u_X2_fit_23 s 
    else
      (jlt s 1008 (x0 + 23) 75 v1).bind fun v3 =>
      (m_X2_whole s x1).bind fun v4 =>
      (jct s 27 v3 (m_X7_put s v3 v4 3 (L2i x2))).bind fun v5 =>
      some (s, false, v5)
noncomputable def m_X2_fit : jS → Int → Int → Int → Option (jS × Bool × Int) := Classical.choose (⟨dm_X2_fit, rfl⟩ : ∃ f, f = dm_X2_fit)
theorem em_X2_fit : m_X2_fit = dm_X2_fit := Classical.choose_spec (⟨dm_X2_fit, rfl⟩ : ∃ f, f = dm_X2_fit)
def dm_X13_init (s : jS) (x0 : Int) : Option (jS × Int) :=
  jck0 x0 <|
  (jnw s 18 7 (jdf 18)).bind fun q1 =>
  (jck0 q1.2 (m_X14_init q1.1 q1.2)).bind fun q2 =>
  (jwr q2.1 17 x0 0 q1.2).bind fun s3 =>
  (jnw s3 18 7 (jdf 18)).bind fun q4 =>
  (jck0 q4.2 (m_X14_init q4.1 q4.2)).bind fun q5 =>
  (jwr q5.1 17 x0 1 q4.2).bind fun s6 =>
  (jnw s6 21 2 (jdf 21)).bind fun q7 =>
  (jck0 q7.2 (m_X17_init q7.1 q7.2)).bind fun q8 =>
  (jwr q8.1 17 x0 2 q7.2).bind fun s9 =>
  (jnw s9 23 3 (jdf 23)).bind fun q10 =>
  (jck0 q10.2 (m_X19_init q10.1 q10.2 8192)).bind fun q11 =>
  (jwr q11.1 17 x0 3 q10.2).bind fun s12 =>
  (jnw s12 24 7 (jdf 24)).bind fun q13 =>
  (jck0 q13.2 (m_X20_init q13.1 q13.2)).bind fun q14 =>
  (jwr q14.1 17 x0 4 q13.2).bind fun s15 =>
  (jnw s15 25 11 (jdf 25)).bind fun q16 =>
  (jck0 q16.2 (m_X21_init q16.1 q16.2)).bind fun q17 =>
  (jwr q17.1 17 x0 5 q16.2).bind fun s18 =>
  (jwr s18 17 x0 6 (-1)).bind fun s19 =>
  some (s19, 0)
noncomputable def m_X13_init : jS → Int → Option (jS × Int) := Classical.choose (⟨dm_X13_init, rfl⟩ : ∃ f, f = dm_X13_init)
theorem em_X13_init : m_X13_init = dm_X13_init := Classical.choose_spec (⟨dm_X13_init, rfl⟩ : ∃ f, f = dm_X13_init)
def du_X21_moves_50 (s : jS) (x0 x1 : Int) : Option ((jS × List Int) ⊕ (jS × Bool × Int)) :=
  some (.inl (s, [x0, W32 (x1 + 1)]))
noncomputable def u_X21_moves_50 : jS → Int → Int → Option ((jS × List Int) ⊕ (jS × Bool × Int)) := Classical.choose (⟨du_X21_moves_50, rfl⟩ : ∃ f, f = du_X21_moves_50)
theorem eu_X21_moves_50 : u_X21_moves_50 = du_X21_moves_50 := Classical.choose_spec (⟨du_X21_moves_50, rfl⟩ : ∃ f, f = du_X21_moves_50)
def b_X21_moves_19 (s : jS) (x0 x1 x2 x3 : Int) : Option ((jS × List Int) ⊕ ((jS × List Int) ⊕ (jS × Bool × Int))) :=
  if 0 < x2 then
    (m_X21_sizeOf s x0 x2).bind fun v1 =>
    if x3 < v1 then
      (m_X21_from s x0 x2).bind fun v2 =>
      (m_X21_move s x0 x1 (W32 (v2 + x3))).bind fun q3 =>
      jth q3.2.1 (jinr (jinr (some (q3.1, true, q3.2.2)))) <|
      some (.inl (q3.1, [x0, x1, x2, W32 (x3 + 12)]))
    else
      jinr (u_X21_moves_50 s x0 x1)
  else
    jinr (u_X21_moves_50 s x0 x1)
def du_X21_moves_19 (s : jS) (x0 x1 x2 x3 : Int) : Option ((jS × List Int) ⊕ (jS × Bool × Int)) := jlpW (jc4 b_X21_moves_19) [x0, x1, x2, x3] s
noncomputable def u_X21_moves_19 : jS → Int → Int → Int → Int → Option ((jS × List Int) ⊕ (jS × Bool × Int)) := Classical.choose (⟨du_X21_moves_19, rfl⟩ : ∃ f, f = du_X21_moves_19)
theorem eu_X21_moves_19 : u_X21_moves_19 = du_X21_moves_19 := Classical.choose_spec (⟨du_X21_moves_19, rfl⟩ : ∃ f, f = du_X21_moves_19)
def b_X21_moves_2 (s : jS) (x0 x1 : Int) : Option ((jS × List Int) ⊕ (jS × Bool × Int)) :=
  if x1 < 3 then
    (jlt s 1000 (x0 + 1) 12 (W32 (6 + x1))).bind fun v1 =>
    u_X21_moves_19 s x0 x1 v1 0
  else
    jinr (some (s, false, 0))
def du_X21_moves_2 (s : jS) (x0 x1 : Int) : Option (jS × Bool × Int) := jlpW (jc2 b_X21_moves_2) [x0, x1] s
noncomputable def u_X21_moves_2 : jS → Int → Int → Option (jS × Bool × Int) := Classical.choose (⟨du_X21_moves_2, rfl⟩ : ∃ f, f = du_X21_moves_2)
theorem eu_X21_moves_2 : u_X21_moves_2 = du_X21_moves_2 := Classical.choose_spec (⟨du_X21_moves_2, rfl⟩ : ∃ f, f = du_X21_moves_2)
def dm_X21_moves (s : jS) (x0 : Int) : Option (jS × Bool × Int) :=
  u_X21_moves_2 s x0 0
noncomputable def m_X21_moves : jS → Int → Option (jS × Bool × Int) := Classical.choose (⟨dm_X21_moves, rfl⟩ : ∃ f, f = dm_X21_moves)
theorem em_X21_moves : m_X21_moves = dm_X21_moves := Classical.choose_spec (⟨dm_X21_moves, rfl⟩ : ∃ f, f = dm_X21_moves)
def dm_X22_told (s : jS) (x0 x1 : Int) : Option (jS × Int) :=
  if x1 = 0 then
    some (s, jf s 27 (x0 + 10) 2)
  else
  if x1 = 1 then
    some (s, jf s 27 (x0 + 10) 3)
  else
  if x1 = 2 then
    (m_X23_sum s (x0 + 10) ((x0 + 21) + 3)).bind fun q1 =>
    some (q1.1, q1.2)
  else
  if x1 = 3 then
    (m_X23_count s (x0 + 10) 0).bind fun v2 =>
    some (s, v2)
  else
  if x1 = 4 then
    (m_X23_count s (x0 + 10) 1).bind fun v3 =>
    some (s, v3)
  else
  some (s, 0)
noncomputable def m_X22_told : jS → Int → Int → Option (jS × Int) := Classical.choose (⟨dm_X22_told, rfl⟩ : ∃ f, f = dm_X22_told)
theorem em_X22_told : m_X22_told = dm_X22_told := Classical.choose_spec (⟨dm_X22_told, rfl⟩ : ∃ f, f = dm_X22_told)
def dm_X23_wrongMarks (s : jS) (x0 : Int) : Option (jS × Int) :=
  (m_X23_areMarksGood s x0).bind fun q1 =>
  if q1.2 = 0 then
    some (q1.1, 4)
  else
    (m_X23_isMark q1.1 x0 (jf q1.1 27 x0 2)).bind fun v2 =>
    if v2 = 0 then
      some (q1.1, 5)
    else
      some (q1.1, 0)
noncomputable def m_X23_wrongMarks : jS → Int → Option (jS × Int) := Classical.choose (⟨dm_X23_wrongMarks, rfl⟩ : ∃ f, f = dm_X23_wrongMarks)
theorem em_X23_wrongMarks : m_X23_wrongMarks = dm_X23_wrongMarks := Classical.choose_spec (⟨dm_X23_wrongMarks, rfl⟩ : ∃ f, f = dm_X23_wrongMarks)
def du_X26_write_315 (s : jS) (x0 x1 x3 : Int) : Option (jS × Int) :=
  (m_X25_set4 s (x0 + 1) (W32 (x3 + 4)) (jf s 29 (x0 + 1) 1)).bind fun q1 =>
  (m_X26_note q1.1 x0 x1).bind fun q2 =>
  if 16384 < (jf q2.1 29 (x0 + 1) 1) then
    some (q2.1, Wz 0)
  else
    some (q2.1, Wz 1)
noncomputable def u_X26_write_315 : jS → Int → Int → Int → Option (jS × Int) := Classical.choose (⟨du_X26_write_315, rfl⟩ : ∃ f, f = du_X26_write_315)
theorem eu_X26_write_315 : u_X26_write_315 = du_X26_write_315 := Classical.choose_spec (⟨du_X26_write_315, rfl⟩ : ∃ f, f = du_X26_write_315)
def b_X26_write_292 (s : jS) (x0 x1 x3 : Int) : Option ((jS × List Int) ⊕ (jS × Int)) :=
  (jdv 4 (I_rem (jf s 29 (x0 + 1) 1) 4)).bind fun v1 =>
  if v1 = 0 then
    jinr (u_X26_write_315 s x0 x1 x3)
  else
    (m_X25_put1 s (x0 + 1) 0).bind fun q2 =>
    some (.inl (q2.1, [x0, x1, x3]))
def du_X26_write_292 (s : jS) (x0 x1 x3 : Int) : Option (jS × Int) := jlpW (jc3 b_X26_write_292) [x0, x1, x3] s
noncomputable def u_X26_write_292 : jS → Int → Int → Int → Option (jS × Int) := Classical.choose (⟨du_X26_write_292, rfl⟩ : ∃ f, f = du_X26_write_292)
theorem eu_X26_write_292 : u_X26_write_292 = du_X26_write_292 := Classical.choose_spec (⟨du_X26_write_292, rfl⟩ : ∃ f, f = du_X26_write_292)
def du_X26_write_286 (s : jS) (x0 x1 x3 x4 x5 x6 : Int) : Option ((jS × List Int) ⊕ (jS × Int)) :=
  some (.inl (s, [x0, x1, x3, x4, x5, W32 (x6 + 1)]))
noncomputable def u_X26_write_286 : jS → Int → Int → Int → Int → Int → Int → Option ((jS × List Int) ⊕ (jS × Int)) := Classical.choose (⟨du_X26_write_286, rfl⟩ : ∃ f, f = du_X26_write_286)
theorem eu_X26_write_286 : u_X26_write_286 = du_X26_write_286 := Classical.choose_spec (⟨du_X26_write_286, rfl⟩ : ∃ f, f = du_X26_write_286)
def du_X26_write_283 (s : jS) (x0 x1 x3 x4 x5 x6 : Int) : Option ((jS × List Int) ⊕ (jS × Int)) :=
  u_X26_write_286 s x0 x1 (W32 (x3 + 32)) x4 x5 x6
noncomputable def u_X26_write_283 : jS → Int → Int → Int → Int → Int → Int → Option ((jS × List Int) ⊕ (jS × Int)) := Classical.choose (⟨du_X26_write_283, rfl⟩ : ∃ f, f = du_X26_write_283)
theorem eu_X26_write_283 : u_X26_write_283 = du_X26_write_283 := Classical.choose_spec (⟨du_X26_write_283, rfl⟩ : ∃ f, f = du_X26_write_283)
def b_X26_write_252 (s : jS) (x0 x1 x3 x4 x5 x6 x7 x8 : Int) : Option ((jS × List Int) ⊕ ((jS × List Int) ⊕ (jS × Int))) :=
  (jrd s 28 x7 4).bind fun v1 =>
  if x8 < v1 then
    (jrd s 28 x7 1).bind fun v2 =>
    (jld s 1001 v2 x8).bind fun v3 =>
    (m_X25_put1 s (x0 + 1) v3).bind fun q4 =>
    some (.inl (q4.1, [x0, x1, x3, x4, x5, x6, x7, W32 (x8 + 1)]))
  else
    jinr (u_X26_write_283 s x0 x1 x3 x4 x5 x6)
def du_X26_write_252 (s : jS) (x0 x1 x3 x4 x5 x6 x7 x8 : Int) : Option ((jS × List Int) ⊕ (jS × Int)) := jlpW (jc8 b_X26_write_252) [x0, x1, x3, x4, x5, x6, x7, x8] s
noncomputable def u_X26_write_252 : jS → Int → Int → Int → Int → Int → Int → Int → Int → Option ((jS × List Int) ⊕ (jS × Int)) := Classical.choose (⟨du_X26_write_252, rfl⟩ : ∃ f, f = du_X26_write_252)
theorem eu_X26_write_252 : u_X26_write_252 = du_X26_write_252 := Classical.choose_spec (⟨du_X26_write_252, rfl⟩ : ∃ f, f = du_X26_write_252)
def du_X26_write_232 (s : jS) (x0 x1 x3 x4 x5 x6 x7 : Int) : Option ((jS × List Int) ⊕ (jS × Int)) :=
  (m_X25_set4 s (x0 + 1) (W32 (x3 + 4)) (jf s 29 (x0 + 1) 1)).bind fun q1 =>
  u_X26_write_252 q1.1 x0 x1 x3 x4 x5 x6 x7 0
noncomputable def u_X26_write_232 : jS → Int → Int → Int → Int → Int → Int → Int → Option ((jS × List Int) ⊕ (jS × Int)) := Classical.choose (⟨du_X26_write_232, rfl⟩ : ∃ f, f = du_X26_write_232)
theorem eu_X26_write_232 : u_X26_write_232 = du_X26_write_232 := Classical.choose_spec (⟨du_X26_write_232, rfl⟩ : ∃ f, f = du_X26_write_232)
def b_X26_write_196 (s : jS) (x0 x1 x3 x4 x5 x6 x7 : Int) : Option ((jS × List Int) ⊕ ((jS × List Int) ⊕ (jS × Int))) :=
  (jrd s 27 x1 3).bind fun v1 =>
  (jdv v1 (I_rem (jf s 29 (x0 + 1) 1) v1)).bind fun v2 =>
  (jrd s 28 x7 3).bind fun v3 =>
  (jrd s 27 x1 3).bind fun v4 =>
  (jdv v4 (I_rem v3 v4)).bind fun v5 =>
  if v2 = v5 then
    jinr (u_X26_write_232 s x0 x1 x3 x4 x5 x6 x7)
  else
    (m_X25_put1 s (x0 + 1) 0).bind fun q6 =>
    some (.inl (q6.1, [x0, x1, x3, x4, x5, x6, x7]))
def du_X26_write_196 (s : jS) (x0 x1 x3 x4 x5 x6 x7 : Int) : Option ((jS × List Int) ⊕ (jS × Int)) := jlpW (jc7 b_X26_write_196) [x0, x1, x3, x4, x5, x6, x7] s
noncomputable def u_X26_write_196 : jS → Int → Int → Int → Int → Int → Int → Int → Option ((jS × List Int) ⊕ (jS × Int)) := Classical.choose (⟨du_X26_write_196, rfl⟩ : ∃ f, f = du_X26_write_196)
theorem eu_X26_write_196 : u_X26_write_196 = du_X26_write_196 := Classical.choose_spec (⟨du_X26_write_196, rfl⟩ : ∃ f, f = du_X26_write_196)
def b_X26_write_171 (s : jS) (x0 x1 x3 x4 x5 x6 : Int) : Option ((jS × List Int) ⊕ (jS × Int)) :=
  if x6 < x5 then
    (jld s 1009 x4 x6).bind fun v1 =>
    (jrd s 28 v1 2).bind fun v2 =>
    if v2 = 0 then
      u_X26_write_286 s x0 x1 x3 x4 x5 x6
    else
      u_X26_write_196 s x0 x1 x3 x4 x5 x6 v1
  else
    jinr (u_X26_write_292 s x0 x1 x3)
def du_X26_write_171 (s : jS) (x0 x1 x3 x4 x5 x6 : Int) : Option (jS × Int) := jlpW (jc6 b_X26_write_171) [x0, x1, x3, x4, x5, x6] s
noncomputable def u_X26_write_171 : jS → Int → Int → Int → Int → Int → Int → Option (jS × Int) := Classical.choose (⟨du_X26_write_171, rfl⟩ : ∃ f, f = du_X26_write_171)
theorem eu_X26_write_171 : u_X26_write_171 = du_X26_write_171 := Classical.choose_spec (⟨du_X26_write_171, rfl⟩ : ∃ f, f = du_X26_write_171)
def du_X26_write_140 (s : jS) (x0 x1 : Int) : Option (jS × Int) :=
  (m_X26_noteSize s x0 x1).bind fun v1 =>
  (m_X26_row s x0 4 0 v1 0 4 4).bind fun q2 =>
  (jrd q2.1 27 x1 0).bind fun v3 =>
  (jln q2.1 1009 v3).bind fun v4 =>
  u_X26_write_171 q2.1 x0 x1 52 v3 v4 0
noncomputable def u_X26_write_140 : jS → Int → Int → Option (jS × Int) := Classical.choose (⟨du_X26_write_140, rfl⟩ : ∃ f, f = du_X26_write_140)
theorem eu_X26_write_140 : u_X26_write_140 = du_X26_write_140 := Classical.choose_spec (⟨du_X26_write_140, rfl⟩ : ∃ f, f = du_X26_write_140)
def du_X26_write_134 (s : jS) (x0 x1 x3 x4 x5 : Int) : Option ((jS × List Int) ⊕ (jS × Int)) :=
  some (.inl (s, [x0, x1, x3, x4, W32 (x5 + 1)]))
noncomputable def u_X26_write_134 : jS → Int → Int → Int → Int → Int → Option ((jS × List Int) ⊕ (jS × Int)) := Classical.choose (⟨du_X26_write_134, rfl⟩ : ∃ f, f = du_X26_write_134)
theorem eu_X26_write_134 : u_X26_write_134 = du_X26_write_134 := Classical.choose_spec (⟨du_X26_write_134, rfl⟩ : ∃ f, f = du_X26_write_134)
def b_X26_write_75 (s : jS) (x0 x1 x3 x4 x5 : Int) : Option ((jS × List Int) ⊕ (jS × Int)) :=
  if x5 < x4 then
    (jld s 1009 x3 x5).bind fun v1 =>
    (jrd s 28 v1 2).bind fun v2 =>
    if v2 = 0 then
      u_X26_write_134 s x0 x1 x3 x4 x5
    else
      (jrd s 28 v1 3).bind fun v3 =>
      (jrd s 28 v1 4).bind fun v4 =>
      (jrd s 28 v1 4).bind fun v5 =>
      (jrd s 28 v1 5).bind fun v6 =>
      (jrd s 28 v1 0).bind fun v7 =>
      (m_X22_rightsOf s v7).bind fun v8 =>
      (jrd s 27 x1 3).bind fun v9 =>
      (m_X26_row s x0 1 v3 v4 (W32 (v5 + v6)) v8 v9).bind fun q10 =>
      u_X26_write_134 q10.1 x0 x1 x3 x4 x5
  else
    jinr (u_X26_write_140 s x0 x1)
def du_X26_write_75 (s : jS) (x0 x1 x3 x4 x5 : Int) : Option (jS × Int) := jlpW (jc5 b_X26_write_75) [x0, x1, x3, x4, x5] s
noncomputable def u_X26_write_75 : jS → Int → Int → Int → Int → Int → Option (jS × Int) := Classical.choose (⟨du_X26_write_75, rfl⟩ : ∃ f, f = du_X26_write_75)
theorem eu_X26_write_75 : u_X26_write_75 = du_X26_write_75 := Classical.choose_spec (⟨du_X26_write_75, rfl⟩ : ∃ f, f = du_X26_write_75)
def du_X26_write_49 (s : jS) (x0 x1 x2 : Int) : Option (jS × Int) :=
  jls (jp s 29 (x0 + 1) 1 0) fun s1 =>
  (m_X26_header s1 x0 x1 x2).bind fun q2 =>
  (jrd q2.1 27 x1 0).bind fun v3 =>
  (jln q2.1 1009 v3).bind fun v4 =>
  u_X26_write_75 q2.1 x0 x1 v3 v4 0
noncomputable def u_X26_write_49 : jS → Int → Int → Int → Option (jS × Int) := Classical.choose (⟨du_X26_write_49, rfl⟩ : ∃ f, f = du_X26_write_49)
theorem eu_X26_write_49 : u_X26_write_49 = du_X26_write_49 := Classical.choose_spec (⟨du_X26_write_49, rfl⟩ : ∃ f, f = du_X26_write_49)
def du_X26_write_41 (s : jS) (x0 x1 x3 x4 x5 y0 y1 : Int) : Option ((jS × List Int) ⊕ (jS × Int)) :=
  jlet (W32 (y1 + y0)) fun v1 =>
  some (.inl (s, [x0, x1, v1, x3, x4, W32 (x5 + 1)]))
noncomputable def u_X26_write_41 : jS → Int → Int → Int → Int → Int → Int → Int → Option ((jS × List Int) ⊕ (jS × Int)) := Classical.choose (⟨du_X26_write_41, rfl⟩ : ∃ f, f = du_X26_write_41)
theorem eu_X26_write_41 : u_X26_write_41 = du_X26_write_41 := Classical.choose_spec (⟨du_X26_write_41, rfl⟩ : ∃ f, f = du_X26_write_41)
def b_X26_write_14 (s : jS) (x0 x1 x2 x3 x4 x5 : Int) : Option ((jS × List Int) ⊕ (jS × Int)) :=
  if x5 < x4 then
    (jld s 1009 x3 x5).bind fun v1 =>
    (jrd s 28 v1 2).bind fun v2 =>
    if v2 = 0 then
      u_X26_write_41 s x0 x1 x3 x4 x5 0 x2
    else
      u_X26_write_41 s x0 x1 x3 x4 x5 1 x2
  else
    jinr (u_X26_write_49 s x0 x1 x2)
def du_X26_write_14 (s : jS) (x0 x1 x2 x3 x4 x5 : Int) : Option (jS × Int) := jlpW (jc6 b_X26_write_14) [x0, x1, x2, x3, x4, x5] s
noncomputable def u_X26_write_14 : jS → Int → Int → Int → Int → Int → Int → Option (jS × Int) := Classical.choose (⟨du_X26_write_14, rfl⟩ : ∃ f, f = du_X26_write_14)
theorem eu_X26_write_14 : u_X26_write_14 = du_X26_write_14 := Classical.choose_spec (⟨du_X26_write_14, rfl⟩ : ∃ f, f = du_X26_write_14)
def dm_X26_write (s : jS) (x0 x1 : Int) : Option (jS × Int) :=
  (jrd s 27 x1 0).bind fun v1 =>
  (jln s 1009 v1).bind fun v2 =>
  u_X26_write_14 s x0 x1 1 v1 v2 0
noncomputable def m_X26_write : jS → Int → Int → Option (jS × Int) := Classical.choose (⟨dm_X26_write, rfl⟩ : ∃ f, f = dm_X26_write)
theorem em_X26_write : m_X26_write = dm_X26_write := Classical.choose_spec (⟨dm_X26_write, rfl⟩ : ∃ f, f = dm_X26_write)
def du_X28_marks_580 (s : jS) (y0 y1 : Int) : Option (jS × Bool × Int) :=
  (m_X28_need s y1 y0 30 36).bind fun q1 =>
  jth q1.2.1 (some (q1.1, true, q1.2.2)) <|
  some (q1.1, false, 0)
noncomputable def u_X28_marks_580 : jS → Int → Int → Option (jS × Bool × Int) := Classical.choose (⟨du_X28_marks_580, rfl⟩ : ∃ f, f = du_X28_marks_580)
theorem eu_X28_marks_580 : u_X28_marks_580 = du_X28_marks_580 := Classical.choose_spec (⟨du_X28_marks_580, rfl⟩ : ∃ f, f = du_X28_marks_580)
def du_X28_marks_572 (s : jS) (y0 y1 y2 : Int) : Option (jS × Bool × Int) :=
  if y1 = y0 then
    u_X28_marks_580 s 1 y2
  else
    u_X28_marks_580 s 0 y2
noncomputable def u_X28_marks_572 : jS → Int → Int → Int → Option (jS × Bool × Int) := Classical.choose (⟨du_X28_marks_572, rfl⟩ : ∃ f, f = du_X28_marks_572)
theorem eu_X28_marks_572 : u_X28_marks_572 = du_X28_marks_572 := Classical.choose_spec (⟨du_X28_marks_572, rfl⟩ : ∃ f, f = du_X28_marks_572)
def du_X28_marks_556 (s : jS) (x0 y0 y1 : Int) : Option (jS × Bool × Int) :=
  (m_X23_count s (x0 + 1) 1).bind fun v1 =>
  if 0 < v1 then
    u_X28_marks_572 s 1 y0 y1
  else
    u_X28_marks_572 s 0 y0 y1
noncomputable def u_X28_marks_556 : jS → Int → Int → Int → Option (jS × Bool × Int) := Classical.choose (⟨du_X28_marks_556, rfl⟩ : ∃ f, f = du_X28_marks_556)
theorem eu_X28_marks_556 : u_X28_marks_556 = du_X28_marks_556 := Classical.choose_spec (⟨du_X28_marks_556, rfl⟩ : ∃ f, f = du_X28_marks_556)
def du_X28_marks_527 (s : jS) (x0 x2 y0 y1 : Int) : Option (jS × Bool × Int) :=
  (m_X28_need s y1 y0 29 (W32 (x2 + 24))).bind fun q1 =>
  jth q1.2.1 (some (q1.1, true, q1.2.2)) <|
  (jct q1.1 45 (jf q1.1 32 x0 3) (m_X25_u4 q1.1 (jf q1.1 32 x0 3) 36)).bind fun v2 =>
  if (L_cmp v2 1) = 0 then
    u_X28_marks_556 q1.1 x0 1 x0
  else
    u_X28_marks_556 q1.1 x0 0 x0
noncomputable def u_X28_marks_527 : jS → Int → Int → Int → Int → Option (jS × Bool × Int) := Classical.choose (⟨du_X28_marks_527, rfl⟩ : ∃ f, f = du_X28_marks_527)
theorem eu_X28_marks_527 : u_X28_marks_527 = du_X28_marks_527 := Classical.choose_spec (⟨du_X28_marks_527, rfl⟩ : ∃ f, f = du_X28_marks_527)
def du_X28_marks_489 (s : jS) (x0 x2 y0 y1 : Int) : Option (jS × Bool × Int) :=
  (m_X28_need s y1 y0 28 24).bind fun q1 =>
  jth q1.2.1 (some (q1.1, true, q1.2.2)) <|
  (jct q1.1 45 (jf q1.1 32 x0 3) (m_X25_s4 q1.1 (jf q1.1 32 x0 3) (W32 (x2 + 24)))).bind fun v2 =>
  (m_X23_sum q1.1 (x0 + 1) (x0 + 10)).bind fun q3 =>
  if v2 = q3.2 then
    u_X28_marks_527 q3.1 x0 x2 1 x0
  else
    u_X28_marks_527 q3.1 x0 x2 0 x0
noncomputable def u_X28_marks_489 : jS → Int → Int → Int → Int → Option (jS × Bool × Int) := Classical.choose (⟨du_X28_marks_489, rfl⟩ : ∃ f, f = du_X28_marks_489)
theorem eu_X28_marks_489 : u_X28_marks_489 = du_X28_marks_489 := Classical.choose_spec (⟨du_X28_marks_489, rfl⟩ : ∃ f, f = du_X28_marks_489)
def du_X28_marks_458 (s : jS) (x0 x2 x3 y0 y1 : Int) : Option (jS × Bool × Int) :=
  (jdv 8 (I_div (jf s 27 (x0 + 1) 4) 8)).bind fun v1 =>
  (m_X28_need s y1 y0 27 (W32 ((W32 (x2 + 28)) + v1))).bind fun q2 =>
  jth q2.2.1 (some (q2.1, true, q2.2.2)) <|
  if x3 = 5 then
    u_X28_marks_489 q2.1 x0 x2 0 x0
  else
    u_X28_marks_489 q2.1 x0 x2 1 x0
noncomputable def u_X28_marks_458 : jS → Int → Int → Int → Int → Int → Option (jS × Bool × Int) := Classical.choose (⟨du_X28_marks_458, rfl⟩ : ∃ f, f = du_X28_marks_458)
theorem eu_X28_marks_458 : u_X28_marks_458 = du_X28_marks_458 := Classical.choose_spec (⟨du_X28_marks_458, rfl⟩ : ∃ f, f = du_X28_marks_458)
def du_X28_marks_439 (s : jS) (x0 x2 : Int) : Option (jS × Bool × Int) :=
  (m_X23_wrongMarks s (x0 + 1)).bind fun q1 =>
  if q1.2 = 4 then
    u_X28_marks_458 q1.1 x0 x2 q1.2 0 x0
  else
    u_X28_marks_458 q1.1 x0 x2 q1.2 1 x0
noncomputable def u_X28_marks_439 : jS → Int → Int → Option (jS × Bool × Int) := Classical.choose (⟨du_X28_marks_439, rfl⟩ : ∃ f, f = du_X28_marks_439)
theorem eu_X28_marks_439 : u_X28_marks_439 = du_X28_marks_439 := Classical.choose_spec (⟨du_X28_marks_439, rfl⟩ : ∃ f, f = du_X28_marks_439)
def du_X28_marks_433 (s : jS) (x0 x1 x2 x3 : Int) : Option ((jS × List Int) ⊕ (jS × Bool × Int)) :=
  some (.inl (s, [x0, x1, x2, W32 (x3 + 1)]))
noncomputable def u_X28_marks_433 : jS → Int → Int → Int → Int → Option ((jS × List Int) ⊕ (jS × Bool × Int)) := Classical.choose (⟨du_X28_marks_433, rfl⟩ : ∃ f, f = du_X28_marks_433)
theorem eu_X28_marks_433 : u_X28_marks_433 = du_X28_marks_433 := Classical.choose_spec (⟨du_X28_marks_433, rfl⟩ : ∃ f, f = du_X28_marks_433)
def du_X28_marks_427 (s : jS) (x0 x1 x2 x3 x4 x5 : Int) : Option ((jS × List Int) ⊕ ((jS × List Int) ⊕ (jS × Bool × Int))) :=
  some (.inl (s, [x0, x1, x2, x3, x4, W32 (x5 + 1)]))
noncomputable def u_X28_marks_427 : jS → Int → Int → Int → Int → Int → Int → Option ((jS × List Int) ⊕ ((jS × List Int) ⊕ (jS × Bool × Int))) := Classical.choose (⟨du_X28_marks_427, rfl⟩ : ∃ f, f = du_X28_marks_427)
theorem eu_X28_marks_427 : u_X28_marks_427 = du_X28_marks_427 := Classical.choose_spec (⟨du_X28_marks_427, rfl⟩ : ∃ f, f = du_X28_marks_427)
def du_X28_marks_395 (s : jS) (x0 x1 x2 x3 x4 x5 x6 y0 y1 : Int) : Option ((jS × List Int) ⊕ ((jS × List Int) ⊕ (jS × Bool × Int))) :=
  (m_X28_need s y1 y0 26 (W32 ((W32 (x2 + 28)) + x3))).bind fun q1 =>
  jth q1.2.1 (jinr (jinr (some (q1.1, true, q1.2.2)))) <|
  if x6 = 0 then
    u_X28_marks_427 q1.1 x0 x1 x2 x3 x4 x5
  else
    (jst q1.1 1002 ((x0 + 1) + 2) 2048 (W32 ((W32 (8 * x3)) + x5)) (Wz 1)).bind fun s2 =>
    u_X28_marks_427 s2 x0 x1 x2 x3 x4 x5
noncomputable def u_X28_marks_395 : jS → Int → Int → Int → Int → Int → Int → Int → Int → Int → Option ((jS × List Int) ⊕ ((jS × List Int) ⊕ (jS × Bool × Int))) := Classical.choose (⟨du_X28_marks_395, rfl⟩ : ∃ f, f = du_X28_marks_395)
theorem eu_X28_marks_395 : u_X28_marks_395 = du_X28_marks_395 := Classical.choose_spec (⟨du_X28_marks_395, rfl⟩ : ∃ f, f = du_X28_marks_395)
def du_X28_marks_390 (s : jS) (x0 x1 x2 x3 x4 x5 x6 y0 : Int) : Option ((jS × List Int) ⊕ ((jS × List Int) ⊕ (jS × Bool × Int))) :=
  u_X28_marks_395 s x0 x1 x2 x3 x4 x5 x6 1 y0
noncomputable def u_X28_marks_390 : jS → Int → Int → Int → Int → Int → Int → Int → Int → Option ((jS × List Int) ⊕ ((jS × List Int) ⊕ (jS × Bool × Int))) := Classical.choose (⟨du_X28_marks_390, rfl⟩ : ∃ f, f = du_X28_marks_390)
theorem eu_X28_marks_390 : u_X28_marks_390 = du_X28_marks_390 := Classical.choose_spec (⟨du_X28_marks_390, rfl⟩ : ∃ f, f = du_X28_marks_390)
def du_X28_marks_365 (s : jS) (x0 x1 x2 x3 x4 x5 y0 : Int) : Option ((jS × List Int) ⊕ ((jS × List Int) ⊕ (jS × Bool × Int))) :=
  if y0 = 0 then
    u_X28_marks_390 s x0 x1 x2 x3 x4 x5 y0 x0
  else
    (m_X23_places s (x0 + 1)).bind fun v1 =>
    if (W32 ((W32 (8 * x3)) + x5)) < v1 then
      u_X28_marks_390 s x0 x1 x2 x3 x4 x5 y0 x0
    else
      u_X28_marks_395 s x0 x1 x2 x3 x4 x5 y0 0 x0
noncomputable def u_X28_marks_365 : jS → Int → Int → Int → Int → Int → Int → Int → Option ((jS × List Int) ⊕ ((jS × List Int) ⊕ (jS × Bool × Int))) := Classical.choose (⟨du_X28_marks_365, rfl⟩ : ∃ f, f = du_X28_marks_365)
theorem eu_X28_marks_365 : u_X28_marks_365 = du_X28_marks_365 := Classical.choose_spec (⟨du_X28_marks_365, rfl⟩ : ∃ f, f = du_X28_marks_365)
def b_X28_marks_342 (s : jS) (x0 x1 x2 x3 x4 x5 : Int) : Option ((jS × List Int) ⊕ ((jS × List Int) ⊕ (jS × Bool × Int))) :=
  if x5 < 8 then
    if (I_and (I_shr x4 x5) 1) = 1 then
      u_X28_marks_365 s x0 x1 x2 x3 x4 x5 1
    else
      u_X28_marks_365 s x0 x1 x2 x3 x4 x5 0
  else
    jinr (u_X28_marks_433 s x0 x1 x2 x3)
def du_X28_marks_342 (s : jS) (x0 x1 x2 x3 x4 x5 : Int) : Option ((jS × List Int) ⊕ (jS × Bool × Int)) := jlpW (jc6 b_X28_marks_342) [x0, x1, x2, x3, x4, x5] s
noncomputable def u_X28_marks_342 : jS → Int → Int → Int → Int → Int → Int → Option ((jS × List Int) ⊕ (jS × Bool × Int)) := Classical.choose (⟨du_X28_marks_342, rfl⟩ : ∃ f, f = du_X28_marks_342)
theorem eu_X28_marks_342 : u_X28_marks_342 = du_X28_marks_342 := Classical.choose_spec (⟨du_X28_marks_342, rfl⟩ : ∃ f, f = du_X28_marks_342)
def b_X28_marks_316 (s : jS) (x0 x1 x2 x3 : Int) : Option ((jS × List Int) ⊕ (jS × Bool × Int)) :=
  if (W32 (28 + x3)) < x1 then
    (jct s 45 (jf s 32 x0 3) (m_X25_u1 s (jf s 32 x0 3) (W32 ((W32 (x2 + 28)) + x3)))).bind fun v1 =>
    u_X28_marks_342 s x0 x1 x2 x3 v1 0
  else
    jinr (u_X28_marks_439 s x0 x2)
def du_X28_marks_316 (s : jS) (x0 x1 x2 x3 : Int) : Option (jS × Bool × Int) := jlpW (jc4 b_X28_marks_316) [x0, x1, x2, x3] s
noncomputable def u_X28_marks_316 : jS → Int → Int → Int → Int → Option (jS × Bool × Int) := Classical.choose (⟨du_X28_marks_316, rfl⟩ : ∃ f, f = du_X28_marks_316)
theorem eu_X28_marks_316 : u_X28_marks_316 = du_X28_marks_316 := Classical.choose_spec (⟨du_X28_marks_316, rfl⟩ : ∃ f, f = du_X28_marks_316)
def du_X28_marks_300 (s : jS) (x0 x1 x2 y0 y1 : Int) : Option (jS × Bool × Int) :=
  (m_X28_field s x0 (jf s 32 x0 7) 4).bind fun v1 =>
  (m_X28_need s y1 y0 25 v1).bind fun q2 =>
  jth q2.2.1 (some (q2.1, true, q2.2.2)) <|
  u_X28_marks_316 q2.1 x0 x1 x2 0
noncomputable def u_X28_marks_300 : jS → Int → Int → Int → Int → Int → Option (jS × Bool × Int) := Classical.choose (⟨du_X28_marks_300, rfl⟩ : ∃ f, f = du_X28_marks_300)
theorem eu_X28_marks_300 : u_X28_marks_300 = du_X28_marks_300 := Classical.choose_spec (⟨du_X28_marks_300, rfl⟩ : ∃ f, f = du_X28_marks_300)
def du_X28_marks_265 (s : jS) (x0 x1 x2 y0 y1 : Int) : Option (jS × Bool × Int) :=
  (m_X28_need s y1 y0 25 (W32 (x2 + 20))).bind fun q1 =>
  jth q1.2.1 (some (q1.1, true, q1.2.2)) <|
  (m_X23_markBytes q1.1 (x0 + 1)).bind fun v2 =>
  (jdv 4 (I_div (W32 (v2 + 3)) 4)).bind fun v3 =>
  if x1 = (W32 (28 + (W32 (v3 * 4)))) then
    u_X28_marks_300 q1.1 x0 x1 x2 1 x0
  else
    u_X28_marks_300 q1.1 x0 x1 x2 0 x0
noncomputable def u_X28_marks_265 : jS → Int → Int → Int → Int → Int → Option (jS × Bool × Int) := Classical.choose (⟨du_X28_marks_265, rfl⟩ : ∃ f, f = du_X28_marks_265)
theorem eu_X28_marks_265 : u_X28_marks_265 = du_X28_marks_265 := Classical.choose_spec (⟨du_X28_marks_265, rfl⟩ : ∃ f, f = du_X28_marks_265)
def du_X28_marks_236 (s : jS) (x0 x1 x2 : Int) : Option (jS × Bool × Int) :=
  (jct s 45 (jf s 32 x0 3) (m_X25_u4 s (jf s 32 x0 3) (W32 (x2 + 20)))).bind fun v1 =>
  (m_X23_places s (x0 + 1)).bind fun v2 =>
  if (L_cmp v1 v2) = 0 then
    u_X28_marks_265 s x0 x1 x2 1 x0
  else
    u_X28_marks_265 s x0 x1 x2 0 x0
noncomputable def u_X28_marks_236 : jS → Int → Int → Int → Option (jS × Bool × Int) := Classical.choose (⟨du_X28_marks_236, rfl⟩ : ∃ f, f = du_X28_marks_236)
theorem eu_X28_marks_236 : u_X28_marks_236 = du_X28_marks_236 := Classical.choose_spec (⟨du_X28_marks_236, rfl⟩ : ∃ f, f = du_X28_marks_236)
def du_X28_marks_219 (s : jS) (x0 x1 x2 x3 y0 y1 : Int) : Option ((jS × List Int) ⊕ (jS × Bool × Int)) :=
  (m_X28_need s y1 y0 25 (W32 ((W32 (x2 + 12)) + x3))).bind fun q1 =>
  jth q1.2.1 (jinr (some (q1.1, true, q1.2.2))) <|
  some (.inl (q1.1, [x0, x1, x2, W32 (x3 + 1)]))
noncomputable def u_X28_marks_219 : jS → Int → Int → Int → Int → Int → Int → Option ((jS × List Int) ⊕ (jS × Bool × Int)) := Classical.choose (⟨du_X28_marks_219, rfl⟩ : ∃ f, f = du_X28_marks_219)
theorem eu_X28_marks_219 : u_X28_marks_219 = du_X28_marks_219 := Classical.choose_spec (⟨du_X28_marks_219, rfl⟩ : ∃ f, f = du_X28_marks_219)
def du_X28_marks_211 (s : jS) (x0 x1 x2 x3 y0 y1 y2 : Int) : Option ((jS × List Int) ⊕ (jS × Bool × Int)) :=
  if y1 = y0 then
    u_X28_marks_219 s x0 x1 x2 x3 1 y2
  else
    u_X28_marks_219 s x0 x1 x2 x3 0 y2
noncomputable def u_X28_marks_211 : jS → Int → Int → Int → Int → Int → Int → Int → Option ((jS × List Int) ⊕ (jS × Bool × Int)) := Classical.choose (⟨du_X28_marks_211, rfl⟩ : ∃ f, f = du_X28_marks_211)
theorem eu_X28_marks_211 : u_X28_marks_211 = du_X28_marks_211 := Classical.choose_spec (⟨du_X28_marks_211, rfl⟩ : ∃ f, f = du_X28_marks_211)
def b_X28_marks_161 (s : jS) (x0 x1 x2 x3 : Int) : Option ((jS × List Int) ⊕ (jS × Bool × Int)) :=
  if x3 < 8 then
    (jct s 45 (jf s 32 x0 3) (m_X25_u1 s (jf s 32 x0 3) (W32 ((W32 (x2 + 12)) + x3)))).bind fun v1 =>
    if x3 < 4 then
      u_X28_marks_211 s x0 x1 x2 x3 (I_and (I_shr 1802658125 (W32 (8 * x3))) 255) v1 x0
    else
      if x3 = 4 then
        u_X28_marks_211 s x0 x1 x2 x3 115 v1 x0
      else
        u_X28_marks_211 s x0 x1 x2 x3 0 v1 x0
  else
    jinr (u_X28_marks_236 s x0 x1 x2)
def du_X28_marks_161 (s : jS) (x0 x1 x2 x3 : Int) : Option (jS × Bool × Int) := jlpW (jc4 b_X28_marks_161) [x0, x1, x2, x3] s
noncomputable def u_X28_marks_161 : jS → Int → Int → Int → Int → Option (jS × Bool × Int) := Classical.choose (⟨du_X28_marks_161, rfl⟩ : ∃ f, f = du_X28_marks_161)
theorem eu_X28_marks_161 : u_X28_marks_161 = du_X28_marks_161 := Classical.choose_spec (⟨du_X28_marks_161, rfl⟩ : ∃ f, f = du_X28_marks_161)
def du_X28_marks_150 (s : jS) (x0 x1 x2 y0 y1 : Int) : Option (jS × Bool × Int) :=
  (m_X28_need s y1 y0 25 (W32 (x2 + 8))).bind fun q1 =>
  jth q1.2.1 (some (q1.1, true, q1.2.2)) <|
  u_X28_marks_161 q1.1 x0 x1 x2 0
noncomputable def u_X28_marks_150 : jS → Int → Int → Int → Int → Int → Option (jS × Bool × Int) := Classical.choose (⟨du_X28_marks_150, rfl⟩ : ∃ f, f = du_X28_marks_150)
theorem eu_X28_marks_150 : u_X28_marks_150 = du_X28_marks_150 := Classical.choose_spec (⟨du_X28_marks_150, rfl⟩ : ∃ f, f = du_X28_marks_150)
def du_X28_marks_120 (s : jS) (x0 x1 x2 y0 y1 : Int) : Option (jS × Bool × Int) :=
  (m_X28_need s y1 y0 25 (W32 (x2 + 4))).bind fun q1 =>
  jth q1.2.1 (some (q1.1, true, q1.2.2)) <|
  (jct q1.1 45 (jf q1.1 32 x0 3) (m_X25_u4 q1.1 (jf q1.1 32 x0 3) (W32 (x2 + 8)))).bind fun v2 =>
  if (L_cmp v2 1) = 0 then
    u_X28_marks_150 q1.1 x0 x1 x2 1 x0
  else
    u_X28_marks_150 q1.1 x0 x1 x2 0 x0
noncomputable def u_X28_marks_120 : jS → Int → Int → Int → Int → Int → Option (jS × Bool × Int) := Classical.choose (⟨du_X28_marks_120, rfl⟩ : ∃ f, f = du_X28_marks_120)
theorem eu_X28_marks_120 : u_X28_marks_120 = du_X28_marks_120 := Classical.choose_spec (⟨du_X28_marks_120, rfl⟩ : ∃ f, f = du_X28_marks_120)
def du_X28_marks_88 (s : jS) (x0 x1 x2 y0 y1 : Int) : Option (jS × Bool × Int) :=
  (m_X28_need s y1 y0 25 x2).bind fun q1 =>
  jth q1.2.1 (some (q1.1, true, q1.2.2)) <|
  (jct q1.1 45 (jf q1.1 32 x0 3) (m_X25_u4 q1.1 (jf q1.1 32 x0 3) (W32 (x2 + 4)))).bind fun v2 =>
  if (L_cmp v2 (W64 (x1 - 20))) = 0 then
    u_X28_marks_120 q1.1 x0 x1 x2 1 x0
  else
    u_X28_marks_120 q1.1 x0 x1 x2 0 x0
noncomputable def u_X28_marks_88 : jS → Int → Int → Int → Int → Int → Option (jS × Bool × Int) := Classical.choose (⟨du_X28_marks_88, rfl⟩ : ∃ f, f = du_X28_marks_88)
theorem eu_X28_marks_88 : u_X28_marks_88 = du_X28_marks_88 := Classical.choose_spec (⟨du_X28_marks_88, rfl⟩ : ∃ f, f = du_X28_marks_88)
def du_X28_marks_53 (s : jS) (x0 x1 x2 y0 y1 : Int) : Option (jS × Bool × Int) :=
  (m_X28_field s x0 (jf s 32 x0 7) 4).bind fun v1 =>
  (m_X28_need s y1 y0 25 v1).bind fun q2 =>
  jth q2.2.1 (some (q2.1, true, q2.2.2)) <|
  (jct q2.1 45 (jf q2.1 32 x0 3) (m_X25_u4 q2.1 (jf q2.1 32 x0 3) x2)).bind fun v3 =>
  if (L_cmp v3 6) = 0 then
    u_X28_marks_88 q2.1 x0 x1 x2 1 x0
  else
    u_X28_marks_88 q2.1 x0 x1 x2 0 x0
noncomputable def u_X28_marks_53 : jS → Int → Int → Int → Int → Int → Option (jS × Bool × Int) := Classical.choose (⟨du_X28_marks_53, rfl⟩ : ∃ f, f = du_X28_marks_53)
theorem eu_X28_marks_53 : u_X28_marks_53 = du_X28_marks_53 := Classical.choose_spec (⟨du_X28_marks_53, rfl⟩ : ∃ f, f = du_X28_marks_53)
def du_X28_marks_14 (s : jS) (x0 y0 y1 : Int) : Option (jS × Bool × Int) :=
  (m_X28_need s y1 y0 24 44).bind fun q1 =>
  jth q1.2.1 (some (q1.1, true, q1.2.2)) <|
  (m_X28_value q1.1 x0 (jf q1.1 32 x0 7) 4).bind fun v2 =>
  (m_X28_value q1.1 x0 (jf q1.1 32 x0 7) 1).bind fun v3 =>
  if v2 < 28 then
    u_X28_marks_53 q1.1 x0 v2 v3 0 x0
  else
    u_X28_marks_53 q1.1 x0 v2 v3 1 x0
noncomputable def u_X28_marks_14 : jS → Int → Int → Int → Option (jS × Bool × Int) := Classical.choose (⟨du_X28_marks_14, rfl⟩ : ∃ f, f = du_X28_marks_14)
theorem eu_X28_marks_14 : u_X28_marks_14 = du_X28_marks_14 := Classical.choose_spec (⟨du_X28_marks_14, rfl⟩ : ∃ f, f = du_X28_marks_14)
def dm_X28_marks (s : jS) (x0 : Int) : Option (jS × Bool × Int) :=
  if (jf s 32 x0 7) = (-1) then
    u_X28_marks_14 s x0 0 x0
  else
    u_X28_marks_14 s x0 1 x0
noncomputable def m_X28_marks : jS → Int → Option (jS × Bool × Int) := Classical.choose (⟨dm_X28_marks, rfl⟩ : ∃ f, f = dm_X28_marks)
theorem em_X28_marks : m_X28_marks = dm_X28_marks := Classical.choose_spec (⟨dm_X28_marks, rfl⟩ : ∃ f, f = dm_X28_marks)
def dm_X29_takeShort (s : jS) (x0 x1 : Int) : Option (jS × Int) :=
  if (I_and x1 3) = 0 then
    (m_X29_takeFirst s x0 x1).bind fun q1 =>
    some (q1.1, 0)
  else
  if (I_and x1 3) = 1 then
    (m_X29_takeSecond s x0 x1).bind fun q2 =>
    some (q2.1, 0)
  else
  (m_X29_takeThird s x0 x1).bind fun q3 =>
  some (q3.1, 0)
noncomputable def m_X29_takeShort : jS → Int → Int → Option (jS × Int) := Classical.choose (⟨dm_X29_takeShort, rfl⟩ : ∃ f, f = dm_X29_takeShort)
theorem em_X29_takeShort : m_X29_takeShort = dm_X29_takeShort := Classical.choose_spec (⟨dm_X29_takeShort, rfl⟩ : ∃ f, f = dm_X29_takeShort)
def du_X33_symbolFor_21 (s : jS) (x0 x1 : Int) : Option (jS × Bool × Int) :=
  (jlt s 1000 (x0 + 2) 150 x1).bind fun v1 =>
  some (s, false, v1)
noncomputable def u_X33_symbolFor_21 : jS → Int → Int → Option (jS × Bool × Int) := Classical.choose (⟨du_X33_symbolFor_21, rfl⟩ : ∃ f, f = du_X33_symbolFor_21)
theorem eu_X33_symbolFor_21 : u_X33_symbolFor_21 = du_X33_symbolFor_21 := Classical.choose_spec (⟨du_X33_symbolFor_21, rfl⟩ : ∃ f, f = du_X33_symbolFor_21)
def dm_X33_symbolFor (s : jS) (x0 x1 : Int) : Option (jS × Bool × Int) :=
  (jlt s 1000 (x0 + 2) 150 x1).bind fun v1 =>
  if v1 = (-1) then
    (m_X33_newSymbol s x0 x1).bind fun q2 =>
    jth q2.2.1 (some (q2.1, true, q2.2.2)) <|
    (jst q2.1 1000 (x0 + 2) 150 x1 q2.2.2).bind fun s3 =>
    u_X33_symbolFor_21 s3 x0 x1
  else
    u_X33_symbolFor_21 s x0 x1
noncomputable def m_X33_symbolFor : jS → Int → Int → Option (jS × Bool × Int) := Classical.choose (⟨dm_X33_symbolFor, rfl⟩ : ∃ f, f = dm_X33_symbolFor)
theorem em_X33_symbolFor : m_X33_symbolFor = dm_X33_symbolFor := Classical.choose_spec (⟨dm_X33_symbolFor, rfl⟩ : ∃ f, f = dm_X33_symbolFor)
def du_X33_digitLabel_23 (s : jS) (x0 x1 y0 : Int) : Option (jS × Bool × Int) :=
  (jst s 1000 (x0 + 16) 10 x1 (-1)).bind fun s1 =>
  (jst s1 1000 (x0 + 15) 10 x1 y0).bind fun s2 =>
  some (s2, false, y0)
noncomputable def u_X33_digitLabel_23 : jS → Int → Int → Int → Option (jS × Bool × Int) := Classical.choose (⟨du_X33_digitLabel_23, rfl⟩ : ∃ f, f = du_X33_digitLabel_23)
theorem eu_X33_digitLabel_23 : u_X33_digitLabel_23 = du_X33_digitLabel_23 := Classical.choose_spec (⟨du_X33_digitLabel_23, rfl⟩ : ∃ f, f = du_X33_digitLabel_23)
def dm_X33_digitLabel (s : jS) (x0 x1 : Int) : Option (jS × Bool × Int) :=
  (jlt s 1000 (x0 + 16) 10 x1).bind fun v1 =>
  if v1 = (-1) then
    (m_X33_hiddenSymbol s x0).bind fun q2 =>
    jth q2.2.1 (some (q2.1, true, q2.2.2)) <|
    u_X33_digitLabel_23 q2.1 x0 x1 q2.2.2
  else
    (jlt s 1000 (x0 + 16) 10 x1).bind fun v3 =>
    u_X33_digitLabel_23 s x0 x1 v3
noncomputable def m_X33_digitLabel : jS → Int → Int → Option (jS × Bool × Int) := Classical.choose (⟨dm_X33_digitLabel, rfl⟩ : ∃ f, f = dm_X33_digitLabel)
theorem em_X33_digitLabel : m_X33_digitLabel = dm_X33_digitLabel := Classical.choose_spec (⟨dm_X33_digitLabel, rfl⟩ : ∃ f, f = dm_X33_digitLabel)
def du_X33_bound_60 (s : jS) (x1 x2 y0 y1 : Int) : Option (jS × Bool × Int) :=
  (m_X33_need s y1 y0 16).bind fun q1 =>
  jth q1.2.1 (some (q1.1, true, q1.2.2)) <|
  (jzb x1).bind fun v2 =>
  jls (jp q1.1 38 x2 5 v2) fun s3 =>
  (jzb 1).bind fun v4 =>
  jls (jp s3 38 x2 4 v4) fun s5 =>
  some (s5, false, 0)
noncomputable def u_X33_bound_60 : jS → Int → Int → Int → Int → Option (jS × Bool × Int) := Classical.choose (⟨du_X33_bound_60, rfl⟩ : ∃ f, f = du_X33_bound_60)
theorem eu_X33_bound_60 : u_X33_bound_60 = du_X33_bound_60 := Classical.choose_spec (⟨du_X33_bound_60, rfl⟩ : ∃ f, f = du_X33_bound_60)
def du_X33_bound_55 (s : jS) (x1 x2 y0 : Int) : Option (jS × Bool × Int) :=
  u_X33_bound_60 s x1 x2 1 y0
noncomputable def u_X33_bound_55 : jS → Int → Int → Int → Option (jS × Bool × Int) := Classical.choose (⟨du_X33_bound_55, rfl⟩ : ∃ f, f = du_X33_bound_55)
theorem eu_X33_bound_55 : u_X33_bound_55 = du_X33_bound_55 := Classical.choose_spec (⟨du_X33_bound_55, rfl⟩ : ∃ f, f = du_X33_bound_55)
def du_X33_bound_22 (s : jS) (x0 x1 y0 y1 : Int) : Option (jS × Bool × Int) :=
  (m_X33_need s y1 y0 12).bind fun q1 =>
  jth q1.2.1 (some (q1.1, true, q1.2.2)) <|
  (m_X33_nameOf q1.1 x0 0).bind fun v2 =>
  (m_X33_symbolFor q1.1 x0 v2).bind fun q3 =>
  jth q3.2.1 (some (q3.1, true, q3.2.2)) <|
  (jix 100 q3.2.2 ((x0 + 1) + 26 + 1 * q3.2.2)).bind fun v4 =>
  if x1 = 0 then
    u_X33_bound_55 q3.1 x1 v4 x0
  else
    if (jf q3.1 38 v4 1) = 5 then
      u_X33_bound_60 q3.1 x1 v4 0 x0
    else
      u_X33_bound_55 q3.1 x1 v4 x0
noncomputable def u_X33_bound_22 : jS → Int → Int → Int → Int → Option (jS × Bool × Int) := Classical.choose (⟨du_X33_bound_22, rfl⟩ : ∃ f, f = du_X33_bound_22)
theorem eu_X33_bound_22 : u_X33_bound_22 = du_X33_bound_22 := Classical.choose_spec (⟨du_X33_bound_22, rfl⟩ : ∃ f, f = du_X33_bound_22)
def du_X33_bound_21 (s : jS) (x0 x1 y0 : Int) : Option (jS × Bool × Int) :=
  u_X33_bound_22 s x0 x1 0 y0
noncomputable def u_X33_bound_21 : jS → Int → Int → Int → Option (jS × Bool × Int) := Classical.choose (⟨du_X33_bound_21, rfl⟩ : ∃ f, f = du_X33_bound_21)
theorem eu_X33_bound_21 : u_X33_bound_21 = du_X33_bound_21 := Classical.choose_spec (⟨du_X33_bound_21, rfl⟩ : ∃ f, f = du_X33_bound_21)
def dm_X33_bound (s : jS) (x0 x1 : Int) : Option (jS × Bool × Int) :=
  if (jf s 37 x0 35) = 1 then
    (m_X33_isName s x0 0).bind fun v1 =>
    if v1 = 0 then
      u_X33_bound_21 s x0 x1 x0
    else
      u_X33_bound_22 s x0 x1 1 x0
  else
    u_X33_bound_21 s x0 x1 x0
noncomputable def m_X33_bound : jS → Int → Int → Option (jS × Bool × Int) := Classical.choose (⟨dm_X33_bound, rfl⟩ : ∃ f, f = dm_X33_bound)
theorem em_X33_bound : m_X33_bound = dm_X33_bound := Classical.choose_spec (⟨dm_X33_bound, rfl⟩ : ∃ f, f = dm_X33_bound)
def du_X33_item_251 (s : jS) (x0 x1 x3 : Int) : Option (jS × Bool × Int) :=
  if x1 < 14 then
    (m_X33_addUp s x0 x3).bind fun q1 =>
    jth q1.2.1 (some (q1.1, true, q1.2.2)) <|
    some (q1.1, false, 0)
  else
    (m_X33_reckon s x0 x1 x3).bind fun q2 =>
    jth q2.2.1 (some (q2.1, true, q2.2.2)) <|
    some (q2.1, false, 0)
noncomputable def u_X33_item_251 : jS → Int → Int → Int → Option (jS × Bool × Int) := Classical.choose (⟨du_X33_item_251, rfl⟩ : ∃ f, f = du_X33_item_251)
theorem eu_X33_item_251 : u_X33_item_251 = du_X33_item_251 := Classical.choose_spec (⟨du_X33_item_251, rfl⟩ : ∃ f, f = du_X33_item_251)
def du_X33_item_227 (s : jS) (x0 x1 x3 : Int) : Option (jS × Bool × Int) :=
  jls (jp s 37 x0 36 (W32 ((jf s 37 x0 36) - 1))) fun s1 =>
  if x1 = 13 then
    (m_X33_turn s1 x0 (jf s1 37 x0 36)).bind fun q2 =>
    u_X33_item_251 q2.1 x0 x1 x3
  else
    u_X33_item_251 s1 x0 x1 x3
noncomputable def u_X33_item_227 : jS → Int → Int → Int → Option (jS × Bool × Int) := Classical.choose (⟨du_X33_item_227, rfl⟩ : ∃ f, f = du_X33_item_227)
theorem eu_X33_item_227 : u_X33_item_227 = du_X33_item_227 := Classical.choose_spec (⟨du_X33_item_227, rfl⟩ : ∃ f, f = du_X33_item_227)
def du_X33_item_154 (s : jS) (x3 y0 y1 y2 y3 y4 : Int) : Option (jS × Bool × Int) :=
  (m_X33_local s y2 y1 y0 x3).bind fun q1 =>
  jth q1.2.1 (some (q1.1, true, q1.2.2)) <|
  (m_X33_push q1.1 y4 y3 q1.2.2 (-1)).bind fun q2 =>
  some (q2.1, false, 0)
noncomputable def u_X33_item_154 : jS → Int → Int → Int → Int → Int → Int → Option (jS × Bool × Int) := Classical.choose (⟨du_X33_item_154, rfl⟩ : ∃ f, f = du_X33_item_154)
theorem eu_X33_item_154 : u_X33_item_154 = du_X33_item_154 := Classical.choose_spec (⟨du_X33_item_154, rfl⟩ : ∃ f, f = du_X33_item_154)
def du_X33_item_131 (s : jS) (y0 y1 y2 : Int) : Option (jS × Bool × Int) :=
  (m_X33_push s y2 y1 y0 (-1)).bind fun q1 =>
  some (q1.1, false, 0)
noncomputable def u_X33_item_131 : jS → Int → Int → Int → Option (jS × Bool × Int) := Classical.choose (⟨du_X33_item_131, rfl⟩ : ∃ f, f = du_X33_item_131)
theorem eu_X33_item_131 : u_X33_item_131 = du_X33_item_131 := Classical.choose_spec (⟨du_X33_item_131, rfl⟩ : ∃ f, f = du_X33_item_131)
def du_X33_item_120 (s : jS) (x4 x5 y0 y1 : Int) : Option (jS × Bool × Int) :=
  if x5 = 0 then
    u_X33_item_131 s x4 y0 y1
  else
    u_X33_item_131 s (-1) y0 y1
noncomputable def u_X33_item_120 : jS → Int → Int → Int → Int → Option (jS × Bool × Int) := Classical.choose (⟨du_X33_item_120, rfl⟩ : ∃ f, f = du_X33_item_120)
theorem eu_X33_item_120 : u_X33_item_120 = du_X33_item_120 := Classical.choose_spec (⟨du_X33_item_120, rfl⟩ : ∃ f, f = du_X33_item_120)
def du_X33_item_98 (s : jS) (x0 x4 y0 : Int) : Option (jS × Bool × Int) :=
  if y0 = 0 then
    u_X33_item_120 s x4 y0 0 x0
  else
    (jix 100 x4 ((x0 + 1) + 26 + 1 * x4)).bind fun v1 =>
    u_X33_item_120 s x4 y0 (jf s 38 v1 2) x0
noncomputable def u_X33_item_98 : jS → Int → Int → Int → Option (jS × Bool × Int) := Classical.choose (⟨du_X33_item_98, rfl⟩ : ∃ f, f = du_X33_item_98)
theorem eu_X33_item_98 : u_X33_item_98 = du_X33_item_98 := Classical.choose_spec (⟨du_X33_item_98, rfl⟩ : ∃ f, f = du_X33_item_98)
def dm_X33_item (s : jS) (x0 x1 x2 x3 : Int) : Option (jS × Bool × Int) :=
  if x1 = 0 then
    (m_X33_push s x0 x2 (-1) (-1)).bind fun q1 =>
    some (q1.1, false, 0)
  else
  if x1 = 1 then
    (m_X33_symbolFor s x0 x2).bind fun q2 =>
    jth q2.2.1 (some (q2.1, true, q2.2.2)) <|
    (jix 100 q2.2.2 ((x0 + 1) + 26 + 1 * q2.2.2)).bind fun v3 =>
    if (jf q2.1 38 v3 1) = 4 then
      u_X33_item_98 q2.1 x0 q2.2.2 1
    else
      u_X33_item_98 q2.1 x0 q2.2.2 0
  else
  if x1 = 2 then
    (jdv 2 (I_div x2 2)).bind fun v4 =>
    (jdv 2 (I_rem x2 2)).bind fun v5 =>
    if v5 = 1 then
      u_X33_item_154 s x3 1 v4 x0 0 x0
    else
      u_X33_item_154 s x3 0 v4 x0 0 x0
  else
  if x1 = 3 then
    (m_X33_hereSymbol s x0).bind fun q6 =>
    jth q6.2.1 (some (q6.1, true, q6.2.2)) <|
    (m_X33_push q6.1 x0 0 q6.2.2 (-1)).bind fun q7 =>
    some (q7.1, false, 0)
  else
  if x1 = 4 then
    u_X33_item_227 s x0 x1 x3
  else
  if x1 = 5 then
    u_X33_item_227 s x0 x1 x3
  else
  if x1 = 6 then
    u_X33_item_227 s x0 x1 x3
  else
  if x1 = 7 then
    u_X33_item_227 s x0 x1 x3
  else
  if x1 = 8 then
    u_X33_item_227 s x0 x1 x3
  else
  if x1 = 9 then
    u_X33_item_227 s x0 x1 x3
  else
  if x1 = 10 then
    (m_X33_turn s x0 (W32 ((jf s 37 x0 36) - 1))).bind fun q8 =>
    some (q8.1, false, 0)
  else
  if x1 = 11 then
    (m_X33_isPlainAt s x0 (W32 ((jf s 37 x0 36) - 1))).bind fun v9 =>
    (m_X33_needAt s x0 v9 14 x3).bind fun q10 =>
    jth q10.2.1 (some (q10.1, true, q10.2.2)) <|
    (jlt q10.1 1000 (x0 + 23) 2000 (W32 ((jf q10.1 37 x0 36) - 1))).bind fun v11 =>
    (jst q10.1 1000 (x0 + 23) 2000 (W32 ((jf q10.1 37 x0 36) - 1)) (I_xor v11 (-1))).bind fun s12 =>
    some (s12, false, 0)
  else
  u_X33_item_227 s x0 x1 x3
noncomputable def m_X33_item : jS → Int → Int → Int → Int → Option (jS × Bool × Int) := Classical.choose (⟨dm_X33_item, rfl⟩ : ∃ f, f = dm_X33_item)
theorem em_X33_item : m_X33_item = dm_X33_item := Classical.choose_spec (⟨dm_X33_item, rfl⟩ : ∃ f, f = dm_X33_item)
def du_X33_twice_14 (s : jS) (x0 x1 x2 x3 x4 x5 x6 x7 y0 : Int) : Option (jS × Bool × Int) :=
  (m_X2_word s (x0 + (-4147)) 1 x5 0 0 0).bind fun q1 =>
  jth q1.2.1 (some (q1.1, true, q1.2.2)) <|
  (m_X33_putNumber q1.1 x0 q1.2.2 4).bind fun q2 =>
  jth q2.2.1 (some (q2.1, true, q2.2.2)) <|
  (jlt q2.1 1000 (x0 + 21) 800 x7).bind fun v3 =>
  (jlt q2.1 1000 (x0 + 20) 800 x7).bind fun v4 =>
  (m_X33_move q2.1 x0 x1 (jf q2.1 37 x0 32) v3 v4).bind fun q5 =>
  jth q5.2.1 (some (q5.1, true, q5.2.2)) <|
  (jlt q5.1 1000 (x0 + 7) 4 0).bind fun v6 =>
  (m_X2_word q5.1 (x0 + (-4147)) x3 x4 x5 x6 0).bind fun q7 =>
  jth q7.2.1 (some (q7.1, true, q7.2.2)) <|
  (m_X33_putNumber q7.1 x0 q7.2.2 4).bind fun q8 =>
  jth q8.2.1 (some (q8.1, true, q8.2.2)) <|
  if 0 < x2 then
    (m_X33_move q8.1 x0 x2 v6 y0 0).bind fun q9 =>
    jth q9.2.1 (some (q9.1, true, q9.2.2)) <|
    some (q9.1, false, 0)
  else
    some (q8.1, false, 0)
noncomputable def u_X33_twice_14 : jS → Int → Int → Int → Int → Int → Int → Int → Int → Int → Option (jS × Bool × Int) := Classical.choose (⟨du_X33_twice_14, rfl⟩ : ∃ f, f = du_X33_twice_14)
theorem eu_X33_twice_14 : u_X33_twice_14 = du_X33_twice_14 := Classical.choose_spec (⟨du_X33_twice_14, rfl⟩ : ∃ f, f = du_X33_twice_14)
def dm_X33_twice (s : jS) (x0 x1 x2 x3 x4 x5 x6 x7 : Int) : Option (jS × Bool × Int) :=
  if x1 = 23 then
    (m_X33_hereSymbol s x0).bind fun q1 =>
    jth q1.2.1 (some (q1.1, true, q1.2.2)) <|
    u_X33_twice_14 q1.1 x0 x1 x2 x3 x4 x5 x6 x7 q1.2.2
  else
    u_X33_twice_14 s x0 x1 x2 x3 x4 x5 x6 x7 (-1)
noncomputable def m_X33_twice : jS → Int → Int → Int → Int → Int → Int → Int → Int → Option (jS × Bool × Int) := Classical.choose (⟨dm_X33_twice, rfl⟩ : ∃ f, f = dm_X33_twice)
theorem em_X33_twice : m_X33_twice = dm_X33_twice := Classical.choose_spec (⟨dm_X33_twice, rfl⟩ : ∃ f, f = dm_X33_twice)
def du_X35_madeOf_267 (s : jS) (y0 y1 y2 y3 y4 : Int) : Option (jS × Bool × Int) :=
  (m_X36_upper s y4 y3 y2 y1 y0).bind fun q1 =>
  some (q1.1, false, q1.2)
noncomputable def u_X35_madeOf_267 : jS → Int → Int → Int → Int → Int → Option (jS × Bool × Int) := Classical.choose (⟨du_X35_madeOf_267, rfl⟩ : ∃ f, f = du_X35_madeOf_267)
theorem eu_X35_madeOf_267 : u_X35_madeOf_267 = du_X35_madeOf_267 := Classical.choose_spec (⟨du_X35_madeOf_267, rfl⟩ : ∃ f, f = du_X35_madeOf_267)
def du_X35_madeOf_266 (s : jS) (y0 y1 y2 y3 : Int) : Option (jS × Bool × Int) :=
  u_X35_madeOf_267 s 0 y0 y1 y2 y3
noncomputable def u_X35_madeOf_266 : jS → Int → Int → Int → Int → Option (jS × Bool × Int) := Classical.choose (⟨du_X35_madeOf_266, rfl⟩ : ∃ f, f = du_X35_madeOf_266)
theorem eu_X35_madeOf_266 : u_X35_madeOf_266 = du_X35_madeOf_266 := Classical.choose_spec (⟨du_X35_madeOf_266, rfl⟩ : ∃ f, f = du_X35_madeOf_266)
def du_X35_madeOf_220 (s : jS) (y0 y1 y2 y3 y4 : Int) : Option (jS × Bool × Int) :=
  (m_X36_call s y4 y3 y2 y1 y0).bind fun q1 =>
  some (q1.1, false, q1.2)
noncomputable def u_X35_madeOf_220 : jS → Int → Int → Int → Int → Int → Option (jS × Bool × Int) := Classical.choose (⟨du_X35_madeOf_220, rfl⟩ : ∃ f, f = du_X35_madeOf_220)
theorem eu_X35_madeOf_220 : u_X35_madeOf_220 = du_X35_madeOf_220 := Classical.choose_spec (⟨du_X35_madeOf_220, rfl⟩ : ∃ f, f = du_X35_madeOf_220)
def du_X35_madeOf_219 (s : jS) (y0 y1 y2 y3 : Int) : Option (jS × Bool × Int) :=
  u_X35_madeOf_220 s 0 y0 y1 y2 y3
noncomputable def u_X35_madeOf_219 : jS → Int → Int → Int → Int → Option (jS × Bool × Int) := Classical.choose (⟨du_X35_madeOf_219, rfl⟩ : ∃ f, f = du_X35_madeOf_219)
theorem eu_X35_madeOf_219 : u_X35_madeOf_219 = du_X35_madeOf_219 := Classical.choose_spec (⟨du_X35_madeOf_219, rfl⟩ : ∃ f, f = du_X35_madeOf_219)
def du_X35_madeOf_128 (s : jS) (x0 x1 x2 x3 x4 x5 x6 x7 y0 : Int) : Option (jS × Bool × Int) :=
  if y0 = 0 then
    (m_X35_wrong s x0 7 x2 x3).bind fun q1 =>
    jck0 q1.2 (some (q1.1, true, q1.2))
  else
    (jrd s 22 x6 3).bind fun v2 =>
    (m_X35_labelFor s x0 x2 v2).bind fun q3 =>
    jth q3.2.1 (some (q3.1, true, q3.2.2)) <|
    jlet (I_and (I_shr x7 7) 31) fun v4 =>
    (jrd q3.1 22 x6 2).bind fun v5 =>
    if v5 = 19 then
      (jrd q3.1 22 x6 4).bind fun v6 =>
      if x5 = 0 then
        u_X35_madeOf_219 q3.1 v6 q3.2.2 x1 (x0 + 1)
      else
        (jrd q3.1 22 x6 1).bind fun v7 =>
        (m_X35_wordIn q3.1 x4 (W32 (v7 + 4))).bind fun v8 =>
        if (I_and (I_shr v8 7) 31) < 2 then
          u_X35_madeOf_220 q3.1 1 v6 q3.2.2 x1 (x0 + 1)
        else
          u_X35_madeOf_219 q3.1 v6 q3.2.2 x1 (x0 + 1)
    else
      (jrd q3.1 22 x6 2).bind fun v9 =>
      if v9 = 26 then
        (jrd q3.1 22 x6 4).bind fun v10 =>
        if x5 = 0 then
          u_X35_madeOf_266 q3.1 v10 q3.2.2 x1 (x0 + 1)
        else
          if v4 = 0 then
            u_X35_madeOf_266 q3.1 v10 q3.2.2 x1 (x0 + 1)
          else
            if v4 = 2 then
              u_X35_madeOf_266 q3.1 v10 q3.2.2 x1 (x0 + 1)
            else
              u_X35_madeOf_267 q3.1 1 v10 q3.2.2 x1 (x0 + 1)
      else
        (jrd q3.1 22 x6 4).bind fun v11 =>
        (m_X36_near q3.1 (x0 + 1) x1 q3.2.2 v11).bind fun q12 =>
        some (q12.1, false, q12.2)
noncomputable def u_X35_madeOf_128 : jS → Int → Int → Int → Int → Int → Int → Int → Int → Int → Option (jS × Bool × Int) := Classical.choose (⟨du_X35_madeOf_128, rfl⟩ : ∃ f, f = du_X35_madeOf_128)
theorem eu_X35_madeOf_128 : u_X35_madeOf_128 = du_X35_madeOf_128 := Classical.choose_spec (⟨du_X35_madeOf_128, rfl⟩ : ∃ f, f = du_X35_madeOf_128)
def du_X35_madeOf_127 (s : jS) (x0 x1 x2 x3 x4 x5 x6 x7 : Int) : Option (jS × Bool × Int) :=
  u_X35_madeOf_128 s x0 x1 x2 x3 x4 x5 x6 x7 0
noncomputable def u_X35_madeOf_127 : jS → Int → Int → Int → Int → Int → Int → Int → Int → Option (jS × Bool × Int) := Classical.choose (⟨du_X35_madeOf_127, rfl⟩ : ∃ f, f = du_X35_madeOf_127)
theorem eu_X35_madeOf_127 : u_X35_madeOf_127 = du_X35_madeOf_127 := Classical.choose_spec (⟨du_X35_madeOf_127, rfl⟩ : ∃ f, f = du_X35_madeOf_127)
def du_X35_madeOf_123 (s : jS) (x0 x1 x2 x3 x4 x5 x6 x7 : Int) : Option (jS × Bool × Int) :=
  u_X35_madeOf_128 s x0 x1 x2 x3 x4 x5 x6 x7 1
noncomputable def u_X35_madeOf_123 : jS → Int → Int → Int → Int → Int → Int → Int → Int → Option (jS × Bool × Int) := Classical.choose (⟨du_X35_madeOf_123, rfl⟩ : ∃ f, f = du_X35_madeOf_123)
theorem eu_X35_madeOf_123 : u_X35_madeOf_123 = du_X35_madeOf_123 := Classical.choose_spec (⟨du_X35_madeOf_123, rfl⟩ : ∃ f, f = du_X35_madeOf_123)
def du_X35_madeOf_81 (s : jS) (x0 x1 x2 x3 x4 x5 x6 x7 x8 y0 : Int) : Option (jS × Bool × Int) :=
  if x8 = y0 then
    (jrd s 22 x6 2).bind fun v1 =>
    if v1 = 19 then
      (jrd s 22 x6 1).bind fun v2 =>
      (m_X35_wordIn s x4 (W32 (v2 + 4))).bind fun v3 =>
      (m_X2_kind s (x0 + (-4274)) v3).bind fun v4 =>
      if v4 = 3 then
        u_X35_madeOf_123 s x0 x1 x2 x3 x4 x5 x6 x7
      else
        u_X35_madeOf_127 s x0 x1 x2 x3 x4 x5 x6 x7
    else
      u_X35_madeOf_123 s x0 x1 x2 x3 x4 x5 x6 x7
  else
    u_X35_madeOf_127 s x0 x1 x2 x3 x4 x5 x6 x7
noncomputable def u_X35_madeOf_81 : jS → Int → Int → Int → Int → Int → Int → Int → Int → Int → Int → Option (jS × Bool × Int) := Classical.choose (⟨du_X35_madeOf_81, rfl⟩ : ∃ f, f = du_X35_madeOf_81)
theorem eu_X35_madeOf_81 : u_X35_madeOf_81 = du_X35_madeOf_81 := Classical.choose_spec (⟨du_X35_madeOf_81, rfl⟩ : ∃ f, f = du_X35_madeOf_81)
def dm_X35_madeOf (s : jS) (x0 x1 x2 x3 x4 x5 : Int) : Option (jS × Bool × Int) :=
  (jrd s 18 x4 5).bind fun v1 =>
  (jld s 1012 v1 x3).bind fun v2 =>
  (jrd s 22 v2 2).bind fun v3 =>
  if v3 = 43 then
    (jrd s 22 v2 4).bind fun v4 =>
    (m_X35_powerOf s v4).bind fun v5 =>
    (jrd s 22 v2 4).bind fun v6 =>
    (m_X36_fill s (x0 + 1) x1 (W32 (v5 + 1)) v6).bind fun q7 =>
    some (q7.1, false, q7.2)
  else
    (jrd s 22 v2 1).bind fun v8 =>
    (m_X35_wordIn s x4 v8).bind fun v9 =>
    (m_X2_kind s (x0 + (-4274)) v9).bind fun v10 =>
    (jrd s 22 v2 2).bind fun v11 =>
    if v11 = 26 then
      u_X35_madeOf_81 s x0 x1 x2 x3 x4 x5 v2 v9 v10 0
    else
      u_X35_madeOf_81 s x0 x1 x2 x3 x4 x5 v2 v9 v10 1
noncomputable def m_X35_madeOf : jS → Int → Int → Int → Int → Int → Int → Option (jS × Bool × Int) := Classical.choose (⟨dm_X35_madeOf, rfl⟩ : ∃ f, f = dm_X35_madeOf)
theorem em_X35_madeOf : m_X35_madeOf = dm_X35_madeOf := Classical.choose_spec (⟨dm_X35_madeOf, rfl⟩ : ∃ f, f = dm_X35_madeOf)
def du_X35_wanted_40 (s : jS) (y0 y1 : Int) : Option (jS × Bool × Int) :=
  (m_X35_need s y1 y0 7).bind fun q1 =>
  jth q1.2.1 (some (q1.1, true, q1.2.2)) <|
  some (q1.1, false, 0)
noncomputable def u_X35_wanted_40 : jS → Int → Int → Option (jS × Bool × Int) := Classical.choose (⟨du_X35_wanted_40, rfl⟩ : ∃ f, f = du_X35_wanted_40)
theorem eu_X35_wanted_40 : u_X35_wanted_40 = du_X35_wanted_40 := Classical.choose_spec (⟨du_X35_wanted_40, rfl⟩ : ∃ f, f = du_X35_wanted_40)
def du_X35_wanted_39 (s : jS) (y0 : Int) : Option (jS × Bool × Int) :=
  u_X35_wanted_40 s 0 y0
noncomputable def u_X35_wanted_39 : jS → Int → Option (jS × Bool × Int) := Classical.choose (⟨du_X35_wanted_39, rfl⟩ : ∃ f, f = du_X35_wanted_39)
theorem eu_X35_wanted_39 : u_X35_wanted_39 = du_X35_wanted_39 := Classical.choose_spec (⟨du_X35_wanted_39, rfl⟩ : ∃ f, f = du_X35_wanted_39)
def dm_X35_wanted (s : jS) (x0 x1 x2 : Int) : Option (jS × Bool × Int) :=
  (m_X35_wordAt s x0 x2).bind fun v1 =>
  (m_X2_size s (x0 + (-4274)) v1).bind fun v2 =>
  if v2 = x2 then
    (m_X2_kind s (x0 + (-4274)) v1).bind fun v3 =>
    (m_X35_wants s x0 x1 v3).bind fun v4 =>
    if v4 = 0 then
      u_X35_wanted_39 s x0
    else
      u_X35_wanted_40 s 1 x0
  else
    u_X35_wanted_39 s x0
noncomputable def m_X35_wanted : jS → Int → Int → Int → Option (jS × Bool × Int) := Classical.choose (⟨dm_X35_wanted, rfl⟩ : ∃ f, f = dm_X35_wanted)
theorem em_X35_wanted : m_X35_wanted = dm_X35_wanted := Classical.choose_spec (⟨dm_X35_wanted, rfl⟩ : ∃ f, f = dm_X35_wanted)
def du_X36_lay_109 (s : jS) (x0 : Int) : Option (jS × Int) :=
  (jzb 1).bind fun v1 =>
  jls (jp s 40 x0 19 v1) fun s2 =>
  some (s2, 0)
noncomputable def u_X36_lay_109 : jS → Int → Option (jS × Int) := Classical.choose (⟨du_X36_lay_109, rfl⟩ : ∃ f, f = du_X36_lay_109)
theorem eu_X36_lay_109 : u_X36_lay_109 = du_X36_lay_109 := Classical.choose_spec (⟨du_X36_lay_109, rfl⟩ : ∃ f, f = du_X36_lay_109)
def du_X36_lay_96 (s : jS) (x0 x1 x2 : Int) : Option ((jS × List Int) ⊕ (jS × Int)) :=
  (jst s 1000 (x0 + 10) 4 x2 x1).bind fun s1 =>
  some (.inl (s1, [x0, x1, W32 (x2 + 1)]))
noncomputable def u_X36_lay_96 : jS → Int → Int → Int → Option ((jS × List Int) ⊕ (jS × Int)) := Classical.choose (⟨du_X36_lay_96, rfl⟩ : ∃ f, f = du_X36_lay_96)
theorem eu_X36_lay_96 : u_X36_lay_96 = du_X36_lay_96 := Classical.choose_spec (⟨du_X36_lay_96, rfl⟩ : ∃ f, f = du_X36_lay_96)
def du_X36_lay_90 (s : jS) (x0 x1 x2 x3 : Int) : Option ((jS × List Int) ⊕ ((jS × List Int) ⊕ (jS × Int))) :=
  some (.inl (s, [x0, x1, x2, W32 (x3 + 1)]))
noncomputable def u_X36_lay_90 : jS → Int → Int → Int → Int → Option ((jS × List Int) ⊕ ((jS × List Int) ⊕ (jS × Int))) := Classical.choose (⟨du_X36_lay_90, rfl⟩ : ∃ f, f = du_X36_lay_90)
theorem eu_X36_lay_90 : u_X36_lay_90 = du_X36_lay_90 := Classical.choose_spec (⟨du_X36_lay_90, rfl⟩ : ∃ f, f = du_X36_lay_90)
def b_X36_lay_45 (s : jS) (x0 x1 x2 x3 : Int) : Option ((jS × List Int) ⊕ ((jS × List Int) ⊕ (jS × Int))) :=
  if x3 < (jf s 40 x0 15) then
    (jlt s 1019 (x0 + 1) 32 x3).bind fun v1 =>
    (jrd s 70 v1 0).bind fun v2 =>
    if v2 = x2 then
      (jlt s 1019 (x0 + 1) 32 x3).bind fun v3 =>
      (jrd s 70 v3 4).bind fun v4 =>
      if v4 = 0 then
        (jlt s 1019 (x0 + 1) 32 x3).bind fun v5 =>
        (m_X36_layPart s x0 v5 x1).bind fun q6 =>
        u_X36_lay_90 q6.1 x0 q6.2 x2 x3
      else
        u_X36_lay_90 s x0 x1 x2 x3
    else
      u_X36_lay_90 s x0 x1 x2 x3
  else
    jinr (u_X36_lay_96 s x0 x1 x2)
def du_X36_lay_45 (s : jS) (x0 x1 x2 x3 : Int) : Option ((jS × List Int) ⊕ (jS × Int)) := jlpW (jc4 b_X36_lay_45) [x0, x1, x2, x3] s
noncomputable def u_X36_lay_45 : jS → Int → Int → Int → Int → Option ((jS × List Int) ⊕ (jS × Int)) := Classical.choose (⟨du_X36_lay_45, rfl⟩ : ∃ f, f = du_X36_lay_45)
theorem eu_X36_lay_45 : u_X36_lay_45 = du_X36_lay_45 := Classical.choose_spec (⟨du_X36_lay_45, rfl⟩ : ∃ f, f = du_X36_lay_45)
def b_X36_lay_15 (s : jS) (x0 x1 x2 : Int) : Option ((jS × List Int) ⊕ (jS × Int)) :=
  if x2 < 4 then
    (jlt s 1000 (x0 + 8) 4 x2).bind fun v1 =>
    (m_X36_up s x1 v1).bind fun v2 =>
    (jst s 1000 (x0 + 9) 4 x2 v2).bind fun s3 =>
    (jlt s3 1000 (x0 + 9) 4 x2).bind fun v4 =>
    u_X36_lay_45 s3 x0 v4 x2 0
  else
    jinr (u_X36_lay_109 s x0)
def du_X36_lay_15 (s : jS) (x0 x1 x2 : Int) : Option (jS × Int) := jlpW (jc3 b_X36_lay_15) [x0, x1, x2] s
noncomputable def u_X36_lay_15 : jS → Int → Int → Int → Option (jS × Int) := Classical.choose (⟨du_X36_lay_15, rfl⟩ : ∃ f, f = du_X36_lay_15)
theorem eu_X36_lay_15 : u_X36_lay_15 = du_X36_lay_15 := Classical.choose_spec (⟨du_X36_lay_15, rfl⟩ : ∃ f, f = du_X36_lay_15)
def dm_X36_lay (s : jS) (x0 : Int) : Option (jS × Int) :=
  if (jf s 40 x0 19) = 0 then
    u_X36_lay_15 s x0 (jf s 40 x0 18) 0
  else
    some (s, 0)
noncomputable def m_X36_lay : jS → Int → Option (jS × Int) := Classical.choose (⟨dm_X36_lay, rfl⟩ : ∃ f, f = dm_X36_lay)
theorem em_X36_lay : m_X36_lay = dm_X36_lay := Classical.choose_spec (⟨dm_X36_lay, rfl⟩ : ∃ f, f = dm_X36_lay)
def dmp_X57_least_2 (s : jS) (x0 x1 : Int) : Option (Int) := if 0 ≤ x0 ∧ jK s x0 = 76 then m_X57_least s x0 x1 else if 0 ≤ x0 ∧ jK s x0 = 77 then m_X57_least s x0 x1 else none
noncomputable def mp_X57_least_2 : jS → Int → Int → Option (Int) := Classical.choose (⟨dmp_X57_least_2, rfl⟩ : ∃ f, f = dmp_X57_least_2)
theorem emp_X57_least_2 : mp_X57_least_2 = dmp_X57_least_2 := Classical.choose_spec (⟨dmp_X57_least_2, rfl⟩ : ∃ f, f = dmp_X57_least_2)
def du_X36_pass_143 (s : jS) (x1 y0 y1 : Int) : Option (jS × Int) :=
  (jzb y0).bind fun v1 =>
  jls (jp s 40 y1 19 v1) fun s2 =>
  some (s2, x1)
noncomputable def u_X36_pass_143 : jS → Int → Int → Int → Option (jS × Int) := Classical.choose (⟨du_X36_pass_143, rfl⟩ : ∃ f, f = du_X36_pass_143)
theorem eu_X36_pass_143 : u_X36_pass_143 = du_X36_pass_143 := Classical.choose_spec (⟨du_X36_pass_143, rfl⟩ : ∃ f, f = du_X36_pass_143)
def du_X36_pass_142 (s : jS) (x1 y0 : Int) : Option (jS × Int) :=
  u_X36_pass_143 s x1 0 y0
noncomputable def u_X36_pass_142 : jS → Int → Int → Option (jS × Int) := Classical.choose (⟨du_X36_pass_142, rfl⟩ : ∃ f, f = du_X36_pass_142)
theorem eu_X36_pass_142 : u_X36_pass_142 = du_X36_pass_142 := Classical.choose_spec (⟨du_X36_pass_142, rfl⟩ : ∃ f, f = du_X36_pass_142)
def du_X36_pass_126 (s : jS) (x0 x1 : Int) : Option (jS × Int) :=
  if (jf s 40 x0 19) = 0 then
    u_X36_pass_142 s x1 x0
  else
    if x1 = 0 then
      u_X36_pass_143 s x1 1 x0
    else
      u_X36_pass_142 s x1 x0
noncomputable def u_X36_pass_126 : jS → Int → Int → Option (jS × Int) := Classical.choose (⟨du_X36_pass_126, rfl⟩ : ∃ f, f = du_X36_pass_126)
theorem eu_X36_pass_126 : u_X36_pass_126 = du_X36_pass_126 := Classical.choose_spec (⟨du_X36_pass_126, rfl⟩ : ∃ f, f = du_X36_pass_126)
def du_X36_pass_120 (s : jS) (x0 x1 x2 : Int) : Option ((jS × List Int) ⊕ (jS × Int)) :=
  some (.inl (s, [x0, x1, W32 (x2 + 1)]))
noncomputable def u_X36_pass_120 : jS → Int → Int → Int → Option ((jS × List Int) ⊕ (jS × Int)) := Classical.choose (⟨du_X36_pass_120, rfl⟩ : ∃ f, f = du_X36_pass_120)
theorem eu_X36_pass_120 : u_X36_pass_120 = du_X36_pass_120 := Classical.choose_spec (⟨du_X36_pass_120, rfl⟩ : ∃ f, f = du_X36_pass_120)
def b_X36_pass_66 (s : jS) (x0 x1 x2 : Int) : Option ((jS × List Int) ⊕ (jS × Int)) :=
  if x2 < (jf s 40 x0 16) then
    (m_X36_movingAt s x0 x2).bind fun v1 =>
    if v1 < 0 then
      u_X36_pass_120 s x0 x1 x2
    else
      (jrp s [(76, 3), (77, 3)] v1).bind fun v2 =>
      if v2 = 0 then
        (jrp s [(76, 2), (77, 2)] v1).bind fun v3 =>
        (jlt s 1000 (x0 + 11) 256 x2).bind fun v4 =>
        if v3 = v4 then
          u_X36_pass_120 s x0 x1 x2
        else
          (jlt s 1000 (x0 + 11) 256 x2).bind fun v5 =>
          (jwp s [(76, 2), (77, 2)] v1 v5).bind fun s6 =>
          u_X36_pass_120 s6 x0 (W32 (x1 + 1)) x2
      else
        u_X36_pass_120 s x0 x1 x2
  else
    jinr (u_X36_pass_126 s x0 x1)
def du_X36_pass_66 (s : jS) (x0 x1 x2 : Int) : Option (jS × Int) := jlpW (jc3 b_X36_pass_66) [x0, x1, x2] s
noncomputable def u_X36_pass_66 : jS → Int → Int → Int → Option (jS × Int) := Classical.choose (⟨du_X36_pass_66, rfl⟩ : ∃ f, f = du_X36_pass_66)
theorem eu_X36_pass_66 : u_X36_pass_66 = du_X36_pass_66 := Classical.choose_spec (⟨du_X36_pass_66, rfl⟩ : ∃ f, f = du_X36_pass_66)
def du_X36_pass_62 (s : jS) (x0 : Int) : Option (jS × Int) :=
  u_X36_pass_66 s x0 0 0
noncomputable def u_X36_pass_62 : jS → Int → Option (jS × Int) := Classical.choose (⟨du_X36_pass_62, rfl⟩ : ∃ f, f = du_X36_pass_62)
theorem eu_X36_pass_62 : u_X36_pass_62 = du_X36_pass_62 := Classical.choose_spec (⟨du_X36_pass_62, rfl⟩ : ∃ f, f = du_X36_pass_62)
def du_X36_pass_55 (s : jS) (x0 x1 y0 y1 y2 : Int) : Option ((jS × List Int) ⊕ (jS × Int)) :=
  (jst s 1000 y2 256 y1 y0).bind fun s1 =>
  some (.inl (s1, [x0, W32 (x1 + 1)]))
noncomputable def u_X36_pass_55 : jS → Int → Int → Int → Int → Int → Option ((jS × List Int) ⊕ (jS × Int)) := Classical.choose (⟨du_X36_pass_55, rfl⟩ : ∃ f, f = du_X36_pass_55)
theorem eu_X36_pass_55 : u_X36_pass_55 = du_X36_pass_55 := Classical.choose_spec (⟨du_X36_pass_55, rfl⟩ : ∃ f, f = du_X36_pass_55)
def du_X36_pass_36 (s : jS) (x0 x1 y0 y1 : Int) : Option ((jS × List Int) ⊕ (jS × Int)) :=
  u_X36_pass_55 s x0 x1 0 y0 y1
noncomputable def u_X36_pass_36 : jS → Int → Int → Int → Int → Option ((jS × List Int) ⊕ (jS × Int)) := Classical.choose (⟨du_X36_pass_36, rfl⟩ : ∃ f, f = du_X36_pass_36)
theorem eu_X36_pass_36 : u_X36_pass_36 = du_X36_pass_36 := Classical.choose_spec (⟨du_X36_pass_36, rfl⟩ : ∃ f, f = du_X36_pass_36)
def b_X36_pass_6 (s : jS) (x0 x1 : Int) : Option ((jS × List Int) ⊕ (jS × Int)) :=
  if x1 < (jf s 40 x0 16) then
    (m_X36_movingAt s x0 x1).bind fun v1 =>
    if v1 < 0 then
      u_X36_pass_36 s x0 x1 x1 (x0 + 11)
    else
      (jrp s [(76, 3), (77, 3)] v1).bind fun v2 =>
      if v2 = 0 then
        (jrp s [(76, 2), (77, 2)] v1).bind fun v3 =>
        (m_X36_gp s x0).bind fun v4 =>
        (mp_X57_least_2 s v1 v4).bind fun v5 =>
        u_X36_pass_55 s x0 x1 (jmi v3 v5) x1 (x0 + 11)
      else
        u_X36_pass_36 s x0 x1 x1 (x0 + 11)
  else
    jinr (u_X36_pass_62 s x0)
def du_X36_pass_6 (s : jS) (x0 x1 : Int) : Option (jS × Int) := jlpW (jc2 b_X36_pass_6) [x0, x1] s
noncomputable def u_X36_pass_6 : jS → Int → Int → Option (jS × Int) := Classical.choose (⟨du_X36_pass_6, rfl⟩ : ∃ f, f = du_X36_pass_6)
theorem eu_X36_pass_6 : u_X36_pass_6 = du_X36_pass_6 := Classical.choose_spec (⟨du_X36_pass_6, rfl⟩ : ∃ f, f = du_X36_pass_6)
def dm_X36_pass (s : jS) (x0 : Int) : Option (jS × Int) :=
  (m_X36_lay s x0).bind fun q1 =>
  u_X36_pass_6 q1.1 x0 0
noncomputable def m_X36_pass : jS → Int → Option (jS × Int) := Classical.choose (⟨dm_X36_pass, rfl⟩ : ∃ f, f = dm_X36_pass)
theorem em_X36_pass : m_X36_pass = dm_X36_pass := Classical.choose_spec (⟨dm_X36_pass, rfl⟩ : ∃ f, f = dm_X36_pass)
def dm_X36_isHeld (s : jS) (x0 x1 : Int) : Option (Int) :=
  (jrp s [(76, 2), (77, 2)] x1).bind fun v1 =>
  (m_X36_gp s x0).bind fun v2 =>
  (mp_X57_least_2 s x1 v2).bind fun v3 =>
  if v1 < v3 then
    some (Wz 0)
  else
    some (Wz 1)
noncomputable def m_X36_isHeld : jS → Int → Int → Option (Int) := Classical.choose (⟨dm_X36_isHeld, rfl⟩ : ∃ f, f = dm_X36_isHeld)
theorem em_X36_isHeld : m_X36_isHeld = dm_X36_isHeld := Classical.choose_spec (⟨dm_X36_isHeld, rfl⟩ : ∃ f, f = dm_X36_isHeld)
def du_X36_lacks_57 (s : jS) (x0 x2 : Int) : Option ((jS × List Int) ⊕ (jS × Int)) :=
  some (.inl (s, [x0, W32 (x2 + 1)]))
noncomputable def u_X36_lacks_57 : jS → Int → Int → Option ((jS × List Int) ⊕ (jS × Int)) := Classical.choose (⟨du_X36_lacks_57, rfl⟩ : ∃ f, f = du_X36_lacks_57)
theorem eu_X36_lacks_57 : u_X36_lacks_57 = du_X36_lacks_57 := Classical.choose_spec (⟨du_X36_lacks_57, rfl⟩ : ∃ f, f = du_X36_lacks_57)
def b_X36_lacks_6 (s : jS) (x0 x2 : Int) : Option ((jS × List Int) ⊕ (jS × Int)) :=
  if x2 < (jf s 40 x0 16) then
    (jlt s 1020 (x0 + 2) 256 x2).bind fun v1 =>
    (jio1 s [73] [72, 76, 77] v1).bind fun v2 =>
    if v2 = 0 then
      u_X36_lacks_57 s x0 x2
    else
      jkk s [73] v1 <|
      (jlt s 1020 (x0 + 2) 256 x2).bind fun v3 =>
      (jrp s [(72, 0), (73, 0), (76, 4), (77, 4)] v3).bind fun v4 =>
      (jrd s 70 v4 4).bind fun v5 =>
      if v5 = 0 then
        (jct s 89 v1 (m_X55_isShort s v1)).bind fun v6 =>
        if v6 = 0 then
          u_X36_lacks_57 s x0 x2
        else
          jinr (some (s, x2))
      else
        u_X36_lacks_57 s x0 x2
  else
    jinr (some (s, (-1)))
def du_X36_lacks_6 (s : jS) (x0 x2 : Int) : Option (jS × Int) := jlpW (jc2 b_X36_lacks_6) [x0, x2] s
noncomputable def u_X36_lacks_6 : jS → Int → Int → Option (jS × Int) := Classical.choose (⟨du_X36_lacks_6, rfl⟩ : ∃ f, f = du_X36_lacks_6)
theorem eu_X36_lacks_6 : u_X36_lacks_6 = du_X36_lacks_6 := Classical.choose_spec (⟨du_X36_lacks_6, rfl⟩ : ∃ f, f = du_X36_lacks_6)
def dm_X36_lacks (s : jS) (x0 : Int) : Option (jS × Int) :=
  (m_X36_lay s x0).bind fun q1 =>
  u_X36_lacks_6 q1.1 x0 0
noncomputable def m_X36_lacks : jS → Int → Option (jS × Int) := Classical.choose (⟨dm_X36_lacks, rfl⟩ : ∃ f, f = dm_X36_lacks)
theorem em_X36_lacks : m_X36_lacks = dm_X36_lacks := Classical.choose_spec (⟨dm_X36_lacks, rfl⟩ : ∃ f, f = dm_X36_lacks)
def dm_X36_output (s : jS) (x0 x1 x2 : Int) : Option (jS × Int) :=
  (m_X36_in s x1 0 3).bind fun v1 =>
  if v1 = 0 then
    some (s, (-1))
  else
    (m_X36_in s x2 0 1).bind fun v2 =>
    if v2 = 0 then
      some (s, (-1))
    else
      (m_X36_lay s x0).bind fun q3 =>
      if x2 = 0 then
        (jlt q3.1 1000 (x0 + 9) 4 x1).bind fun v4 =>
        some (q3.1, v4)
      else
        (jlt q3.1 1000 (x0 + 10) 4 x1).bind fun v5 =>
        some (q3.1, v5)
noncomputable def m_X36_output : jS → Int → Int → Int → Option (jS × Int) := Classical.choose (⟨dm_X36_output, rfl⟩ : ∃ f, f = dm_X36_output)
theorem em_X36_output : m_X36_output = dm_X36_output := Classical.choose_spec (⟨dm_X36_output, rfl⟩ : ∃ f, f = dm_X36_output)
def dm_X36_span (s : jS) (x0 x1 x2 : Int) : Option (jS × Int) :=
  (m_X36_isPart s x0 x1).bind fun v1 =>
  if v1 = 0 then
    some (s, (-1))
  else
    (m_X36_lay s x0).bind fun q2 =>
    (jlt q2.1 1019 (x0 + 1) 32 x1).bind fun v3 =>
    if x2 = 0 then
      (jrd q2.1 70 v3 0).bind fun v4 =>
      some (q2.1, v4)
    else
    if x2 = 1 then
      (jrd q2.1 70 v3 4).bind fun v5 =>
      if v5 = 0 then
        (jrd q2.1 70 v3 2).bind fun v6 =>
        some (q2.1, v6)
      else
        some (q2.1, (-1))
    else
    if x2 = 2 then
      (jrd q2.1 70 v3 4).bind fun v7 =>
      if v7 = 0 then
        (jrd q2.1 70 v3 3).bind fun v8 =>
        some (q2.1, v8)
      else
        some (q2.1, (-1))
    else
    if x2 = 3 then
      (jrd q2.1 70 v3 4).bind fun v9 =>
      if v9 = 0 then
        some (q2.1, 0)
      else
        some (q2.1, 1)
    else
    if x2 = 4 then
      (jrd q2.1 70 v3 5).bind fun v10 =>
      if v10 = 0 then
        some (q2.1, 0)
      else
        some (q2.1, 1)
    else
    some (q2.1, (-1))
noncomputable def m_X36_span : jS → Int → Int → Int → Option (jS × Int) := Classical.choose (⟨dm_X36_span, rfl⟩ : ∃ f, f = dm_X36_span)
theorem em_X36_span : m_X36_span = dm_X36_span := Classical.choose_spec (⟨dm_X36_span, rfl⟩ : ∃ f, f = dm_X36_span)
def du_X2_shrunk_120 (s : jS) (x0 x1 x3 : Int) : Option (jS × Int) :=
  (jlt s 1000 (x0 + 24) 4 0).bind fun v1 =>
  (jct s 27 x1 (m_X7_may s x1 0 v1)).bind fun v2 =>
  if v2 = 0 then
    some (s, (-1))
  else
    (jlt s 1000 (x0 + 24) 4 1).bind fun v3 =>
    (jct s 27 x1 (m_X7_may s x1 1 v3)).bind fun v4 =>
    if v4 = 0 then
      some (s, (-1))
    else
      (jlt s 1000 (x0 + 24) 4 2).bind fun v5 =>
      (jct s 27 x1 (m_X7_may s x1 2 v5)).bind fun v6 =>
      if v6 = 0 then
        some (s, (-1))
      else
        (jlt s 1000 (x0 + 24) 4 3).bind fun v7 =>
        (jct s 27 x1 (m_X7_may s x1 3 v7)).bind fun v8 =>
        if v8 = 0 then
          some (s, (-1))
        else
          (jlt s 1000 (x0 + 24) 4 0).bind fun v9 =>
          (jlt s 1000 (x0 + 24) 4 1).bind fun v10 =>
          (jlt s 1000 (x0 + 24) 4 2).bind fun v11 =>
          (jlt s 1000 (x0 + 24) 4 3).bind fun v12 =>
          (m_X2_made s x0 x1 v9 v10 v11 v12).bind fun v13 =>
          (m_X2_stretched s x0 x1 v13).bind fun v14 =>
          if v14 = x3 then
            some (s, v13)
          else
            some (s, (-1))
noncomputable def u_X2_shrunk_120 : jS → Int → Int → Int → Option (jS × Int) := Classical.choose (⟨du_X2_shrunk_120, rfl⟩ : ∃ f, f = du_X2_shrunk_120)
theorem eu_X2_shrunk_120 : u_X2_shrunk_120 = du_X2_shrunk_120 := Classical.choose_spec (⟨du_X2_shrunk_120, rfl⟩ : ∃ f, f = du_X2_shrunk_120)
def du_X2_shrunk_114 (s : jS) (x0 x1 x2 x3 x4 : Int) : Option ((jS × List Int) ⊕ (jS × Int)) :=
  some (.inl (s, [x0, x1, x2, x3, W32 (x4 + 1)]))
noncomputable def u_X2_shrunk_114 : jS → Int → Int → Int → Int → Int → Option ((jS × List Int) ⊕ (jS × Int)) := Classical.choose (⟨du_X2_shrunk_114, rfl⟩ : ∃ f, f = du_X2_shrunk_114)
theorem eu_X2_shrunk_114 : u_X2_shrunk_114 = du_X2_shrunk_114 := Classical.choose_spec (⟨du_X2_shrunk_114, rfl⟩ : ∃ f, f = du_X2_shrunk_114)
def b_X2_shrunk_77 (s : jS) (x0 x1 x2 x3 x4 : Int) : Option ((jS × List Int) ⊕ (jS × Int)) :=
  if 2 < x4 then
    jinr (u_X2_shrunk_120 s x0 x1 x3)
  else
    (jlt s 1000 (x0 + 25) 3 x4).bind fun v1 =>
    if v1 < 0 then
      (jlt s 1000 (x0 + 25) 3 x4).bind fun v2 =>
      (jct s 27 x2 (m_X7_part s x2 x3 x4)).bind fun v3 =>
      (jst s 1000 (x0 + 24) 4 (W32 ((-1) - v2)) v3).bind fun s4 =>
      u_X2_shrunk_114 s4 x0 x1 x2 x3 x4
    else
      u_X2_shrunk_114 s x0 x1 x2 x3 x4
def du_X2_shrunk_77 (s : jS) (x0 x1 x2 x3 x4 : Int) : Option (jS × Int) := jlpW (jc5 b_X2_shrunk_77) [x0, x1, x2, x3, x4] s
noncomputable def u_X2_shrunk_77 : jS → Int → Int → Int → Int → Int → Option (jS × Int) := Classical.choose (⟨du_X2_shrunk_77, rfl⟩ : ∃ f, f = du_X2_shrunk_77)
theorem eu_X2_shrunk_77 : u_X2_shrunk_77 = du_X2_shrunk_77 := Classical.choose_spec (⟨du_X2_shrunk_77, rfl⟩ : ∃ f, f = du_X2_shrunk_77)
def du_X2_shrunk_23 (s : jS) (x0 x1 x2 x3 : Int) : Option (jS × Int) :=
  (jrd s 11 x1 6).bind fun v1 =>
  (jrd s 13 v1 1).bind fun v2 =>
  (jst s 1000 (x0 + 25) 3 0 v2).bind fun s3 =>
  (jrd s3 11 x1 6).bind fun v4 =>
  (jrd s3 13 v4 2).bind fun v5 =>
  (jst s3 1000 (x0 + 25) 3 1 v5).bind fun s6 =>
  (jrd s6 11 x1 6).bind fun v7 =>
  (jrd s6 13 v7 3).bind fun v8 =>
  (jst s6 1000 (x0 + 25) 3 2 v8).bind fun s9 =>
  (jct s9 27 x2 (m_X7_part s9 x2 x3 3)).bind fun v10 =>
  (jst s9 1000 (x0 + 24) 4 3 v10).bind fun s11 =>
  u_X2_shrunk_77 s11 x0 x1 x2 x3 0
noncomputable def u_X2_shrunk_23 : jS → Int → Int → Int → Int → Option (jS × Int) := Classical.choose (⟨du_X2_shrunk_23, rfl⟩ : ∃ f, f = du_X2_shrunk_23)
theorem eu_X2_shrunk_23 : u_X2_shrunk_23 = du_X2_shrunk_23 := Classical.choose_spec (⟨du_X2_shrunk_23, rfl⟩ : ∃ f, f = du_X2_shrunk_23)
def b_X2_shrunk_3 (s : jS) (x0 x1 x2 x3 x4 : Int) : Option ((jS × List Int) ⊕ (jS × Int)) :=
  if 2 < x4 then
    jinr (u_X2_shrunk_23 s x0 x1 x2 x3)
  else
    (jst s 1000 (x0 + 24) 4 x4 0).bind fun s1 =>
    some (.inl (s1, [x0, x1, x2, x3, W32 (x4 + 1)]))
def du_X2_shrunk_3 (s : jS) (x0 x1 x2 x3 x4 : Int) : Option (jS × Int) := jlpW (jc5 b_X2_shrunk_3) [x0, x1, x2, x3, x4] s
noncomputable def u_X2_shrunk_3 : jS → Int → Int → Int → Int → Int → Option (jS × Int) := Classical.choose (⟨du_X2_shrunk_3, rfl⟩ : ∃ f, f = du_X2_shrunk_3)
theorem eu_X2_shrunk_3 : u_X2_shrunk_3 = du_X2_shrunk_3 := Classical.choose_spec (⟨du_X2_shrunk_3, rfl⟩ : ∃ f, f = du_X2_shrunk_3)
def dm_X2_shrunk (s : jS) (x0 x1 x2 x3 : Int) : Option (jS × Int) :=
  u_X2_shrunk_3 s x0 x1 x2 x3 0
noncomputable def m_X2_shrunk : jS → Int → Int → Int → Int → Option (jS × Int) := Classical.choose (⟨dm_X2_shrunk, rfl⟩ : ∃ f, f = dm_X2_shrunk)
theorem em_X2_shrunk : m_X2_shrunk = dm_X2_shrunk := Classical.choose_spec (⟨dm_X2_shrunk, rfl⟩ : ∃ f, f = dm_X2_shrunk)
def du_X22_write_105 (s : jS) (x0 : Int) : Option (jS × Int) :=
  some (s, jf s 29 (x0 + 19) 1)
noncomputable def u_X22_write_105 : jS → Int → Option (jS × Int) := Classical.choose (⟨du_X22_write_105, rfl⟩ : ∃ f, f = du_X22_write_105)
theorem eu_X22_write_105 : u_X22_write_105 = du_X22_write_105 := Classical.choose_spec (⟨du_X22_write_105, rfl⟩ : ∃ f, f = du_X22_write_105)
def b_X22_write_67 (s : jS) (x0 x2 : Int) : Option ((jS × List Int) ⊕ (jS × Int)) :=
  if x2 < (jf s 29 (x0 + 19) 1) then
    (jlt s 1001 (((x0 + 21) + 1) + 1) 16384 x2).bind fun v1 =>
    (jst s 1001 ((x0 + 19) + 1) 16384 x2 (W8 v1)).bind fun s2 =>
    some (.inl (s2, [x0, W32 (x2 + 1)]))
  else
    jinr (u_X22_write_105 s x0)
def du_X22_write_67 (s : jS) (x0 x2 : Int) : Option (jS × Int) := jlpW (jc2 b_X22_write_67) [x0, x2] s
noncomputable def u_X22_write_67 : jS → Int → Int → Option (jS × Int) := Classical.choose (⟨du_X22_write_67, rfl⟩ : ∃ f, f = du_X22_write_67)
theorem eu_X22_write_67 : u_X22_write_67 = du_X22_write_67 := Classical.choose_spec (⟨du_X22_write_67, rfl⟩ : ∃ f, f = du_X22_write_67)
def du_X22_write_23 (s : jS) (x0 y0 : Int) : Option (jS × Int) :=
  if 0 < y0 then
    some (s, W32 (-y0))
  else
    (m_X26_write s (x0 + 21) (x0 + 1)).bind fun q1 =>
    if q1.2 = 0 then
      some (q1.1, (-6))
    else
      jls (jp q1.1 29 (x0 + 19) 1 (jf q1.1 29 ((x0 + 21) + 1) 1)) fun s2 =>
      u_X22_write_67 s2 x0 0
noncomputable def u_X22_write_23 : jS → Int → Int → Option (jS × Int) := Classical.choose (⟨du_X22_write_23, rfl⟩ : ∃ f, f = du_X22_write_23)
theorem eu_X22_write_23 : u_X22_write_23 = du_X22_write_23 := Classical.choose_spec (⟨du_X22_write_23, rfl⟩ : ∃ f, f = du_X22_write_23)
def dm_X22_write (s : jS) (x0 : Int) : Option (jS × Int) :=
  (m_X23_wrongSegments s (x0 + 1)).bind fun q1 =>
  if 0 < q1.2 then
    u_X22_write_23 q1.1 x0 q1.2
  else
    (m_X23_wrongMarks q1.1 (x0 + 1)).bind fun q2 =>
    u_X22_write_23 q2.1 x0 q2.2
noncomputable def m_X22_write : jS → Int → Option (jS × Int) := Classical.choose (⟨dm_X22_write, rfl⟩ : ∃ f, f = dm_X22_write)
theorem em_X22_write : m_X22_write = dm_X22_write := Classical.choose_spec (⟨dm_X22_write, rfl⟩ : ∃ f, f = dm_X22_write)
def du_X28_read_74 (s : jS) (x0 y0 : Int) : Option (jS × Int) :=
  some (s, jf s 32 x0 8)
noncomputable def u_X28_read_74 : jS → Int → Int → Option (jS × Int) := Classical.choose (⟨du_X28_read_74, rfl⟩ : ∃ f, f = du_X28_read_74)
theorem eu_X28_read_74 : u_X28_read_74 = du_X28_read_74 := Classical.choose_spec (⟨du_X28_read_74, rfl⟩ : ∃ f, f = du_X28_read_74)
def du_X28_read_63 (s : jS) (x0 : Int) : Option (jS × Int) :=
  (m_X28_segments s x0).bind fun q1 =>
  jth q1.2.1 (
    if jK q1.1 q1.2.2 ∈ ([2054] : List Int) then
      u_X28_read_74 q1.1 x0 q1.2.2
    else
    none) <|
  (m_X28_marks q1.1 x0).bind fun q2 =>
  jth q2.2.1 (
    if jK q2.1 q2.2.2 ∈ ([2054] : List Int) then
      u_X28_read_74 q2.1 x0 q2.2.2
    else
    none) <|
  jls (jp q2.1 32 x0 9 (-1)) fun s3 =>
  some (s3, 0)
noncomputable def u_X28_read_63 : jS → Int → Option (jS × Int) := Classical.choose (⟨du_X28_read_63, rfl⟩ : ∃ f, f = du_X28_read_63)
theorem eu_X28_read_63 : u_X28_read_63 = du_X28_read_63 := Classical.choose_spec (⟨du_X28_read_63, rfl⟩ : ∃ f, f = du_X28_read_63)
def b_X28_read_44 (s : jS) (x0 x2 : Int) : Option ((jS × List Int) ⊕ (jS × Int)) :=
  if x2 < (jf s 32 x0 6) then
    (m_X28_row s x0 x2).bind fun q1 =>
    jth q1.2.1 (
      if jK q1.1 q1.2.2 ∈ ([2054] : List Int) then
        jinr (u_X28_read_74 q1.1 x0 q1.2.2)
      else
      none) <|
    some (.inl (q1.1, [x0, W32 (x2 + 1)]))
  else
    jinr (u_X28_read_63 s x0)
def du_X28_read_44 (s : jS) (x0 x2 : Int) : Option (jS × Int) := jlpW (jc2 b_X28_read_44) [x0, x2] s
noncomputable def u_X28_read_44 : jS → Int → Int → Option (jS × Int) := Classical.choose (⟨du_X28_read_44, rfl⟩ : ∃ f, f = du_X28_read_44)
theorem eu_X28_read_44 : u_X28_read_44 = du_X28_read_44 := Classical.choose_spec (⟨du_X28_read_44, rfl⟩ : ∃ f, f = du_X28_read_44)
def du_X28_read_38 (s : jS) (x0 : Int) : Option (jS × Int) :=
  (m_X28_header s x0).bind fun q1 =>
  jth q1.2.1 (
    if jK q1.1 q1.2.2 ∈ ([2054] : List Int) then
      u_X28_read_74 q1.1 x0 q1.2.2
    else
    none) <|
  u_X28_read_44 q1.1 x0 0
noncomputable def u_X28_read_38 : jS → Int → Option (jS × Int) := Classical.choose (⟨du_X28_read_38, rfl⟩ : ∃ f, f = du_X28_read_38)
theorem eu_X28_read_38 : u_X28_read_38 = du_X28_read_38 := Classical.choose_spec (⟨du_X28_read_38, rfl⟩ : ∃ f, f = du_X28_read_38)
def b_X28_read_20 (s : jS) (x0 x2 : Int) : Option ((jS × List Int) ⊕ (jS × Int)) :=
  if x2 < 3 then
    (jst s 1000 (x0 + 11) 3 x2 (-1)).bind fun s1 =>
    some (.inl (s1, [x0, W32 (x2 + 1)]))
  else
    jinr (u_X28_read_38 s x0)
def du_X28_read_20 (s : jS) (x0 x2 : Int) : Option (jS × Int) := jlpW (jc2 b_X28_read_20) [x0, x2] s
noncomputable def u_X28_read_20 : jS → Int → Int → Option (jS × Int) := Classical.choose (⟨du_X28_read_20, rfl⟩ : ∃ f, f = du_X28_read_20)
theorem eu_X28_read_20 : u_X28_read_20 = du_X28_read_20 := Classical.choose_spec (⟨du_X28_read_20, rfl⟩ : ∃ f, f = du_X28_read_20)
def dm_X28_read (s : jS) (x0 x1 : Int) : Option (jS × Int) :=
  jls (jp s 32 x0 3 x1) fun s1 =>
  (jrd s1 29 x1 1).bind fun v2 =>
  jls (jp s1 32 x0 4 v2) fun s3 =>
  jls (jp s3 32 x0 7 (-1)) fun s4 =>
  u_X28_read_20 s4 x0 0
noncomputable def m_X28_read : jS → Int → Int → Option (jS × Int) := Classical.choose (⟨dm_X28_read, rfl⟩ : ∃ f, f = dm_X28_read)
theorem em_X28_read : m_X28_read = dm_X28_read := Classical.choose_spec (⟨dm_X28_read, rfl⟩ : ∃ f, f = dm_X28_read)
def du_X29_taken_120 (s : jS) (x0 : Int) : Option (jS × Int) :=
  if (jf s 34 (x0 + 9) 0) = (-1) then
    some (s, Wz 0)
  else
    some (s, Wz 1)
noncomputable def u_X29_taken_120 : jS → Int → Option (jS × Int) := Classical.choose (⟨du_X29_taken_120, rfl⟩ : ∃ f, f = du_X29_taken_120)
theorem eu_X29_taken_120 : u_X29_taken_120 = du_X29_taken_120 := Classical.choose_spec (⟨du_X29_taken_120, rfl⟩ : ∃ f, f = du_X29_taken_120)
def du_X29_taken_100 (s : jS) (x0 : Int) : Option (jS × Int) :=
  if (jf s 34 (x0 + 9) 0) = (-1) then
    (m_X29_fails s x0 2 (jf s 33 x0 10)).bind fun q1 =>
    u_X29_taken_120 q1.1 x0
  else
    u_X29_taken_120 s x0
noncomputable def u_X29_taken_100 : jS → Int → Option (jS × Int) := Classical.choose (⟨du_X29_taken_100, rfl⟩ : ∃ f, f = du_X29_taken_100)
theorem eu_X29_taken_100 : u_X29_taken_100 = du_X29_taken_100 := Classical.choose_spec (⟨du_X29_taken_100, rfl⟩ : ∃ f, f = du_X29_taken_100)
def du_X29_taken_38 (s : jS) (x0 x1 y0 y1 : Int) : Option (jS × Int) :=
  jls (jp s 34 y1 5 y0) fun s1 =>
  if (jf s1 34 (x0 + 9) 5) = 2 then
    (m_X29_takeShort s1 (x0 + 9) x1).bind fun q2 =>
    u_X29_taken_100 q2.1 x0
  else
    (m_X29_fetches s1 x0 (W32 ((jf s1 33 x0 10) + 2))).bind fun q3 =>
    if q3.2 = 0 then
      some (q3.1, Wz 0)
    else
      (m_X29_half q3.1 x0 (W32 ((jf q3.1 33 x0 10) + 2))).bind fun v4 =>
      (m_X29_takeLong q3.1 (x0 + 9) (I_or x1 (I_shl v4 16))).bind fun q5 =>
      u_X29_taken_100 q5.1 x0
noncomputable def u_X29_taken_38 : jS → Int → Int → Int → Int → Option (jS × Int) := Classical.choose (⟨du_X29_taken_38, rfl⟩ : ∃ f, f = du_X29_taken_38)
theorem eu_X29_taken_38 : u_X29_taken_38 = du_X29_taken_38 := Classical.choose_spec (⟨du_X29_taken_38, rfl⟩ : ∃ f, f = du_X29_taken_38)
def dm_X29_taken (s : jS) (x0 : Int) : Option (jS × Int) :=
  (m_X29_fetches s x0 (jf s 33 x0 10)).bind fun q1 =>
  if q1.2 = 0 then
    some (q1.1, Wz 0)
  else
    (m_X29_half q1.1 x0 (jf q1.1 33 x0 10)).bind fun v2 =>
    if (I_and v2 3) = 3 then
      u_X29_taken_38 q1.1 x0 v2 4 (x0 + 9)
    else
      u_X29_taken_38 q1.1 x0 v2 2 (x0 + 9)
noncomputable def m_X29_taken : jS → Int → Option (jS × Int) := Classical.choose (⟨dm_X29_taken, rfl⟩ : ∃ f, f = dm_X29_taken)
theorem em_X29_taken : m_X29_taken = dm_X29_taken := Classical.choose_spec (⟨dm_X29_taken, rfl⟩ : ∃ f, f = dm_X29_taken)
def du_X33_value_157 (s : jS) (x0 x1 : Int) : Option (jS × Bool × Int) :=
  (jlt s 1000 (x0 + 23) 2000 0).bind fun v1 =>
  (jst s 1000 (x0 + 20) 800 x1 v1).bind fun s2 =>
  (jlt s2 1000 (x0 + 24) 2000 0).bind fun v3 =>
  (jst s2 1000 (x0 + 21) 800 x1 v3).bind fun s4 =>
  (jlt s4 1000 (x0 + 25) 2000 0).bind fun v5 =>
  (jst s4 1000 (x0 + 22) 800 x1 v5).bind fun s6 =>
  some (s6, false, 0)
noncomputable def u_X33_value_157 : jS → Int → Int → Option (jS × Bool × Int) := Classical.choose (⟨du_X33_value_157, rfl⟩ : ∃ f, f = du_X33_value_157)
theorem eu_X33_value_157 : u_X33_value_157 = du_X33_value_157 := Classical.choose_spec (⟨du_X33_value_157, rfl⟩ : ∃ f, f = du_X33_value_157)
def b_X33_value_118 (s : jS) (x0 x1 x2 x3 x4 : Int) : Option ((jS × List Int) ⊕ (jS × Bool × Int)) :=
  if x4 < (W32 (x2 + x3)) then
    (m_X11_item s (x0 + (-3890)) x4 0).bind fun v1 =>
    (m_X11_item s (x0 + (-3890)) x4 1).bind fun v2 =>
    (m_X33_item s x0 v1 v2 x1).bind fun q3 =>
    jth q3.2.1 (jinr (some (q3.1, true, q3.2.2))) <|
    some (.inl (q3.1, [x0, x1, x2, x3, W32 (x4 + 1)]))
  else
    jinr (u_X33_value_157 s x0 x1)
def du_X33_value_118 (s : jS) (x0 x1 x2 x3 x4 : Int) : Option (jS × Bool × Int) := jlpW (jc5 b_X33_value_118) [x0, x1, x2, x3, x4] s
noncomputable def u_X33_value_118 : jS → Int → Int → Int → Int → Int → Option (jS × Bool × Int) := Classical.choose (⟨du_X33_value_118, rfl⟩ : ∃ f, f = du_X33_value_118)
theorem eu_X33_value_118 : u_X33_value_118 = du_X33_value_118 := Classical.choose_spec (⟨du_X33_value_118, rfl⟩ : ∃ f, f = du_X33_value_118)
def du_X33_value_110 (s : jS) (x0 x1 x2 x3 : Int) : Option (jS × Bool × Int) :=
  jls (jp s 37 x0 36 0) fun s1 =>
  u_X33_value_118 s1 x0 x1 x2 x3 x2
noncomputable def u_X33_value_110 : jS → Int → Int → Int → Int → Option (jS × Bool × Int) := Classical.choose (⟨du_X33_value_110, rfl⟩ : ∃ f, f = du_X33_value_110)
theorem eu_X33_value_110 : u_X33_value_110 = du_X33_value_110 := Classical.choose_spec (⟨du_X33_value_110, rfl⟩ : ∃ f, f = du_X33_value_110)
def du_X33_value_98 (s : jS) (x0 x1 x2 x3 x4 y0 y1 : Int) : Option ((jS × List Int) ⊕ (jS × Bool × Int)) :=
  (m_X33_needAt s y1 y0 13 x1).bind fun q1 =>
  jth q1.2.1 (jinr (some (q1.1, true, q1.2.2))) <|
  some (.inl (q1.1, [x0, x1, x2, x3, W32 (x4 + 1)]))
noncomputable def u_X33_value_98 : jS → Int → Int → Int → Int → Int → Int → Int → Option ((jS × List Int) ⊕ (jS × Bool × Int)) := Classical.choose (⟨du_X33_value_98, rfl⟩ : ∃ f, f = du_X33_value_98)
theorem eu_X33_value_98 : u_X33_value_98 = du_X33_value_98 := Classical.choose_spec (⟨du_X33_value_98, rfl⟩ : ∃ f, f = du_X33_value_98)
def du_X33_value_93 (s : jS) (x0 x1 x2 x3 x4 y0 : Int) : Option ((jS × List Int) ⊕ (jS × Bool × Int)) :=
  u_X33_value_98 s x0 x1 x2 x3 x4 1 y0
noncomputable def u_X33_value_93 : jS → Int → Int → Int → Int → Int → Int → Option ((jS × List Int) ⊕ (jS × Bool × Int)) := Classical.choose (⟨du_X33_value_93, rfl⟩ : ∃ f, f = du_X33_value_93)
theorem eu_X33_value_93 : u_X33_value_93 = du_X33_value_93 := Classical.choose_spec (⟨du_X33_value_93, rfl⟩ : ∃ f, f = du_X33_value_93)
def b_X33_value_33 (s : jS) (x0 x1 x2 x3 x4 : Int) : Option ((jS × List Int) ⊕ (jS × Bool × Int)) :=
  if x4 < (W32 (x2 + x3)) then
    (m_X11_item s (x0 + (-3890)) x4 0).bind fun v1 =>
    if v1 = 2 then
      (m_X11_item s (x0 + (-3890)) x4 1).bind fun v2 =>
      (jdv 2 (I_rem v2 2)).bind fun v3 =>
      if v3 = 1 then
        u_X33_value_93 s x0 x1 x2 x3 x4 x0
      else
        (m_X11_item s (x0 + (-3890)) x4 1).bind fun v4 =>
        (jdv 2 (I_div v4 2)).bind fun v5 =>
        (jlt s 1000 (x0 + 15) 10 v5).bind fun v6 =>
        if v6 = (-1) then
          u_X33_value_98 s x0 x1 x2 x3 x4 0 x0
        else
          u_X33_value_93 s x0 x1 x2 x3 x4 x0
    else
      u_X33_value_93 s x0 x1 x2 x3 x4 x0
  else
    jinr (u_X33_value_110 s x0 x1 x2 x3)
def du_X33_value_33 (s : jS) (x0 x1 x2 x3 x4 : Int) : Option (jS × Bool × Int) := jlpW (jc5 b_X33_value_33) [x0, x1, x2, x3, x4] s
noncomputable def u_X33_value_33 : jS → Int → Int → Int → Int → Int → Option (jS × Bool × Int) := Classical.choose (⟨du_X33_value_33, rfl⟩ : ∃ f, f = du_X33_value_33)
theorem eu_X33_value_33 : u_X33_value_33 = du_X33_value_33 := Classical.choose_spec (⟨du_X33_value_33, rfl⟩ : ∃ f, f = du_X33_value_33)
def dm_X33_value (s : jS) (x0 x1 : Int) : Option (jS × Bool × Int) :=
  (m_X11_operand s (x0 + (-3890)) (W32 ((jf s 37 x0 34) + x1)) 3).bind fun v1 =>
  (m_X11_operand s (x0 + (-3890)) (W32 ((jf s 37 x0 34) + x1)) 4).bind fun v2 =>
  u_X33_value_33 s x0 x1 v1 v2 v1
noncomputable def m_X33_value : jS → Int → Int → Option (jS × Bool × Int) := Classical.choose (⟨dm_X33_value, rfl⟩ : ∃ f, f = dm_X33_value)
theorem em_X33_value : m_X33_value = dm_X33_value := Classical.choose_spec (⟨dm_X33_value, rfl⟩ : ∃ f, f = dm_X33_value)
def du_X33_numbers_321 (s : jS) (x0 x1 x2 : Int) : Option ((jS × List Int) ⊕ (jS × Bool × Int)) :=
  some (.inl (s, [x0, x1, W32 (x2 + 1)]))
noncomputable def u_X33_numbers_321 : jS → Int → Int → Int → Option ((jS × List Int) ⊕ (jS × Bool × Int)) := Classical.choose (⟨du_X33_numbers_321, rfl⟩ : ∃ f, f = du_X33_numbers_321)
theorem eu_X33_numbers_321 : u_X33_numbers_321 = du_X33_numbers_321 := Classical.choose_spec (⟨du_X33_numbers_321, rfl⟩ : ∃ f, f = du_X33_numbers_321)
def du_X33_numbers_278 (s : jS) (x0 x1 x2 x3 x5 y0 y1 : Int) : Option ((jS × List Int) ⊕ (jS × Bool × Int)) :=
  (jlt s 1000 (x0 + 21) 800 x2).bind fun v1 =>
  (jlt s 1000 (x0 + 20) 800 x2).bind fun v2 =>
  (m_X33_move s y1 y0 x3 v1 v2).bind fun q3 =>
  jth q3.2.1 (jinr (some (q3.1, true, q3.2.2))) <|
  (jlt q3.1 1000 (x0 + 22) 800 x2).bind fun v4 =>
  if v4 = (-1) then
    u_X33_numbers_321 q3.1 x0 x1 x2
  else
    (jlt q3.1 1000 (x0 + 22) 800 x2).bind fun v5 =>
    (m_X33_move q3.1 x0 (W32 (37 + x5)) x3 v5 0).bind fun q6 =>
    jth q6.2.1 (jinr (some (q6.1, true, q6.2.2))) <|
    u_X33_numbers_321 q6.1 x0 x1 x2
noncomputable def u_X33_numbers_278 : jS → Int → Int → Int → Int → Int → Int → Int → Option ((jS × List Int) ⊕ (jS × Bool × Int)) := Classical.choose (⟨du_X33_numbers_278, rfl⟩ : ∃ f, f = du_X33_numbers_278)
theorem eu_X33_numbers_278 : u_X33_numbers_278 = du_X33_numbers_278 := Classical.choose_spec (⟨du_X33_numbers_278, rfl⟩ : ∃ f, f = du_X33_numbers_278)
def du_X33_numbers_256 (s : jS) (x0 x1 x2 x3 y0 : Int) : Option ((jS × List Int) ⊕ (jS × Bool × Int)) :=
  (jlt s 1000 (x0 + 22) 800 x2).bind fun v1 =>
  if v1 = (-1) then
    u_X33_numbers_278 s x0 x1 x2 x3 y0 1 x0
  else
    u_X33_numbers_278 s x0 x1 x2 x3 y0 (W32 (33 + y0)) x0
noncomputable def u_X33_numbers_256 : jS → Int → Int → Int → Int → Int → Option ((jS × List Int) ⊕ (jS × Bool × Int)) := Classical.choose (⟨du_X33_numbers_256, rfl⟩ : ∃ f, f = du_X33_numbers_256)
theorem eu_X33_numbers_256 : u_X33_numbers_256 = du_X33_numbers_256 := Classical.choose_spec (⟨du_X33_numbers_256, rfl⟩ : ∃ f, f = du_X33_numbers_256)
def du_X33_numbers_225 (s : jS) (x0 x1 x2 x3 x4 y0 y1 : Int) : Option ((jS × List Int) ⊕ (jS × Bool × Int)) :=
  (m_X33_putNumber s y1 y0 x1).bind fun q1 =>
  jth q1.2.1 (jinr (some (q1.1, true, q1.2.2))) <|
  if x4 = 0 then
    if x1 = 1 then
      u_X33_numbers_256 q1.1 x0 x1 x2 x3 0
    else
      if x1 = 2 then
        u_X33_numbers_256 q1.1 x0 x1 x2 x3 1
      else
        u_X33_numbers_256 q1.1 x0 x1 x2 x3 2
  else
    u_X33_numbers_321 q1.1 x0 x1 x2
noncomputable def u_X33_numbers_225 : jS → Int → Int → Int → Int → Int → Int → Int → Option ((jS × List Int) ⊕ (jS × Bool × Int)) := Classical.choose (⟨du_X33_numbers_225, rfl⟩ : ∃ f, f = du_X33_numbers_225)
theorem eu_X33_numbers_225 : u_X33_numbers_225 = du_X33_numbers_225 := Classical.choose_spec (⟨du_X33_numbers_225, rfl⟩ : ∃ f, f = du_X33_numbers_225)
def du_X33_numbers_207 (s : jS) (x0 x1 x2 x3 y0 : Int) : Option ((jS × List Int) ⊕ (jS × Bool × Int)) :=
  if y0 = 0 then
    u_X33_numbers_225 s x0 x1 x2 x3 y0 0 x0
  else
    (jlt s 1000 (x0 + 20) 800 x2).bind fun v1 =>
    u_X33_numbers_225 s x0 x1 x2 x3 y0 v1 x0
noncomputable def u_X33_numbers_207 : jS → Int → Int → Int → Int → Int → Option ((jS × List Int) ⊕ (jS × Bool × Int)) := Classical.choose (⟨du_X33_numbers_207, rfl⟩ : ∃ f, f = du_X33_numbers_207)
theorem eu_X33_numbers_207 : u_X33_numbers_207 = du_X33_numbers_207 := Classical.choose_spec (⟨du_X33_numbers_207, rfl⟩ : ∃ f, f = du_X33_numbers_207)
def b_X33_numbers_174 (s : jS) (x0 x1 x2 : Int) : Option ((jS × List Int) ⊕ (jS × Bool × Int)) :=
  if x2 < (jf s 37 x0 35) then
    (jlt s 1000 (x0 + 7) 4 (jf s 37 x0 30)).bind fun v1 =>
    (jlt s 1000 (x0 + 21) 800 x2).bind fun v2 =>
    if v2 = (-1) then
      u_X33_numbers_207 s x0 x1 x2 v1 1
    else
      u_X33_numbers_207 s x0 x1 x2 v1 0
  else
    jinr (some (s, false, 0))
def du_X33_numbers_174 (s : jS) (x0 x1 x2 : Int) : Option (jS × Bool × Int) := jlpW (jc3 b_X33_numbers_174) [x0, x1, x2] s
noncomputable def u_X33_numbers_174 : jS → Int → Int → Int → Option (jS × Bool × Int) := Classical.choose (⟨du_X33_numbers_174, rfl⟩ : ∃ f, f = du_X33_numbers_174)
theorem eu_X33_numbers_174 : u_X33_numbers_174 = du_X33_numbers_174 := Classical.choose_spec (⟨du_X33_numbers_174, rfl⟩ : ∃ f, f = du_X33_numbers_174)
def du_X33_numbers_172 (s : jS) (x0 x1 : Int) : Option (jS × Bool × Int) :=
  u_X33_numbers_174 s x0 x1 0
noncomputable def u_X33_numbers_172 : jS → Int → Int → Option (jS × Bool × Int) := Classical.choose (⟨du_X33_numbers_172, rfl⟩ : ∃ f, f = du_X33_numbers_172)
theorem eu_X33_numbers_172 : u_X33_numbers_172 = du_X33_numbers_172 := Classical.choose_spec (⟨du_X33_numbers_172, rfl⟩ : ∃ f, f = du_X33_numbers_172)
def du_X33_numbers_160 (s : jS) (x0 x1 x2 y0 y1 : Int) : Option ((jS × List Int) ⊕ (jS × Bool × Int)) :=
  (m_X33_needAt s y1 y0 15 x2).bind fun q1 =>
  jth q1.2.1 (jinr (some (q1.1, true, q1.2.2))) <|
  some (.inl (q1.1, [x0, x1, W32 (x2 + 1)]))
noncomputable def u_X33_numbers_160 : jS → Int → Int → Int → Int → Int → Option ((jS × List Int) ⊕ (jS × Bool × Int)) := Classical.choose (⟨du_X33_numbers_160, rfl⟩ : ∃ f, f = du_X33_numbers_160)
theorem eu_X33_numbers_160 : u_X33_numbers_160 = du_X33_numbers_160 := Classical.choose_spec (⟨du_X33_numbers_160, rfl⟩ : ∃ f, f = du_X33_numbers_160)
def du_X33_numbers_159 (s : jS) (x0 x1 x2 y0 : Int) : Option ((jS × List Int) ⊕ (jS × Bool × Int)) :=
  u_X33_numbers_160 s x0 x1 x2 0 y0
noncomputable def u_X33_numbers_159 : jS → Int → Int → Int → Int → Option ((jS × List Int) ⊕ (jS × Bool × Int)) := Classical.choose (⟨du_X33_numbers_159, rfl⟩ : ∃ f, f = du_X33_numbers_159)
theorem eu_X33_numbers_159 : u_X33_numbers_159 = du_X33_numbers_159 := Classical.choose_spec (⟨du_X33_numbers_159, rfl⟩ : ∃ f, f = du_X33_numbers_159)
def du_X33_numbers_155 (s : jS) (x0 x1 x2 y0 : Int) : Option ((jS × List Int) ⊕ (jS × Bool × Int)) :=
  u_X33_numbers_160 s x0 x1 x2 1 y0
noncomputable def u_X33_numbers_155 : jS → Int → Int → Int → Int → Option ((jS × List Int) ⊕ (jS × Bool × Int)) := Classical.choose (⟨du_X33_numbers_155, rfl⟩ : ∃ f, f = du_X33_numbers_155)
theorem eu_X33_numbers_155 : u_X33_numbers_155 = du_X33_numbers_155 := Classical.choose_spec (⟨du_X33_numbers_155, rfl⟩ : ∃ f, f = du_X33_numbers_155)
def du_X33_numbers_106 (s : jS) (x0 x1 x2 x3 y0 y1 : Int) : Option ((jS × List Int) ⊕ (jS × Bool × Int)) :=
  (m_X33_needAt s y1 y0 14 x2).bind fun q1 =>
  jth q1.2.1 (jinr (some (q1.1, true, q1.2.2))) <|
  if x3 = 0 then
    u_X33_numbers_155 q1.1 x0 x1 x2 x0
  else
    if x1 = 4 then
      u_X33_numbers_155 q1.1 x0 x1 x2 x0
    else
      (jlt q1.1 1000 (x0 + 20) 800 x2).bind fun v2 =>
      if v2 < (W32 (-(I_shl 1 (W32 ((W32 (8 * x1)) - 1))))) then
        u_X33_numbers_159 q1.1 x0 x1 x2 x0
      else
        (jlt q1.1 1000 (x0 + 20) 800 x2).bind fun v3 =>
        if v3 < (I_shl 1 (W32 (8 * x1))) then
          u_X33_numbers_155 q1.1 x0 x1 x2 x0
        else
          u_X33_numbers_159 q1.1 x0 x1 x2 x0
noncomputable def u_X33_numbers_106 : jS → Int → Int → Int → Int → Int → Int → Option ((jS × List Int) ⊕ (jS × Bool × Int)) := Classical.choose (⟨du_X33_numbers_106, rfl⟩ : ∃ f, f = du_X33_numbers_106)
theorem eu_X33_numbers_106 : u_X33_numbers_106 = du_X33_numbers_106 := Classical.choose_spec (⟨du_X33_numbers_106, rfl⟩ : ∃ f, f = du_X33_numbers_106)
def du_X33_numbers_105 (s : jS) (x0 x1 x2 x3 y0 : Int) : Option ((jS × List Int) ⊕ (jS × Bool × Int)) :=
  u_X33_numbers_106 s x0 x1 x2 x3 0 y0
noncomputable def u_X33_numbers_105 : jS → Int → Int → Int → Int → Int → Option ((jS × List Int) ⊕ (jS × Bool × Int)) := Classical.choose (⟨du_X33_numbers_105, rfl⟩ : ∃ f, f = du_X33_numbers_105)
theorem eu_X33_numbers_105 : u_X33_numbers_105 = du_X33_numbers_105 := Classical.choose_spec (⟨du_X33_numbers_105, rfl⟩ : ∃ f, f = du_X33_numbers_105)
def du_X33_numbers_101 (s : jS) (x0 x1 x2 x3 y0 : Int) : Option ((jS × List Int) ⊕ (jS × Bool × Int)) :=
  u_X33_numbers_106 s x0 x1 x2 x3 1 y0
noncomputable def u_X33_numbers_101 : jS → Int → Int → Int → Int → Int → Option ((jS × List Int) ⊕ (jS × Bool × Int)) := Classical.choose (⟨du_X33_numbers_101, rfl⟩ : ∃ f, f = du_X33_numbers_101)
theorem eu_X33_numbers_101 : u_X33_numbers_101 = du_X33_numbers_101 := Classical.choose_spec (⟨du_X33_numbers_101, rfl⟩ : ∃ f, f = du_X33_numbers_101)
def du_X33_numbers_70 (s : jS) (x0 x1 x2 y0 : Int) : Option ((jS × List Int) ⊕ (jS × Bool × Int)) :=
  if y0 = 0 then
    (jlt s 1000 (x0 + 21) 800 x2).bind fun v1 =>
    if v1 = (-1) then
      u_X33_numbers_105 s x0 x1 x2 y0 x0
    else
      if x1 = 4 then
        u_X33_numbers_101 s x0 x1 x2 y0 x0
      else
        (jlt s 1000 (x0 + 22) 800 x2).bind fun v2 =>
        if v2 = (-1) then
          u_X33_numbers_105 s x0 x1 x2 y0 x0
        else
          u_X33_numbers_101 s x0 x1 x2 y0 x0
  else
    u_X33_numbers_101 s x0 x1 x2 y0 x0
noncomputable def u_X33_numbers_70 : jS → Int → Int → Int → Int → Option ((jS × List Int) ⊕ (jS × Bool × Int)) := Classical.choose (⟨du_X33_numbers_70, rfl⟩ : ∃ f, f = du_X33_numbers_70)
theorem eu_X33_numbers_70 : u_X33_numbers_70 = du_X33_numbers_70 := Classical.choose_spec (⟨du_X33_numbers_70, rfl⟩ : ∃ f, f = du_X33_numbers_70)
def du_X33_numbers_69 (s : jS) (x0 x1 x2 : Int) : Option ((jS × List Int) ⊕ (jS × Bool × Int)) :=
  u_X33_numbers_70 s x0 x1 x2 0
noncomputable def u_X33_numbers_69 : jS → Int → Int → Int → Option ((jS × List Int) ⊕ (jS × Bool × Int)) := Classical.choose (⟨du_X33_numbers_69, rfl⟩ : ∃ f, f = du_X33_numbers_69)
theorem eu_X33_numbers_69 : u_X33_numbers_69 = du_X33_numbers_69 := Classical.choose_spec (⟨du_X33_numbers_69, rfl⟩ : ∃ f, f = du_X33_numbers_69)
def b_X33_numbers_32 (s : jS) (x0 x1 x2 : Int) : Option ((jS × List Int) ⊕ (jS × Bool × Int)) :=
  if x2 < (jf s 37 x0 35) then
    (m_X33_value s x0 x2).bind fun q1 =>
    jth q1.2.1 (jinr (some (q1.1, true, q1.2.2))) <|
    (jlt q1.1 1000 (x0 + 21) 800 x2).bind fun v2 =>
    if v2 = (-1) then
      (jlt q1.1 1000 (x0 + 22) 800 x2).bind fun v3 =>
      if v3 = (-1) then
        u_X33_numbers_70 q1.1 x0 x1 x2 1
      else
        u_X33_numbers_69 q1.1 x0 x1 x2
    else
      u_X33_numbers_69 q1.1 x0 x1 x2
  else
    jinr (u_X33_numbers_172 s x0 x1)
def du_X33_numbers_32 (s : jS) (x0 x1 x2 : Int) : Option (jS × Bool × Int) := jlpW (jc3 b_X33_numbers_32) [x0, x1, x2] s
noncomputable def u_X33_numbers_32 : jS → Int → Int → Int → Option (jS × Bool × Int) := Classical.choose (⟨du_X33_numbers_32, rfl⟩ : ∃ f, f = du_X33_numbers_32)
theorem eu_X33_numbers_32 : u_X33_numbers_32 = du_X33_numbers_32 := Classical.choose_spec (⟨du_X33_numbers_32, rfl⟩ : ∃ f, f = du_X33_numbers_32)
def du_X33_numbers_14 (s : jS) (x0 x1 y0 y1 : Int) : Option (jS × Bool × Int) :=
  (m_X33_need s y1 y0 10).bind fun q1 =>
  jth q1.2.1 (some (q1.1, true, q1.2.2)) <|
  (m_X33_all q1.1 x0 0).bind fun v2 =>
  (m_X33_need q1.1 x0 v2 12).bind fun q3 =>
  jth q3.2.1 (some (q3.1, true, q3.2.2)) <|
  u_X33_numbers_32 q3.1 x0 x1 0
noncomputable def u_X33_numbers_14 : jS → Int → Int → Int → Int → Option (jS × Bool × Int) := Classical.choose (⟨du_X33_numbers_14, rfl⟩ : ∃ f, f = du_X33_numbers_14)
theorem eu_X33_numbers_14 : u_X33_numbers_14 = du_X33_numbers_14 := Classical.choose_spec (⟨du_X33_numbers_14, rfl⟩ : ∃ f, f = du_X33_numbers_14)
def dm_X33_numbers (s : jS) (x0 x1 : Int) : Option (jS × Bool × Int) :=
  if (jf s 37 x0 30) = 3 then
    u_X33_numbers_14 s x0 x1 0 x0
  else
    u_X33_numbers_14 s x0 x1 1 x0
noncomputable def m_X33_numbers : jS → Int → Int → Option (jS × Bool × Int) := Classical.choose (⟨dm_X33_numbers, rfl⟩ : ∃ f, f = dm_X33_numbers)
theorem em_X33_numbers : m_X33_numbers = dm_X33_numbers := Classical.choose_spec (⟨dm_X33_numbers, rfl⟩ : ∃ f, f = dm_X33_numbers)
def du_X33_placed_31 (s : jS) (x1 y0 y1 : Int) : Option (jS × Bool × Int) :=
  (m_X33_needAt s y1 y0 14 x1).bind fun q1 =>
  jth q1.2.1 (some (q1.1, true, q1.2.2)) <|
  some (q1.1, false, 0)
noncomputable def u_X33_placed_31 : jS → Int → Int → Int → Option (jS × Bool × Int) := Classical.choose (⟨du_X33_placed_31, rfl⟩ : ∃ f, f = du_X33_placed_31)
theorem eu_X33_placed_31 : u_X33_placed_31 = du_X33_placed_31 := Classical.choose_spec (⟨du_X33_placed_31, rfl⟩ : ∃ f, f = du_X33_placed_31)
def du_X33_placed_30 (s : jS) (x1 y0 : Int) : Option (jS × Bool × Int) :=
  u_X33_placed_31 s x1 0 y0
noncomputable def u_X33_placed_30 : jS → Int → Int → Option (jS × Bool × Int) := Classical.choose (⟨du_X33_placed_30, rfl⟩ : ∃ f, f = du_X33_placed_30)
theorem eu_X33_placed_30 : u_X33_placed_30 = du_X33_placed_30 := Classical.choose_spec (⟨du_X33_placed_30, rfl⟩ : ∃ f, f = du_X33_placed_30)
def dm_X33_placed (s : jS) (x0 x1 : Int) : Option (jS × Bool × Int) :=
  (m_X33_value s x0 x1).bind fun q1 =>
  jth q1.2.1 (some (q1.1, true, q1.2.2)) <|
  (jlt q1.1 1000 (x0 + 21) 800 x1).bind fun v2 =>
  if v2 = (-1) then
    u_X33_placed_30 q1.1 x1 x0
  else
    (jlt q1.1 1000 (x0 + 22) 800 x1).bind fun v3 =>
    if v3 = (-1) then
      u_X33_placed_31 q1.1 x1 1 x0
    else
      u_X33_placed_30 q1.1 x1 x0
noncomputable def m_X33_placed : jS → Int → Int → Option (jS × Bool × Int) := Classical.choose (⟨dm_X33_placed, rfl⟩ : ∃ f, f = dm_X33_placed)
theorem em_X33_placed : m_X33_placed = dm_X33_placed := Classical.choose_spec (⟨dm_X33_placed, rfl⟩ : ∃ f, f = dm_X33_placed)
def du_X33_immediate_339 (s : jS) (y0 y1 : Int) : Option (jS × Bool × Int) :=
  jls (jp s 37 y1 41 y0) fun s1 =>
  some (s1, false, 0)
noncomputable def u_X33_immediate_339 : jS → Int → Int → Option (jS × Bool × Int) := Classical.choose (⟨du_X33_immediate_339, rfl⟩ : ∃ f, f = du_X33_immediate_339)
theorem eu_X33_immediate_339 : u_X33_immediate_339 = du_X33_immediate_339 := Classical.choose_spec (⟨du_X33_immediate_339, rfl⟩ : ∃ f, f = du_X33_immediate_339)
def du_X33_immediate_281 (s : jS) (x0 x4 y0 : Int) : Option (jS × Bool × Int) :=
  if x4 = 1 then
    u_X33_immediate_339 s 26 x0
  else
    if x4 = 3 then
      u_X33_immediate_339 s 23 x0
    else
      if x4 = 2 then
        if y0 = 0 then
          u_X33_immediate_339 s 27 x0
        else
          u_X33_immediate_339 s 28 x0
      else
        if y0 = 0 then
          u_X33_immediate_339 s 24 x0
        else
          u_X33_immediate_339 s 25 x0
noncomputable def u_X33_immediate_281 : jS → Int → Int → Int → Option (jS × Bool × Int) := Classical.choose (⟨du_X33_immediate_281, rfl⟩ : ∃ f, f = du_X33_immediate_281)
theorem eu_X33_immediate_281 : u_X33_immediate_281 = du_X33_immediate_281 := Classical.choose_spec (⟨du_X33_immediate_281, rfl⟩ : ∃ f, f = du_X33_immediate_281)
def du_X33_immediate_225 (s : jS) (x0 x2 x3 x4 x5 y0 y1 : Int) : Option (jS × Bool × Int) :=
  (m_X33_needAt s y1 y0 14 x3).bind fun q1 =>
  jth q1.2.1 (some (q1.1, true, q1.2.2)) <|
  if x5 = 0 then
    if x2 = 4 then
      u_X33_immediate_281 q1.1 x0 x4 1
    else
      u_X33_immediate_281 q1.1 x0 x4 0
  else
    if x4 = 1 then
      (jlt q1.1 1000 (x0 + 20) 800 x3).bind fun v2 =>
      some (q1.1, false, I_ushr (W32 (v2 + 2048)) 12)
    else
      (jlt q1.1 1000 (x0 + 20) 800 x3).bind fun v3 =>
      some (q1.1, false, I_shr (I_shl v3 20) 20)
noncomputable def u_X33_immediate_225 : jS → Int → Int → Int → Int → Int → Int → Int → Option (jS × Bool × Int) := Classical.choose (⟨du_X33_immediate_225, rfl⟩ : ∃ f, f = du_X33_immediate_225)
theorem eu_X33_immediate_225 : u_X33_immediate_225 = du_X33_immediate_225 := Classical.choose_spec (⟨du_X33_immediate_225, rfl⟩ : ∃ f, f = du_X33_immediate_225)
def du_X33_immediate_224 (s : jS) (x0 x2 x3 x4 x5 y0 : Int) : Option (jS × Bool × Int) :=
  u_X33_immediate_225 s x0 x2 x3 x4 x5 0 y0
noncomputable def u_X33_immediate_224 : jS → Int → Int → Int → Int → Int → Int → Option (jS × Bool × Int) := Classical.choose (⟨du_X33_immediate_224, rfl⟩ : ∃ f, f = du_X33_immediate_224)
theorem eu_X33_immediate_224 : u_X33_immediate_224 = du_X33_immediate_224 := Classical.choose_spec (⟨du_X33_immediate_224, rfl⟩ : ∃ f, f = du_X33_immediate_224)
def du_X33_immediate_220 (s : jS) (x0 x2 x3 x4 x5 y0 : Int) : Option (jS × Bool × Int) :=
  u_X33_immediate_225 s x0 x2 x3 x4 x5 1 y0
noncomputable def u_X33_immediate_220 : jS → Int → Int → Int → Int → Int → Int → Option (jS × Bool × Int) := Classical.choose (⟨du_X33_immediate_220, rfl⟩ : ∃ f, f = du_X33_immediate_220)
theorem eu_X33_immediate_220 : u_X33_immediate_220 = du_X33_immediate_220 := Classical.choose_spec (⟨du_X33_immediate_220, rfl⟩ : ∃ f, f = du_X33_immediate_220)
def du_X33_immediate_120 (s : jS) (x0 x1 x2 x3 x4 y0 : Int) : Option (jS × Bool × Int) :=
  if x4 = 0 then
    (m_X33_needAt s x0 y0 14 x3).bind fun q1 =>
    jth q1.2.1 (some (q1.1, true, q1.2.2)) <|
    (jlt q1.1 1000 (x0 + 20) 800 x3).bind fun v2 =>
    (m_X2_may q1.1 (x0 + (-4147)) x1 v2).bind fun v3 =>
    (m_X33_needAt q1.1 x0 v3 15 x3).bind fun q4 =>
    jth q4.2.1 (some (q4.1, true, q4.2.2)) <|
    (jlt q4.1 1000 (x0 + 20) 800 x3).bind fun v5 =>
    some (q4.1, false, v5)
  else
    if y0 = 0 then
      (jlt s 1000 (x0 + 21) 800 x3).bind fun v6 =>
      if v6 = (-1) then
        u_X33_immediate_224 s x0 x2 x3 x4 y0 x0
      else
        (jlt s 1000 (x0 + 22) 800 x3).bind fun v7 =>
        if v7 = (-1) then
          if x4 = 4 then
            (jlt s 1000 (x0 + 20) 800 x3).bind fun v8 =>
            if v8 = 0 then
              u_X33_immediate_220 s x0 x2 x3 x4 y0 x0
            else
              u_X33_immediate_224 s x0 x2 x3 x4 y0 x0
          else
            u_X33_immediate_220 s x0 x2 x3 x4 y0 x0
        else
          u_X33_immediate_224 s x0 x2 x3 x4 y0 x0
    else
      if x4 < 3 then
        u_X33_immediate_225 s x0 x2 x3 x4 y0 1 x0
      else
        u_X33_immediate_225 s x0 x2 x3 x4 y0 0 x0
noncomputable def u_X33_immediate_120 : jS → Int → Int → Int → Int → Int → Int → Option (jS × Bool × Int) := Classical.choose (⟨du_X33_immediate_120, rfl⟩ : ∃ f, f = du_X33_immediate_120)
theorem eu_X33_immediate_120 : u_X33_immediate_120 = du_X33_immediate_120 := Classical.choose_spec (⟨du_X33_immediate_120, rfl⟩ : ∃ f, f = du_X33_immediate_120)
def du_X33_immediate_119 (s : jS) (x0 x1 x2 x3 x4 : Int) : Option (jS × Bool × Int) :=
  u_X33_immediate_120 s x0 x1 x2 x3 x4 0
noncomputable def u_X33_immediate_119 : jS → Int → Int → Int → Int → Int → Option (jS × Bool × Int) := Classical.choose (⟨du_X33_immediate_119, rfl⟩ : ∃ f, f = du_X33_immediate_119)
theorem eu_X33_immediate_119 : u_X33_immediate_119 = du_X33_immediate_119 := Classical.choose_spec (⟨du_X33_immediate_119, rfl⟩ : ∃ f, f = du_X33_immediate_119)
def du_X33_immediate_90 (s : jS) (x0 x1 x2 x3 x4 : Int) : Option (jS × Bool × Int) :=
  (m_X33_value s x0 x3).bind fun q1 =>
  jth q1.2.1 (some (q1.1, true, q1.2.2)) <|
  (jlt q1.1 1000 (x0 + 21) 800 x3).bind fun v2 =>
  if v2 = (-1) then
    (jlt q1.1 1000 (x0 + 22) 800 x3).bind fun v3 =>
    if v3 = (-1) then
      u_X33_immediate_120 q1.1 x0 x1 x2 x3 x4 1
    else
      u_X33_immediate_119 q1.1 x0 x1 x2 x3 x4
  else
    u_X33_immediate_119 q1.1 x0 x1 x2 x3 x4
noncomputable def u_X33_immediate_90 : jS → Int → Int → Int → Int → Int → Option (jS × Bool × Int) := Classical.choose (⟨du_X33_immediate_90, rfl⟩ : ∃ f, f = du_X33_immediate_90)
theorem eu_X33_immediate_90 : u_X33_immediate_90 = du_X33_immediate_90 := Classical.choose_spec (⟨du_X33_immediate_90, rfl⟩ : ∃ f, f = du_X33_immediate_90)
def du_X33_immediate_85 (s : jS) (y0 y1 : Int) : Option (jS × Bool × Int) :=
  jls (jp s 37 y1 41 y0) fun s1 =>
  some (s1, false, 0)
noncomputable def u_X33_immediate_85 : jS → Int → Int → Option (jS × Bool × Int) := Classical.choose (⟨du_X33_immediate_85, rfl⟩ : ∃ f, f = du_X33_immediate_85)
theorem eu_X33_immediate_85 : u_X33_immediate_85 = du_X33_immediate_85 := Classical.choose_spec (⟨du_X33_immediate_85, rfl⟩ : ∃ f, f = du_X33_immediate_85)
def du_X33_immediate_78 (s : jS) (y0 : Int) : Option (jS × Bool × Int) :=
  u_X33_immediate_85 s 44 y0
noncomputable def u_X33_immediate_78 : jS → Int → Option (jS × Bool × Int) := Classical.choose (⟨du_X33_immediate_78, rfl⟩ : ∃ f, f = du_X33_immediate_78)
theorem eu_X33_immediate_78 : u_X33_immediate_78 = du_X33_immediate_78 := Classical.choose_spec (⟨du_X33_immediate_78, rfl⟩ : ∃ f, f = du_X33_immediate_78)
def du_X33_immediate_61 (s : jS) (y0 : Int) : Option (jS × Bool × Int) :=
  u_X33_immediate_85 s 45 y0
noncomputable def u_X33_immediate_61 : jS → Int → Option (jS × Bool × Int) := Classical.choose (⟨du_X33_immediate_61, rfl⟩ : ∃ f, f = du_X33_immediate_61)
theorem eu_X33_immediate_61 : u_X33_immediate_61 = du_X33_immediate_61 := Classical.choose_spec (⟨du_X33_immediate_61, rfl⟩ : ∃ f, f = du_X33_immediate_61)
def du_X33_immediate_33 (s : jS) (x0 x1 x3 : Int) : Option (jS × Bool × Int) :=
  (m_X33_placed s x0 x3).bind fun q1 =>
  jth q1.2.1 (some (q1.1, true, q1.2.2)) <|
  if x1 = 2 then
    u_X33_immediate_85 q1.1 17 x0
  else
    if x1 = 53 then
      u_X33_immediate_61 q1.1 x0
    else
      if x1 = 64 then
        u_X33_immediate_61 q1.1 x0
      else
        if x1 = 65 then
          u_X33_immediate_78 q1.1 x0
        else
          if x1 = 66 then
            u_X33_immediate_78 q1.1 x0
          else
            u_X33_immediate_85 q1.1 16 x0
noncomputable def u_X33_immediate_33 : jS → Int → Int → Int → Option (jS × Bool × Int) := Classical.choose (⟨du_X33_immediate_33, rfl⟩ : ∃ f, f = du_X33_immediate_33)
theorem eu_X33_immediate_33 : u_X33_immediate_33 = du_X33_immediate_33 := Classical.choose_spec (⟨du_X33_immediate_33, rfl⟩ : ∃ f, f = du_X33_immediate_33)
def dm_X33_immediate (s : jS) (x0 x1 x2 x3 : Int) : Option (jS × Bool × Int) :=
  (m_X11_operand s (x0 + (-3890)) (W32 ((jf s 37 x0 34) + x3)) 2).bind fun v1 =>
  if x2 = 5 then
    u_X33_immediate_33 s x0 x1 x3
  else
    if x2 < 7 then
      u_X33_immediate_90 s x0 x1 x2 x3 v1
    else
      if 9 < x2 then
        u_X33_immediate_90 s x0 x1 x2 x3 v1
      else
        u_X33_immediate_33 s x0 x1 x3
noncomputable def m_X33_immediate : jS → Int → Int → Int → Int → Option (jS × Bool × Int) := Classical.choose (⟨dm_X33_immediate, rfl⟩ : ∃ f, f = dm_X33_immediate)
theorem em_X33_immediate : m_X33_immediate = dm_X33_immediate := Classical.choose_spec (⟨dm_X33_immediate, rfl⟩ : ∃ f, f = dm_X33_immediate)
def du_X35_textPieces_183 (s : jS) (x0 x1 x2 x5 x6 : Int) : Option (jS × Bool × Int) :=
  (m_X36_plain s (x0 + 1) x1 (W32 (x6 - x5))).bind fun q1 =>
  (m_X35_piece q1.1 x0 q1.2 x1 x2 x5 (W32 (x6 - x5)) (-1)).bind fun q2 =>
  jth q2.2.1 (some (q2.1, true, q2.2.2)) <|
  some (q2.1, false, 0)
noncomputable def u_X35_textPieces_183 : jS → Int → Int → Int → Int → Int → Option (jS × Bool × Int) := Classical.choose (⟨du_X35_textPieces_183, rfl⟩ : ∃ f, f = du_X35_textPieces_183)
theorem eu_X35_textPieces_183 : u_X35_textPieces_183 = du_X35_textPieces_183 := Classical.choose_spec (⟨du_X35_textPieces_183, rfl⟩ : ∃ f, f = du_X35_textPieces_183)
def du_X35_textPieces_161 (s : jS) (x0 x1 x2 x5 x6 : Int) : Option (jS × Bool × Int) :=
  if x5 < x6 then
    u_X35_textPieces_183 s x0 x1 x2 x5 x6
  else
    (jlt s 1000 (x0 + 30) 32 x1).bind fun v1 =>
    (jlt s 1000 (x0 + 29) 32 x1).bind fun v2 =>
    if v1 = v2 then
      u_X35_textPieces_183 s x0 x1 x2 x5 x6
    else
      some (s, false, 0)
noncomputable def u_X35_textPieces_161 : jS → Int → Int → Int → Int → Int → Option (jS × Bool × Int) := Classical.choose (⟨du_X35_textPieces_161, rfl⟩ : ∃ f, f = du_X35_textPieces_161)
theorem eu_X35_textPieces_161 : u_X35_textPieces_161 = du_X35_textPieces_161 := Classical.choose_spec (⟨du_X35_textPieces_161, rfl⟩ : ∃ f, f = du_X35_textPieces_161)
def du_X35_textPieces_105 (s : jS) (x0 x1 x2 x3 x4 x6 x7 x8 : Int) : Option ((jS × List Int) ⊕ (jS × Bool × Int)) :=
  (m_X35_madeOf s x0 x1 x2 x7 x3 x4).bind fun q1 =>
  jth q1.2.1 (jinr (some (q1.1, true, q1.2.2))) <|
  (m_X35_lengthOf q1.1 x0 x8).bind fun v2 =>
  (m_X35_piece q1.1 x0 q1.2.2 x1 x2 (jf q1.1 22 x8 1) v2 x7).bind fun q3 =>
  jth q3.2.1 (jinr (some (q3.1, true, q3.2.2))) <|
  (m_X35_lengthOf q3.1 x0 x8).bind fun v4 =>
  jlet (W32 ((jf q3.1 22 x8 1) + v4)) fun v5 =>
  (m_X35_nextMove q3.1 x0 x3 v5).bind fun v6 =>
  some (.inl (q3.1, [x0, x1, x2, x3, x4, v5, x6, v6]))
noncomputable def u_X35_textPieces_105 : jS → Int → Int → Int → Int → Int → Int → Int → Int → Option ((jS × List Int) ⊕ (jS × Bool × Int)) := Classical.choose (⟨du_X35_textPieces_105, rfl⟩ : ∃ f, f = du_X35_textPieces_105)
theorem eu_X35_textPieces_105 : u_X35_textPieces_105 = du_X35_textPieces_105 := Classical.choose_spec (⟨du_X35_textPieces_105, rfl⟩ : ∃ f, f = du_X35_textPieces_105)
def b_X35_textPieces_47 (s : jS) (x0 x1 x2 x3 x4 x5 x6 x7 : Int) : Option ((jS × List Int) ⊕ (jS × Bool × Int)) :=
  if x7 = (-1) then
    jinr (u_X35_textPieces_161 s x0 x1 x2 x5 x6)
  else
    (jix 300 x7 ((x3 + 4) + 309 + 1 * x7)).bind fun v1 =>
    if x5 < (jf s 22 v1 1) then
      (m_X36_plain s (x0 + 1) x1 (W32 ((jf s 22 v1 1) - x5))).bind fun q2 =>
      (m_X35_piece q2.1 x0 q2.2 x1 x2 x5 (W32 ((jf q2.1 22 v1 1) - x5)) (-1)).bind fun q3 =>
      jth q3.2.1 (jinr (some (q3.1, true, q3.2.2))) <|
      u_X35_textPieces_105 q3.1 x0 x1 x2 x3 x4 x6 x7 v1
    else
      u_X35_textPieces_105 s x0 x1 x2 x3 x4 x6 x7 v1
def du_X35_textPieces_47 (s : jS) (x0 x1 x2 x3 x4 x5 x6 x7 : Int) : Option (jS × Bool × Int) := jlpW (jc8 b_X35_textPieces_47) [x0, x1, x2, x3, x4, x5, x6, x7] s
noncomputable def u_X35_textPieces_47 : jS → Int → Int → Int → Int → Int → Int → Int → Int → Option (jS × Bool × Int) := Classical.choose (⟨du_X35_textPieces_47, rfl⟩ : ∃ f, f = du_X35_textPieces_47)
theorem eu_X35_textPieces_47 : u_X35_textPieces_47 = du_X35_textPieces_47 := Classical.choose_spec (⟨du_X35_textPieces_47, rfl⟩ : ∃ f, f = du_X35_textPieces_47)
def du_X35_textPieces_22 (s : jS) (x0 x1 x2 x3 y0 : Int) : Option (jS × Bool × Int) :=
  (m_X35_relax s x0 x3).bind fun q1 =>
  (m_X14_room q1.1 x3 0).bind fun v2 =>
  (m_X35_nextMove q1.1 x0 x3 0).bind fun v3 =>
  u_X35_textPieces_47 q1.1 x0 x1 x2 x3 y0 0 v2 v3
noncomputable def u_X35_textPieces_22 : jS → Int → Int → Int → Int → Int → Option (jS × Bool × Int) := Classical.choose (⟨du_X35_textPieces_22, rfl⟩ : ∃ f, f = du_X35_textPieces_22)
theorem eu_X35_textPieces_22 : u_X35_textPieces_22 = du_X35_textPieces_22 := Classical.choose_spec (⟨du_X35_textPieces_22, rfl⟩ : ∃ f, f = du_X35_textPieces_22)
def dm_X35_textPieces (s : jS) (x0 x1 x2 : Int) : Option (jS × Bool × Int) :=
  (jix 6 x2 ((x0 + (-4000)) + 4041 + 1858 * x2)).bind fun v1 =>
  (m_X14_shorts s (v1 + 614)).bind fun v2 =>
  if 0 < v2 then
    u_X35_textPieces_22 s x0 x1 x2 (v1 + 614) 1
  else
    u_X35_textPieces_22 s x0 x1 x2 (v1 + 614) 0
noncomputable def m_X35_textPieces : jS → Int → Int → Int → Option (jS × Bool × Int) := Classical.choose (⟨dm_X35_textPieces, rfl⟩ : ∃ f, f = dm_X35_textPieces)
theorem em_X35_textPieces : m_X35_textPieces = dm_X35_textPieces := Classical.choose_spec (⟨dm_X35_textPieces, rfl⟩ : ∃ f, f = dm_X35_textPieces)
def dm_X35_lacking (s : jS) (x0 : Int) : Option (jS × Bool × Int) :=
  (m_X36_lacks s (x0 + 1)).bind fun q1 =>
  if q1.2 = (-1) then
    some (q1.1, false, 0)
  else
    (jlt q1.1 1000 (x0 + 28) 256 q1.2).bind fun v2 =>
    (jlt q1.1 1000 (x0 + 27) 256 q1.2).bind fun v3 =>
    (m_X35_wrong q1.1 x0 8 v2 v3).bind fun q4 =>
    jck0 q4.2 (some (q4.1, true, q4.2))
noncomputable def m_X35_lacking : jS → Int → Option (jS × Bool × Int) := Classical.choose (⟨dm_X35_lacking, rfl⟩ : ∃ f, f = dm_X35_lacking)
theorem em_X35_lacking : m_X35_lacking = dm_X35_lacking := Classical.choose_spec (⟨dm_X35_lacking, rfl⟩ : ∃ f, f = dm_X35_lacking)
def du_X35_sized_47 (s : jS) (x0 : Int) : Option (jS × Bool × Int) :=
  (m_X36_output s (x0 + 1) 3 1).bind fun q1 =>
  (m_X36_output q1.1 (x0 + 1) 2 1).bind fun q2 =>
  if 32768 < (W32 (q1.2 - q2.2)) then
    (m_X35_wrong q2.1 x0 6 (-1) (-1)).bind fun q3 =>
    jck0 q3.2 (some (q3.1, true, q3.2))
  else
    some (q2.1, false, 0)
noncomputable def u_X35_sized_47 : jS → Int → Option (jS × Bool × Int) := Classical.choose (⟨du_X35_sized_47, rfl⟩ : ∃ f, f = du_X35_sized_47)
theorem eu_X35_sized_47 : u_X35_sized_47 = du_X35_sized_47 := Classical.choose_spec (⟨du_X35_sized_47, rfl⟩ : ∃ f, f = du_X35_sized_47)
def du_X35_sized_32 (s : jS) (x0 : Int) : Option (jS × Bool × Int) :=
  (m_X35_wrong s x0 6 (-1) (-1)).bind fun q1 =>
  jck0 q1.2 (some (q1.1, true, q1.2))
noncomputable def u_X35_sized_32 : jS → Int → Option (jS × Bool × Int) := Classical.choose (⟨du_X35_sized_32, rfl⟩ : ∃ f, f = du_X35_sized_32)
theorem eu_X35_sized_32 : u_X35_sized_32 = du_X35_sized_32 := Classical.choose_spec (⟨du_X35_sized_32, rfl⟩ : ∃ f, f = du_X35_sized_32)
def b_X35_sized_2 (s : jS) (x0 x1 : Int) : Option ((jS × List Int) ⊕ (jS × Bool × Int)) :=
  if x1 < 3 then
    (m_X36_output s (x0 + 1) x1 1).bind fun q1 =>
    (m_X36_output q1.1 (x0 + 1) x1 0).bind fun q2 =>
    if 4096 < (W32 (q1.2 - q2.2)) then
      jinr (u_X35_sized_32 q2.1 x0)
    else
      some (.inl (q2.1, [x0, W32 (x1 + 1)]))
  else
    jinr (u_X35_sized_47 s x0)
def du_X35_sized_2 (s : jS) (x0 x1 : Int) : Option (jS × Bool × Int) := jlpW (jc2 b_X35_sized_2) [x0, x1] s
noncomputable def u_X35_sized_2 : jS → Int → Int → Option (jS × Bool × Int) := Classical.choose (⟨du_X35_sized_2, rfl⟩ : ∃ f, f = du_X35_sized_2)
theorem eu_X35_sized_2 : u_X35_sized_2 = du_X35_sized_2 := Classical.choose_spec (⟨du_X35_sized_2, rfl⟩ : ∃ f, f = du_X35_sized_2)
def dm_X35_sized (s : jS) (x0 : Int) : Option (jS × Bool × Int) :=
  u_X35_sized_2 s x0 0
noncomputable def m_X35_sized : jS → Int → Option (jS × Bool × Int) := Classical.choose (⟨dm_X35_sized, rfl⟩ : ∃ f, f = dm_X35_sized)
theorem em_X35_sized : m_X35_sized = dm_X35_sized := Classical.choose_spec (⟨dm_X35_sized, rfl⟩ : ∃ f, f = dm_X35_sized)
def dm_X35_gp (s : jS) (x0 : Int) : Option (jS × Int) :=
  (m_X36_output s (x0 + 1) 2 0).bind fun q1 =>
  some (q1.1, W32 (q1.2 + 2048))
noncomputable def m_X35_gp : jS → Int → Option (jS × Int) := Classical.choose (⟨dm_X35_gp, rfl⟩ : ∃ f, f = dm_X35_gp)
theorem em_X35_gp : m_X35_gp = dm_X35_gp := Classical.choose_spec (⟨dm_X35_gp, rfl⟩ : ∃ f, f = dm_X35_gp)
def dm_X35_fit (s : jS) (x0 x1 x2 x3 : Int) : Option (jS × Bool × Int) :=
  (m_X35_wanted s x0 x1 x2).bind fun q1 =>
  jth q1.2.1 (some (q1.1, true, q1.2.2)) <|
  (m_X35_wordAt q1.1 x0 x2).bind fun v2 =>
  (m_X2_kind q1.1 (x0 + (-4274)) v2).bind fun v3 =>
  (m_X2_may q1.1 (x0 + (-4274)) v3 x3).bind fun v4 =>
  (m_X35_need q1.1 x0 v4 8).bind fun q5 =>
  jth q5.2.1 (some (q5.1, true, q5.2.2)) <|
  (jix 3 0 ((x0 + 33) + 1 + 1 * 0)).bind fun v6 =>
  (m_X2_fit q5.1 (x0 + (-4274)) v2 x3).bind fun q7 =>
  jth q7.2.1 (some (q7.1, true, q7.2.2)) <|
  (m_X35_put q7.1 x0 v6 (jf q5.1 39 x0 38) x2 q7.2.2).bind fun q8 =>
  some (q8.1, false, 0)
noncomputable def m_X35_fit : jS → Int → Int → Int → Int → Option (jS × Bool × Int) := Classical.choose (⟨dm_X35_fit, rfl⟩ : ∃ f, f = dm_X35_fit)
theorem em_X35_fit : m_X35_fit = dm_X35_fit := Classical.choose_spec (⟨dm_X35_fit, rfl⟩ : ∃ f, f = dm_X35_fit)
def dm_X35_based (s : jS) (x0 x1 x2 x3 : Int) : Option (jS × Bool × Int) :=
  (m_X35_fit s x0 x1 4 x3).bind fun q1 =>
  jth q1.2.1 (some (q1.1, true, q1.2.2)) <|
  (m_X35_wordAt q1.1 x0 4).bind fun v2 =>
  (jix 3 0 ((x0 + 33) + 1 + 1 * 0)).bind fun v3 =>
  (m_X35_put q1.1 x0 v3 (jf q1.1 39 x0 38) 4 (I_or (I_and v2 (-1015809)) (I_shl x2 15))).bind fun q4 =>
  some (q4.1, false, 0)
noncomputable def m_X35_based : jS → Int → Int → Int → Int → Option (jS × Bool × Int) := Classical.choose (⟨dm_X35_based, rfl⟩ : ∃ f, f = dm_X35_based)
theorem em_X35_based : m_X35_based = dm_X35_based := Classical.choose_spec (⟨dm_X35_based, rfl⟩ : ∃ f, f = dm_X35_based)
def b_X35_segment_38 (s : jS) (x0 x1 x4 x6 : Int) : Option ((jS × List Int) ⊕ (jS × Int)) :=
  if x6 < x4 then
    (jix 3 x1 ((x0 + 33) + 1 + 1 * x1)).bind fun v1 =>
    (jlt s 1001 v1 4096 x6).bind fun v2 =>
    (m_X22_put s (x0 + (-283)) x1 1 (L_shl v2 56)).bind fun q3 =>
    some (.inl (q3.1, [x0, x1, x4, W32 (x6 + 1)]))
  else
    jinr (some (s, 0))
def du_X35_segment_38 (s : jS) (x0 x1 x4 x6 : Int) : Option (jS × Int) := jlpW (jc4 b_X35_segment_38) [x0, x1, x4, x6] s
noncomputable def u_X35_segment_38 : jS → Int → Int → Int → Int → Option (jS × Int) := Classical.choose (⟨du_X35_segment_38, rfl⟩ : ∃ f, f = du_X35_segment_38)
theorem eu_X35_segment_38 : u_X35_segment_38 = du_X35_segment_38 := Classical.choose_spec (⟨du_X35_segment_38, rfl⟩ : ∃ f, f = du_X35_segment_38)
def dm_X35_segment (s : jS) (x0 x1 x2 : Int) : Option (jS × Int) :=
  (m_X36_output s (x0 + 1) x1 0).bind fun q1 =>
  (m_X36_output q1.1 (x0 + 1) x1 1).bind fun q2 =>
  jlet (W32 (q2.2 - q1.2)) fun v3 =>
  (m_X22_segment q2.1 (x0 + (-283)) x1 q1.2 x2).bind fun q4 =>
  u_X35_segment_38 q4.1 x0 x1 v3 0
noncomputable def m_X35_segment : jS → Int → Int → Int → Option (jS × Int) := Classical.choose (⟨dm_X35_segment, rfl⟩ : ∃ f, f = dm_X35_segment)
theorem em_X35_segment : m_X35_segment = dm_X35_segment := Classical.choose_spec (⟨dm_X35_segment, rfl⟩ : ∃ f, f = dm_X35_segment)
def dmp_X53_sort (s : jS) (x0 : Int) : Option (Int) := if 0 ≤ x0 ∧ jK s x0 = 72 then jct s 88 x0 (m_X54_sort s x0) else if 0 ≤ x0 ∧ jK s x0 = 73 then jct s 89 x0 (m_X55_sort s x0) else if 0 ≤ x0 ∧ jK s x0 = 76 then jct s 92 x0 (m_X58_sort s x0) else if 0 ≤ x0 ∧ jK s x0 = 77 then jct s 93 x0 (m_X59_sort s x0) else none
noncomputable def mp_X53_sort : jS → Int → Option (Int) := Classical.choose (⟨dmp_X53_sort, rfl⟩ : ∃ f, f = dmp_X53_sort)
theorem emp_X53_sort : mp_X53_sort = dmp_X53_sort := Classical.choose_spec (⟨dmp_X53_sort, rfl⟩ : ∃ f, f = dmp_X53_sort)
def b_X36_piece_76 (s : jS) (x0 x3 x5 : Int) : Option ((jS × List Int) ⊕ (jS × Int)) :=
  (jlt s 1019 (x0 + 1) 32 x5).bind fun v1 =>
  (jrp s [(72, 0), (73, 0), (76, 4), (77, 4)] x3).bind fun v2 =>
  if v1 = v2 then
    jinr (some (s, x5))
  else
    some (.inl (s, [x0, x3, W32 (x5 + 1)]))
def du_X36_piece_76 (s : jS) (x0 x3 x5 : Int) : Option (jS × Int) := jlpW (jc3 b_X36_piece_76) [x0, x3, x5] s
noncomputable def u_X36_piece_76 : jS → Int → Int → Int → Option (jS × Int) := Classical.choose (⟨du_X36_piece_76, rfl⟩ : ∃ f, f = du_X36_piece_76)
theorem eu_X36_piece_76 : u_X36_piece_76 = du_X36_piece_76 := Classical.choose_spec (⟨du_X36_piece_76, rfl⟩ : ∃ f, f = du_X36_piece_76)
def dm_X36_piece (s : jS) (x0 x1 x2 : Int) : Option (jS × Int) :=
  (m_X36_isPiece s x0 x1).bind fun v1 =>
  if v1 = 0 then
    some (s, (-1))
  else
    (m_X36_lay s x0).bind fun q2 =>
    (jlt q2.1 1020 (x0 + 2) 256 x1).bind fun v3 =>
    (mp_X53_moving q2.1 v3).bind fun v4 =>
    if x2 = 0 then
      (mp_X53_sort q2.1 v3).bind fun v5 =>
      some (q2.1, v5)
    else
    if x2 = 1 then
      u_X36_piece_76 q2.1 x0 v3 0
    else
    if x2 = 2 then
      (jrp q2.1 [(72, 0), (73, 0), (76, 4), (77, 4)] v3).bind fun v6 =>
      (jrd q2.1 70 v6 4).bind fun v7 =>
      if v7 = 0 then
        (mp_X53_size q2.1 v3).bind fun v8 =>
        some (q2.1, v8)
      else
        some (q2.1, (-1))
    else
    if x2 = 3 then
      (jrp q2.1 [(72, 0), (73, 0), (76, 4), (77, 4)] v3).bind fun v9 =>
      (jrd q2.1 70 v9 4).bind fun v10 =>
      if v10 = 0 then
        (jrp q2.1 [(72, 1), (73, 1), (76, 5), (77, 5)] v3).bind fun v11 =>
        some (q2.1, v11)
      else
        some (q2.1, (-1))
    else
    if x2 = 4 then
      (jrp q2.1 [(72, 0), (73, 0), (76, 4), (77, 4)] v3).bind fun v12 =>
      (jrd q2.1 70 v12 4).bind fun v13 =>
      if v13 = 0 then
        if v4 < 0 then
          (mp_X53_size q2.1 v3).bind fun v14 =>
          some (q2.1, v14)
        else
          (m_X36_gp q2.1 x0).bind fun v15 =>
          (mp_X57_least_2 q2.1 v4 v15).bind fun v16 =>
          some (q2.1, v16)
      else
        some (q2.1, (-1))
    else
    if x2 = 5 then
      if v4 < 0 then
        some (q2.1, 0)
      else
        (jrp q2.1 [(76, 3), (77, 3)] v4).bind fun v17 =>
        if v17 = 0 then
          some (q2.1, 0)
        else
          some (q2.1, 1)
    else
    some (q2.1, (-1))
noncomputable def m_X36_piece : jS → Int → Int → Int → Option (jS × Int) := Classical.choose (⟨dm_X36_piece, rfl⟩ : ∃ f, f = dm_X36_piece)
theorem em_X36_piece : m_X36_piece = dm_X36_piece := Classical.choose_spec (⟨dm_X36_piece, rfl⟩ : ∃ f, f = dm_X36_piece)
def b_X36_shrink_2 (s : jS) (x0 x1 : Int) : Option ((jS × List Int) ⊕ (jS × Int)) :=
  (m_X36_pass s x0).bind fun q1 =>
  if 0 < q1.2 then
    some (.inl (q1.1, [x0, W32 (x1 + 1)]))
  else
    jinr (some (q1.1, x1))
def du_X36_shrink_2 (s : jS) (x0 x1 : Int) : Option (jS × Int) := jlpW (jc2 b_X36_shrink_2) [x0, x1] s
noncomputable def u_X36_shrink_2 : jS → Int → Int → Option (jS × Int) := Classical.choose (⟨du_X36_shrink_2, rfl⟩ : ∃ f, f = du_X36_shrink_2)
theorem eu_X36_shrink_2 : u_X36_shrink_2 = du_X36_shrink_2 := Classical.choose_spec (⟨du_X36_shrink_2, rfl⟩ : ∃ f, f = du_X36_shrink_2)
def dm_X36_shrink (s : jS) (x0 : Int) : Option (jS × Int) :=
  u_X36_shrink_2 s x0 1
noncomputable def m_X36_shrink : jS → Int → Option (jS × Int) := Classical.choose (⟨dm_X36_shrink, rfl⟩ : ∃ f, f = dm_X36_shrink)
theorem em_X36_shrink : m_X36_shrink = dm_X36_shrink := Classical.choose_spec (⟨dm_X36_shrink, rfl⟩ : ∃ f, f = dm_X36_shrink)
end
