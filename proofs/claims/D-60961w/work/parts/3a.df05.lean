/-! the functions: printed by gen_meth.py -/
set_option maxRecDepth 100000
noncomputable section
def dm_X40_told (s : jS) (x0 x1 x2 : Int) : Option (Int) :=
  (m_X40_spotOf s x0 x1 x2).bind fun v1 =>
  (m_X40_read4 s x0 v1).bind fun v2 =>
  some v2
noncomputable def m_X40_told : jS → Int → Int → Int → Option (Int) := Classical.choose (⟨dm_X40_told, rfl⟩ : ∃ f, f = dm_X40_told)
theorem em_X40_told : m_X40_told = dm_X40_told := Classical.choose_spec (⟨dm_X40_told, rfl⟩ : ∃ f, f = dm_X40_told)
def du_X40_nameFaults_249 (s : jS) (x0 x4 : Int) : Option (jS × Int) :=
  (m_X40_spotOf s x0 x4 0).bind fun v1 =>
  (m_X40_fault s x0 16 v1).bind fun q2 =>
  some (q2.1, q2.2)
noncomputable def u_X40_nameFaults_249 : jS → Int → Int → Option (jS × Int) := Classical.choose (⟨du_X40_nameFaults_249, rfl⟩ : ∃ f, f = du_X40_nameFaults_249)
theorem eu_X40_nameFaults_249 : u_X40_nameFaults_249 = du_X40_nameFaults_249 := Classical.choose_spec (⟨du_X40_nameFaults_249, rfl⟩ : ∃ f, f = du_X40_nameFaults_249)
def du_X40_nameFaults_165 (s : jS) (x0 x4 : Int) : Option (jS × Int) :=
  (m_X40_spotOf s x0 x4 0).bind fun v1 =>
  (m_X40_fault s x0 16 v1).bind fun q2 =>
  some (q2.1, q2.2)
noncomputable def u_X40_nameFaults_165 : jS → Int → Int → Option (jS × Int) := Classical.choose (⟨du_X40_nameFaults_165, rfl⟩ : ∃ f, f = du_X40_nameFaults_165)
theorem eu_X40_nameFaults_165 : u_X40_nameFaults_165 = du_X40_nameFaults_165 := Classical.choose_spec (⟨du_X40_nameFaults_165, rfl⟩ : ∃ f, f = du_X40_nameFaults_165)
def du_X40_nameFaults_223 (s : jS) (x0 x2 x3 x4 : Int) : Option ((jS × List Int) ⊕ (jS × Int)) :=
  (jlt s 1000 (x0 + 33) 16 x4).bind fun v1 =>
  if v1 = (-1) then
    jinr (u_X40_nameFaults_249 s x0 x4)
  else
    (jlt s 1000 (x0 + 33) 16 x4).bind fun v2 =>
    (jlt s 1000 (x0 + 32) 11 v2).bind fun v3 =>
    if v3 = 0 then
      (jlt s 1000 (x0 + 33) 16 x4).bind fun v4 =>
      (jst s 1000 (x0 + 32) 11 v4 x4).bind fun s5 =>
      some (.inl (s5, [x0, x2, x3, W32 (x4 + 1)]))
    else
      jinr (u_X40_nameFaults_249 s x0 x4)
noncomputable def u_X40_nameFaults_223 : jS → Int → Int → Int → Int → Option ((jS × List Int) ⊕ (jS × Int)) := Classical.choose (⟨du_X40_nameFaults_223, rfl⟩ : ∃ f, f = du_X40_nameFaults_223)
theorem eu_X40_nameFaults_223 : u_X40_nameFaults_223 = du_X40_nameFaults_223 := Classical.choose_spec (⟨du_X40_nameFaults_223, rfl⟩ : ∃ f, f = du_X40_nameFaults_223)
def du_X40_nameFaults_217 (s : jS) (x0 x2 x3 x4 x5 : Int) : Option ((jS × List Int) ⊕ ((jS × List Int) ⊕ (jS × Int))) :=
  some (.inl (s, [x0, x2, x3, x4, W32 (x5 + 1)]))
noncomputable def u_X40_nameFaults_217 : jS → Int → Int → Int → Int → Int → Option ((jS × List Int) ⊕ ((jS × List Int) ⊕ (jS × Int))) := Classical.choose (⟨du_X40_nameFaults_217, rfl⟩ : ∃ f, f = du_X40_nameFaults_217)
theorem eu_X40_nameFaults_217 : u_X40_nameFaults_217 = du_X40_nameFaults_217 := Classical.choose_spec (⟨du_X40_nameFaults_217, rfl⟩ : ∃ f, f = du_X40_nameFaults_217)
def b_X40_nameFaults_182 (s : jS) (x0 x2 x3 x4 x5 : Int) : Option ((jS × List Int) ⊕ ((jS × List Int) ⊕ (jS × Int))) :=
  if x5 < 11 then
    (m_X40_told s x0 x4 0).bind fun v1 =>
    (m_X40_isTitle s x0 x5 (W32 (x2 + (L2i v1)))).bind fun v2 =>
    if v2 = 0 then
      u_X40_nameFaults_217 s x0 x2 x3 x4 x5
    else
      (jst s 1000 (x0 + 33) 16 x4 x5).bind fun s3 =>
      u_X40_nameFaults_217 s3 x0 x2 x3 x4 x5
  else
    jinr (u_X40_nameFaults_223 s x0 x2 x3 x4)
def du_X40_nameFaults_182 (s : jS) (x0 x2 x3 x4 x5 : Int) : Option ((jS × List Int) ⊕ (jS × Int)) := jlpW (jc5 b_X40_nameFaults_182) [x0, x2, x3, x4, x5] s
noncomputable def u_X40_nameFaults_182 : jS → Int → Int → Int → Int → Int → Option ((jS × List Int) ⊕ (jS × Int)) := Classical.choose (⟨du_X40_nameFaults_182, rfl⟩ : ∃ f, f = du_X40_nameFaults_182)
theorem eu_X40_nameFaults_182 : u_X40_nameFaults_182 = du_X40_nameFaults_182 := Classical.choose_spec (⟨du_X40_nameFaults_182, rfl⟩ : ∃ f, f = du_X40_nameFaults_182)
def b_X40_nameFaults_135 (s : jS) (x0 x2 x3 x4 : Int) : Option ((jS × List Int) ⊕ (jS × Int)) :=
  if x4 < (jf s 44 x0 40) then
    (jst s 1000 (x0 + 33) 16 x4 (-1)).bind fun s1 =>
    (m_X40_told s1 x0 x4 0).bind fun v2 =>
    if (L_cmp v2 x3) < 0 then
      u_X40_nameFaults_182 s1 x0 x2 x3 x4 0
    else
      jinr (u_X40_nameFaults_165 s1 x0 x4)
  else
    jinr (some (s, 0))
def du_X40_nameFaults_135 (s : jS) (x0 x2 x3 x4 : Int) : Option (jS × Int) := jlpW (jc4 b_X40_nameFaults_135) [x0, x2, x3, x4] s
noncomputable def u_X40_nameFaults_135 : jS → Int → Int → Int → Int → Option (jS × Int) := Classical.choose (⟨du_X40_nameFaults_135, rfl⟩ : ∃ f, f = du_X40_nameFaults_135)
theorem eu_X40_nameFaults_135 : u_X40_nameFaults_135 = du_X40_nameFaults_135 := Classical.choose_spec (⟨du_X40_nameFaults_135, rfl⟩ : ∃ f, f = du_X40_nameFaults_135)
def du_X40_nameFaults_132 (s : jS) (x0 x2 x3 : Int) : Option (jS × Int) :=
  u_X40_nameFaults_135 s x0 x2 x3 1
noncomputable def u_X40_nameFaults_132 : jS → Int → Int → Int → Option (jS × Int) := Classical.choose (⟨du_X40_nameFaults_132, rfl⟩ : ∃ f, f = du_X40_nameFaults_132)
theorem eu_X40_nameFaults_132 : u_X40_nameFaults_132 = du_X40_nameFaults_132 := Classical.choose_spec (⟨du_X40_nameFaults_132, rfl⟩ : ∃ f, f = du_X40_nameFaults_132)
def b_X40_nameFaults_111 (s : jS) (x0 x2 x3 x4 : Int) : Option ((jS × List Int) ⊕ (jS × Int)) :=
  if x4 < 11 then
    (jst s 1000 (x0 + 32) 11 x4 0).bind fun s1 =>
    some (.inl (s1, [x0, x2, x3, W32 (x4 + 1)]))
  else
    jinr (u_X40_nameFaults_132 s x0 x2 x3)
def du_X40_nameFaults_111 (s : jS) (x0 x2 x3 x4 : Int) : Option (jS × Int) := jlpW (jc4 b_X40_nameFaults_111) [x0, x2, x3, x4] s
noncomputable def u_X40_nameFaults_111 : jS → Int → Int → Int → Int → Option (jS × Int) := Classical.choose (⟨du_X40_nameFaults_111, rfl⟩ : ∃ f, f = du_X40_nameFaults_111)
theorem eu_X40_nameFaults_111 : u_X40_nameFaults_111 = du_X40_nameFaults_111 := Classical.choose_spec (⟨du_X40_nameFaults_111, rfl⟩ : ∃ f, f = du_X40_nameFaults_111)
def dm_X40_nameFaults (s : jS) (x0 : Int) : Option (jS × Int) :=
  (m_X40_read2 s x0 50).bind fun v1 =>
  (m_X40_told s x0 v1 1).bind fun v2 =>
  if (L_cmp v2 3) = 0 then
    (m_X40_told s x0 v1 4).bind fun v3 =>
    jlet (L2i v3) fun v4 =>
    (m_X40_told s x0 v1 5).bind fun v5 =>
    jlet (L2i v5) fun v6 =>
    if v6 = 0 then
      (m_X40_spotOf s x0 v1 5).bind fun v7 =>
      (m_X40_fault s x0 15 v7).bind fun q8 =>
      some (q8.1, q8.2)
    else
      (jlt s 1000 (x0 + 21) 8192 v4).bind fun v9 =>
      if v9 = 0 then
        (jlt s 1000 (x0 + 21) 8192 (W32 ((W32 (v4 + v6)) - 1))).bind fun v10 =>
        if v10 = 0 then
          u_X40_nameFaults_111 s x0 v4 v6 0
        else
          (m_X40_fault s x0 15 (W32 ((W32 (v4 + v6)) - 1))).bind fun q11 =>
          some (q11.1, q11.2)
      else
        (m_X40_fault s x0 15 v4).bind fun q12 =>
        some (q12.1, q12.2)
  else
    (m_X40_spotOf s x0 v1 1).bind fun v13 =>
    (m_X40_fault s x0 15 v13).bind fun q14 =>
    some (q14.1, q14.2)
noncomputable def m_X40_nameFaults : jS → Int → Option (jS × Int) := Classical.choose (⟨dm_X40_nameFaults, rfl⟩ : ∃ f, f = dm_X40_nameFaults)
theorem em_X40_nameFaults : m_X40_nameFaults = dm_X40_nameFaults := Classical.choose_spec (⟨dm_X40_nameFaults, rfl⟩ : ∃ f, f = dm_X40_nameFaults)
def du_X40_ruleFault_241 (s : jS) (x0 x1 x2 : Int) : Option (jS × Int) :=
  (m_X40_told s x0 x1 9).bind fun v1 =>
  (m_X40_eachOf s x2).bind fun v2 =>
  if (L_cmp v1 v2) = 0 then
    some (s, 0)
  else
    (m_X40_spotOf s x0 x1 9).bind fun v3 =>
    (m_X40_fault s x0 17 v3).bind fun q4 =>
    some (q4.1, q4.2)
noncomputable def u_X40_ruleFault_241 : jS → Int → Int → Int → Option (jS × Int) := Classical.choose (⟨du_X40_ruleFault_241, rfl⟩ : ∃ f, f = du_X40_ruleFault_241)
theorem eu_X40_ruleFault_241 : u_X40_ruleFault_241 = du_X40_ruleFault_241 := Classical.choose_spec (⟨du_X40_ruleFault_241, rfl⟩ : ∃ f, f = du_X40_ruleFault_241)
def du_X40_ruleFault_227 (s : jS) (x0 x1 : Int) : Option (jS × Int) :=
  (m_X40_spotOf s x0 x1 7).bind fun v1 =>
  (m_X40_fault s x0 17 v1).bind fun q2 =>
  some (q2.1, q2.2)
noncomputable def u_X40_ruleFault_227 : jS → Int → Int → Option (jS × Int) := Classical.choose (⟨du_X40_ruleFault_227, rfl⟩ : ∃ f, f = du_X40_ruleFault_227)
theorem eu_X40_ruleFault_227 : u_X40_ruleFault_227 = du_X40_ruleFault_227 := Classical.choose_spec (⟨du_X40_ruleFault_227, rfl⟩ : ∃ f, f = du_X40_ruleFault_227)
def du_X40_ruleFault_196 (s : jS) (x0 x1 x2 x3 y0 : Int) : Option (jS × Int) :=
  if x2 = 8 then
    u_X40_ruleFault_241 s x0 x1 x2
  else
    (m_X40_told s x0 x1 7).bind fun v1 =>
    if (L_cmp v1 y0) = 0 then
      if x3 = 0 then
        u_X40_ruleFault_241 s x0 x1 x2
      else
        if y0 = 0 then
          u_X40_ruleFault_227 s x0 x1
        else
          u_X40_ruleFault_241 s x0 x1 x2
    else
      u_X40_ruleFault_227 s x0 x1
noncomputable def u_X40_ruleFault_196 : jS → Int → Int → Int → Int → Int → Option (jS × Int) := Classical.choose (⟨du_X40_ruleFault_196, rfl⟩ : ∃ f, f = du_X40_ruleFault_196)
theorem eu_X40_ruleFault_196 : u_X40_ruleFault_196 = du_X40_ruleFault_196 := Classical.choose_spec (⟨du_X40_ruleFault_196, rfl⟩ : ∃ f, f = du_X40_ruleFault_196)
def du_X40_ruleFault_180 (s : jS) (x0 x1 x2 x3 : Int) : Option (jS × Int) :=
  if x3 = 0 then
    u_X40_ruleFault_196 s x0 x1 x2 x3 0
  else
    (jlt s 1000 (x0 + 32) 11 (W32 (x2 - 5))).bind fun v1 =>
    u_X40_ruleFault_196 s x0 x1 x2 x3 v1
noncomputable def u_X40_ruleFault_180 : jS → Int → Int → Int → Int → Option (jS × Int) := Classical.choose (⟨du_X40_ruleFault_180, rfl⟩ : ∃ f, f = du_X40_ruleFault_180)
theorem eu_X40_ruleFault_180 : u_X40_ruleFault_180 = du_X40_ruleFault_180 := Classical.choose_spec (⟨du_X40_ruleFault_180, rfl⟩ : ∃ f, f = du_X40_ruleFault_180)
def du_X40_ruleFault_166 (s : jS) (x0 x1 : Int) : Option (jS × Int) :=
  (m_X40_spotOf s x0 x1 6).bind fun v1 =>
  (m_X40_fault s x0 17 v1).bind fun q2 =>
  some (q2.1, q2.2)
noncomputable def u_X40_ruleFault_166 : jS → Int → Int → Option (jS × Int) := Classical.choose (⟨du_X40_ruleFault_166, rfl⟩ : ∃ f, f = du_X40_ruleFault_166)
theorem eu_X40_ruleFault_166 : u_X40_ruleFault_166 = du_X40_ruleFault_166 := Classical.choose_spec (⟨du_X40_ruleFault_166, rfl⟩ : ∃ f, f = du_X40_ruleFault_166)
def du_X40_ruleFault_161 (s : jS) (x0 x1 x2 x3 x4 : Int) : Option (jS × Int) :=
  if x4 = 0 then
    u_X40_ruleFault_166 s x0 x1
  else
    u_X40_ruleFault_180 s x0 x1 x2 x3
noncomputable def u_X40_ruleFault_161 : jS → Int → Int → Int → Int → Int → Option (jS × Int) := Classical.choose (⟨du_X40_ruleFault_161, rfl⟩ : ∃ f, f = du_X40_ruleFault_161)
theorem eu_X40_ruleFault_161 : u_X40_ruleFault_161 = du_X40_ruleFault_161 := Classical.choose_spec (⟨du_X40_ruleFault_161, rfl⟩ : ∃ f, f = du_X40_ruleFault_161)
def du_X40_ruleFault_135 (s : jS) (x0 x1 x2 x3 y0 : Int) : Option (jS × Int) :=
  (m_X40_told s x0 x1 6).bind fun v1 =>
  if (L_cmp v1 y0) = 0 then
    if x3 = 0 then
      if x2 = 8 then
        u_X40_ruleFault_161 s x0 x1 x2 x3 y0
      else
        u_X40_ruleFault_180 s x0 x1 x2 x3
    else
      u_X40_ruleFault_161 s x0 x1 x2 x3 y0
  else
    u_X40_ruleFault_166 s x0 x1
noncomputable def u_X40_ruleFault_135 : jS → Int → Int → Int → Int → Int → Option (jS × Int) := Classical.choose (⟨du_X40_ruleFault_135, rfl⟩ : ∃ f, f = du_X40_ruleFault_135)
theorem eu_X40_ruleFault_135 : u_X40_ruleFault_135 = du_X40_ruleFault_135 := Classical.choose_spec (⟨du_X40_ruleFault_135, rfl⟩ : ∃ f, f = du_X40_ruleFault_135)
def du_X40_ruleFault_23 (s : jS) (x0 x1 x2 y0 : Int) : Option (jS × Int) :=
  (m_X40_told s x0 x1 1).bind fun v1 =>
  (m_X40_sortOf s x2).bind fun v2 =>
  if (L_cmp v1 v2) = 0 then
    (m_X40_told s x0 x1 2).bind fun v3 =>
    (m_X40_flagsOf s x2).bind fun v4 =>
    if (L_cmp v3 v4) = 0 then
      (m_X40_told s x0 x1 3).bind fun v5 =>
      if (L_cmp v5 0) = 0 then
        if y0 = 0 then
          if x2 = 8 then
            (jlt s 1000 (x0 + 32) 11 9).bind fun v6 =>
            u_X40_ruleFault_135 s x0 x1 x2 y0 v6
          else
            u_X40_ruleFault_135 s x0 x1 x2 y0 0
        else
          (jlt s 1000 (x0 + 32) 11 8).bind fun v7 =>
          u_X40_ruleFault_135 s x0 x1 x2 y0 v7
      else
        (m_X40_spotOf s x0 x1 3).bind fun v8 =>
        (m_X40_fault s x0 17 v8).bind fun q9 =>
        some (q9.1, q9.2)
    else
      (m_X40_spotOf s x0 x1 2).bind fun v10 =>
      (m_X40_fault s x0 17 v10).bind fun q11 =>
      some (q11.1, q11.2)
  else
    (m_X40_spotOf s x0 x1 1).bind fun v12 =>
    (m_X40_fault s x0 17 v12).bind fun q13 =>
    some (q13.1, q13.2)
noncomputable def u_X40_ruleFault_23 : jS → Int → Int → Int → Int → Option (jS × Int) := Classical.choose (⟨du_X40_ruleFault_23, rfl⟩ : ∃ f, f = du_X40_ruleFault_23)
theorem eu_X40_ruleFault_23 : u_X40_ruleFault_23 = du_X40_ruleFault_23 := Classical.choose_spec (⟨du_X40_ruleFault_23, rfl⟩ : ∃ f, f = du_X40_ruleFault_23)
def du_X40_ruleFault_22 (s : jS) (x0 x1 x2 : Int) : Option (jS × Int) :=
  u_X40_ruleFault_23 s x0 x1 x2 0
noncomputable def u_X40_ruleFault_22 : jS → Int → Int → Int → Option (jS × Int) := Classical.choose (⟨du_X40_ruleFault_22, rfl⟩ : ∃ f, f = du_X40_ruleFault_22)
theorem eu_X40_ruleFault_22 : u_X40_ruleFault_22 = du_X40_ruleFault_22 := Classical.choose_spec (⟨du_X40_ruleFault_22, rfl⟩ : ∃ f, f = du_X40_ruleFault_22)
def dm_X40_ruleFault (s : jS) (x0 x1 : Int) : Option (jS × Int) :=
  (jlt s 1000 (x0 + 33) 16 x1).bind fun v1 =>
  if v1 < 5 then
    u_X40_ruleFault_22 s x0 x1 v1
  else
    if v1 < 8 then
      u_X40_ruleFault_23 s x0 x1 v1 1
    else
      u_X40_ruleFault_22 s x0 x1 v1
noncomputable def m_X40_ruleFault : jS → Int → Int → Option (jS × Int) := Classical.choose (⟨dm_X40_ruleFault, rfl⟩ : ∃ f, f = dm_X40_ruleFault)
theorem em_X40_ruleFault : m_X40_ruleFault = dm_X40_ruleFault := Classical.choose_spec (⟨dm_X40_ruleFault, rfl⟩ : ∃ f, f = dm_X40_ruleFault)
def dm_X40_bytesOf (s : jS) (x0 x1 : Int) : Option (Int) :=
  (jlt s 1000 (x0 + 32) 11 x1).bind fun v1 =>
  if v1 = 0 then
    some 0
  else
    (jlt s 1000 (x0 + 32) 11 x1).bind fun v2 =>
    (m_X40_told s x0 v2 5).bind fun v3 =>
    some v3
noncomputable def m_X40_bytesOf : jS → Int → Int → Option (Int) := Classical.choose (⟨dm_X40_bytesOf, rfl⟩ : ∃ f, f = dm_X40_bytesOf)
theorem em_X40_bytesOf : m_X40_bytesOf = dm_X40_bytesOf := Classical.choose_spec (⟨dm_X40_bytesOf, rfl⟩ : ∃ f, f = dm_X40_bytesOf)
def dm_X40_from (s : jS) (x0 x1 : Int) : Option (Int) :=
  (jlt s 1000 (x0 + 32) 11 x1).bind fun v1 =>
  if v1 = 0 then
    some 0
  else
    (jlt s 1000 (x0 + 32) 11 x1).bind fun v2 =>
    (m_X40_told s x0 v2 4).bind fun v3 =>
    some (L2i v3)
noncomputable def m_X40_from : jS → Int → Int → Option (Int) := Classical.choose (⟨dm_X40_from, rfl⟩ : ∃ f, f = dm_X40_from)
theorem em_X40_from : m_X40_from = dm_X40_from := Classical.choose_spec (⟨dm_X40_from, rfl⟩ : ∃ f, f = dm_X40_from)
def dm_X40_symbolsIn (s : jS) (x0 : Int) : Option (Int) :=
  (m_X40_bytesOf s x0 8).bind fun v1 =>
  (jdv 16 (L_div v1 16)).bind fun v2 =>
  some (L2i v2)
noncomputable def m_X40_symbolsIn : jS → Int → Option (Int) := Classical.choose (⟨dm_X40_symbolsIn, rfl⟩ : ∃ f, f = dm_X40_symbolsIn)
theorem em_X40_symbolsIn : m_X40_symbolsIn = dm_X40_symbolsIn := Classical.choose_spec (⟨dm_X40_symbolsIn, rfl⟩ : ∃ f, f = dm_X40_symbolsIn)
def dm_X40_symbolPlace (s : jS) (x0 x1 : Int) : Option (Int) :=
  (m_X40_from s x0 8).bind fun v1 =>
  some (W32 (v1 + (W32 (16 * x1))))
noncomputable def m_X40_symbolPlace : jS → Int → Int → Option (Int) := Classical.choose (⟨dm_X40_symbolPlace, rfl⟩ : ∃ f, f = dm_X40_symbolPlace)
theorem em_X40_symbolPlace : m_X40_symbolPlace = dm_X40_symbolPlace := Classical.choose_spec (⟨dm_X40_symbolPlace, rfl⟩ : ∃ f, f = dm_X40_symbolPlace)
def dm_X40_namePlace (s : jS) (x0 x1 : Int) : Option (Int) :=
  (m_X40_from s x0 9).bind fun v1 =>
  (m_X40_symbolPlace s x0 x1).bind fun v2 =>
  (m_X40_read4 s x0 v2).bind fun v3 =>
  some (W32 (v1 + (L2i v3)))
noncomputable def m_X40_namePlace : jS → Int → Int → Option (Int) := Classical.choose (⟨dm_X40_namePlace, rfl⟩ : ∃ f, f = dm_X40_namePlace)
theorem em_X40_namePlace : m_X40_namePlace = dm_X40_namePlace := Classical.choose_spec (⟨dm_X40_namePlace, rfl⟩ : ∃ f, f = dm_X40_namePlace)
def du_X40_isName_68 (s : jS) (x0 x1 x2 x4 y0 : Int) : Option (List Int ⊕ (Int)) :=
  some (.inl [x0, x1, x2, y0, W32 (x4 + 1)])
noncomputable def u_X40_isName_68 : jS → Int → Int → Int → Int → Int → Option (List Int ⊕ (Int)) := Classical.choose (⟨du_X40_isName_68, rfl⟩ : ∃ f, f = du_X40_isName_68)
theorem eu_X40_isName_68 : u_X40_isName_68 = du_X40_isName_68 := Classical.choose_spec (⟨du_X40_isName_68, rfl⟩ : ∃ f, f = du_X40_isName_68)
def du_X40_isName_67 (s : jS) (x0 x1 x2 x4 : Int) : Option (List Int ⊕ (Int)) :=
  u_X40_isName_68 s x0 x1 x2 x4 0
noncomputable def u_X40_isName_67 : jS → Int → Int → Int → Int → Option (List Int ⊕ (Int)) := Classical.choose (⟨du_X40_isName_67, rfl⟩ : ∃ f, f = du_X40_isName_67)
theorem eu_X40_isName_67 : u_X40_isName_67 = du_X40_isName_67 := Classical.choose_spec (⟨du_X40_isName_67, rfl⟩ : ∃ f, f = du_X40_isName_67)
def b_X40_isName_25 (s : jS) (x0 x1 x2 x3 x4 : Int) : Option (List Int ⊕ (Int)) :=
  if x4 < x2 then
    if x3 = 0 then
      u_X40_isName_67 s x0 x1 x2 x4
    else
      (jlt s 1000 (x0 + 21) 8192 (W32 (x1 + x4))).bind fun v1 =>
      if v1 < 33 then
        u_X40_isName_67 s x0 x1 x2 x4
      else
        (jlt s 1000 (x0 + 21) 8192 (W32 (x1 + x4))).bind fun v2 =>
        if 126 < v2 then
          u_X40_isName_67 s x0 x1 x2 x4
        else
          u_X40_isName_68 s x0 x1 x2 x4 1
  else
    jinr (some (Wz x3))
def du_X40_isName_25 (s : jS) (x0 x1 x2 x3 x4 : Int) : Option (Int) := jlpR (jc5 b_X40_isName_25) [x0, x1, x2, x3, x4] s
noncomputable def u_X40_isName_25 : jS → Int → Int → Int → Int → Int → Option (Int) := Classical.choose (⟨du_X40_isName_25, rfl⟩ : ∃ f, f = du_X40_isName_25)
theorem eu_X40_isName_25 : u_X40_isName_25 = du_X40_isName_25 := Classical.choose_spec (⟨du_X40_isName_25, rfl⟩ : ∃ f, f = du_X40_isName_25)
def du_X40_isName_21 (s : jS) (x0 x1 x2 y0 : Int) : Option (Int) :=
  u_X40_isName_25 s x0 x1 x2 y0 0
noncomputable def u_X40_isName_21 : jS → Int → Int → Int → Int → Option (Int) := Classical.choose (⟨du_X40_isName_21, rfl⟩ : ∃ f, f = du_X40_isName_21)
theorem eu_X40_isName_21 : u_X40_isName_21 = du_X40_isName_21 := Classical.choose_spec (⟨du_X40_isName_21, rfl⟩ : ∃ f, f = du_X40_isName_21)
def du_X40_isName_20 (s : jS) (x0 x1 x2 : Int) : Option (Int) :=
  u_X40_isName_21 s x0 x1 x2 0
noncomputable def u_X40_isName_20 : jS → Int → Int → Int → Option (Int) := Classical.choose (⟨du_X40_isName_20, rfl⟩ : ∃ f, f = du_X40_isName_20)
theorem eu_X40_isName_20 : u_X40_isName_20 = du_X40_isName_20 := Classical.choose_spec (⟨du_X40_isName_20, rfl⟩ : ∃ f, f = du_X40_isName_20)
def dm_X40_isName (s : jS) (x0 x1 : Int) : Option (Int) :=
  (m_X40_nameLength s x0 x1).bind fun v1 =>
  if 0 < v1 then
    if 16 < v1 then
      u_X40_isName_20 s x0 x1 v1
    else
      u_X40_isName_21 s x0 x1 v1 1
  else
    u_X40_isName_20 s x0 x1 v1
noncomputable def m_X40_isName : jS → Int → Int → Option (Int) := Classical.choose (⟨dm_X40_isName, rfl⟩ : ∃ f, f = dm_X40_isName)
theorem em_X40_isName : m_X40_isName = dm_X40_isName := Classical.choose_spec (⟨dm_X40_isName, rfl⟩ : ∃ f, f = dm_X40_isName)
def dm_X40_bindOf (s : jS) (x0 x1 : Int) : Option (Int) :=
  (m_X40_symbolPlace s x0 x1).bind fun v1 =>
  (jlt s 1000 (x0 + 21) 8192 (W32 (v1 + 12))).bind fun v2 =>
  some (I_shr v2 4)
noncomputable def m_X40_bindOf : jS → Int → Int → Option (Int) := Classical.choose (⟨dm_X40_bindOf, rfl⟩ : ∃ f, f = dm_X40_bindOf)
theorem em_X40_bindOf : m_X40_bindOf = dm_X40_bindOf := Classical.choose_spec (⟨dm_X40_bindOf, rfl⟩ : ∃ f, f = dm_X40_bindOf)
def b_X40_whereOf_37 (s : jS) (x0 x2 x3 : Int) : Option (List Int ⊕ (Int)) :=
  if x3 < 4 then
    (jlt s 1000 (x0 + 32) 11 x3).bind fun v1 =>
    if v1 = x2 then
      jinr (some x3)
    else
      some (.inl [x0, x2, W32 (x3 + 1)])
  else
    jinr (some (-2))
def du_X40_whereOf_37 (s : jS) (x0 x2 x3 : Int) : Option (Int) := jlpR (jc3 b_X40_whereOf_37) [x0, x2, x3] s
noncomputable def u_X40_whereOf_37 : jS → Int → Int → Int → Option (Int) := Classical.choose (⟨du_X40_whereOf_37, rfl⟩ : ∃ f, f = du_X40_whereOf_37)
theorem eu_X40_whereOf_37 : u_X40_whereOf_37 = du_X40_whereOf_37 := Classical.choose_spec (⟨du_X40_whereOf_37, rfl⟩ : ∃ f, f = du_X40_whereOf_37)
def dm_X40_whereOf (s : jS) (x0 x1 : Int) : Option (Int) :=
  (m_X40_symbolPlace s x0 x1).bind fun v1 =>
  (m_X40_read2 s x0 (W32 (v1 + 14))).bind fun v2 =>
  if v2 = 0 then
    some (-1)
  else
    if v2 = 65521 then
      some 4
    else
      if v2 = 65522 then
        some 5
      else
        u_X40_whereOf_37 s x0 v2 0
noncomputable def m_X40_whereOf : jS → Int → Int → Option (Int) := Classical.choose (⟨dm_X40_whereOf, rfl⟩ : ∃ f, f = dm_X40_whereOf)
theorem em_X40_whereOf : m_X40_whereOf = dm_X40_whereOf := Classical.choose_spec (⟨dm_X40_whereOf, rfl⟩ : ∃ f, f = dm_X40_whereOf)
def dm_X40_amiss (s : jS) (x0 x1 : Int) : Option (Int) :=
  (m_X40_symbolPlace s x0 x1).bind fun v1 =>
  (m_X40_whereOf s x0 x1).bind fun v2 =>
  (m_X40_read4 s x0 (W32 (v1 + 4))).bind fun v3 =>
  (m_X40_read4 s x0 (W32 (v1 + 8))).bind fun v4 =>
  if v2 = (-1) then
    if (L_cmp v3 0) = 0 then
      if (L_cmp v4 0) = 0 then
        (m_X40_bindOf s x0 x1).bind fun v5 =>
        if v5 = 0 then
          some 12
        else
          some 0
      else
        some 8
    else
      some 4
  else
    if v2 = 5 then
      if 0 < (L_cmp v3 64) then
        some 4
      else
        (m_X40_isPower s (L2i v3)).bind fun v6 =>
        if v6 = 0 then
          some 4
        else
          if (L_cmp v4 1) < 0 then
            some 8
          else
            if 0 < (L_cmp v4 4096) then
              some 8
            else
              (m_X40_bindOf s x0 x1).bind fun v7 =>
              if v7 = 1 then
                some 0
              else
                some 12
    else
      if v2 = 4 then
        if 0 < (L_cmp v4 2147483647) then
          some 8
        else
          some 0
      else
        (m_X40_bytesOf s x0 v2).bind fun v8 =>
        if 0 < (L_cmp v3 v8) then
          some 4
        else
          (m_X40_bytesOf s x0 v2).bind fun v9 =>
          if 0 < (L_cmp (W64 (v3 + v4)) v9) then
            some 8
          else
            some 0
noncomputable def m_X40_amiss : jS → Int → Int → Option (Int) := Classical.choose (⟨dm_X40_amiss, rfl⟩ : ∃ f, f = dm_X40_amiss)
theorem em_X40_amiss : m_X40_amiss = dm_X40_amiss := Classical.choose_spec (⟨dm_X40_amiss, rfl⟩ : ∃ f, f = dm_X40_amiss)
def du_X40_isSameIn_56 (s : jS) (x0 x3 x4 x5 : Int) : Option (Int) :=
  (jlt s 1000 (x0 + 21) 8192 (W32 (x3 + x5))).bind fun v1 =>
  (jlt s 1000 (x0 + 21) 8192 (W32 (x4 + x5))).bind fun v2 =>
  if v1 = v2 then
    some (Wz 1)
  else
    some (Wz 0)
noncomputable def u_X40_isSameIn_56 : jS → Int → Int → Int → Int → Option (Int) := Classical.choose (⟨du_X40_isSameIn_56, rfl⟩ : ∃ f, f = du_X40_isSameIn_56)
theorem eu_X40_isSameIn_56 : u_X40_isSameIn_56 = du_X40_isSameIn_56 := Classical.choose_spec (⟨du_X40_isSameIn_56, rfl⟩ : ∃ f, f = du_X40_isSameIn_56)
def b_X40_isSameIn_16 (s : jS) (x0 x3 x4 x5 : Int) : Option (List Int ⊕ (Int)) :=
  (jlt s 1000 (x0 + 21) 8192 (W32 (x3 + x5))).bind fun v1 =>
  if v1 = 0 then
    jinr (u_X40_isSameIn_56 s x0 x3 x4 x5)
  else
    (jlt s 1000 (x0 + 21) 8192 (W32 (x3 + x5))).bind fun v2 =>
    (jlt s 1000 (x0 + 21) 8192 (W32 (x4 + x5))).bind fun v3 =>
    if v2 = v3 then
      some (.inl [x0, x3, x4, W32 (x5 + 1)])
    else
      jinr (u_X40_isSameIn_56 s x0 x3 x4 x5)
def du_X40_isSameIn_16 (s : jS) (x0 x3 x4 x5 : Int) : Option (Int) := jlpR (jc4 b_X40_isSameIn_16) [x0, x3, x4, x5] s
noncomputable def u_X40_isSameIn_16 : jS → Int → Int → Int → Int → Option (Int) := Classical.choose (⟨du_X40_isSameIn_16, rfl⟩ : ∃ f, f = du_X40_isSameIn_16)
theorem eu_X40_isSameIn_16 : u_X40_isSameIn_16 = du_X40_isSameIn_16 := Classical.choose_spec (⟨du_X40_isSameIn_16, rfl⟩ : ∃ f, f = du_X40_isSameIn_16)
def dm_X40_isSameIn (s : jS) (x0 x1 x2 : Int) : Option (Int) :=
  (m_X40_namePlace s x0 x1).bind fun v1 =>
  (m_X40_namePlace s x0 x2).bind fun v2 =>
  u_X40_isSameIn_16 s x0 v1 v2 0
noncomputable def m_X40_isSameIn : jS → Int → Int → Int → Option (Int) := Classical.choose (⟨dm_X40_isSameIn, rfl⟩ : ∃ f, f = dm_X40_isSameIn)
theorem em_X40_isSameIn : m_X40_isSameIn = dm_X40_isSameIn := Classical.choose_spec (⟨dm_X40_isSameIn, rfl⟩ : ∃ f, f = dm_X40_isSameIn)
def du_X40_infoFault_34 (s : jS) (x0 x1 : Int) : Option (jS × Int) :=
  (jlt s 1000 (x0 + 32) 11 8).bind fun v1 =>
  (m_X40_told s x0 v1 7).bind fun v2 =>
  if (L_cmp v2 x1) = 0 then
    some (s, 0)
  else
    (m_X40_spotOf s x0 v1 7).bind fun v3 =>
    (m_X40_fault s x0 28 v3).bind fun q4 =>
    some (q4.1, q4.2)
noncomputable def u_X40_infoFault_34 : jS → Int → Int → Option (jS × Int) := Classical.choose (⟨du_X40_infoFault_34, rfl⟩ : ∃ f, f = du_X40_infoFault_34)
theorem eu_X40_infoFault_34 : u_X40_infoFault_34 = du_X40_infoFault_34 := Classical.choose_spec (⟨du_X40_infoFault_34, rfl⟩ : ∃ f, f = du_X40_infoFault_34)
def du_X40_infoFault_26 (s : jS) (x0 x3 y0 y1 : Int) : Option ((jS × List Int) ⊕ (jS × Int)) :=
  jlet (W64 (y1 + y0)) fun v1 =>
  some (.inl (s, [x0, v1, W32 (x3 + 1)]))
noncomputable def u_X40_infoFault_26 : jS → Int → Int → Int → Int → Option ((jS × List Int) ⊕ (jS × Int)) := Classical.choose (⟨du_X40_infoFault_26, rfl⟩ : ∃ f, f = du_X40_infoFault_26)
theorem eu_X40_infoFault_26 : u_X40_infoFault_26 = du_X40_infoFault_26 := Classical.choose_spec (⟨du_X40_infoFault_26, rfl⟩ : ∃ f, f = du_X40_infoFault_26)
def b_X40_infoFault_4 (s : jS) (x0 x1 x3 : Int) : Option ((jS × List Int) ⊕ (jS × Int)) :=
  (m_X40_symbolsIn s x0).bind fun v1 =>
  if x3 < v1 then
    (m_X40_bindOf s x0 x3).bind fun v2 =>
    if v2 = 0 then
      u_X40_infoFault_26 s x0 x3 1 x1
    else
      u_X40_infoFault_26 s x0 x3 0 x1
  else
    jinr (u_X40_infoFault_34 s x0 x1)
def du_X40_infoFault_4 (s : jS) (x0 x1 x3 : Int) : Option (jS × Int) := jlpW (jc3 b_X40_infoFault_4) [x0, x1, x3] s
noncomputable def u_X40_infoFault_4 : jS → Int → Int → Int → Option (jS × Int) := Classical.choose (⟨du_X40_infoFault_4, rfl⟩ : ∃ f, f = du_X40_infoFault_4)
theorem eu_X40_infoFault_4 : u_X40_infoFault_4 = du_X40_infoFault_4 := Classical.choose_spec (⟨du_X40_infoFault_4, rfl⟩ : ∃ f, f = du_X40_infoFault_4)
def dm_X40_infoFault (s : jS) (x0 : Int) : Option (jS × Int) :=
  u_X40_infoFault_4 s x0 1 1
noncomputable def m_X40_infoFault : jS → Int → Option (jS × Int) := Classical.choose (⟨dm_X40_infoFault, rfl⟩ : ∃ f, f = dm_X40_infoFault)
theorem em_X40_infoFault : m_X40_infoFault = dm_X40_infoFault := Classical.choose_spec (⟨dm_X40_infoFault, rfl⟩ : ∃ f, f = dm_X40_infoFault)
def dm_X40_isKindOf (s : jS) (x0 x1 : Int) : Option (Int) :=
  (m_X40_isKind s x0).bind fun v1 =>
  if v1 = 0 then
    some (Wz 0)
  else
    if x1 = 0 then
      some (Wz 1)
    else
      if x0 = 1 then
        some (Wz 1)
      else
        if x0 < 33 then
          some (Wz 0)
        else
          if 39 < x0 then
            some (Wz 0)
          else
            some (Wz 1)
noncomputable def m_X40_isKindOf : jS → Int → Int → Option (Int) := Classical.choose (⟨dm_X40_isKindOf, rfl⟩ : ∃ f, f = dm_X40_isKindOf)
theorem em_X40_isKindOf : m_X40_isKindOf = dm_X40_isKindOf := Classical.choose_spec (⟨dm_X40_isKindOf, rfl⟩ : ∃ f, f = dm_X40_isKindOf)
def du_X40_startFaults_140 (s : jS) (x0 y0 y1 : Int) : Option (jS × Int) :=
  if y1 = y0 then
    some (s, 0)
  else
    (m_X40_fault s x0 34 36).bind fun q1 =>
    some (q1.1, q1.2)
noncomputable def u_X40_startFaults_140 : jS → Int → Int → Int → Option (jS × Int) := Classical.choose (⟨du_X40_startFaults_140, rfl⟩ : ∃ f, f = du_X40_startFaults_140)
theorem eu_X40_startFaults_140 : u_X40_startFaults_140 = du_X40_startFaults_140 := Classical.choose_spec (⟨du_X40_startFaults_140, rfl⟩ : ∃ f, f = du_X40_startFaults_140)
def du_X40_startFaults_131 (s : jS) (x0 x1 y0 : Int) : Option (jS × Int) :=
  if 0 < x1 then
    u_X40_startFaults_140 s x0 1 y0
  else
    u_X40_startFaults_140 s x0 0 y0
noncomputable def u_X40_startFaults_131 : jS → Int → Int → Int → Option (jS × Int) := Classical.choose (⟨du_X40_startFaults_131, rfl⟩ : ∃ f, f = du_X40_startFaults_131)
theorem eu_X40_startFaults_131 : u_X40_startFaults_131 = du_X40_startFaults_131 := Classical.choose_spec (⟨du_X40_startFaults_131, rfl⟩ : ∃ f, f = du_X40_startFaults_131)
def du_X40_startFaults_115 (s : jS) (x0 x1 : Int) : Option (jS × Int) :=
  (m_X40_read4 s x0 36).bind fun v1 =>
  if (L_cmp v1 1) = 0 then
    u_X40_startFaults_131 s x0 x1 1
  else
    u_X40_startFaults_131 s x0 x1 0
noncomputable def u_X40_startFaults_115 : jS → Int → Int → Option (jS × Int) := Classical.choose (⟨du_X40_startFaults_115, rfl⟩ : ∃ f, f = du_X40_startFaults_115)
theorem eu_X40_startFaults_115 : u_X40_startFaults_115 = du_X40_startFaults_115 := Classical.choose_spec (⟨du_X40_startFaults_115, rfl⟩ : ∃ f, f = du_X40_startFaults_115)
def du_X40_startFaults_73 (s : jS) (x0 x4 : Int) : Option (jS × Int) :=
  (m_X40_fault s x0 33 x4).bind fun q1 =>
  some (q1.1, q1.2)
noncomputable def u_X40_startFaults_73 : jS → Int → Int → Option (jS × Int) := Classical.choose (⟨du_X40_startFaults_73, rfl⟩ : ∃ f, f = du_X40_startFaults_73)
theorem eu_X40_startFaults_73 : u_X40_startFaults_73 = du_X40_startFaults_73 := Classical.choose_spec (⟨du_X40_startFaults_73, rfl⟩ : ∃ f, f = du_X40_startFaults_73)
def du_X40_startFaults_107 (s : jS) (x0 x2 x3 y0 y1 : Int) : Option ((jS × List Int) ⊕ (jS × Int)) :=
  jlet (W32 (y1 + y0)) fun v1 =>
  some (.inl (s, [x0, v1, x2, W32 (x3 + 1)]))
noncomputable def u_X40_startFaults_107 : jS → Int → Int → Int → Int → Int → Option ((jS × List Int) ⊕ (jS × Int)) := Classical.choose (⟨du_X40_startFaults_107, rfl⟩ : ∃ f, f = du_X40_startFaults_107)
theorem eu_X40_startFaults_107 : u_X40_startFaults_107 = du_X40_startFaults_107 := Classical.choose_spec (⟨du_X40_startFaults_107, rfl⟩ : ∃ f, f = du_X40_startFaults_107)
def du_X40_startFaults_61 (s : jS) (x0 x1 x2 x3 x4 x5 : Int) : Option ((jS × List Int) ⊕ (jS × Int)) :=
  (m_X40_bytesOf s x0 0).bind fun v1 =>
  if (L_cmp x5 v1) < 0 then
    (m_X40_from s x0 0).bind fun v2 =>
    (jlt s 1000 (x0 + 21) 8192 (W32 (v2 + x5))).bind fun v3 =>
    (m_X40_isShort s v3).bind fun v4 =>
    if v4 = 0 then
      u_X40_startFaults_107 s x0 x2 x3 0 x1
    else
      u_X40_startFaults_107 s x0 x2 x3 1 x1
  else
    jinr (u_X40_startFaults_73 s x0 x4)
noncomputable def u_X40_startFaults_61 : jS → Int → Int → Int → Int → Int → Int → Option ((jS × List Int) ⊕ (jS × Int)) := Classical.choose (⟨du_X40_startFaults_61, rfl⟩ : ∃ f, f = du_X40_startFaults_61)
theorem eu_X40_startFaults_61 : u_X40_startFaults_61 = du_X40_startFaults_61 := Classical.choose_spec (⟨du_X40_startFaults_61, rfl⟩ : ∃ f, f = du_X40_startFaults_61)
def b_X40_startFaults_13 (s : jS) (x0 x1 x2 x3 : Int) : Option ((jS × List Int) ⊕ (jS × Int)) :=
  if x3 < x2 then
    (m_X40_from s x0 4).bind fun v1 =>
    jlet (W32 (v1 + (W32 (2 * x3)))) fun v2 =>
    (m_X40_read2 s x0 v2).bind fun v3 =>
    (jdv 2 (I_rem v3 2)).bind fun v4 =>
    if v4 = 0 then
      if 0 < x3 then
        (m_X40_read2 s x0 (W32 (v2 - 2))).bind fun v5 =>
        if v5 < v3 then
          u_X40_startFaults_61 s x0 x1 x2 x3 v2 v3
        else
          jinr (u_X40_startFaults_73 s x0 v2)
      else
        u_X40_startFaults_61 s x0 x1 x2 x3 v2 v3
    else
      jinr (u_X40_startFaults_73 s x0 v2)
  else
    jinr (u_X40_startFaults_115 s x0 x1)
def du_X40_startFaults_13 (s : jS) (x0 x1 x2 x3 : Int) : Option (jS × Int) := jlpW (jc4 b_X40_startFaults_13) [x0, x1, x2, x3] s
noncomputable def u_X40_startFaults_13 : jS → Int → Int → Int → Int → Option (jS × Int) := Classical.choose (⟨du_X40_startFaults_13, rfl⟩ : ∃ f, f = du_X40_startFaults_13)
theorem eu_X40_startFaults_13 : u_X40_startFaults_13 = du_X40_startFaults_13 := Classical.choose_spec (⟨du_X40_startFaults_13, rfl⟩ : ∃ f, f = du_X40_startFaults_13)
def dm_X40_startFaults (s : jS) (x0 : Int) : Option (jS × Int) :=
  (m_X40_bytesOf s x0 4).bind fun v1 =>
  (jdv 2 (I_div (L2i v1) 2)).bind fun v2 =>
  u_X40_startFaults_13 s x0 0 v2 0
noncomputable def m_X40_startFaults : jS → Int → Option (jS × Int) := Classical.choose (⟨dm_X40_startFaults, rfl⟩ : ∃ f, f = dm_X40_startFaults)
theorem em_X40_startFaults : m_X40_startFaults = dm_X40_startFaults := Classical.choose_spec (⟨dm_X40_startFaults, rfl⟩ : ∃ f, f = dm_X40_startFaults)
def du_X40_takeSymbol_66 (s : jS) (x0 x1 x2 x3 : Int) : Option (jS × Int) :=
  (m_X40_whereOf s x0 x2).bind fun v1 =>
  (jst s 1000 (x0 + 6) 200 x1 v1).bind fun s2 =>
  (m_X40_read4 s2 x0 (W32 (x3 + 4))).bind fun v3 =>
  (jst s2 1000 (x0 + 7) 200 x1 (L2i v3)).bind fun s4 =>
  (m_X40_read4 s4 x0 (W32 (x3 + 8))).bind fun v5 =>
  (jst s4 1000 (x0 + 8) 200 x1 (L2i v5)).bind fun s6 =>
  (m_X40_bindOf s6 x0 x2).bind fun v7 =>
  (jst s6 1000 (x0 + 9) 200 x1 v7).bind fun s8 =>
  (jlt s8 1000 (x0 + 21) 8192 (W32 (x3 + 12))).bind fun v9 =>
  (jst s8 1000 (x0 + 10) 200 x1 (I_and v9 15)).bind fun s10 =>
  some (s10, 0)
noncomputable def u_X40_takeSymbol_66 : jS → Int → Int → Int → Int → Option (jS × Int) := Classical.choose (⟨du_X40_takeSymbol_66, rfl⟩ : ∃ f, f = du_X40_takeSymbol_66)
theorem eu_X40_takeSymbol_66 : u_X40_takeSymbol_66 = du_X40_takeSymbol_66 := Classical.choose_spec (⟨du_X40_takeSymbol_66, rfl⟩ : ∃ f, f = du_X40_takeSymbol_66)
def b_X40_takeSymbol_24 (s : jS) (x0 x1 x2 x3 x4 : Int) : Option ((jS × List Int) ⊕ (jS × Int)) :=
  (jlt s 1000 (x0 + 11) 200 x1).bind fun v1 =>
  if x4 < v1 then
    (m_X40_namePlace s x0 x2).bind fun v2 =>
    (jlt s 1000 (x0 + 21) 8192 (W32 (v2 + x4))).bind fun v3 =>
    (jst s 1000 (x0 + 12) 3200 (W32 ((W32 (16 * x1)) + x4)) v3).bind fun s4 =>
    some (.inl (s4, [x0, x1, x2, x3, W32 (x4 + 1)]))
  else
    jinr (u_X40_takeSymbol_66 s x0 x1 x2 x3)
def du_X40_takeSymbol_24 (s : jS) (x0 x1 x2 x3 x4 : Int) : Option (jS × Int) := jlpW (jc5 b_X40_takeSymbol_24) [x0, x1, x2, x3, x4] s
noncomputable def u_X40_takeSymbol_24 : jS → Int → Int → Int → Int → Int → Option (jS × Int) := Classical.choose (⟨du_X40_takeSymbol_24, rfl⟩ : ∃ f, f = du_X40_takeSymbol_24)
theorem eu_X40_takeSymbol_24 : u_X40_takeSymbol_24 = du_X40_takeSymbol_24 := Classical.choose_spec (⟨du_X40_takeSymbol_24, rfl⟩ : ∃ f, f = du_X40_takeSymbol_24)
def dm_X40_takeSymbol (s : jS) (x0 x1 x2 : Int) : Option (jS × Int) :=
  (m_X40_symbolPlace s x0 x2).bind fun v1 =>
  (m_X40_namePlace s x0 x2).bind fun v2 =>
  (m_X40_nameLength s x0 v2).bind fun v3 =>
  (jst s 1000 (x0 + 11) 200 x1 v3).bind fun s4 =>
  u_X40_takeSymbol_24 s4 x0 x1 x2 v1 0
noncomputable def m_X40_takeSymbol : jS → Int → Int → Int → Option (jS × Int) := Classical.choose (⟨dm_X40_takeSymbol, rfl⟩ : ∃ f, f = dm_X40_takeSymbol)
theorem em_X40_takeSymbol : m_X40_takeSymbol = dm_X40_takeSymbol := Classical.choose_spec (⟨dm_X40_takeSymbol, rfl⟩ : ∃ f, f = dm_X40_takeSymbol)
def du_X40_symbol_154 (s : jS) (x0 x1 x2 x3 x4 x5 x7 : Int) : Option (jS × Int) :=
  (m_X40_isSymbol s x0 x1 x2 x3 x4).bind fun v1 =>
  if v1 = 0 then
    some (s, (-1))
  else
    (jst s 1000 (x0 + 6) 200 x7 x1).bind fun s2 =>
    (jst s2 1000 (x0 + 7) 200 x7 x2).bind fun s3 =>
    (jst s3 1000 (x0 + 8) 200 x7 x3).bind fun s4 =>
    (jst s4 1000 (x0 + 9) 200 x7 x4).bind fun s5 =>
    (jst s5 1000 (x0 + 10) 200 x7 x5).bind fun s6 =>
    (jlt s6 1000 (x0 + 13) 2 0).bind fun v7 =>
    (jst s6 1000 (x0 + 13) 2 0 (W32 (v7 + 1))).bind fun s8 =>
    some (s8, x7)
noncomputable def u_X40_symbol_154 : jS → Int → Int → Int → Int → Int → Int → Int → Option (jS × Int) := Classical.choose (⟨du_X40_symbol_154, rfl⟩ : ∃ f, f = du_X40_symbol_154)
theorem eu_X40_symbol_154 : u_X40_symbol_154 = du_X40_symbol_154 := Classical.choose_spec (⟨du_X40_symbol_154, rfl⟩ : ∃ f, f = du_X40_symbol_154)
def du_X40_symbol_148 (s : jS) (x0 x1 x2 x3 x4 x5 x7 x8 : Int) : Option ((jS × List Int) ⊕ (jS × Int)) :=
  some (.inl (s, [x0, x1, x2, x3, x4, x5, x7, W32 (x8 + 1)]))
noncomputable def u_X40_symbol_148 : jS → Int → Int → Int → Int → Int → Int → Int → Int → Option ((jS × List Int) ⊕ (jS × Int)) := Classical.choose (⟨du_X40_symbol_148, rfl⟩ : ∃ f, f = du_X40_symbol_148)
theorem eu_X40_symbol_148 : u_X40_symbol_148 = du_X40_symbol_148 := Classical.choose_spec (⟨du_X40_symbol_148, rfl⟩ : ∃ f, f = du_X40_symbol_148)
def b_X40_symbol_113 (s : jS) (x0 x1 x2 x3 x4 x5 x7 x8 : Int) : Option ((jS × List Int) ⊕ (jS × Int)) :=
  if x8 < x7 then
    if x4 = 0 then
      u_X40_symbol_148 s x0 x1 x2 x3 x4 x5 x7 x8
    else
      (jlt s 1000 (x0 + 9) 200 x8).bind fun v1 =>
      if v1 = 0 then
        u_X40_symbol_148 s x0 x1 x2 x3 x4 x5 x7 x8
      else
        (m_X40_isSameName s x0 x7 x8).bind fun v2 =>
        if v2 = 0 then
          u_X40_symbol_148 s x0 x1 x2 x3 x4 x5 x7 x8
        else
          jinr (some (s, (-1)))
  else
    jinr (u_X40_symbol_154 s x0 x1 x2 x3 x4 x5 x7)
def du_X40_symbol_113 (s : jS) (x0 x1 x2 x3 x4 x5 x7 x8 : Int) : Option (jS × Int) := jlpW (jc8 b_X40_symbol_113) [x0, x1, x2, x3, x4, x5, x7, x8] s
noncomputable def u_X40_symbol_113 : jS → Int → Int → Int → Int → Int → Int → Int → Int → Option (jS × Int) := Classical.choose (⟨du_X40_symbol_113, rfl⟩ : ∃ f, f = du_X40_symbol_113)
theorem eu_X40_symbol_113 : u_X40_symbol_113 = du_X40_symbol_113 := Classical.choose_spec (⟨du_X40_symbol_113, rfl⟩ : ∃ f, f = du_X40_symbol_113)
def du_X40_symbol_110 (s : jS) (x0 x1 x2 x3 x4 x5 x7 : Int) : Option (jS × Int) :=
  u_X40_symbol_113 s x0 x1 x2 x3 x4 x5 x7 0
noncomputable def u_X40_symbol_110 : jS → Int → Int → Int → Int → Int → Int → Int → Option (jS × Int) := Classical.choose (⟨du_X40_symbol_110, rfl⟩ : ∃ f, f = du_X40_symbol_110)
theorem eu_X40_symbol_110 : u_X40_symbol_110 = du_X40_symbol_110 := Classical.choose_spec (⟨du_X40_symbol_110, rfl⟩ : ∃ f, f = du_X40_symbol_110)
def b_X40_symbol_77 (s : jS) (x0 x1 x2 x3 x4 x5 x6 x7 x8 : Int) : Option ((jS × List Int) ⊕ (jS × Int)) :=
  if x8 < x6 then
    (jlt s 1000 (x0 + 20) 16 x8).bind fun v1 =>
    (jst s 1000 (x0 + 12) 3200 (W32 ((W32 (16 * x7)) + x8)) v1).bind fun s2 =>
    some (.inl (s2, [x0, x1, x2, x3, x4, x5, x6, x7, W32 (x8 + 1)]))
  else
    jinr (u_X40_symbol_110 s x0 x1 x2 x3 x4 x5 x7)
def du_X40_symbol_77 (s : jS) (x0 x1 x2 x3 x4 x5 x6 x7 x8 : Int) : Option (jS × Int) := jlpW (jc9 b_X40_symbol_77) [x0, x1, x2, x3, x4, x5, x6, x7, x8] s
noncomputable def u_X40_symbol_77 : jS → Int → Int → Int → Int → Int → Int → Int → Int → Int → Option (jS × Int) := Classical.choose (⟨du_X40_symbol_77, rfl⟩ : ∃ f, f = du_X40_symbol_77)
theorem eu_X40_symbol_77 : u_X40_symbol_77 = du_X40_symbol_77 := Classical.choose_spec (⟨du_X40_symbol_77, rfl⟩ : ∃ f, f = du_X40_symbol_77)
def dm_X40_symbol (s : jS) (x0 x1 x2 x3 x4 x5 : Int) : Option (jS × Int) :=
  jls (jp s 44 x0 20 0) fun s1 =>
  (jlt s1 1000 (x0 + 13) 2 0).bind fun v2 =>
  if v2 = 100 then
    some (s1, (-1))
  else
    if (jf s 44 x0 20) = 0 then
      some (s1, (-1))
    else
      if x1 < (-1) then
        some (s1, (-1))
      else
        if 5 < x1 then
          some (s1, (-1))
        else
          if x4 < 0 then
            some (s1, (-1))
          else
            if 2 < x4 then
              some (s1, (-1))
            else
              if x5 < 0 then
                some (s1, (-1))
              else
                if 2 < x5 then
                  some (s1, (-1))
                else
                  (jst s1 1000 (x0 + 11) 200 v2 (jf s 44 x0 20)).bind fun s3 =>
                  u_X40_symbol_77 s3 x0 x1 x2 x3 x4 x5 (jf s 44 x0 20) v2 0
noncomputable def m_X40_symbol : jS → Int → Int → Int → Int → Int → Int → Option (jS × Int) := Classical.choose (⟨dm_X40_symbol, rfl⟩ : ∃ f, f = dm_X40_symbol)
theorem em_X40_symbol : m_X40_symbol = dm_X40_symbol := Classical.choose_spec (⟨dm_X40_symbol, rfl⟩ : ∃ f, f = dm_X40_symbol)
def du_X40_relocation_85 (s : jS) (x0 x1 x2 x3 x4 x5 x6 : Int) : Option (jS × Int) :=
  if x2 < 0 then
    some (s, (-1))
  else
    (jst s 1000 (x0 + 14) 600 x6 x1).bind fun s1 =>
    (jst s1 1000 (x0 + 15) 600 x6 x2).bind fun s2 =>
    (jst s2 1000 (x0 + 16) 600 x6 x3).bind fun s3 =>
    (jst s3 1000 (x0 + 17) 600 x6 x4).bind fun s4 =>
    (jst s4 1000 (x0 + 18) 600 x6 x5).bind fun s5 =>
    (jlt s5 1000 (x0 + 19) 2 0).bind fun v6 =>
    (jst s5 1000 (x0 + 19) 2 0 (W32 (v6 + 1))).bind fun s7 =>
    some (s7, x6)
noncomputable def u_X40_relocation_85 : jS → Int → Int → Int → Int → Int → Int → Int → Option (jS × Int) := Classical.choose (⟨du_X40_relocation_85, rfl⟩ : ∃ f, f = du_X40_relocation_85)
theorem eu_X40_relocation_85 : u_X40_relocation_85 = du_X40_relocation_85 := Classical.choose_spec (⟨du_X40_relocation_85, rfl⟩ : ∃ f, f = du_X40_relocation_85)
def du_X40_relocation_67 (s : jS) (x0 x1 x2 x3 x4 x5 x6 y0 y1 : Int) : Option (jS × Int) :=
  if y1 = y0 then
    if x3 = 43 then
      (m_X40_isSkip s x5).bind fun v1 =>
      if v1 = 0 then
        some (s, (-1))
      else
        u_X40_relocation_85 s x0 x1 x2 x3 x4 x5 x6
    else
      u_X40_relocation_85 s x0 x1 x2 x3 x4 x5 x6
  else
    some (s, (-1))
noncomputable def u_X40_relocation_67 : jS → Int → Int → Int → Int → Int → Int → Int → Int → Int → Option (jS × Int) := Classical.choose (⟨du_X40_relocation_67, rfl⟩ : ∃ f, f = du_X40_relocation_67)
theorem eu_X40_relocation_67 : u_X40_relocation_67 = du_X40_relocation_67 := Classical.choose_spec (⟨du_X40_relocation_67, rfl⟩ : ∃ f, f = du_X40_relocation_67)
def dm_X40_relocation (s : jS) (x0 x1 x2 x3 x4 x5 : Int) : Option (jS × Int) :=
  (jlt s 1000 (x0 + 19) 2 0).bind fun v1 =>
  if v1 = 300 then
    some (s, (-1))
  else
    if x1 < 0 then
      some (s, (-1))
    else
      if 2 < x1 then
        some (s, (-1))
      else
        (m_X40_isKindOf s x3 x1).bind fun v2 =>
        if v2 = 0 then
          some (s, (-1))
        else
          if x4 < (-1) then
            some (s, (-1))
          else
            (jlt s 1000 (x0 + 13) 2 0).bind fun v3 =>
            if x4 < v3 then
              (m_X40_isAlone s x3).bind fun v4 =>
              if x4 = (-1) then
                u_X40_relocation_67 s x0 x1 x2 x3 x4 x5 v1 1 v4
              else
                u_X40_relocation_67 s x0 x1 x2 x3 x4 x5 v1 0 v4
            else
              some (s, (-1))
noncomputable def m_X40_relocation : jS → Int → Int → Int → Int → Int → Int → Option (jS × Int) := Classical.choose (⟨dm_X40_relocation, rfl⟩ : ∃ f, f = dm_X40_relocation)
theorem em_X40_relocation : m_X40_relocation = dm_X40_relocation := Classical.choose_spec (⟨dm_X40_relocation, rfl⟩ : ∃ f, f = dm_X40_relocation)
def du_X40_sizeOfSymbolNames_106 (s : jS) (x0 : Int) : Option (jS × Int) :=
  some (s, jf s 44 x0 30)
noncomputable def u_X40_sizeOfSymbolNames_106 : jS → Int → Option (jS × Int) := Classical.choose (⟨du_X40_sizeOfSymbolNames_106, rfl⟩ : ∃ f, f = du_X40_sizeOfSymbolNames_106)
theorem eu_X40_sizeOfSymbolNames_106 : u_X40_sizeOfSymbolNames_106 = du_X40_sizeOfSymbolNames_106 := Classical.choose_spec (⟨du_X40_sizeOfSymbolNames_106, rfl⟩ : ∃ f, f = du_X40_sizeOfSymbolNames_106)
def du_X40_sizeOfSymbolNames_100 (s : jS) (x0 x1 : Int) : Option ((jS × List Int) ⊕ (jS × Int)) :=
  some (.inl (s, [x0, W32 (x1 + 1)]))
noncomputable def u_X40_sizeOfSymbolNames_100 : jS → Int → Int → Option ((jS × List Int) ⊕ (jS × Int)) := Classical.choose (⟨du_X40_sizeOfSymbolNames_100, rfl⟩ : ∃ f, f = du_X40_sizeOfSymbolNames_100)
theorem eu_X40_sizeOfSymbolNames_100 : u_X40_sizeOfSymbolNames_100 = du_X40_sizeOfSymbolNames_100 := Classical.choose_spec (⟨du_X40_sizeOfSymbolNames_100, rfl⟩ : ∃ f, f = du_X40_sizeOfSymbolNames_100)
def du_X40_sizeOfSymbolNames_94 (s : jS) (x0 x1 x2 : Int) : Option ((jS × List Int) ⊕ ((jS × List Int) ⊕ (jS × Int))) :=
  some (.inl (s, [x0, x1, W32 (x2 + 1)]))
noncomputable def u_X40_sizeOfSymbolNames_94 : jS → Int → Int → Int → Option ((jS × List Int) ⊕ ((jS × List Int) ⊕ (jS × Int))) := Classical.choose (⟨du_X40_sizeOfSymbolNames_94, rfl⟩ : ∃ f, f = du_X40_sizeOfSymbolNames_94)
theorem eu_X40_sizeOfSymbolNames_94 : u_X40_sizeOfSymbolNames_94 = du_X40_sizeOfSymbolNames_94 := Classical.choose_spec (⟨du_X40_sizeOfSymbolNames_94, rfl⟩ : ∃ f, f = du_X40_sizeOfSymbolNames_94)
def du_X40_sizeOfSymbolNames_84 (s : jS) (x0 x1 x2 : Int) : Option ((jS × List Int) ⊕ ((jS × List Int) ⊕ (jS × Int))) :=
  (m_X40_stringFor s x0).bind fun q1 =>
  (jst q1.1 1000 (x0 + 29) 100 x2 q1.2).bind fun s2 =>
  u_X40_sizeOfSymbolNames_94 s2 x0 x1 x2
noncomputable def u_X40_sizeOfSymbolNames_84 : jS → Int → Int → Int → Option ((jS × List Int) ⊕ ((jS × List Int) ⊕ (jS × Int))) := Classical.choose (⟨du_X40_sizeOfSymbolNames_84, rfl⟩ : ∃ f, f = du_X40_sizeOfSymbolNames_84)
theorem eu_X40_sizeOfSymbolNames_84 : u_X40_sizeOfSymbolNames_84 = du_X40_sizeOfSymbolNames_84 := Classical.choose_spec (⟨du_X40_sizeOfSymbolNames_84, rfl⟩ : ∃ f, f = du_X40_sizeOfSymbolNames_84)
def b_X40_sizeOfSymbolNames_53 (s : jS) (x0 x1 x2 x3 : Int) : Option ((jS × List Int) ⊕ ((jS × List Int) ⊕ ((jS × List Int) ⊕ (jS × Int)))) :=
  if x3 < (jf s 44 x0 32) then
    (jlt s 1000 (x0 + 12) 3200 (W32 ((W32 (16 * x2)) + x3))).bind fun v1 =>
    (jst s 1000 (x0 + 28) 24 x3 v1).bind fun s2 =>
    some (.inl (s2, [x0, x1, x2, W32 (x3 + 1)]))
  else
    jinr (u_X40_sizeOfSymbolNames_84 s x0 x1 x2)
def du_X40_sizeOfSymbolNames_53 (s : jS) (x0 x1 x2 x3 : Int) : Option ((jS × List Int) ⊕ ((jS × List Int) ⊕ (jS × Int))) := jlpW (jc4 b_X40_sizeOfSymbolNames_53) [x0, x1, x2, x3] s
noncomputable def u_X40_sizeOfSymbolNames_53 : jS → Int → Int → Int → Int → Option ((jS × List Int) ⊕ ((jS × List Int) ⊕ (jS × Int))) := Classical.choose (⟨du_X40_sizeOfSymbolNames_53, rfl⟩ : ∃ f, f = du_X40_sizeOfSymbolNames_53)
theorem eu_X40_sizeOfSymbolNames_53 : u_X40_sizeOfSymbolNames_53 = du_X40_sizeOfSymbolNames_53 := Classical.choose_spec (⟨du_X40_sizeOfSymbolNames_53, rfl⟩ : ∃ f, f = du_X40_sizeOfSymbolNames_53)
def b_X40_sizeOfSymbolNames_18 (s : jS) (x0 x1 x2 : Int) : Option ((jS × List Int) ⊕ ((jS × List Int) ⊕ (jS × Int))) :=
  (jlt s 1000 (x0 + 13) 2 0).bind fun v1 =>
  if x2 < v1 then
    (jlt s 1000 (x0 + 30) 100 x2).bind fun v2 =>
    if v2 = x1 then
      (jlt s 1000 (x0 + 11) 200 x2).bind fun v3 =>
      jls (jp s 44 x0 32 v3) fun s4 =>
      u_X40_sizeOfSymbolNames_53 s4 x0 x1 x2 0
    else
      u_X40_sizeOfSymbolNames_94 s x0 x1 x2
  else
    jinr (u_X40_sizeOfSymbolNames_100 s x0 x1)
def du_X40_sizeOfSymbolNames_18 (s : jS) (x0 x1 x2 : Int) : Option ((jS × List Int) ⊕ (jS × Int)) := jlpW (jc3 b_X40_sizeOfSymbolNames_18) [x0, x1, x2] s
noncomputable def u_X40_sizeOfSymbolNames_18 : jS → Int → Int → Int → Option ((jS × List Int) ⊕ (jS × Int)) := Classical.choose (⟨du_X40_sizeOfSymbolNames_18, rfl⟩ : ∃ f, f = du_X40_sizeOfSymbolNames_18)
theorem eu_X40_sizeOfSymbolNames_18 : u_X40_sizeOfSymbolNames_18 = du_X40_sizeOfSymbolNames_18 := Classical.choose_spec (⟨du_X40_sizeOfSymbolNames_18, rfl⟩ : ∃ f, f = du_X40_sizeOfSymbolNames_18)
def b_X40_sizeOfSymbolNames_6 (s : jS) (x0 x1 : Int) : Option ((jS × List Int) ⊕ (jS × Int)) :=
  (jlt s 1000 (x0 + 13) 2 0).bind fun v1 =>
  if x1 < v1 then
    u_X40_sizeOfSymbolNames_18 s x0 x1 0
  else
    jinr (u_X40_sizeOfSymbolNames_106 s x0)
def du_X40_sizeOfSymbolNames_6 (s : jS) (x0 x1 : Int) : Option (jS × Int) := jlpW (jc2 b_X40_sizeOfSymbolNames_6) [x0, x1] s
noncomputable def u_X40_sizeOfSymbolNames_6 : jS → Int → Int → Option (jS × Int) := Classical.choose (⟨du_X40_sizeOfSymbolNames_6, rfl⟩ : ∃ f, f = du_X40_sizeOfSymbolNames_6)
theorem eu_X40_sizeOfSymbolNames_6 : u_X40_sizeOfSymbolNames_6 = du_X40_sizeOfSymbolNames_6 := Classical.choose_spec (⟨du_X40_sizeOfSymbolNames_6, rfl⟩ : ∃ f, f = du_X40_sizeOfSymbolNames_6)
def dm_X40_sizeOfSymbolNames (s : jS) (x0 : Int) : Option (jS × Int) :=
  (m_X40_begin s x0).bind fun q1 =>
  u_X40_sizeOfSymbolNames_6 q1.1 x0 0
noncomputable def m_X40_sizeOfSymbolNames : jS → Int → Option (jS × Int) := Classical.choose (⟨dm_X40_sizeOfSymbolNames, rfl⟩ : ∃ f, f = dm_X40_sizeOfSymbolNames)
theorem em_X40_sizeOfSymbolNames : m_X40_sizeOfSymbolNames = dm_X40_sizeOfSymbolNames := Classical.choose_spec (⟨dm_X40_sizeOfSymbolNames, rfl⟩ : ∃ f, f = dm_X40_sizeOfSymbolNames)
def du_X40_sizeOfTitles_45 (s : jS) (x0 : Int) : Option (jS × Int) :=
  some (s, jf s 44 x0 30)
noncomputable def u_X40_sizeOfTitles_45 : jS → Int → Option (jS × Int) := Classical.choose (⟨du_X40_sizeOfTitles_45, rfl⟩ : ∃ f, f = du_X40_sizeOfTitles_45)
theorem eu_X40_sizeOfTitles_45 : u_X40_sizeOfTitles_45 = du_X40_sizeOfTitles_45 := Classical.choose_spec (⟨du_X40_sizeOfTitles_45, rfl⟩ : ∃ f, f = du_X40_sizeOfTitles_45)
def du_X40_sizeOfTitles_39 (s : jS) (x0 x1 : Int) : Option ((jS × List Int) ⊕ (jS × Int)) :=
  some (.inl (s, [x0, W32 (x1 + 1)]))
noncomputable def u_X40_sizeOfTitles_39 : jS → Int → Int → Option ((jS × List Int) ⊕ (jS × Int)) := Classical.choose (⟨du_X40_sizeOfTitles_39, rfl⟩ : ∃ f, f = du_X40_sizeOfTitles_39)
theorem eu_X40_sizeOfTitles_39 : u_X40_sizeOfTitles_39 = du_X40_sizeOfTitles_39 := Classical.choose_spec (⟨du_X40_sizeOfTitles_39, rfl⟩ : ∃ f, f = du_X40_sizeOfTitles_39)
def b_X40_sizeOfTitles_6 (s : jS) (x0 x1 : Int) : Option ((jS × List Int) ⊕ (jS × Int)) :=
  if x1 < 11 then
    (jlt s 1000 (x0 + 26) 11 x1).bind fun v1 =>
    if v1 = 0 then
      u_X40_sizeOfTitles_39 s x0 x1
    else
      (m_X40_takeTitle s x0 x1).bind fun q2 =>
      (m_X40_stringFor q2.1 x0).bind fun q3 =>
      (jst q3.1 1000 (x0 + 31) 11 x1 q3.2).bind fun s4 =>
      u_X40_sizeOfTitles_39 s4 x0 x1
  else
    jinr (u_X40_sizeOfTitles_45 s x0)
def du_X40_sizeOfTitles_6 (s : jS) (x0 x1 : Int) : Option (jS × Int) := jlpW (jc2 b_X40_sizeOfTitles_6) [x0, x1] s
noncomputable def u_X40_sizeOfTitles_6 : jS → Int → Int → Option (jS × Int) := Classical.choose (⟨du_X40_sizeOfTitles_6, rfl⟩ : ∃ f, f = du_X40_sizeOfTitles_6)
theorem eu_X40_sizeOfTitles_6 : u_X40_sizeOfTitles_6 = du_X40_sizeOfTitles_6 := Classical.choose_spec (⟨du_X40_sizeOfTitles_6, rfl⟩ : ∃ f, f = du_X40_sizeOfTitles_6)
def dm_X40_sizeOfTitles (s : jS) (x0 : Int) : Option (jS × Int) :=
  (m_X40_begin s x0).bind fun q1 =>
  u_X40_sizeOfTitles_6 q1.1 x0 0
noncomputable def m_X40_sizeOfTitles : jS → Int → Option (jS × Int) := Classical.choose (⟨dm_X40_sizeOfTitles, rfl⟩ : ∃ f, f = dm_X40_sizeOfTitles)
theorem em_X40_sizeOfTitles : m_X40_sizeOfTitles = dm_X40_sizeOfTitles := Classical.choose_spec (⟨dm_X40_sizeOfTitles, rfl⟩ : ∃ f, f = dm_X40_sizeOfTitles)
def dm_X40_write2 (s : jS) (x0 x1 x2 : Int) : Option (jS × Int) :=
  (m_X40_write1 s x0 x1 x2).bind fun q1 =>
  (m_X40_write1 q1.1 x0 (W32 (x1 + 1)) (I_shr x2 8)).bind fun q2 =>
  some (q2.1, 0)
noncomputable def m_X40_write2 : jS → Int → Int → Int → Option (jS × Int) := Classical.choose (⟨dm_X40_write2, rfl⟩ : ∃ f, f = dm_X40_write2)
theorem em_X40_write2 : m_X40_write2 = dm_X40_write2 := Classical.choose_spec (⟨dm_X40_write2, rfl⟩ : ∃ f, f = dm_X40_write2)
def dm_X41_base (s : jS) (x0 x1 : Int) : Option (jS × Int) :=
  (m_X41_within s x1 0 1048576).bind fun v1 =>
  if v1 = 0 then
    some (s, Wz 0)
  else
    jls (jp s 45 x0 0 x1) fun s2 =>
    some (s2, Wz 1)
noncomputable def m_X41_base : jS → Int → Int → Option (jS × Int) := Classical.choose (⟨dm_X41_base, rfl⟩ : ∃ f, f = dm_X41_base)
theorem em_X41_base : m_X41_base = dm_X41_base := Classical.choose_spec (⟨dm_X41_base, rfl⟩ : ∃ f, f = dm_X41_base)
def dm_X41_plain (s : jS) (x0 x1 x2 : Int) : Option (jS × Int) :=
  if (jf s 45 x0 12) = 256 then
    some (s, (-1))
  else
    (m_X41_isPart s x0 x1).bind fun v1 =>
    if v1 = 0 then
      some (s, (-1))
    else
      (m_X41_within s x2 0 4194304).bind fun v2 =>
      if v2 = 0 then
        some (s, (-1))
      else
        (m_X41_added s x0 x1 0 x2).bind fun q3 =>
        some (q3.1, q3.2)
noncomputable def m_X41_plain : jS → Int → Int → Int → Option (jS × Int) := Classical.choose (⟨dm_X41_plain, rfl⟩ : ∃ f, f = dm_X41_plain)
theorem em_X41_plain : m_X41_plain = dm_X41_plain := Classical.choose_spec (⟨dm_X41_plain, rfl⟩ : ∃ f, f = dm_X41_plain)
def dm_X41_aimed (s : jS) (x0 x1 x2 x3 x4 x5 : Int) : Option (jS × Int) :=
  if (jf s 45 x0 12) = 256 then
    some (s, (-1))
  else
    (m_X41_isPart s x0 x1).bind fun v1 =>
    if v1 = 0 then
      some (s, (-1))
    else
      (m_X41_isLabel s x0 x3).bind fun v2 =>
      if v2 = 0 then
        some (s, (-1))
      else
        (jst s 1000 (x0 + 16) 256 (jf s 45 x0 12) x3).bind fun s3 =>
        (jst s3 1000 (x0 + 17) 256 (jf s3 45 x0 12) x4).bind fun s4 =>
        (jst s4 1002 (x0 + 18) 256 (jf s4 45 x0 12) (Wz x5)).bind fun s5 =>
        (m_X41_greatest s5 x2).bind fun v6 =>
        (m_X41_added s5 x0 x1 x2 v6).bind fun q7 =>
        some (q7.1, q7.2)
noncomputable def m_X41_aimed : jS → Int → Int → Int → Int → Int → Int → Option (jS × Int) := Classical.choose (⟨dm_X41_aimed, rfl⟩ : ∃ f, f = dm_X41_aimed)
theorem em_X41_aimed : m_X41_aimed = dm_X41_aimed := Classical.choose_spec (⟨dm_X41_aimed, rfl⟩ : ∃ f, f = dm_X41_aimed)
def dm_X41_near (s : jS) (x0 x1 x2 x3 : Int) : Option (jS × Int) :=
  (m_X41_aimed s x0 x1 3 x2 x3 0).bind fun q1 =>
  some (q1.1, q1.2)
noncomputable def m_X41_near : jS → Int → Int → Int → Int → Option (jS × Int) := Classical.choose (⟨dm_X41_near, rfl⟩ : ∃ f, f = dm_X41_near)
theorem em_X41_near : m_X41_near = dm_X41_near := Classical.choose_spec (⟨dm_X41_near, rfl⟩ : ∃ f, f = dm_X41_near)
def dm_X41_upper (s : jS) (x0 x1 x2 x3 x4 : Int) : Option (jS × Int) :=
  (m_X41_aimed s x0 x1 2 x2 x3 x4).bind fun q1 =>
  some (q1.1, q1.2)
noncomputable def m_X41_upper : jS → Int → Int → Int → Int → Int → Option (jS × Int) := Classical.choose (⟨dm_X41_upper, rfl⟩ : ∃ f, f = dm_X41_upper)
theorem em_X41_upper : m_X41_upper = dm_X41_upper := Classical.choose_spec (⟨dm_X41_upper, rfl⟩ : ∃ f, f = dm_X41_upper)
def du_X41_put_37 (s : jS) (x0 x1 x2 x3 y0 y1 y2 : Int) : Option (jS × Int) :=
  (m_X41_within s y2 y1 y0).bind fun v1 =>
  if v1 = 0 then
    some (s, Wz 0)
  else
    (jst s 1000 (x0 + 23) 64 x1 x2).bind fun s2 =>
    (jst s2 1000 (x0 + 24) 64 x1 x3).bind fun s3 =>
    some (s3, Wz 1)
noncomputable def u_X41_put_37 : jS → Int → Int → Int → Int → Int → Int → Int → Option (jS × Int) := Classical.choose (⟨du_X41_put_37, rfl⟩ : ∃ f, f = du_X41_put_37)
theorem eu_X41_put_37 : u_X41_put_37 = du_X41_put_37 := Classical.choose_spec (⟨du_X41_put_37, rfl⟩ : ∃ f, f = du_X41_put_37)
def dm_X41_put (s : jS) (x0 x1 x2 x3 : Int) : Option (jS × Int) :=
  (m_X41_isLabel s x0 x1).bind fun v1 =>
  if v1 = 0 then
    some (s, Wz 0)
  else
    (m_X41_isPiece s x0 x2).bind fun v2 =>
    if v2 = 0 then
      some (s, Wz 0)
    else
      (jlt s 1000 (x0 + 11) 256 x2).bind fun v3 =>
      if v3 = 0 then
        (jlt s 1000 (x0 + 14) 256 x2).bind fun v4 =>
        u_X41_put_37 s x0 x1 x2 x3 v4 0 x3
      else
        u_X41_put_37 s x0 x1 x2 x3 1 0 x3
noncomputable def m_X41_put : jS → Int → Int → Int → Int → Option (jS × Int) := Classical.choose (⟨dm_X41_put, rfl⟩ : ∃ f, f = dm_X41_put)
theorem em_X41_put : m_X41_put = dm_X41_put := Classical.choose_spec (⟨dm_X41_put, rfl⟩ : ∃ f, f = dm_X41_put)
def du_X41_reckon_81 (s : jS) (x0 x1 x2 : Int) : Option ((jS × List Int) ⊕ (jS × Int)) :=
  (jst s 1000 (x0 + 3) 4 x2 x1).bind fun s1 =>
  some (.inl (s1, [x0, x1, W32 (x2 + 1)]))
noncomputable def u_X41_reckon_81 : jS → Int → Int → Int → Option ((jS × List Int) ⊕ (jS × Int)) := Classical.choose (⟨du_X41_reckon_81, rfl⟩ : ∃ f, f = du_X41_reckon_81)
theorem eu_X41_reckon_81 : u_X41_reckon_81 = du_X41_reckon_81 := Classical.choose_spec (⟨du_X41_reckon_81, rfl⟩ : ∃ f, f = du_X41_reckon_81)
def du_X41_reckon_75 (s : jS) (x0 x1 x2 x3 : Int) : Option ((jS × List Int) ⊕ ((jS × List Int) ⊕ (jS × Int))) :=
  some (.inl (s, [x0, x1, x2, W32 (x3 + 1)]))
noncomputable def u_X41_reckon_75 : jS → Int → Int → Int → Int → Option ((jS × List Int) ⊕ ((jS × List Int) ⊕ (jS × Int))) := Classical.choose (⟨du_X41_reckon_75, rfl⟩ : ∃ f, f = du_X41_reckon_75)
theorem eu_X41_reckon_75 : u_X41_reckon_75 = du_X41_reckon_75 := Classical.choose_spec (⟨du_X41_reckon_75, rfl⟩ : ∃ f, f = du_X41_reckon_75)
def b_X41_reckon_32 (s : jS) (x0 x1 x2 x3 : Int) : Option ((jS × List Int) ⊕ ((jS × List Int) ⊕ (jS × Int))) :=
  if x3 < (jf s 45 x0 4) then
    (jlt s 1000 (x0 + 4) 32 x3).bind fun v1 =>
    if v1 = x2 then
      (jlt s 1002 (x0 + 7) 32 x3).bind fun v2 =>
      if v2 = 0 then
        (jlt s 1000 (x0 + 5) 32 x3).bind fun v3 =>
        (m_X41_roundUp s x1 v3).bind fun v4 =>
        (m_X41_lay s x0 x3 v4).bind fun q5 =>
        u_X41_reckon_75 q5.1 x0 q5.2 x2 x3
      else
        u_X41_reckon_75 s x0 x1 x2 x3
    else
      u_X41_reckon_75 s x0 x1 x2 x3
  else
    jinr (u_X41_reckon_81 s x0 x1 x2)
def du_X41_reckon_32 (s : jS) (x0 x1 x2 x3 : Int) : Option ((jS × List Int) ⊕ (jS × Int)) := jlpW (jc4 b_X41_reckon_32) [x0, x1, x2, x3] s
noncomputable def u_X41_reckon_32 : jS → Int → Int → Int → Int → Option ((jS × List Int) ⊕ (jS × Int)) := Classical.choose (⟨du_X41_reckon_32, rfl⟩ : ∃ f, f = du_X41_reckon_32)
theorem eu_X41_reckon_32 : u_X41_reckon_32 = du_X41_reckon_32 := Classical.choose_spec (⟨du_X41_reckon_32, rfl⟩ : ∃ f, f = du_X41_reckon_32)
def b_X41_reckon_7 (s : jS) (x0 x1 x2 : Int) : Option ((jS × List Int) ⊕ (jS × Int)) :=
  if x2 < 4 then
    (jlt s 1000 (x0 + 1) 4 x2).bind fun v1 =>
    (m_X41_roundUp s x1 v1).bind fun v2 =>
    (jst s 1000 (x0 + 2) 4 x2 v2).bind fun s3 =>
    u_X41_reckon_32 s3 x0 v2 x2 0
  else
    jinr (some (s, 0))
def du_X41_reckon_7 (s : jS) (x0 x1 x2 : Int) : Option (jS × Int) := jlpW (jc3 b_X41_reckon_7) [x0, x1, x2] s
noncomputable def u_X41_reckon_7 : jS → Int → Int → Int → Option (jS × Int) := Classical.choose (⟨du_X41_reckon_7, rfl⟩ : ∃ f, f = du_X41_reckon_7)
theorem eu_X41_reckon_7 : u_X41_reckon_7 = du_X41_reckon_7 := Classical.choose_spec (⟨du_X41_reckon_7, rfl⟩ : ∃ f, f = du_X41_reckon_7)
def dm_X41_reckon (s : jS) (x0 : Int) : Option (jS × Int) :=
  u_X41_reckon_7 s x0 (jf s 45 x0 0) 0
noncomputable def m_X41_reckon : jS → Int → Option (jS × Int) := Classical.choose (⟨dm_X41_reckon, rfl⟩ : ∃ f, f = dm_X41_reckon)
theorem em_X41_reckon : m_X41_reckon = dm_X41_reckon := Classical.choose_spec (⟨dm_X41_reckon, rfl⟩ : ∃ f, f = dm_X41_reckon)
def dm_X41_hasValue (s : jS) (x0 x1 : Int) : Option (Int) :=
  (m_X41_isLabel s x0 x1).bind fun v1 =>
  if v1 = 0 then
    some (Wz 0)
  else
    (jlt s 1000 (x0 + 23) 64 x1).bind fun v2 =>
    if v2 = (-1) then
      some (Wz 0)
    else
      (jlt s 1000 (x0 + 23) 64 x1).bind fun v3 =>
      (m_X41_isGone s x0 v3).bind fun v4 =>
      if v4 = 0 then
        some (Wz 1)
      else
        some (Wz 0)
noncomputable def m_X41_hasValue : jS → Int → Int → Option (Int) := Classical.choose (⟨dm_X41_hasValue, rfl⟩ : ∃ f, f = dm_X41_hasValue)
theorem em_X41_hasValue : m_X41_hasValue = dm_X41_hasValue := Classical.choose_spec (⟨dm_X41_hasValue, rfl⟩ : ∃ f, f = dm_X41_hasValue)
def dm_X41_aimOf (s : jS) (x0 x1 : Int) : Option (Int) :=
  (jlt s 1000 (x0 + 16) 256 x1).bind fun v1 =>
  (m_X41_valueOf s x0 v1).bind fun v2 =>
  (jlt s 1000 (x0 + 17) 256 x1).bind fun v3 =>
  some (W64 (v2 + v3))
noncomputable def m_X41_aimOf : jS → Int → Int → Option (Int) := Classical.choose (⟨dm_X41_aimOf, rfl⟩ : ∃ f, f = dm_X41_aimOf)
theorem em_X41_aimOf : m_X41_aimOf = dm_X41_aimOf := Classical.choose_spec (⟨dm_X41_aimOf, rfl⟩ : ∃ f, f = dm_X41_aimOf)
def du_X41_lacks_49 (s : jS) (x0 x1 : Int) : Option ((jS × List Int) ⊕ (jS × Int)) :=
  some (.inl (s, [x0, W32 (x1 + 1)]))
noncomputable def u_X41_lacks_49 : jS → Int → Int → Option ((jS × List Int) ⊕ (jS × Int)) := Classical.choose (⟨du_X41_lacks_49, rfl⟩ : ∃ f, f = du_X41_lacks_49)
theorem eu_X41_lacks_49 : u_X41_lacks_49 = du_X41_lacks_49 := Classical.choose_spec (⟨du_X41_lacks_49, rfl⟩ : ∃ f, f = du_X41_lacks_49)
def b_X41_lacks_6 (s : jS) (x0 x1 : Int) : Option ((jS × List Int) ⊕ (jS × Int)) :=
  if x1 < (jf s 45 x0 12) then
    (jlt s 1000 (x0 + 11) 256 x1).bind fun v1 =>
    if v1 = 4 then
      (m_X41_isGone s x0 x1).bind fun v2 =>
      if v2 = 0 then
        (jlt s 1000 (x0 + 21) 256 x1).bind fun v3 =>
        (jlt s 1000 (x0 + 14) 256 x1).bind fun v4 =>
        if v4 < v3 then
          jinr (some (s, x1))
        else
          u_X41_lacks_49 s x0 x1
      else
        u_X41_lacks_49 s x0 x1
    else
      u_X41_lacks_49 s x0 x1
  else
    jinr (some (s, (-1)))
def du_X41_lacks_6 (s : jS) (x0 x1 : Int) : Option (jS × Int) := jlpW (jc2 b_X41_lacks_6) [x0, x1] s
noncomputable def u_X41_lacks_6 : jS → Int → Int → Option (jS × Int) := Classical.choose (⟨du_X41_lacks_6, rfl⟩ : ∃ f, f = du_X41_lacks_6)
theorem eu_X41_lacks_6 : u_X41_lacks_6 = du_X41_lacks_6 := Classical.choose_spec (⟨du_X41_lacks_6, rfl⟩ : ∃ f, f = du_X41_lacks_6)
def dm_X41_lacks (s : jS) (x0 : Int) : Option (jS × Int) :=
  (m_X41_reckon s x0).bind fun q1 =>
  u_X41_lacks_6 q1.1 x0 0
noncomputable def m_X41_lacks : jS → Int → Option (jS × Int) := Classical.choose (⟨dm_X41_lacks, rfl⟩ : ∃ f, f = dm_X41_lacks)
theorem em_X41_lacks : m_X41_lacks = dm_X41_lacks := Classical.choose_spec (⟨dm_X41_lacks, rfl⟩ : ∃ f, f = dm_X41_lacks)
def du_X42_segment_54 (s : jS) (x0 x1 x2 x3 : Int) : Option (jS × Int) :=
  (jst s 1002 (x0 + 1) 6 x1 (Wz 1)).bind fun s1 =>
  (jst s1 1000 (x0 + 2) 6 x1 x2).bind fun s2 =>
  (jst s2 1000 (x0 + 3) 6 x1 x3).bind fun s3 =>
  some (s3, Wz 1)
noncomputable def u_X42_segment_54 : jS → Int → Int → Int → Int → Option (jS × Int) := Classical.choose (⟨du_X42_segment_54, rfl⟩ : ∃ f, f = du_X42_segment_54)
theorem eu_X42_segment_54 : u_X42_segment_54 = du_X42_segment_54 := Classical.choose_spec (⟨du_X42_segment_54, rfl⟩ : ∃ f, f = du_X42_segment_54)
def du_X42_segment_38 (s : jS) (x0 x1 x2 x3 : Int) : Option (jS × Int) :=
  (jlt s 1002 (x0 + 1) 6 x1).bind fun v1 =>
  if v1 = 0 then
    (jst s 1000 (x0 + 4) 6 x1 0).bind fun s2 =>
    u_X42_segment_54 s2 x0 x1 x2 x3
  else
    u_X42_segment_54 s x0 x1 x2 x3
noncomputable def u_X42_segment_38 : jS → Int → Int → Int → Int → Option (jS × Int) := Classical.choose (⟨du_X42_segment_38, rfl⟩ : ∃ f, f = du_X42_segment_38)
theorem eu_X42_segment_38 : u_X42_segment_38 = du_X42_segment_38 := Classical.choose_spec (⟨du_X42_segment_38, rfl⟩ : ∃ f, f = du_X42_segment_38)
def dm_X42_segment (s : jS) (x0 x1 x2 x3 : Int) : Option (jS × Int) :=
  (m_X42_isSegment s x1).bind fun v1 =>
  if v1 = 0 then
    some (s, Wz 0)
  else
    if x2 < 0 then
      some (s, Wz 0)
    else
      if x2 < 131072 then
        if x3 < 0 then
          some (s, Wz 0)
        else
          if 32768 < x3 then
            some (s, Wz 0)
          else
            if x1 < 2 then
              if 0 < x3 then
                some (s, Wz 0)
              else
                u_X42_segment_38 s x0 x1 x2 x3
            else
              u_X42_segment_38 s x0 x1 x2 x3
      else
        some (s, Wz 0)
noncomputable def m_X42_segment : jS → Int → Int → Int → Int → Option (jS × Int) := Classical.choose (⟨dm_X42_segment, rfl⟩ : ∃ f, f = dm_X42_segment)
theorem em_X42_segment : m_X42_segment = dm_X42_segment := Classical.choose_spec (⟨dm_X42_segment, rfl⟩ : ∃ f, f = dm_X42_segment)
def dm_X42_sizeOfMark (s : jS) (x0 x1 x2 : Int) : Option (Int) :=
  (jlt s 1000 (x0 + 5) 24576 (W32 ((W32 (12288 * x1)) + (W32 (2 * x2))))).bind fun v1 =>
  (m_X42_isShort s v1).bind fun v2 =>
  if v2 = 0 then
    some 4
  else
    some 2
noncomputable def m_X42_sizeOfMark : jS → Int → Int → Int → Option (Int) := Classical.choose (⟨dm_X42_sizeOfMark, rfl⟩ : ∃ f, f = dm_X42_sizeOfMark)
theorem em_X42_sizeOfMark : m_X42_sizeOfMark = dm_X42_sizeOfMark := Classical.choose_spec (⟨dm_X42_sizeOfMark, rfl⟩ : ∃ f, f = dm_X42_sizeOfMark)
def dm_X42_write4 (s : jS) (x0 x1 x2 : Int) : Option (jS × Int) :=
  (m_X42_write2 s x0 x1 x2).bind fun q1 =>
  (m_X42_write2 q1.1 x0 (W32 (x1 + 2)) (I_shr x2 16)).bind fun q2 =>
  some (q2.1, 0)
noncomputable def m_X42_write4 : jS → Int → Int → Int → Option (jS × Int) := Classical.choose (⟨dm_X42_write4, rfl⟩ : ∃ f, f = dm_X42_write4)
theorem em_X42_write4 : m_X42_write4 = dm_X42_write4 := Classical.choose_spec (⟨dm_X42_write4, rfl⟩ : ∃ f, f = dm_X42_write4)
def du_X42_shortsIn_42 (s : jS) (x0 x1 x3 y0 y1 : Int) : Option (List Int ⊕ (Int)) :=
  jlet (W32 (y1 + y0)) fun v1 =>
  some (.inl [x0, x1, v1, W32 (x3 + 1)])
noncomputable def u_X42_shortsIn_42 : jS → Int → Int → Int → Int → Int → Option (List Int ⊕ (Int)) := Classical.choose (⟨du_X42_shortsIn_42, rfl⟩ : ∃ f, f = du_X42_shortsIn_42)
theorem eu_X42_shortsIn_42 : u_X42_shortsIn_42 = du_X42_shortsIn_42 := Classical.choose_spec (⟨du_X42_shortsIn_42, rfl⟩ : ∃ f, f = du_X42_shortsIn_42)
def du_X42_shortsIn_41 (s : jS) (x0 x1 x3 y0 : Int) : Option (List Int ⊕ (Int)) :=
  u_X42_shortsIn_42 s x0 x1 x3 0 y0
noncomputable def u_X42_shortsIn_41 : jS → Int → Int → Int → Int → Option (List Int ⊕ (Int)) := Classical.choose (⟨du_X42_shortsIn_41, rfl⟩ : ∃ f, f = du_X42_shortsIn_41)
theorem eu_X42_shortsIn_41 : u_X42_shortsIn_41 = du_X42_shortsIn_41 := Classical.choose_spec (⟨du_X42_shortsIn_41, rfl⟩ : ∃ f, f = du_X42_shortsIn_41)
def b_X42_shortsIn_4 (s : jS) (x0 x1 x2 x3 : Int) : Option (List Int ⊕ (Int)) :=
  if x3 < 2048 then
    (jlt s 1002 (x0 + 6) 4096 (W32 ((W32 (2048 * x1)) + x3))).bind fun v1 =>
    if v1 = 0 then
      u_X42_shortsIn_41 s x0 x1 x3 x2
    else
      (m_X42_sizeOfMark s x0 x1 x3).bind fun v2 =>
      if v2 = 2 then
        u_X42_shortsIn_42 s x0 x1 x3 1 x2
      else
        u_X42_shortsIn_41 s x0 x1 x3 x2
  else
    jinr (some x2)
def du_X42_shortsIn_4 (s : jS) (x0 x1 x2 x3 : Int) : Option (Int) := jlpR (jc4 b_X42_shortsIn_4) [x0, x1, x2, x3] s
noncomputable def u_X42_shortsIn_4 : jS → Int → Int → Int → Int → Option (Int) := Classical.choose (⟨du_X42_shortsIn_4, rfl⟩ : ∃ f, f = du_X42_shortsIn_4)
theorem eu_X42_shortsIn_4 : u_X42_shortsIn_4 = du_X42_shortsIn_4 := Classical.choose_spec (⟨du_X42_shortsIn_4, rfl⟩ : ∃ f, f = du_X42_shortsIn_4)
def dm_X42_shortsIn (s : jS) (x0 x1 : Int) : Option (Int) :=
  u_X42_shortsIn_4 s x0 x1 0 0
noncomputable def m_X42_shortsIn : jS → Int → Int → Option (Int) := Classical.choose (⟨dm_X42_shortsIn, rfl⟩ : ∃ f, f = dm_X42_shortsIn)
theorem em_X42_shortsIn : m_X42_shortsIn = dm_X42_shortsIn := Classical.choose_spec (⟨dm_X42_shortsIn, rfl⟩ : ∃ f, f = dm_X42_shortsIn)
def dm_X42_writeRow (s : jS) (x0 x1 x2 x3 x4 x5 x6 x7 x8 : Int) : Option (jS × Int) :=
  (m_X42_write4 s x0 x1 x2).bind fun q1 =>
  (m_X42_write4 q1.1 x0 (W32 (x1 + 4)) x3).bind fun q2 =>
  (m_X42_write4 q2.1 x0 (W32 (x1 + 8)) x4).bind fun q3 =>
  (m_X42_write4 q3.1 x0 (W32 (x1 + 12)) x4).bind fun q4 =>
  (m_X42_write4 q4.1 x0 (W32 (x1 + 16)) x5).bind fun q5 =>
  (m_X42_write4 q5.1 x0 (W32 (x1 + 20)) x6).bind fun q6 =>
  (m_X42_write4 q6.1 x0 (W32 (x1 + 24)) x7).bind fun q7 =>
  (m_X42_write4 q7.1 x0 (W32 (x1 + 28)) x8).bind fun q8 =>
  some (q8.1, 0)
noncomputable def m_X42_writeRow : jS → Int → Int → Int → Int → Int → Int → Int → Int → Int → Option (jS × Int) := Classical.choose (⟨dm_X42_writeRow, rfl⟩ : ∃ f, f = dm_X42_writeRow)
theorem em_X42_writeRow : m_X42_writeRow = dm_X42_writeRow := Classical.choose_spec (⟨dm_X42_writeRow, rfl⟩ : ∃ f, f = dm_X42_writeRow)
def b_X42_addNumber_2 (s : jS) (x0 x1 x2 : Int) : Option ((jS × List Int) ⊕ (jS × Int)) :=
  if x2 < 4 then
    (m_X42_addByte s x0 (I_and (I_shr x1 (W32 (8 * x2))) 255)).bind fun q1 =>
    some (.inl (q1.1, [x0, x1, W32 (x2 + 1)]))
  else
    jinr (some (s, 0))
def du_X42_addNumber_2 (s : jS) (x0 x1 x2 : Int) : Option (jS × Int) := jlpW (jc3 b_X42_addNumber_2) [x0, x1, x2] s
noncomputable def u_X42_addNumber_2 : jS → Int → Int → Int → Option (jS × Int) := Classical.choose (⟨du_X42_addNumber_2, rfl⟩ : ∃ f, f = du_X42_addNumber_2)
theorem eu_X42_addNumber_2 : u_X42_addNumber_2 = du_X42_addNumber_2 := Classical.choose_spec (⟨du_X42_addNumber_2, rfl⟩ : ∃ f, f = du_X42_addNumber_2)
def dm_X42_addNumber (s : jS) (x0 x1 : Int) : Option (jS × Int) :=
  u_X42_addNumber_2 s x0 x1 0
noncomputable def m_X42_addNumber : jS → Int → Int → Option (jS × Int) := Classical.choose (⟨dm_X42_addNumber, rfl⟩ : ∃ f, f = dm_X42_addNumber)
theorem em_X42_addNumber : m_X42_addNumber = dm_X42_addNumber := Classical.choose_spec (⟨dm_X42_addNumber, rfl⟩ : ∃ f, f = dm_X42_addNumber)
def du_X42_headFault_397 (s : jS) (x0 x1 : Int) : Option (jS × Int) :=
  if 0 < (L_cmp (W64 (x1 + (W64 (32 * (jf s 46 x0 12))))) (jf s 46 x0 9)) then
    (m_X42_fault s x0 10 28).bind fun q1 =>
    some (q1.1, q1.2)
  else
    jls (jp s 46 x0 11 (L2i x1)) fun s2 =>
    some (s2, 0)
noncomputable def u_X42_headFault_397 : jS → Int → Int → Option (jS × Int) := Classical.choose (⟨du_X42_headFault_397, rfl⟩ : ∃ f, f = du_X42_headFault_397)
theorem eu_X42_headFault_397 : u_X42_headFault_397 = du_X42_headFault_397 := Classical.choose_spec (⟨du_X42_headFault_397, rfl⟩ : ∃ f, f = du_X42_headFault_397)
def du_X42_headFault_383 (s : jS) (x0 x3 : Int) : Option (jS × Int) :=
  (m_X42_fault s x0 9 x3).bind fun q1 =>
  some (q1.1, q1.2)
noncomputable def u_X42_headFault_383 : jS → Int → Int → Option (jS × Int) := Classical.choose (⟨du_X42_headFault_383, rfl⟩ : ∃ f, f = du_X42_headFault_383)
theorem eu_X42_headFault_383 : u_X42_headFault_383 = du_X42_headFault_383 := Classical.choose_spec (⟨du_X42_headFault_383, rfl⟩ : ∃ f, f = du_X42_headFault_383)
def b_X42_headFault_369 (s : jS) (x0 x1 x3 : Int) : Option ((jS × List Int) ⊕ (jS × Int)) :=
  if x3 < 52 then
    (m_X42_read2 s x0 x3).bind fun v1 =>
    if v1 = 0 then
      some (.inl (s, [x0, x1, W32 (x3 + 2)]))
    else
      jinr (u_X42_headFault_383 s x0 x3)
  else
    jinr (u_X42_headFault_397 s x0 x1)
def du_X42_headFault_369 (s : jS) (x0 x1 x3 : Int) : Option (jS × Int) := jlpW (jc3 b_X42_headFault_369) [x0, x1, x3] s
noncomputable def u_X42_headFault_369 : jS → Int → Int → Int → Option (jS × Int) := Classical.choose (⟨du_X42_headFault_369, rfl⟩ : ∃ f, f = du_X42_headFault_369)
theorem eu_X42_headFault_369 : u_X42_headFault_369 = du_X42_headFault_369 := Classical.choose_spec (⟨du_X42_headFault_369, rfl⟩ : ∃ f, f = du_X42_headFault_369)
def du_X42_headFault_357 (s : jS) (x0 : Int) : Option (jS × Int) :=
  (m_X42_fault s x0 9 44).bind fun q1 =>
  some (q1.1, q1.2)
noncomputable def u_X42_headFault_357 : jS → Int → Option (jS × Int) := Classical.choose (⟨du_X42_headFault_357, rfl⟩ : ∃ f, f = du_X42_headFault_357)
theorem eu_X42_headFault_357 : u_X42_headFault_357 = du_X42_headFault_357 := Classical.choose_spec (⟨du_X42_headFault_357, rfl⟩ : ∃ f, f = du_X42_headFault_357)
def du_X42_headFault_241 (s : jS) (x0 : Int) : Option (jS × Int) :=
  (m_X42_fault s x0 9 28).bind fun q1 =>
  some (q1.1, q1.2)
noncomputable def u_X42_headFault_241 : jS → Int → Option (jS × Int) := Classical.choose (⟨du_X42_headFault_241, rfl⟩ : ∃ f, f = du_X42_headFault_241)
theorem eu_X42_headFault_241 : u_X42_headFault_241 = du_X42_headFault_241 := Classical.choose_spec (⟨du_X42_headFault_241, rfl⟩ : ∃ f, f = du_X42_headFault_241)
def du_X42_headFault_156 (s : jS) (x0 : Int) : Option (jS × Int) :=
  (m_X42_read2 s x0 16).bind fun v1 =>
  if v1 = 2 then
    (m_X42_read2 s x0 18).bind fun v2 =>
    if v2 = 243 then
      (m_X42_read4 s x0 20).bind fun v3 =>
      if (L_cmp v3 1) = 0 then
        (m_X42_read4 s x0 28).bind fun v4 =>
        (jdv 4 (L_rem v4 4)).bind fun v5 =>
        if (L_cmp v5 0) = 0 then
          if (L_cmp v4 52) < 0 then
            u_X42_headFault_241 s x0
          else
            (m_X42_read4 s x0 32).bind fun v6 =>
            if (L_cmp v6 0) = 0 then
              (m_X42_read4 s x0 36).bind fun v7 =>
              if 0 < (L_cmp v7 1) then
                (m_X42_fault s x0 9 36).bind fun q8 =>
                some (q8.1, q8.2)
              else
                (m_X42_read2 s x0 40).bind fun v9 =>
                if v9 = 52 then
                  (m_X42_read2 s x0 42).bind fun v10 =>
                  if v10 = 32 then
                    (m_X42_read2 s x0 44).bind fun v11 =>
                    jls (jp s 46 x0 12 v11) fun s12 =>
                    if (jf s12 46 x0 12) < 1 then
                      u_X42_headFault_357 s12 x0
                    else
                      if 8 < (jf s12 46 x0 12) then
                        u_X42_headFault_357 s12 x0
                      else
                        u_X42_headFault_369 s12 x0 v4 46
                  else
                    (m_X42_fault s x0 9 42).bind fun q13 =>
                    some (q13.1, q13.2)
                else
                  (m_X42_fault s x0 9 40).bind fun q14 =>
                  some (q14.1, q14.2)
            else
              (m_X42_fault s x0 9 32).bind fun q15 =>
              some (q15.1, q15.2)
        else
          u_X42_headFault_241 s x0
      else
        (m_X42_fault s x0 9 20).bind fun q16 =>
        some (q16.1, q16.2)
    else
      (m_X42_fault s x0 8 18).bind fun q17 =>
      some (q17.1, q17.2)
  else
    (m_X42_fault s x0 7 16).bind fun q18 =>
    some (q18.1, q18.2)
noncomputable def u_X42_headFault_156 : jS → Int → Option (jS × Int) := Classical.choose (⟨du_X42_headFault_156, rfl⟩ : ∃ f, f = du_X42_headFault_156)
theorem eu_X42_headFault_156 : u_X42_headFault_156 = du_X42_headFault_156 := Classical.choose_spec (⟨du_X42_headFault_156, rfl⟩ : ∃ f, f = du_X42_headFault_156)
def du_X42_headFault_142 (s : jS) (x0 x1 : Int) : Option (jS × Int) :=
  (m_X42_fault s x0 6 x1).bind fun q1 =>
  some (q1.1, q1.2)
noncomputable def u_X42_headFault_142 : jS → Int → Int → Option (jS × Int) := Classical.choose (⟨du_X42_headFault_142, rfl⟩ : ∃ f, f = du_X42_headFault_142)
theorem eu_X42_headFault_142 : u_X42_headFault_142 = du_X42_headFault_142 := Classical.choose_spec (⟨du_X42_headFault_142, rfl⟩ : ∃ f, f = du_X42_headFault_142)
def b_X42_headFault_127 (s : jS) (x0 x1 : Int) : Option ((jS × List Int) ⊕ (jS × Int)) :=
  if x1 < 16 then
    (jlt s 1000 (x0 + 9) 16384 x1).bind fun v1 =>
    if v1 = 0 then
      some (.inl (s, [x0, W32 (x1 + 1)]))
    else
      jinr (u_X42_headFault_142 s x0 x1)
  else
    jinr (u_X42_headFault_156 s x0)
def du_X42_headFault_127 (s : jS) (x0 x1 : Int) : Option (jS × Int) := jlpW (jc2 b_X42_headFault_127) [x0, x1] s
noncomputable def u_X42_headFault_127 : jS → Int → Int → Option (jS × Int) := Classical.choose (⟨du_X42_headFault_127, rfl⟩ : ∃ f, f = du_X42_headFault_127)
theorem eu_X42_headFault_127 : u_X42_headFault_127 = du_X42_headFault_127 := Classical.choose_spec (⟨du_X42_headFault_127, rfl⟩ : ∃ f, f = du_X42_headFault_127)
def du_X42_headFault_124 (s : jS) (x0 : Int) : Option (jS × Int) :=
  u_X42_headFault_127 s x0 7
noncomputable def u_X42_headFault_124 : jS → Int → Option (jS × Int) := Classical.choose (⟨du_X42_headFault_124, rfl⟩ : ∃ f, f = du_X42_headFault_124)
theorem eu_X42_headFault_124 : u_X42_headFault_124 = du_X42_headFault_124 := Classical.choose_spec (⟨du_X42_headFault_124, rfl⟩ : ∃ f, f = du_X42_headFault_124)
def du_X42_headFault_109 (s : jS) (x0 x1 : Int) : Option (jS × Int) :=
  (m_X42_fault s x0 (W32 (x1 - 1)) x1).bind fun q1 =>
  some (q1.1, q1.2)
noncomputable def u_X42_headFault_109 : jS → Int → Int → Option (jS × Int) := Classical.choose (⟨du_X42_headFault_109, rfl⟩ : ∃ f, f = du_X42_headFault_109)
theorem eu_X42_headFault_109 : u_X42_headFault_109 = du_X42_headFault_109 := Classical.choose_spec (⟨du_X42_headFault_109, rfl⟩ : ∃ f, f = du_X42_headFault_109)
def b_X42_headFault_93 (s : jS) (x0 x1 : Int) : Option ((jS × List Int) ⊕ (jS × Int)) :=
  if x1 < 7 then
    (jlt s 1000 (x0 + 9) 16384 x1).bind fun v1 =>
    if v1 = 1 then
      some (.inl (s, [x0, W32 (x1 + 1)]))
    else
      jinr (u_X42_headFault_109 s x0 x1)
  else
    jinr (u_X42_headFault_124 s x0)
def du_X42_headFault_93 (s : jS) (x0 x1 : Int) : Option (jS × Int) := jlpW (jc2 b_X42_headFault_93) [x0, x1] s
noncomputable def u_X42_headFault_93 : jS → Int → Int → Option (jS × Int) := Classical.choose (⟨du_X42_headFault_93, rfl⟩ : ∃ f, f = du_X42_headFault_93)
theorem eu_X42_headFault_93 : u_X42_headFault_93 = du_X42_headFault_93 := Classical.choose_spec (⟨du_X42_headFault_93, rfl⟩ : ∃ f, f = du_X42_headFault_93)
def dm_X42_headFault (s : jS) (x0 : Int) : Option (jS × Int) :=
  if (jf s 46 x0 9) < 52 then
    (m_X42_fault s x0 1 (jf s 46 x0 9)).bind fun q1 =>
    some (q1.1, q1.2)
  else
    (jlt s 1000 (x0 + 9) 16384 0).bind fun v2 =>
    if v2 = 127 then
      (jlt s 1000 (x0 + 9) 16384 1).bind fun v3 =>
      if v3 = 69 then
        (jlt s 1000 (x0 + 9) 16384 2).bind fun v4 =>
        if v4 = 76 then
          (jlt s 1000 (x0 + 9) 16384 3).bind fun v5 =>
          if v5 = 70 then
            u_X42_headFault_93 s x0 4
          else
            (m_X42_fault s x0 2 3).bind fun q6 =>
            some (q6.1, q6.2)
        else
          (m_X42_fault s x0 2 2).bind fun q7 =>
          some (q7.1, q7.2)
      else
        (m_X42_fault s x0 2 1).bind fun q8 =>
        some (q8.1, q8.2)
    else
      (m_X42_fault s x0 2 0).bind fun q9 =>
      some (q9.1, q9.2)
noncomputable def m_X42_headFault : jS → Int → Option (jS × Int) := Classical.choose (⟨dm_X42_headFault, rfl⟩ : ∃ f, f = dm_X42_headFault)
theorem em_X42_headFault : m_X42_headFault = dm_X42_headFault := Classical.choose_spec (⟨dm_X42_headFault, rfl⟩ : ∃ f, f = dm_X42_headFault)
def dm_X42_number (s : jS) (x0 x1 x2 : Int) : Option (Int) :=
  (m_X42_spot s x0 x1 x2).bind fun v1 =>
  (m_X42_read4 s x0 v1).bind fun v2 =>
  some v2
noncomputable def m_X42_number : jS → Int → Int → Int → Option (Int) := Classical.choose (⟨dm_X42_number, rfl⟩ : ∃ f, f = dm_X42_number)
theorem em_X42_number : m_X42_number = dm_X42_number := Classical.choose_spec (⟨dm_X42_number, rfl⟩ : ∃ f, f = dm_X42_number)
def dm_X42_sortOf (s : jS) (x0 x1 : Int) : Option (Int) :=
  (m_X42_number s x0 x1 6).bind fun v1 =>
  (m_X42_number s x0 x1 0).bind fun v2 =>
  if (L_cmp v2 4) = 0 then
    if (L_cmp v1 4) = 0 then
      some 3
    else
      some (-1)
  else
    if (L_cmp v1 5) = 0 then
      some 0
    else
      if (L_cmp v1 4) = 0 then
        some 1
      else
        if (L_cmp v1 6) = 0 then
          some 2
        else
          some (-1)
noncomputable def m_X42_sortOf : jS → Int → Int → Option (Int) := Classical.choose (⟨dm_X42_sortOf, rfl⟩ : ∃ f, f = dm_X42_sortOf)
theorem em_X42_sortOf : m_X42_sortOf = dm_X42_sortOf := Classical.choose_spec (⟨dm_X42_sortOf, rfl⟩ : ∃ f, f = dm_X42_sortOf)
def dm_X42_endIn (s : jS) (x0 x1 : Int) : Option (Int) :=
  (jlt s 1000 (x0 + 10) 4 x1).bind fun v1 =>
  (m_X42_number s x0 v1 2).bind fun v2 =>
  (jlt s 1000 (x0 + 10) 4 x1).bind fun v3 =>
  (m_X42_number s x0 v3 5).bind fun v4 =>
  some (W64 (v2 + v4))
noncomputable def m_X42_endIn : jS → Int → Int → Option (Int) := Classical.choose (⟨dm_X42_endIn, rfl⟩ : ∃ f, f = dm_X42_endIn)
theorem em_X42_endIn : m_X42_endIn = dm_X42_endIn := Classical.choose_spec (⟨dm_X42_endIn, rfl⟩ : ∃ f, f = dm_X42_endIn)
def dm_X42_meetsIn (s : jS) (x0 x1 x2 : Int) : Option (Int) :=
  (jlt s 1000 (x0 + 10) 4 x1).bind fun v1 =>
  if v1 = (-1) then
    some (Wz 0)
  else
    (jlt s 1000 (x0 + 10) 4 x2).bind fun v2 =>
    if v2 = (-1) then
      some (Wz 0)
    else
      (jlt s 1000 (x0 + 10) 4 x1).bind fun v3 =>
      (m_X42_number s x0 v3 5).bind fun v4 =>
      if (L_cmp v4 0) = 0 then
        some (Wz 0)
      else
        (jlt s 1000 (x0 + 10) 4 x2).bind fun v5 =>
        (m_X42_number s x0 v5 5).bind fun v6 =>
        if (L_cmp v6 0) = 0 then
          some (Wz 0)
        else
          (jlt s 1000 (x0 + 10) 4 x1).bind fun v7 =>
          (m_X42_number s x0 v7 2).bind fun v8 =>
          (m_X42_endIn s x0 x2).bind fun v9 =>
          if (L_cmp v8 v9) < 0 then
            (jlt s 1000 (x0 + 10) 4 x2).bind fun v10 =>
            (m_X42_number s x0 v10 2).bind fun v11 =>
            (m_X42_endIn s x0 x1).bind fun v12 =>
            if (L_cmp v11 v12) < 0 then
              some (Wz 1)
            else
              some (Wz 0)
          else
            some (Wz 0)
noncomputable def m_X42_meetsIn : jS → Int → Int → Int → Option (Int) := Classical.choose (⟨dm_X42_meetsIn, rfl⟩ : ∃ f, f = dm_X42_meetsIn)
theorem em_X42_meetsIn : m_X42_meetsIn = dm_X42_meetsIn := Classical.choose_spec (⟨dm_X42_meetsIn, rfl⟩ : ∃ f, f = dm_X42_meetsIn)
def du_X42_noteFault_262 (s : jS) (x0 x1 x6 : Int) : Option (jS × Int) :=
  (m_X42_fault s x0 26 (W32 ((W32 (x1 + 28)) + x6))).bind fun q1 =>
  some (q1.1, q1.2)
noncomputable def u_X42_noteFault_262 : jS → Int → Int → Int → Option (jS × Int) := Classical.choose (⟨du_X42_noteFault_262, rfl⟩ : ∃ f, f = du_X42_noteFault_262)
theorem eu_X42_noteFault_262 : u_X42_noteFault_262 = du_X42_noteFault_262 := Classical.choose_spec (⟨du_X42_noteFault_262, rfl⟩ : ∃ f, f = du_X42_noteFault_262)
def du_X42_noteFault_282 (s : jS) (x0 x1 x2 x3 x6 : Int) : Option ((jS × List Int) ⊕ (jS × Int)) :=
  some (.inl (s, [x0, x1, x2, x3, W32 (x6 + 1)]))
noncomputable def u_X42_noteFault_282 : jS → Int → Int → Int → Int → Int → Option ((jS × List Int) ⊕ (jS × Int)) := Classical.choose (⟨du_X42_noteFault_282, rfl⟩ : ∃ f, f = du_X42_noteFault_282)
theorem eu_X42_noteFault_282 : u_X42_noteFault_282 = du_X42_noteFault_282 := Classical.choose_spec (⟨du_X42_noteFault_282, rfl⟩ : ∃ f, f = du_X42_noteFault_282)
def du_X42_noteFault_276 (s : jS) (x0 x1 x2 x3 x6 x7 : Int) : Option ((jS × List Int) ⊕ ((jS × List Int) ⊕ (jS × Int))) :=
  some (.inl (s, [x0, x1, x2, x3, x6, W32 (x7 + 1)]))
noncomputable def u_X42_noteFault_276 : jS → Int → Int → Int → Int → Int → Int → Option ((jS × List Int) ⊕ ((jS × List Int) ⊕ (jS × Int))) := Classical.choose (⟨du_X42_noteFault_276, rfl⟩ : ∃ f, f = du_X42_noteFault_276)
theorem eu_X42_noteFault_276 : u_X42_noteFault_276 = du_X42_noteFault_276 := Classical.choose_spec (⟨du_X42_noteFault_276, rfl⟩ : ∃ f, f = du_X42_noteFault_276)
def b_X42_noteFault_220 (s : jS) (x0 x1 x2 x3 x6 x7 : Int) : Option ((jS × List Int) ⊕ ((jS × List Int) ⊕ (jS × Int))) :=
  if x7 < 8 then
    (jlt s 1000 (x0 + 9) 16384 (W32 ((W32 (x1 + 28)) + x6))).bind fun v1 =>
    if (I_and (I_shr v1 x7) 1) = 1 then
      if (W32 ((W32 (16 * x6)) + (W32 (2 * x7)))) < x3 then
        u_X42_noteFault_276 s x0 x1 x2 x3 x6 x7
      else
        jinr (jinr (u_X42_noteFault_262 s x0 x1 x6))
    else
      u_X42_noteFault_276 s x0 x1 x2 x3 x6 x7
  else
    jinr (u_X42_noteFault_282 s x0 x1 x2 x3 x6)
def du_X42_noteFault_220 (s : jS) (x0 x1 x2 x3 x6 x7 : Int) : Option ((jS × List Int) ⊕ (jS × Int)) := jlpW (jc6 b_X42_noteFault_220) [x0, x1, x2, x3, x6, x7] s
noncomputable def u_X42_noteFault_220 : jS → Int → Int → Int → Int → Int → Int → Option ((jS × List Int) ⊕ (jS × Int)) := Classical.choose (⟨du_X42_noteFault_220, rfl⟩ : ∃ f, f = du_X42_noteFault_220)
theorem eu_X42_noteFault_220 : u_X42_noteFault_220 = du_X42_noteFault_220 := Classical.choose_spec (⟨du_X42_noteFault_220, rfl⟩ : ∃ f, f = du_X42_noteFault_220)
def b_X42_noteFault_208 (s : jS) (x0 x1 x2 x3 x6 : Int) : Option ((jS × List Int) ⊕ (jS × Int)) :=
  if x6 < (W32 (x2 - 28)) then
    u_X42_noteFault_220 s x0 x1 x2 x3 x6 0
  else
    jinr (some (s, 0))
def du_X42_noteFault_208 (s : jS) (x0 x1 x2 x3 x6 : Int) : Option (jS × Int) := jlpW (jc5 b_X42_noteFault_208) [x0, x1, x2, x3, x6] s
noncomputable def u_X42_noteFault_208 : jS → Int → Int → Int → Int → Int → Option (jS × Int) := Classical.choose (⟨du_X42_noteFault_208, rfl⟩ : ∃ f, f = du_X42_noteFault_208)
theorem eu_X42_noteFault_208 : u_X42_noteFault_208 = du_X42_noteFault_208 := Classical.choose_spec (⟨du_X42_noteFault_208, rfl⟩ : ∃ f, f = du_X42_noteFault_208)
def du_X42_noteFault_148 (s : jS) (x0 x1 x2 x3 x4 : Int) : Option (jS × Int) :=
  (m_X42_read4 s x0 (W32 (x1 + 20))).bind fun v1 =>
  (jdv 2 (I_div x3 2)).bind fun v2 =>
  if (L_cmp v1 v2) = 0 then
    (jdv 16 (I_div (W32 (x3 + 15)) 16)).bind fun v3 =>
    (m_X42_upTo4 s v3).bind fun v4 =>
    if x2 = (W32 (28 + v4)) then
      u_X42_noteFault_208 s x0 x1 x2 x3 0
    else
      (m_X42_fault s x0 25 x4).bind fun q5 =>
      some (q5.1, q5.2)
  else
    (m_X42_fault s x0 25 (W32 (x1 + 20))).bind fun q6 =>
    some (q6.1, q6.2)
noncomputable def u_X42_noteFault_148 : jS → Int → Int → Int → Int → Int → Option (jS × Int) := Classical.choose (⟨du_X42_noteFault_148, rfl⟩ : ∃ f, f = du_X42_noteFault_148)
theorem eu_X42_noteFault_148 : u_X42_noteFault_148 = du_X42_noteFault_148 := Classical.choose_spec (⟨du_X42_noteFault_148, rfl⟩ : ∃ f, f = du_X42_noteFault_148)
def du_X42_noteFault_128 (s : jS) (x0 x1 x5 : Int) : Option (jS × Int) :=
  (m_X42_fault s x0 25 (W32 ((W32 (x1 + 12)) + x5))).bind fun q1 =>
  some (q1.1, q1.2)
noncomputable def u_X42_noteFault_128 : jS → Int → Int → Int → Option (jS × Int) := Classical.choose (⟨du_X42_noteFault_128, rfl⟩ : ∃ f, f = du_X42_noteFault_128)
theorem eu_X42_noteFault_128 : u_X42_noteFault_128 = du_X42_noteFault_128 := Classical.choose_spec (⟨du_X42_noteFault_128, rfl⟩ : ∃ f, f = du_X42_noteFault_128)
def b_X42_noteFault_101 (s : jS) (x0 x1 x2 x3 x4 x5 : Int) : Option ((jS × List Int) ⊕ (jS × Int)) :=
  if x5 < 8 then
    (jlt s 1000 (x0 + 9) 16384 (W32 ((W32 (x1 + 12)) + x5))).bind fun v1 =>
    (m_X42_nameByte s x5).bind fun v2 =>
    if v1 = v2 then
      some (.inl (s, [x0, x1, x2, x3, x4, W32 (x5 + 1)]))
    else
      jinr (u_X42_noteFault_128 s x0 x1 x5)
  else
    jinr (u_X42_noteFault_148 s x0 x1 x2 x3 x4)
def du_X42_noteFault_101 (s : jS) (x0 x1 x2 x3 x4 x5 : Int) : Option (jS × Int) := jlpW (jc6 b_X42_noteFault_101) [x0, x1, x2, x3, x4, x5] s
noncomputable def u_X42_noteFault_101 : jS → Int → Int → Int → Int → Int → Int → Option (jS × Int) := Classical.choose (⟨du_X42_noteFault_101, rfl⟩ : ∃ f, f = du_X42_noteFault_101)
theorem eu_X42_noteFault_101 : u_X42_noteFault_101 = du_X42_noteFault_101 := Classical.choose_spec (⟨du_X42_noteFault_101, rfl⟩ : ∃ f, f = du_X42_noteFault_101)
def dm_X42_noteFault (s : jS) (x0 x1 x2 x3 : Int) : Option (jS × Int) :=
  (jlt s 1000 (x0 + 10) 4 3).bind fun v1 =>
  (m_X42_spot s x0 v1 4).bind fun v2 =>
  if x2 < 28 then
    (m_X42_fault s x0 25 v2).bind fun q3 =>
    some (q3.1, q3.2)
  else
    (m_X42_read4 s x0 x1).bind fun v4 =>
    if (L_cmp v4 6) = 0 then
      (m_X42_read4 s x0 (W32 (x1 + 4))).bind fun v5 =>
      if (L_cmp v5 (W32 (x2 - 20))) = 0 then
        (m_X42_read4 s x0 (W32 (x1 + 8))).bind fun v6 =>
        if (L_cmp v6 1) = 0 then
          u_X42_noteFault_101 s x0 x1 x2 x3 v2 0
        else
          (m_X42_fault s x0 25 (W32 (x1 + 8))).bind fun q7 =>
          some (q7.1, q7.2)
      else
        (m_X42_fault s x0 25 (W32 (x1 + 4))).bind fun q8 =>
        some (q8.1, q8.2)
    else
      (m_X42_fault s x0 25 x1).bind fun q9 =>
      some (q9.1, q9.2)
noncomputable def m_X42_noteFault : jS → Int → Int → Int → Int → Option (jS × Int) := Classical.choose (⟨dm_X42_noteFault, rfl⟩ : ∃ f, f = dm_X42_noteFault)
theorem em_X42_noteFault : m_X42_noteFault = dm_X42_noteFault := Classical.choose_spec (⟨dm_X42_noteFault, rfl⟩ : ∃ f, f = dm_X42_noteFault)
def dm_X42_isMarkIn (s : jS) (x0 x1 : Int) : Option (Int) :=
  (jlt s 1000 (x0 + 10) 4 3).bind fun v1 =>
  (m_X42_number s x0 v1 1).bind fun v2 =>
  (jdv 16 (I_div x1 16)).bind fun v3 =>
  (jlt s 1000 (x0 + 9) 16384 (W32 ((W32 ((L2i v2) + 28)) + v3))).bind fun v4 =>
  (jdv 16 (I_rem x1 16)).bind fun v5 =>
  (jdv 2 (I_div v5 2)).bind fun v6 =>
  if (I_and (I_shr v4 v6) 1) = 1 then
    some (Wz 1)
  else
    some (Wz 0)
noncomputable def m_X42_isMarkIn : jS → Int → Int → Option (Int) := Classical.choose (⟨dm_X42_isMarkIn, rfl⟩ : ∃ f, f = dm_X42_isMarkIn)
theorem em_X42_isMarkIn : m_X42_isMarkIn = dm_X42_isMarkIn := Classical.choose_spec (⟨dm_X42_isMarkIn, rfl⟩ : ∃ f, f = dm_X42_isMarkIn)
def dm_X42_isShortIn (s : jS) (x0 x1 : Int) : Option (Int) :=
  (jlt s 1000 (x0 + 10) 4 0).bind fun v1 =>
  (m_X42_number s x0 v1 1).bind fun v2 =>
  (jlt s 1000 (x0 + 9) 16384 (W32 ((L2i v2) + x1))).bind fun v3 =>
  (m_X42_isShort s v3).bind fun v4 =>
  some (Wz v4)
noncomputable def m_X42_isShortIn : jS → Int → Int → Option (Int) := Classical.choose (⟨dm_X42_isShortIn, rfl⟩ : ∃ f, f = dm_X42_isShortIn)
theorem em_X42_isShortIn : m_X42_isShortIn = dm_X42_isShortIn := Classical.choose_spec (⟨dm_X42_isShortIn, rfl⟩ : ∃ f, f = dm_X42_isShortIn)
def du_X42_sumIn_169 (s : jS) (x0 : Int) : Option (jS × Int) :=
  some (s, I_xor (jf s 46 x0 15) (-1))
noncomputable def u_X42_sumIn_169 : jS → Int → Option (jS × Int) := Classical.choose (⟨du_X42_sumIn_169, rfl⟩ : ∃ f, f = du_X42_sumIn_169)
theorem eu_X42_sumIn_169 : u_X42_sumIn_169 = du_X42_sumIn_169 := Classical.choose_spec (⟨du_X42_sumIn_169, rfl⟩ : ∃ f, f = du_X42_sumIn_169)
def b_X42_sumIn_132 (s : jS) (x0 x1 x2 : Int) : Option ((jS × List Int) ⊕ (jS × Int)) :=
  if x2 < x1 then
    (jlt s 1000 (x0 + 10) 4 3).bind fun v1 =>
    (m_X42_number s x0 v1 1).bind fun v2 =>
    (jlt s 1000 (x0 + 9) 16384 (W32 ((W32 ((L2i v2) + 28)) + x2))).bind fun v3 =>
    (m_X42_addByte s x0 v3).bind fun q4 =>
    some (.inl (q4.1, [x0, x1, W32 (x2 + 1)]))
  else
    jinr (u_X42_sumIn_169 s x0)
def du_X42_sumIn_132 (s : jS) (x0 x1 x2 : Int) : Option (jS × Int) := jlpW (jc3 b_X42_sumIn_132) [x0, x1, x2] s
noncomputable def u_X42_sumIn_132 : jS → Int → Int → Int → Option (jS × Int) := Classical.choose (⟨du_X42_sumIn_132, rfl⟩ : ∃ f, f = du_X42_sumIn_132)
theorem eu_X42_sumIn_132 : u_X42_sumIn_132 = du_X42_sumIn_132 := Classical.choose_spec (⟨du_X42_sumIn_132, rfl⟩ : ∃ f, f = du_X42_sumIn_132)
def du_X42_sumIn_111 (s : jS) (x0 : Int) : Option (jS × Int) :=
  (jlt s 1000 (x0 + 10) 4 0).bind fun v1 =>
  (m_X42_number s x0 v1 4).bind fun v2 =>
  (jdv 16 (I_div (W32 ((L2i v2) + 15)) 16)).bind fun v3 =>
  u_X42_sumIn_132 s x0 v3 0
noncomputable def u_X42_sumIn_111 : jS → Int → Option (jS × Int) := Classical.choose (⟨du_X42_sumIn_111, rfl⟩ : ∃ f, f = du_X42_sumIn_111)
theorem eu_X42_sumIn_111 : u_X42_sumIn_111 = du_X42_sumIn_111 := Classical.choose_spec (⟨du_X42_sumIn_111, rfl⟩ : ∃ f, f = du_X42_sumIn_111)
def du_X42_sumIn_105 (s : jS) (x0 x1 : Int) : Option ((jS × List Int) ⊕ (jS × Int)) :=
  some (.inl (s, [x0, W32 (x1 + 1)]))
noncomputable def u_X42_sumIn_105 : jS → Int → Int → Option ((jS × List Int) ⊕ (jS × Int)) := Classical.choose (⟨du_X42_sumIn_105, rfl⟩ : ∃ f, f = du_X42_sumIn_105)
theorem eu_X42_sumIn_105 : u_X42_sumIn_105 = du_X42_sumIn_105 := Classical.choose_spec (⟨du_X42_sumIn_105, rfl⟩ : ∃ f, f = du_X42_sumIn_105)
def b_X42_sumIn_69 (s : jS) (x0 x1 x2 x3 : Int) : Option ((jS × List Int) ⊕ ((jS × List Int) ⊕ (jS × Int))) :=
  (m_X42_number s x0 x2 4).bind fun v1 =>
  if (L_cmp x3 v1) < 0 then
    (m_X42_number s x0 x2 1).bind fun v2 =>
    (jlt s 1000 (x0 + 9) 16384 (W32 ((L2i v2) + x3))).bind fun v3 =>
    (m_X42_addByte s x0 v3).bind fun q4 =>
    some (.inl (q4.1, [x0, x1, x2, W32 (x3 + 1)]))
  else
    jinr (u_X42_sumIn_105 s x0 x1)
def du_X42_sumIn_69 (s : jS) (x0 x1 x2 x3 : Int) : Option ((jS × List Int) ⊕ (jS × Int)) := jlpW (jc4 b_X42_sumIn_69) [x0, x1, x2, x3] s
noncomputable def u_X42_sumIn_69 : jS → Int → Int → Int → Int → Option ((jS × List Int) ⊕ (jS × Int)) := Classical.choose (⟨du_X42_sumIn_69, rfl⟩ : ∃ f, f = du_X42_sumIn_69)
theorem eu_X42_sumIn_69 : u_X42_sumIn_69 = du_X42_sumIn_69 := Classical.choose_spec (⟨du_X42_sumIn_69, rfl⟩ : ∃ f, f = du_X42_sumIn_69)
def b_X42_sumIn_18 (s : jS) (x0 x1 : Int) : Option ((jS × List Int) ⊕ (jS × Int)) :=
  if x1 < 3 then
    (jlt s 1000 (x0 + 10) 4 x1).bind fun v1 =>
    if v1 = (-1) then
      u_X42_sumIn_105 s x0 x1
    else
      (m_X42_number s x0 v1 2).bind fun v2 =>
      (m_X42_addNumber s x0 (L2i v2)).bind fun q3 =>
      (m_X42_number q3.1 x0 v1 5).bind fun v4 =>
      (m_X42_number q3.1 x0 v1 4).bind fun v5 =>
      (m_X42_addNumber q3.1 x0 (L2i (W64 (v4 - v5)))).bind fun q6 =>
      u_X42_sumIn_69 q6.1 x0 x1 v1 0
  else
    jinr (u_X42_sumIn_111 s x0)
def du_X42_sumIn_18 (s : jS) (x0 x1 : Int) : Option (jS × Int) := jlpW (jc2 b_X42_sumIn_18) [x0, x1] s
noncomputable def u_X42_sumIn_18 : jS → Int → Int → Option (jS × Int) := Classical.choose (⟨du_X42_sumIn_18, rfl⟩ : ∃ f, f = du_X42_sumIn_18)
theorem eu_X42_sumIn_18 : u_X42_sumIn_18 = du_X42_sumIn_18 := Classical.choose_spec (⟨du_X42_sumIn_18, rfl⟩ : ∃ f, f = du_X42_sumIn_18)
def dm_X42_sumIn (s : jS) (x0 : Int) : Option (jS × Int) :=
  jls (jp s 46 x0 15 (-1)) fun s1 =>
  (m_X42_read4 s1 x0 24).bind fun v2 =>
  (m_X42_addNumber s1 x0 (L2i v2)).bind fun q3 =>
  u_X42_sumIn_18 q3.1 x0 0
noncomputable def m_X42_sumIn : jS → Int → Option (jS × Int) := Classical.choose (⟨dm_X42_sumIn, rfl⟩ : ∃ f, f = dm_X42_sumIn)
theorem em_X42_sumIn : m_X42_sumIn = dm_X42_sumIn := Classical.choose_spec (⟨dm_X42_sumIn, rfl⟩ : ∃ f, f = dm_X42_sumIn)
def dm_X42_byteIn (s : jS) (x0 x1 : Int) : Option (Int) :=
  (m_X42_segmentAt s x0 x1).bind fun v1 =>
  if v1 = (-1) then
    some (-1)
  else
    (jlt s 1000 (x0 + 2) 6 v1).bind fun v2 =>
    (jlt s 1000 (x0 + 4) 6 v1).bind fun v3 =>
    if (W32 (x1 - v2)) < v3 then
      (jlt s 1000 (x0 + 2) 6 v1).bind fun v4 =>
      (jlt s 1000 (x0 + 5) 24576 (W32 ((W32 ((W32 (4096 * v1)) + x1)) - v4))).bind fun v5 =>
      some v5
    else
      some 0
noncomputable def m_X42_byteIn : jS → Int → Int → Option (Int) := Classical.choose (⟨dm_X42_byteIn, rfl⟩ : ∃ f, f = dm_X42_byteIn)
theorem em_X42_byteIn : m_X42_byteIn = dm_X42_byteIn := Classical.choose_spec (⟨dm_X42_byteIn, rfl⟩ : ∃ f, f = dm_X42_byteIn)
def dm_X42_marked (s : jS) (x0 x1 : Int) : Option (Int) :=
  (m_X42_isMarkAt s x0 1 x1).bind fun v1 =>
  if v1 = 0 then
    some 0
  else
    (jlt s 1000 (x0 + 2) 6 3).bind fun v2 =>
    (jdv 2 (I_div (W32 (x1 - v2)) 2)).bind fun v3 =>
    (m_X42_sizeOfMark s x0 1 v3).bind fun v4 =>
    some v4
noncomputable def m_X42_marked : jS → Int → Int → Option (Int) := Classical.choose (⟨dm_X42_marked, rfl⟩ : ∃ f, f = dm_X42_marked)
theorem em_X42_marked : m_X42_marked = dm_X42_marked := Classical.choose_spec (⟨dm_X42_marked, rfl⟩ : ∃ f, f = dm_X42_marked)
def du_X43_layLong_42 (s : jS) (y0 y1 y2 y3 y4 : Int) : Option (jS × Int) :=
  (m_X43_fix s y4 y3 y2 y1 y0).bind fun q1 =>
  some (q1.1, 0)
noncomputable def u_X43_layLong_42 : jS → Int → Int → Int → Int → Int → Option (jS × Int) := Classical.choose (⟨du_X43_layLong_42, rfl⟩ : ∃ f, f = du_X43_layLong_42)
theorem eu_X43_layLong_42 : u_X43_layLong_42 = du_X43_layLong_42 := Classical.choose_spec (⟨du_X43_layLong_42, rfl⟩ : ∃ f, f = du_X43_layLong_42)
def dm_X43_layLong (s : jS) (x0 x1 : Int) : Option (jS × Int) :=
  if x1 < 48 then
    if 44 < x1 then
      if x1 = 45 then
        u_X43_layLong_42 s 267386895 32 0 x1 x0
      else
        if x1 = 46 then
          u_X43_layLong_42 s 115 32 0 x1 x0
        else
          u_X43_layLong_42 s 1048691 32 0 x1 x0
    else
      (m_X43_opcodeOf s x1).bind fun v1 =>
      (m_X43_fix s x0 x1 0 7 v1).bind fun q2 =>
      if x1 < 3 then
        (m_X43_lay q2.1 x0 x1 11 7 100 4).bind fun q3 =>
        if x1 < 2 then
          (m_X43_lay q3.1 x0 x1 31 12 400 19).bind fun q4 =>
          some (q4.1, 0)
        else
          (m_X43_lay q3.1 x0 x1 31 31 400 20).bind fun q5 =>
          (m_X43_lay q5.1 x0 x1 30 21 400 10).bind fun q6 =>
          (m_X43_lay q6.1 x0 x1 20 20 400 11).bind fun q7 =>
          (m_X43_lay q7.1 x0 x1 19 12 400 19).bind fun q8 =>
          some (q8.1, 0)
      else
        (m_X43_thirdOf q2.1 x1).bind fun v9 =>
        (m_X43_fix q2.1 x0 x1 12 3 v9).bind fun q10 =>
        (m_X43_lay q10.1 x0 x1 19 15 200 4).bind fun q11 =>
        (m_X43_isBranch q11.1 x1).bind fun v12 =>
        if v12 = 0 then
          (m_X43_isStore q11.1 x1).bind fun v13 =>
          if v13 = 0 then
            (m_X43_lay q11.1 x0 x1 11 7 100 4).bind fun q14 =>
            if 26 < x1 then
              (m_X43_lay q14.1 x0 x1 24 20 300 4).bind fun q15 =>
              (m_X43_seventhOf q15.1 x1).bind fun v16 =>
              (m_X43_fix q15.1 x0 x1 25 7 v16).bind fun q17 =>
              some (q17.1, 0)
            else
              (m_X43_isShift q14.1 x1).bind fun v18 =>
              if v18 = 0 then
                (m_X43_lay q14.1 x0 x1 31 20 400 11).bind fun q19 =>
                some (q19.1, 0)
              else
                (m_X43_lay q14.1 x0 x1 24 20 400 4).bind fun q20 =>
                (m_X43_seventhOf q20.1 x1).bind fun v21 =>
                (m_X43_fix q20.1 x0 x1 25 7 v21).bind fun q22 =>
                some (q22.1, 0)
          else
            (m_X43_lay q11.1 x0 x1 24 20 300 4).bind fun q23 =>
            (m_X43_lay q23.1 x0 x1 31 25 400 11).bind fun q24 =>
            (m_X43_lay q24.1 x0 x1 11 7 400 4).bind fun q25 =>
            some (q25.1, 0)
        else
          (m_X43_lay q11.1 x0 x1 24 20 300 4).bind fun q26 =>
          (m_X43_lay q26.1 x0 x1 31 31 400 12).bind fun q27 =>
          (m_X43_lay q27.1 x0 x1 30 25 400 10).bind fun q28 =>
          (m_X43_lay q28.1 x0 x1 11 8 400 4).bind fun q29 =>
          (m_X43_lay q29.1 x0 x1 7 7 400 11).bind fun q30 =>
          some (q30.1, 0)
  else
    some (s, 0)
noncomputable def m_X43_layLong : jS → Int → Int → Option (jS × Int) := Classical.choose (⟨dm_X43_layLong, rfl⟩ : ∃ f, f = dm_X43_layLong)
theorem em_X43_layLong : m_X43_layLong = dm_X43_layLong := Classical.choose_spec (⟨dm_X43_layLong, rfl⟩ : ∃ f, f = dm_X43_layLong)
def du_X43_layShort_787 (s : jS) (x0 : Int) : Option (jS × Int) :=
  (m_X43_ends s x0 74 6 2).bind fun q1 =>
  (m_X43_lay q1.1 x0 74 12 9 400 5).bind fun q2 =>
  (m_X43_lay q2.1 x0 74 8 7 400 7).bind fun q3 =>
  (m_X43_lay q3.1 x0 74 6 2 300 4).bind fun q4 =>
  some (q4.1, 0)
noncomputable def u_X43_layShort_787 : jS → Int → Option (jS × Int) := Classical.choose (⟨du_X43_layShort_787, rfl⟩ : ∃ f, f = du_X43_layShort_787)
theorem eu_X43_layShort_787 : u_X43_layShort_787 = du_X43_layShort_787 := Classical.choose_spec (⟨du_X43_layShort_787, rfl⟩ : ∃ f, f = du_X43_layShort_787)
def du_X43_layShort_781 (s : jS) (x0 x1 : Int) : Option ((jS × List Int) ⊕ (jS × Int)) :=
  some (.inl (s, [x0, W32 (x1 + 1)]))
noncomputable def u_X43_layShort_781 : jS → Int → Int → Option ((jS × List Int) ⊕ (jS × Int)) := Classical.choose (⟨du_X43_layShort_781, rfl⟩ : ∃ f, f = du_X43_layShort_781)
theorem eu_X43_layShort_781 : u_X43_layShort_781 = du_X43_layShort_781 := Classical.choose_spec (⟨du_X43_layShort_781, rfl⟩ : ∃ f, f = du_X43_layShort_781)
def du_X43_layShort_769 (s : jS) (x0 x1 : Int) : Option ((jS × List Int) ⊕ (jS × Int)) :=
  (m_X43_lay s x0 x1 6 2 300 4).bind fun q1 =>
  u_X43_layShort_781 q1.1 x0 x1
noncomputable def u_X43_layShort_769 : jS → Int → Int → Option ((jS × List Int) ⊕ (jS × Int)) := Classical.choose (⟨du_X43_layShort_769, rfl⟩ : ∃ f, f = du_X43_layShort_769)
theorem eu_X43_layShort_769 : u_X43_layShort_769 = du_X43_layShort_769 := Classical.choose_spec (⟨du_X43_layShort_769, rfl⟩ : ∃ f, f = du_X43_layShort_769)
def du_X43_layShort_757 (s : jS) (x0 x1 : Int) : Option ((jS × List Int) ⊕ (jS × Int)) :=
  if x1 = 70 then
    u_X43_layShort_769 s x0 x1
  else
    if x1 = 73 then
      u_X43_layShort_769 s x0 x1
    else
      u_X43_layShort_781 s x0 x1
noncomputable def u_X43_layShort_757 : jS → Int → Int → Option ((jS × List Int) ⊕ (jS × Int)) := Classical.choose (⟨du_X43_layShort_757, rfl⟩ : ∃ f, f = du_X43_layShort_757)
theorem eu_X43_layShort_757 : u_X43_layShort_757 = du_X43_layShort_757 := Classical.choose_spec (⟨du_X43_layShort_757, rfl⟩ : ∃ f, f = du_X43_layShort_757)
def du_X43_layShort_745 (s : jS) (x0 x1 : Int) : Option ((jS × List Int) ⊕ (jS × Int)) :=
  (m_X43_lay s x0 x1 11 7 100 4).bind fun q1 =>
  u_X43_layShort_757 q1.1 x0 x1
noncomputable def u_X43_layShort_745 : jS → Int → Int → Option ((jS × List Int) ⊕ (jS × Int)) := Classical.choose (⟨du_X43_layShort_745, rfl⟩ : ∃ f, f = du_X43_layShort_745)
theorem eu_X43_layShort_745 : u_X43_layShort_745 = du_X43_layShort_745 := Classical.choose_spec (⟨du_X43_layShort_745, rfl⟩ : ∃ f, f = du_X43_layShort_745)
def du_X43_layShort_733 (s : jS) (x0 x1 : Int) : Option ((jS × List Int) ⊕ (jS × Int)) :=
  if x1 = 70 then
    u_X43_layShort_745 s x0 x1
  else
    if x1 = 73 then
      u_X43_layShort_745 s x0 x1
    else
      u_X43_layShort_757 s x0 x1
noncomputable def u_X43_layShort_733 : jS → Int → Int → Option ((jS × List Int) ⊕ (jS × Int)) := Classical.choose (⟨du_X43_layShort_733, rfl⟩ : ∃ f, f = du_X43_layShort_733)
theorem eu_X43_layShort_733 : u_X43_layShort_733 = du_X43_layShort_733 := Classical.choose_spec (⟨du_X43_layShort_733, rfl⟩ : ∃ f, f = du_X43_layShort_733)
def du_X43_layShort_720 (s : jS) (x0 x1 : Int) : Option ((jS × List Int) ⊕ (jS × Int)) :=
  (m_X43_lay s x0 x1 11 7 200 4).bind fun q1 =>
  u_X43_layShort_733 q1.1 x0 x1
noncomputable def u_X43_layShort_720 : jS → Int → Int → Option ((jS × List Int) ⊕ (jS × Int)) := Classical.choose (⟨du_X43_layShort_720, rfl⟩ : ∃ f, f = du_X43_layShort_720)
theorem eu_X43_layShort_720 : u_X43_layShort_720 = du_X43_layShort_720 := Classical.choose_spec (⟨du_X43_layShort_720, rfl⟩ : ∃ f, f = du_X43_layShort_720)
def du_X43_layShort_705 (s : jS) (x0 x1 y0 y1 y2 y3 y4 : Int) : Option ((jS × List Int) ⊕ (jS × Int)) :=
  (m_X43_fix s y4 y3 y2 y1 y0).bind fun q1 =>
  if x1 = 69 then
    u_X43_layShort_720 q1.1 x0 x1
  else
    if x1 = 72 then
      u_X43_layShort_720 q1.1 x0 x1
    else
      u_X43_layShort_733 q1.1 x0 x1
noncomputable def u_X43_layShort_705 : jS → Int → Int → Int → Int → Int → Int → Int → Option ((jS × List Int) ⊕ (jS × Int)) := Classical.choose (⟨du_X43_layShort_705, rfl⟩ : ∃ f, f = du_X43_layShort_705)
theorem eu_X43_layShort_705 : u_X43_layShort_705 = du_X43_layShort_705 := Classical.choose_spec (⟨du_X43_layShort_705, rfl⟩ : ∃ f, f = du_X43_layShort_705)
def b_X43_layShort_676 (s : jS) (x0 x1 : Int) : Option ((jS × List Int) ⊕ (jS × Int)) :=
  if x1 < 74 then
    (m_X43_ends s x0 x1 4 2).bind fun q1 =>
    if 70 < x1 then
      u_X43_layShort_705 q1.1 x0 x1 1 1 12 x1 x0
    else
      u_X43_layShort_705 q1.1 x0 x1 0 1 12 x1 x0
  else
    jinr (u_X43_layShort_787 s x0)
def du_X43_layShort_676 (s : jS) (x0 x1 : Int) : Option (jS × Int) := jlpW (jc2 b_X43_layShort_676) [x0, x1] s
noncomputable def u_X43_layShort_676 : jS → Int → Int → Option (jS × Int) := Classical.choose (⟨du_X43_layShort_676, rfl⟩ : ∃ f, f = du_X43_layShort_676)
theorem eu_X43_layShort_676 : u_X43_layShort_676 = du_X43_layShort_676 := Classical.choose_spec (⟨du_X43_layShort_676, rfl⟩ : ∃ f, f = du_X43_layShort_676)
def du_X43_layShort_583 (s : jS) (x0 : Int) : Option (jS × Int) :=
  (m_X43_ends s x0 67 0 2).bind fun q1 =>
  (m_X43_lay q1.1 x0 67 11 7 100 4).bind fun q2 =>
  (m_X43_lay q2.1 x0 67 6 2 400 4).bind fun q3 =>
  (m_X43_ends q3.1 x0 68 2 2).bind fun q4 =>
  (m_X43_one q4.1 x0 68 12 5).bind fun q5 =>
  (m_X43_lay q5.1 x0 68 11 7 100 4).bind fun q6 =>
  (m_X43_lay q6.1 x0 68 6 4 400 4).bind fun q7 =>
  (m_X43_lay q7.1 x0 68 3 2 400 7).bind fun q8 =>
  u_X43_layShort_676 q8.1 x0 69
noncomputable def u_X43_layShort_583 : jS → Int → Option (jS × Int) := Classical.choose (⟨du_X43_layShort_583, rfl⟩ : ∃ f, f = du_X43_layShort_583)
theorem eu_X43_layShort_583 : u_X43_layShort_583 = du_X43_layShort_583 := Classical.choose_spec (⟨du_X43_layShort_583, rfl⟩ : ∃ f, f = du_X43_layShort_583)
def du_X43_layShort_507 (s : jS) (x0 x1 y0 y1 y2 : Int) : Option ((jS × List Int) ⊕ (jS × Int)) :=
  (m_X43_ends s y2 y1 y0 1).bind fun q1 =>
  (m_X43_one q1.1 x0 x1 12 8).bind fun q2 =>
  (m_X43_lay q2.1 x0 x1 11 10 400 4).bind fun q3 =>
  (m_X43_lay q3.1 x0 x1 9 7 600 2).bind fun q4 =>
  (m_X43_lay q4.1 x0 x1 6 5 400 7).bind fun q5 =>
  (m_X43_lay q5.1 x0 x1 4 3 400 2).bind fun q6 =>
  (m_X43_one q6.1 x0 x1 2 5).bind fun q7 =>
  some (.inl (q7.1, [x0, W32 (x1 + 1)]))
noncomputable def u_X43_layShort_507 : jS → Int → Int → Int → Int → Int → Option ((jS × List Int) ⊕ (jS × Int)) := Classical.choose (⟨du_X43_layShort_507, rfl⟩ : ∃ f, f = du_X43_layShort_507)
theorem eu_X43_layShort_507 : u_X43_layShort_507 = du_X43_layShort_507 := Classical.choose_spec (⟨du_X43_layShort_507, rfl⟩ : ∃ f, f = du_X43_layShort_507)
def b_X43_layShort_486 (s : jS) (x0 x1 : Int) : Option ((jS × List Int) ⊕ (jS × Int)) :=
  if x1 < 67 then
    if x1 = 65 then
      u_X43_layShort_507 s x0 x1 6 x1 x0
    else
      u_X43_layShort_507 s x0 x1 7 x1 x0
  else
    jinr (u_X43_layShort_583 s x0)
def du_X43_layShort_486 (s : jS) (x0 x1 : Int) : Option (jS × Int) := jlpW (jc2 b_X43_layShort_486) [x0, x1] s
noncomputable def u_X43_layShort_486 : jS → Int → Int → Option (jS × Int) := Classical.choose (⟨du_X43_layShort_486, rfl⟩ : ∃ f, f = du_X43_layShort_486)
theorem eu_X43_layShort_486 : u_X43_layShort_486 = du_X43_layShort_486 := Classical.choose_spec (⟨du_X43_layShort_486, rfl⟩ : ∃ f, f = du_X43_layShort_486)
def du_X43_layShort_483 (s : jS) (x0 : Int) : Option (jS × Int) :=
  u_X43_layShort_486 s x0 65
noncomputable def u_X43_layShort_483 : jS → Int → Option (jS × Int) := Classical.choose (⟨du_X43_layShort_483, rfl⟩ : ∃ f, f = du_X43_layShort_483)
theorem eu_X43_layShort_483 : u_X43_layShort_483 = du_X43_layShort_483 := Classical.choose_spec (⟨du_X43_layShort_483, rfl⟩ : ∃ f, f = du_X43_layShort_483)
def b_X43_layShort_420 (s : jS) (x0 x1 : Int) : Option ((jS × List Int) ⊕ (jS × Int)) :=
  if x1 < 64 then
    (m_X43_ends s x0 x1 4 1).bind fun q1 =>
    (m_X43_fix q1.1 x0 x1 10 3 3).bind fun q2 =>
    (m_X43_lay q2.1 x0 x1 9 7 500 2).bind fun q3 =>
    (m_X43_fix q3.1 x0 x1 5 2 (W32 (x1 - 60))).bind fun q4 =>
    (m_X43_lay q4.1 x0 x1 4 2 700 2).bind fun q5 =>
    some (.inl (q5.1, [x0, W32 (x1 + 1)]))
  else
    jinr (u_X43_layShort_483 s x0)
def du_X43_layShort_420 (s : jS) (x0 x1 : Int) : Option (jS × Int) := jlpW (jc2 b_X43_layShort_420) [x0, x1] s
noncomputable def u_X43_layShort_420 : jS → Int → Int → Option (jS × Int) := Classical.choose (⟨du_X43_layShort_420, rfl⟩ : ∃ f, f = du_X43_layShort_420)
theorem eu_X43_layShort_420 : u_X43_layShort_420 = du_X43_layShort_420 := Classical.choose_spec (⟨du_X43_layShort_420, rfl⟩ : ∃ f, f = du_X43_layShort_420)
def du_X43_layShort_417 (s : jS) (x0 : Int) : Option (jS × Int) :=
  u_X43_layShort_420 s x0 60
noncomputable def u_X43_layShort_417 : jS → Int → Option (jS × Int) := Classical.choose (⟨du_X43_layShort_417, rfl⟩ : ∃ f, f = du_X43_layShort_417)
theorem eu_X43_layShort_417 : u_X43_layShort_417 = du_X43_layShort_417 := Classical.choose_spec (⟨du_X43_layShort_417, rfl⟩ : ∃ f, f = du_X43_layShort_417)
def du_X43_layShort_386 (s : jS) (x0 x1 : Int) : Option ((jS × List Int) ⊕ (jS × Int)) :=
  (m_X43_lay s x0 x1 9 7 500 2).bind fun q1 =>
  (m_X43_lay q1.1 x0 x1 6 2 400 4).bind fun q2 =>
  some (.inl (q2.1, [x0, W32 (x1 + 1)]))
noncomputable def u_X43_layShort_386 : jS → Int → Int → Option ((jS × List Int) ⊕ (jS × Int)) := Classical.choose (⟨du_X43_layShort_386, rfl⟩ : ∃ f, f = du_X43_layShort_386)
theorem eu_X43_layShort_386 : u_X43_layShort_386 = du_X43_layShort_386 := Classical.choose_spec (⟨du_X43_layShort_386, rfl⟩ : ∃ f, f = du_X43_layShort_386)
def b_X43_layShort_347 (s : jS) (x0 x1 : Int) : Option ((jS × List Int) ⊕ (jS × Int)) :=
  if x1 < 60 then
    (m_X43_ends s x0 x1 4 1).bind fun q1 =>
    (m_X43_fix q1.1 x0 x1 10 3 (W32 (x1 - 57))).bind fun q2 =>
    if x1 = 59 then
      (m_X43_one q2.1 x0 x1 12 5).bind fun q3 =>
      u_X43_layShort_386 q3.1 x0 x1
    else
      u_X43_layShort_386 q2.1 x0 x1
  else
    jinr (u_X43_layShort_417 s x0)
def du_X43_layShort_347 (s : jS) (x0 x1 : Int) : Option (jS × Int) := jlpW (jc2 b_X43_layShort_347) [x0, x1] s
noncomputable def u_X43_layShort_347 : jS → Int → Int → Option (jS × Int) := Classical.choose (⟨du_X43_layShort_347, rfl⟩ : ∃ f, f = du_X43_layShort_347)
theorem eu_X43_layShort_347 : u_X43_layShort_347 = du_X43_layShort_347 := Classical.choose_spec (⟨du_X43_layShort_347, rfl⟩ : ∃ f, f = du_X43_layShort_347)
def du_X43_layShort_263 (s : jS) (x0 : Int) : Option (jS × Int) :=
  (m_X43_layJump s x0 53 1).bind fun q1 =>
  (m_X43_layJump q1.1 x0 64 5).bind fun q2 =>
  (m_X43_ends q2.1 x0 55 3 1).bind fun q3 =>
  (m_X43_one q3.1 x0 55 12 9).bind fun q4 =>
  (m_X43_fix q4.1 x0 55 7 5 2).bind fun q5 =>
  (m_X43_one q5.1 x0 55 6 4).bind fun q6 =>
  (m_X43_one q6.1 x0 55 5 6).bind fun q7 =>
  (m_X43_lay q7.1 x0 55 4 3 400 8).bind fun q8 =>
  (m_X43_one q8.1 x0 55 2 5).bind fun q9 =>
  u_X43_layShort_347 q9.1 x0 57
noncomputable def u_X43_layShort_263 : jS → Int → Option (jS × Int) := Classical.choose (⟨du_X43_layShort_263, rfl⟩ : ∃ f, f = du_X43_layShort_263)
theorem eu_X43_layShort_263 : u_X43_layShort_263 = du_X43_layShort_263 := Classical.choose_spec (⟨du_X43_layShort_263, rfl⟩ : ∃ f, f = du_X43_layShort_263)
def du_X43_layShort_257 (s : jS) (x0 x1 : Int) : Option ((jS × List Int) ⊕ (jS × Int)) :=
  some (.inl (s, [x0, W32 (x1 + 1)]))
noncomputable def u_X43_layShort_257 : jS → Int → Int → Option ((jS × List Int) ⊕ (jS × Int)) := Classical.choose (⟨du_X43_layShort_257, rfl⟩ : ∃ f, f = du_X43_layShort_257)
theorem eu_X43_layShort_257 : u_X43_layShort_257 = du_X43_layShort_257 := Classical.choose_spec (⟨du_X43_layShort_257, rfl⟩ : ∃ f, f = du_X43_layShort_257)
def du_X43_layShort_221 (s : jS) (x0 x1 y0 y1 y2 : Int) : Option ((jS × List Int) ⊕ (jS × Int)) :=
  (m_X43_ends s y2 y1 y0 1).bind fun q1 =>
  (m_X43_one q1.1 x0 x1 12 5).bind fun q2 =>
  (m_X43_lay q2.1 x0 x1 11 7 100 4).bind fun q3 =>
  (m_X43_lay q3.1 x0 x1 6 2 400 4).bind fun q4 =>
  u_X43_layShort_257 q4.1 x0 x1
noncomputable def u_X43_layShort_221 : jS → Int → Int → Int → Int → Int → Option ((jS × List Int) ⊕ (jS × Int)) := Classical.choose (⟨du_X43_layShort_221, rfl⟩ : ∃ f, f = du_X43_layShort_221)
theorem eu_X43_layShort_221 : u_X43_layShort_221 = du_X43_layShort_221 := Classical.choose_spec (⟨du_X43_layShort_221, rfl⟩ : ∃ f, f = du_X43_layShort_221)
def b_X43_layShort_177 (s : jS) (x0 x1 : Int) : Option ((jS × List Int) ⊕ (jS × Int)) :=
  if x1 < 57 then
    if x1 = 53 then
      u_X43_layShort_257 s x0 x1
    else
      if x1 = 55 then
        u_X43_layShort_257 s x0 x1
      else
        if x1 = 52 then
          u_X43_layShort_221 s x0 x1 0 x1 x0
        else
          if x1 = 54 then
            u_X43_layShort_221 s x0 x1 2 x1 x0
          else
            u_X43_layShort_221 s x0 x1 3 x1 x0
  else
    jinr (u_X43_layShort_263 s x0)
def du_X43_layShort_177 (s : jS) (x0 x1 : Int) : Option (jS × Int) := jlpW (jc2 b_X43_layShort_177) [x0, x1] s
noncomputable def u_X43_layShort_177 : jS → Int → Int → Option (jS × Int) := Classical.choose (⟨du_X43_layShort_177, rfl⟩ : ∃ f, f = du_X43_layShort_177)
theorem eu_X43_layShort_177 : u_X43_layShort_177 = du_X43_layShort_177 := Classical.choose_spec (⟨du_X43_layShort_177, rfl⟩ : ∃ f, f = du_X43_layShort_177)
def du_X43_layShort_164 (s : jS) (x0 : Int) : Option (jS × Int) :=
  (m_X43_fix s x0 51 0 16 1).bind fun q1 =>
  u_X43_layShort_177 q1.1 x0 52
noncomputable def u_X43_layShort_164 : jS → Int → Option (jS × Int) := Classical.choose (⟨du_X43_layShort_164, rfl⟩ : ∃ f, f = du_X43_layShort_164)
theorem eu_X43_layShort_164 : u_X43_layShort_164 = du_X43_layShort_164 := Classical.choose_spec (⟨du_X43_layShort_164, rfl⟩ : ∃ f, f = du_X43_layShort_164)
def du_X43_layShort_154 (s : jS) (x0 x1 y0 y1 y2 y3 y4 : Int) : Option ((jS × List Int) ⊕ (jS × Int)) :=
  (m_X43_lay s y4 y3 y2 y1 y0 2).bind fun q1 =>
  some (.inl (q1.1, [x0, W32 (x1 + 1)]))
noncomputable def u_X43_layShort_154 : jS → Int → Int → Int → Int → Int → Int → Int → Option ((jS × List Int) ⊕ (jS × Int)) := Classical.choose (⟨du_X43_layShort_154, rfl⟩ : ∃ f, f = du_X43_layShort_154)
theorem eu_X43_layShort_154 : u_X43_layShort_154 = du_X43_layShort_154 := Classical.choose_spec (⟨du_X43_layShort_154, rfl⟩ : ∃ f, f = du_X43_layShort_154)
def du_X43_layShort_89 (s : jS) (x0 x1 y0 y1 y2 : Int) : Option ((jS × List Int) ⊕ (jS × Int)) :=
  (m_X43_ends s y2 y1 y0 0).bind fun q1 =>
  (m_X43_lay q1.1 x0 x1 12 10 400 5).bind fun q2 =>
  (m_X43_lay q2.1 x0 x1 9 7 600 2).bind fun q3 =>
  (m_X43_one q3.1 x0 x1 6 2).bind fun q4 =>
  (m_X43_one q4.1 x0 x1 5 6).bind fun q5 =>
  if x1 = 49 then
    u_X43_layShort_154 q5.1 x0 x1 500 2 4 x1 x0
  else
    u_X43_layShort_154 q5.1 x0 x1 700 2 4 x1 x0
noncomputable def u_X43_layShort_89 : jS → Int → Int → Int → Int → Int → Option ((jS × List Int) ⊕ (jS × Int)) := Classical.choose (⟨du_X43_layShort_89, rfl⟩ : ∃ f, f = du_X43_layShort_89)
theorem eu_X43_layShort_89 : u_X43_layShort_89 = du_X43_layShort_89 := Classical.choose_spec (⟨du_X43_layShort_89, rfl⟩ : ∃ f, f = du_X43_layShort_89)
def b_X43_layShort_69 (s : jS) (x0 x1 : Int) : Option ((jS × List Int) ⊕ (jS × Int)) :=
  if x1 < 51 then
    if x1 = 49 then
      u_X43_layShort_89 s x0 x1 2 x1 x0
    else
      u_X43_layShort_89 s x0 x1 6 x1 x0
  else
    jinr (u_X43_layShort_164 s x0)
def du_X43_layShort_69 (s : jS) (x0 x1 : Int) : Option (jS × Int) := jlpW (jc2 b_X43_layShort_69) [x0, x1] s
noncomputable def u_X43_layShort_69 : jS → Int → Int → Option (jS × Int) := Classical.choose (⟨du_X43_layShort_69, rfl⟩ : ∃ f, f = du_X43_layShort_69)
theorem eu_X43_layShort_69 : u_X43_layShort_69 = du_X43_layShort_69 := Classical.choose_spec (⟨du_X43_layShort_69, rfl⟩ : ∃ f, f = du_X43_layShort_69)
def dm_X43_layShort (s : jS) (x0 : Int) : Option (jS × Int) :=
  (m_X43_ends s x0 48 0 0).bind fun q1 =>
  (m_X43_lay q1.1 x0 48 12 11 400 5).bind fun q2 =>
  (m_X43_lay q2.1 x0 48 10 7 400 9).bind fun q3 =>
  (m_X43_one q3.1 x0 48 6 2).bind fun q4 =>
  (m_X43_one q4.1 x0 48 5 3).bind fun q5 =>
  (m_X43_lay q5.1 x0 48 4 2 500 2).bind fun q6 =>
  u_X43_layShort_69 q6.1 x0 49
noncomputable def m_X43_layShort : jS → Int → Option (jS × Int) := Classical.choose (⟨dm_X43_layShort, rfl⟩ : ∃ f, f = dm_X43_layShort)
theorem em_X43_layShort : m_X43_layShort = dm_X43_layShort := Classical.choose_spec (⟨dm_X43_layShort, rfl⟩ : ∃ f, f = dm_X43_layShort)
def dm_X43_segment (s : jS) (x0 x1 x2 x3 x4 : Int) : Option (jS × Int) :=
  if x1 < 0 then
    some (s, Wz 0)
  else
    if 7 < x1 then
      some (s, Wz 0)
    else
      if x2 < 0 then
        some (s, Wz 0)
      else
        if x3 < 0 then
          some (s, Wz 0)
        else
          if 0 < (L_cmp (W64 (x2 + x3)) 131072) then
            some (s, Wz 0)
          else
            if x4 < 0 then
              some (s, Wz 0)
            else
              if 7 < x4 then
                some (s, Wz 0)
              else
                (jst s 1000 (x0 + 5) 8 x1 x2).bind fun s1 =>
                (jst s1 1000 (x0 + 6) 8 x1 x3).bind fun s2 =>
                (jst s2 1000 (x0 + 7) 8 x1 x4).bind fun s3 =>
                (m_X43_forget s3 x0).bind fun q4 =>
                some (q4.1, Wz 1)
noncomputable def m_X43_segment : jS → Int → Int → Int → Int → Int → Option (jS × Int) := Classical.choose (⟨dm_X43_segment, rfl⟩ : ∃ f, f = dm_X43_segment)
theorem em_X43_segment : m_X43_segment = dm_X43_segment := Classical.choose_spec (⟨dm_X43_segment, rfl⟩ : ∃ f, f = dm_X43_segment)
def dm_X43_isUnit (s : jS) (x0 : Int) : Option (Int) :=
  if (jf s 47 x0 7) = 0 then
    some (Wz 1)
  else
    (m_X43_bare s (jf s 47 x0 11)).bind fun v1 =>
    (m_X43_isMarked s x0 v1).bind fun v2 =>
    if v2 = 0 then
      some (Wz 0)
    else
      some (Wz 1)
noncomputable def m_X43_isUnit : jS → Int → Option (Int) := Classical.choose (⟨dm_X43_isUnit, rfl⟩ : ∃ f, f = dm_X43_isUnit)
theorem em_X43_isUnit : m_X43_isUnit = dm_X43_isUnit := Classical.choose_spec (⟨dm_X43_isUnit, rfl⟩ : ∃ f, f = dm_X43_isUnit)
def du_X43_without_24 (s : jS) (x1 x5 : Int) : Option (Int) :=
  some (W64 (x1 + x5))
noncomputable def u_X43_without_24 : jS → Int → Int → Option (Int) := Classical.choose (⟨du_X43_without_24, rfl⟩ : ∃ f, f = du_X43_without_24)
theorem eu_X43_without_24 : u_X43_without_24 = du_X43_without_24 := Classical.choose_spec (⟨du_X43_without_24, rfl⟩ : ∃ f, f = du_X43_without_24)
def b_X43_without_3 (s : jS) (x0 x1 x3 x4 x5 : Int) : Option (List Int ⊕ (Int)) :=
  if x5 < x3 then
    (m_X43_rightsOf s x0 (W64 (x1 + x5))).bind fun v1 =>
    if (I_and v1 x4) = 0 then
      jinr (u_X43_without_24 s x1 x5)
    else
      some (.inl [x0, x1, x3, x4, W32 (x5 + 1)])
  else
    jinr (some (-1))
def du_X43_without_3 (s : jS) (x0 x1 x3 x4 x5 : Int) : Option (Int) := jlpR (jc5 b_X43_without_3) [x0, x1, x3, x4, x5] s
noncomputable def u_X43_without_3 : jS → Int → Int → Int → Int → Int → Option (Int) := Classical.choose (⟨du_X43_without_3, rfl⟩ : ∃ f, f = du_X43_without_3)
theorem eu_X43_without_3 : u_X43_without_3 = du_X43_without_3 := Classical.choose_spec (⟨du_X43_without_3, rfl⟩ : ∃ f, f = du_X43_without_3)
def dm_X43_without (s : jS) (x0 x1 x3 x4 : Int) : Option (Int) :=
  u_X43_without_3 s x0 x1 x3 x4 0
noncomputable def m_X43_without : jS → Int → Int → Int → Int → Option (Int) := Classical.choose (⟨dm_X43_without, rfl⟩ : ∃ f, f = dm_X43_without)
theorem em_X43_without : m_X43_without = dm_X43_without := Classical.choose_spec (⟨dm_X43_without, rfl⟩ : ∃ f, f = dm_X43_without)
def b_X43_isShortPart_5 (s : jS) (x0 x1 x2 x3 : Int) : Option (List Int ⊕ (Int)) :=
  (m_X43_bitsOf s x1).bind fun v1 =>
  if x3 < (W32 ((W32 (32 * x1)) + v1)) then
    (jlt s 1000 (x0 + 1) 2400 x3).bind fun v2 =>
    (jdv 100 (I_div v2 100)).bind fun v3 =>
    if (W32 (v3 - 5)) = x2 then
      jinr (some (Wz 1))
    else
      some (.inl [x0, x1, x2, W32 (x3 + 1)])
  else
    jinr (some (Wz 0))
def du_X43_isShortPart_5 (s : jS) (x0 x1 x2 x3 : Int) : Option (Int) := jlpR (jc4 b_X43_isShortPart_5) [x0, x1, x2, x3] s
noncomputable def u_X43_isShortPart_5 : jS → Int → Int → Int → Int → Option (Int) := Classical.choose (⟨du_X43_isShortPart_5, rfl⟩ : ∃ f, f = du_X43_isShortPart_5)
theorem eu_X43_isShortPart_5 : u_X43_isShortPart_5 = du_X43_isShortPart_5 := Classical.choose_spec (⟨du_X43_isShortPart_5, rfl⟩ : ∃ f, f = du_X43_isShortPart_5)
def dm_X43_isShortPart (s : jS) (x0 x1 x2 : Int) : Option (Int) :=
  jlet (W32 (32 * x1)) fun v1 =>
  u_X43_isShortPart_5 s x0 x1 x2 v1
noncomputable def m_X43_isShortPart : jS → Int → Int → Int → Option (Int) := Classical.choose (⟨dm_X43_isShortPart, rfl⟩ : ∃ f, f = dm_X43_isShortPart)
theorem em_X43_isShortPart : m_X43_isShortPart = dm_X43_isShortPart := Classical.choose_spec (⟨dm_X43_isShortPart, rfl⟩ : ∃ f, f = dm_X43_isShortPart)
def dm_X43_isRegister (s : jS) (x0 x1 x2 x3 : Int) : Option (Int) :=
  (m_X43_isShortPart s x0 x1 x2).bind fun v1 =>
  if v1 = 0 then
    if x3 < 0 then
      some (Wz 0)
    else
      if 31 < x3 then
        some (Wz 0)
      else
        if x1 < 48 then
          some (Wz 1)
        else
          if x1 = 74 then
            some (Wz 1)
          else
            if x3 = 0 then
              some (Wz 0)
            else
              if x1 = 56 then
                if x3 = 2 then
                  some (Wz 0)
                else
                  some (Wz 1)
              else
                some (Wz 1)
  else
    if x3 < 8 then
      some (Wz 0)
    else
      if x3 < 16 then
        some (Wz 1)
      else
        some (Wz 0)
noncomputable def m_X43_isRegister : jS → Int → Int → Int → Int → Option (Int) := Classical.choose (⟨dm_X43_isRegister, rfl⟩ : ∃ f, f = dm_X43_isRegister)
theorem em_X43_isRegister : m_X43_isRegister = dm_X43_isRegister := Classical.choose_spec (⟨dm_X43_isRegister, rfl⟩ : ∃ f, f = dm_X43_isRegister)
def du_X43_isImmediate_346 (s : jS) (x1 : Int) : Option (Int) :=
  (m_X43_isStep s x1 0 252 4).bind fun v1 =>
  some (Wz v1)
noncomputable def u_X43_isImmediate_346 : jS → Int → Option (Int) := Classical.choose (⟨du_X43_isImmediate_346, rfl⟩ : ∃ f, f = du_X43_isImmediate_346)
theorem eu_X43_isImmediate_346 : u_X43_isImmediate_346 = du_X43_isImmediate_346 := Classical.choose_spec (⟨du_X43_isImmediate_346, rfl⟩ : ∃ f, f = du_X43_isImmediate_346)
def du_X43_isImmediate_332 (s : jS) (x1 : Int) : Option (Int) :=
  (m_X43_isStep s x1 (-256) 254 2).bind fun v1 =>
  some (Wz v1)
noncomputable def u_X43_isImmediate_332 : jS → Int → Option (Int) := Classical.choose (⟨du_X43_isImmediate_332, rfl⟩ : ∃ f, f = du_X43_isImmediate_332)
theorem eu_X43_isImmediate_332 : u_X43_isImmediate_332 = du_X43_isImmediate_332 := Classical.choose_spec (⟨du_X43_isImmediate_332, rfl⟩ : ∃ f, f = du_X43_isImmediate_332)
def du_X43_isImmediate_322 (s : jS) (x1 : Int) : Option (Int) :=
  (m_X43_isStep s x1 1 31 1).bind fun v1 =>
  some (Wz v1)
noncomputable def u_X43_isImmediate_322 : jS → Int → Option (Int) := Classical.choose (⟨du_X43_isImmediate_322, rfl⟩ : ∃ f, f = du_X43_isImmediate_322)
theorem eu_X43_isImmediate_322 : u_X43_isImmediate_322 = du_X43_isImmediate_322 := Classical.choose_spec (⟨du_X43_isImmediate_322, rfl⟩ : ∃ f, f = du_X43_isImmediate_322)
def du_X43_isImmediate_250 (s : jS) (x1 : Int) : Option (Int) :=
  (m_X43_isStep s x1 (-32) 31 1).bind fun v1 =>
  some (Wz v1)
noncomputable def u_X43_isImmediate_250 : jS → Int → Option (Int) := Classical.choose (⟨du_X43_isImmediate_250, rfl⟩ : ∃ f, f = du_X43_isImmediate_250)
theorem eu_X43_isImmediate_250 : u_X43_isImmediate_250 = du_X43_isImmediate_250 := Classical.choose_spec (⟨du_X43_isImmediate_250, rfl⟩ : ∃ f, f = du_X43_isImmediate_250)
def du_X43_isImmediate_236 (s : jS) (x1 : Int) : Option (Int) :=
  (m_X43_isStep s x1 (-2048) 2046 2).bind fun v1 =>
  some (Wz v1)
noncomputable def u_X43_isImmediate_236 : jS → Int → Option (Int) := Classical.choose (⟨du_X43_isImmediate_236, rfl⟩ : ∃ f, f = du_X43_isImmediate_236)
theorem eu_X43_isImmediate_236 : u_X43_isImmediate_236 = du_X43_isImmediate_236 := Classical.choose_spec (⟨du_X43_isImmediate_236, rfl⟩ : ∃ f, f = du_X43_isImmediate_236)
def du_X43_isImmediate_198 (s : jS) (x1 : Int) : Option (Int) :=
  (m_X43_isStep s x1 0 124 4).bind fun v1 =>
  some (Wz v1)
noncomputable def u_X43_isImmediate_198 : jS → Int → Option (Int) := Classical.choose (⟨du_X43_isImmediate_198, rfl⟩ : ∃ f, f = du_X43_isImmediate_198)
theorem eu_X43_isImmediate_198 : u_X43_isImmediate_198 = du_X43_isImmediate_198 := Classical.choose_spec (⟨du_X43_isImmediate_198, rfl⟩ : ∃ f, f = du_X43_isImmediate_198)
def dm_X43_isImmediate (s : jS) (x0 x1 : Int) : Option (Int) :=
  if x0 < 2 then
    (m_X43_isStep s x1 0 1048575 1).bind fun v1 =>
    some (Wz v1)
  else
    if x0 = 2 then
      (m_X43_isStep s x1 (-1048576) 1048574 2).bind fun v2 =>
      some (Wz v2)
    else
      (m_X43_isBranch s x0).bind fun v3 =>
      if v3 = 0 then
        (m_X43_isShift s x0).bind fun v4 =>
        if v4 = 0 then
          if x0 < 48 then
            (m_X43_isStep s x1 (-2048) 2047 1).bind fun v5 =>
            some (Wz v5)
          else
            if x0 = 48 then
              (m_X43_isStep s x1 4 1020 4).bind fun v6 =>
              some (Wz v6)
            else
            if x0 = 49 then
              u_X43_isImmediate_198 s x1
            else
            if x0 = 50 then
              u_X43_isImmediate_198 s x1
            else
            if x0 = 51 then
              u_X43_isImmediate_346 s x1
            else
            if x0 = 52 then
              if (L_cmp x1 0) = 0 then
                some (Wz 0)
              else
                (m_X43_isStep s x1 (-32) 31 1).bind fun v7 =>
                if v7 = 0 then
                  some (Wz 0)
                else
                  some (Wz 1)
            else
            if x0 = 53 then
              u_X43_isImmediate_236 s x1
            else
            if x0 = 54 then
              u_X43_isImmediate_250 s x1
            else
            if x0 = 55 then
              if (L_cmp x1 0) = 0 then
                some (Wz 0)
              else
                (m_X43_isStep s x1 (-512) 496 16).bind fun v8 =>
                if v8 = 0 then
                  some (Wz 0)
                else
                  some (Wz 1)
            else
            if x0 = 56 then
              (m_X43_isStep s x1 1 31 1).bind fun v9 =>
              if v9 = 0 then
                (m_X43_isStep s x1 1048544 1048575 1).bind fun v10 =>
                if v10 = 0 then
                  some (Wz 0)
                else
                  some (Wz 1)
              else
                some (Wz 1)
            else
            if x0 = 57 then
              u_X43_isImmediate_322 s x1
            else
            if x0 = 58 then
              u_X43_isImmediate_322 s x1
            else
            if x0 = 59 then
              u_X43_isImmediate_250 s x1
            else
            if x0 = 60 then
              u_X43_isImmediate_346 s x1
            else
            if x0 = 61 then
              u_X43_isImmediate_346 s x1
            else
            if x0 = 62 then
              u_X43_isImmediate_346 s x1
            else
            if x0 = 63 then
              u_X43_isImmediate_346 s x1
            else
            if x0 = 64 then
              u_X43_isImmediate_236 s x1
            else
            if x0 = 65 then
              u_X43_isImmediate_332 s x1
            else
            if x0 = 66 then
              u_X43_isImmediate_332 s x1
            else
            if x0 = 67 then
              u_X43_isImmediate_322 s x1
            else
            u_X43_isImmediate_346 s x1
        else
          (m_X43_isStep s x1 0 31 1).bind fun v11 =>
          some (Wz v11)
      else
        (m_X43_isStep s x1 (-4096) 4094 2).bind fun v12 =>
        some (Wz v12)
noncomputable def m_X43_isImmediate : jS → Int → Int → Option (Int) := Classical.choose (⟨dm_X43_isImmediate, rfl⟩ : ∃ f, f = dm_X43_isImmediate)
theorem em_X43_isImmediate : m_X43_isImmediate = dm_X43_isImmediate := Classical.choose_spec (⟨dm_X43_isImmediate, rfl⟩ : ∃ f, f = dm_X43_isImmediate)
def du_X43_stretch_241 (s : jS) (x0 x1 : Int) : Option (jS × Int) :=
  (m_X43_longKind s x1).bind fun v1 =>
  (m_X43_put s x0 v1).bind fun v2 =>
  some (s, v2)
noncomputable def u_X43_stretch_241 : jS → Int → Int → Option (jS × Int) := Classical.choose (⟨du_X43_stretch_241, rfl⟩ : ∃ f, f = du_X43_stretch_241)
theorem eu_X43_stretch_241 : u_X43_stretch_241 = du_X43_stretch_241 := Classical.choose_spec (⟨du_X43_stretch_241, rfl⟩ : ∃ f, f = du_X43_stretch_241)
def du_X43_stretch_234 (s : jS) (x0 x1 : Int) : Option (jS × Int) :=
  (jst s 1000 (x0 + 2) 4 3 0).bind fun s1 =>
  u_X43_stretch_241 s1 x0 x1
noncomputable def u_X43_stretch_234 : jS → Int → Int → Option (jS × Int) := Classical.choose (⟨du_X43_stretch_234, rfl⟩ : ∃ f, f = du_X43_stretch_234)
theorem eu_X43_stretch_234 : u_X43_stretch_234 = du_X43_stretch_234 := Classical.choose_spec (⟨du_X43_stretch_234, rfl⟩ : ∃ f, f = du_X43_stretch_234)
def du_X43_stretch_216 (s : jS) (x0 x1 : Int) : Option (jS × Int) :=
  if x1 = 51 then
    u_X43_stretch_234 s x0 x1
  else
    if x1 = 69 then
      u_X43_stretch_234 s x0 x1
    else
      if x1 = 72 then
        u_X43_stretch_234 s x0 x1
      else
        u_X43_stretch_241 s x0 x1
noncomputable def u_X43_stretch_216 : jS → Int → Int → Option (jS × Int) := Classical.choose (⟨du_X43_stretch_216, rfl⟩ : ∃ f, f = du_X43_stretch_216)
theorem eu_X43_stretch_216 : u_X43_stretch_216 = du_X43_stretch_216 := Classical.choose_spec (⟨du_X43_stretch_216, rfl⟩ : ∃ f, f = du_X43_stretch_216)
def du_X43_stretch_209 (s : jS) (x0 x1 : Int) : Option (jS × Int) :=
  (jst s 1000 (x0 + 2) 4 2 0).bind fun s1 =>
  u_X43_stretch_216 s1 x0 x1
noncomputable def u_X43_stretch_209 : jS → Int → Int → Option (jS × Int) := Classical.choose (⟨du_X43_stretch_209, rfl⟩ : ∃ f, f = du_X43_stretch_209)
theorem eu_X43_stretch_209 : u_X43_stretch_209 = du_X43_stretch_209 := Classical.choose_spec (⟨du_X43_stretch_209, rfl⟩ : ∃ f, f = du_X43_stretch_209)
def du_X43_stretch_197 (s : jS) (x0 x1 : Int) : Option (jS × Int) :=
  if x1 = 65 then
    u_X43_stretch_209 s x0 x1
  else
    if x1 = 66 then
      u_X43_stretch_209 s x0 x1
    else
      u_X43_stretch_216 s x0 x1
noncomputable def u_X43_stretch_197 : jS → Int → Int → Option (jS × Int) := Classical.choose (⟨du_X43_stretch_197, rfl⟩ : ∃ f, f = du_X43_stretch_197)
theorem eu_X43_stretch_197 : u_X43_stretch_197 = du_X43_stretch_197 := Classical.choose_spec (⟨du_X43_stretch_197, rfl⟩ : ∃ f, f = du_X43_stretch_197)
def du_X43_stretch_184 (s : jS) (x0 x1 : Int) : Option (jS × Int) :=
  if x1 = 55 then
    (jst s 1000 (x0 + 2) 4 0 2).bind fun s1 =>
    u_X43_stretch_197 s1 x0 x1
  else
    u_X43_stretch_197 s x0 x1
noncomputable def u_X43_stretch_184 : jS → Int → Int → Option (jS × Int) := Classical.choose (⟨du_X43_stretch_184, rfl⟩ : ∃ f, f = du_X43_stretch_184)
theorem eu_X43_stretch_184 : u_X43_stretch_184 = du_X43_stretch_184 := Classical.choose_spec (⟨du_X43_stretch_184, rfl⟩ : ∃ f, f = du_X43_stretch_184)
def du_X43_stretch_177 (s : jS) (x0 x1 : Int) : Option (jS × Int) :=
  (jst s 1000 (x0 + 2) 4 0 1).bind fun s1 =>
  u_X43_stretch_184 s1 x0 x1
noncomputable def u_X43_stretch_177 : jS → Int → Int → Option (jS × Int) := Classical.choose (⟨du_X43_stretch_177, rfl⟩ : ∃ f, f = du_X43_stretch_177)
theorem eu_X43_stretch_177 : u_X43_stretch_177 = du_X43_stretch_177 := Classical.choose_spec (⟨du_X43_stretch_177, rfl⟩ : ∃ f, f = du_X43_stretch_177)
def du_X43_stretch_165 (s : jS) (x0 x1 : Int) : Option (jS × Int) :=
  if x1 = 53 then
    u_X43_stretch_177 s x0 x1
  else
    if x1 = 72 then
      u_X43_stretch_177 s x0 x1
    else
      u_X43_stretch_184 s x0 x1
noncomputable def u_X43_stretch_165 : jS → Int → Int → Option (jS × Int) := Classical.choose (⟨du_X43_stretch_165, rfl⟩ : ∃ f, f = du_X43_stretch_165)
theorem eu_X43_stretch_165 : u_X43_stretch_165 = du_X43_stretch_165 := Classical.choose_spec (⟨du_X43_stretch_165, rfl⟩ : ∃ f, f = du_X43_stretch_165)
def du_X43_stretch_158 (s : jS) (x0 x1 : Int) : Option (jS × Int) :=
  (jst s 1000 (x0 + 2) 4 0 0).bind fun s1 =>
  u_X43_stretch_165 s1 x0 x1
noncomputable def u_X43_stretch_158 : jS → Int → Int → Option (jS × Int) := Classical.choose (⟨du_X43_stretch_158, rfl⟩ : ∃ f, f = du_X43_stretch_158)
theorem eu_X43_stretch_158 : u_X43_stretch_158 = du_X43_stretch_158 := Classical.choose_spec (⟨du_X43_stretch_158, rfl⟩ : ∃ f, f = du_X43_stretch_158)
def du_X43_stretch_140 (s : jS) (x0 x1 : Int) : Option (jS × Int) :=
  if x1 = 51 then
    u_X43_stretch_158 s x0 x1
  else
    if x1 = 64 then
      u_X43_stretch_158 s x0 x1
    else
      if x1 = 69 then
        u_X43_stretch_158 s x0 x1
      else
        u_X43_stretch_165 s x0 x1
noncomputable def u_X43_stretch_140 : jS → Int → Int → Option (jS × Int) := Classical.choose (⟨du_X43_stretch_140, rfl⟩ : ∃ f, f = du_X43_stretch_140)
theorem eu_X43_stretch_140 : u_X43_stretch_140 = du_X43_stretch_140 := Classical.choose_spec (⟨du_X43_stretch_140, rfl⟩ : ∃ f, f = du_X43_stretch_140)
def du_X43_stretch_133 (s : jS) (x0 x1 : Int) : Option (jS × Int) :=
  (jst s 1000 (x0 + 2) 4 1 0).bind fun s1 =>
  u_X43_stretch_140 s1 x0 x1
noncomputable def u_X43_stretch_133 : jS → Int → Int → Option (jS × Int) := Classical.choose (⟨du_X43_stretch_133, rfl⟩ : ∃ f, f = du_X43_stretch_133)
theorem eu_X43_stretch_133 : u_X43_stretch_133 = du_X43_stretch_133 := Classical.choose_spec (⟨du_X43_stretch_133, rfl⟩ : ∃ f, f = du_X43_stretch_133)
def du_X43_stretch_115 (s : jS) (x0 x1 : Int) : Option (jS × Int) :=
  if x1 = 51 then
    u_X43_stretch_133 s x0 x1
  else
    if x1 = 54 then
      u_X43_stretch_133 s x0 x1
    else
      if x1 = 70 then
        u_X43_stretch_133 s x0 x1
      else
        u_X43_stretch_140 s x0 x1
noncomputable def u_X43_stretch_115 : jS → Int → Int → Option (jS × Int) := Classical.choose (⟨du_X43_stretch_115, rfl⟩ : ∃ f, f = du_X43_stretch_115)
theorem eu_X43_stretch_115 : u_X43_stretch_115 = du_X43_stretch_115 := Classical.choose_spec (⟨du_X43_stretch_115, rfl⟩ : ∃ f, f = du_X43_stretch_115)
def du_X43_stretch_103 (s : jS) (x0 x1 x4 : Int) : Option (jS × Int) :=
  if x4 = 0 then
    u_X43_stretch_115 s x0 x1
  else
    (jst s 1000 (x0 + 2) 4 1 2).bind fun s1 =>
    u_X43_stretch_115 s1 x0 x1
noncomputable def u_X43_stretch_103 : jS → Int → Int → Int → Option (jS × Int) := Classical.choose (⟨du_X43_stretch_103, rfl⟩ : ∃ f, f = du_X43_stretch_103)
theorem eu_X43_stretch_103 : u_X43_stretch_103 = du_X43_stretch_103 := Classical.choose_spec (⟨du_X43_stretch_103, rfl⟩ : ∃ f, f = du_X43_stretch_103)
def du_X43_stretch_90 (s : jS) (x0 x1 x2 x3 y0 : Int) : Option (jS × Int) :=
  if x3 = 0 then
    u_X43_stretch_103 s x0 x1 y0
  else
    (jst s 1000 (x0 + 2) 4 1 x2).bind fun s1 =>
    u_X43_stretch_103 s1 x0 x1 y0
noncomputable def u_X43_stretch_90 : jS → Int → Int → Int → Int → Int → Option (jS × Int) := Classical.choose (⟨du_X43_stretch_90, rfl⟩ : ∃ f, f = du_X43_stretch_90)
theorem eu_X43_stretch_90 : u_X43_stretch_90 = du_X43_stretch_90 := Classical.choose_spec (⟨du_X43_stretch_90, rfl⟩ : ∃ f, f = du_X43_stretch_90)
def du_X43_stretch_85 (s : jS) (x0 x1 x2 x3 : Int) : Option (jS × Int) :=
  u_X43_stretch_90 s x0 x1 x2 x3 1
noncomputable def u_X43_stretch_85 : jS → Int → Int → Int → Int → Option (jS × Int) := Classical.choose (⟨du_X43_stretch_85, rfl⟩ : ∃ f, f = du_X43_stretch_85)
theorem eu_X43_stretch_85 : u_X43_stretch_85 = du_X43_stretch_85 := Classical.choose_spec (⟨du_X43_stretch_85, rfl⟩ : ∃ f, f = du_X43_stretch_85)
def du_X43_stretch_60 (s : jS) (x0 x1 x2 y0 : Int) : Option (jS × Int) :=
  if x1 = 48 then
    u_X43_stretch_85 s x0 x1 x2 y0
  else
    if x1 = 55 then
      u_X43_stretch_85 s x0 x1 x2 y0
    else
      if x1 = 68 then
        u_X43_stretch_85 s x0 x1 x2 y0
      else
        if x1 = 74 then
          u_X43_stretch_85 s x0 x1 x2 y0
        else
          u_X43_stretch_90 s x0 x1 x2 y0 0
noncomputable def u_X43_stretch_60 : jS → Int → Int → Int → Int → Option (jS × Int) := Classical.choose (⟨du_X43_stretch_60, rfl⟩ : ∃ f, f = du_X43_stretch_60)
theorem eu_X43_stretch_60 : u_X43_stretch_60 = du_X43_stretch_60 := Classical.choose_spec (⟨du_X43_stretch_60, rfl⟩ : ∃ f, f = du_X43_stretch_60)
def du_X43_stretch_55 (s : jS) (x0 x1 x2 : Int) : Option (jS × Int) :=
  u_X43_stretch_60 s x0 x1 x2 1
noncomputable def u_X43_stretch_55 : jS → Int → Int → Int → Option (jS × Int) := Classical.choose (⟨du_X43_stretch_55, rfl⟩ : ∃ f, f = du_X43_stretch_55)
theorem eu_X43_stretch_55 : u_X43_stretch_55 = du_X43_stretch_55 := Classical.choose_spec (⟨du_X43_stretch_55, rfl⟩ : ∃ f, f = du_X43_stretch_55)
def du_X43_stretch_43 (s : jS) (x0 x1 x2 : Int) : Option (jS × Int) :=
  if x1 = 67 then
    u_X43_stretch_55 s x0 x1 x2
  else
    if x1 = 73 then
      u_X43_stretch_55 s x0 x1 x2
    else
      u_X43_stretch_60 s x0 x1 x2 0
noncomputable def u_X43_stretch_43 : jS → Int → Int → Int → Option (jS × Int) := Classical.choose (⟨du_X43_stretch_43, rfl⟩ : ∃ f, f = du_X43_stretch_43)
theorem eu_X43_stretch_43 : u_X43_stretch_43 = du_X43_stretch_43 := Classical.choose_spec (⟨du_X43_stretch_43, rfl⟩ : ∃ f, f = du_X43_stretch_43)
def dm_X43_stretch (s : jS) (x0 x1 : Int) : Option (jS × Int) :=
  (jlt s 1000 (x0 + 2) 4 0).bind fun v1 =>
  if x1 = 52 then
    u_X43_stretch_55 s x0 x1 v1
  else
    if x1 = 57 then
      u_X43_stretch_55 s x0 x1 v1
    else
      if x1 = 58 then
        u_X43_stretch_55 s x0 x1 v1
      else
        if x1 = 59 then
          u_X43_stretch_55 s x0 x1 v1
        else
          if 59 < x1 then
            if x1 < 64 then
              u_X43_stretch_55 s x0 x1 v1
            else
              u_X43_stretch_43 s x0 x1 v1
          else
            u_X43_stretch_43 s x0 x1 v1
noncomputable def m_X43_stretch : jS → Int → Int → Option (jS × Int) := Classical.choose (⟨dm_X43_stretch, rfl⟩ : ∃ f, f = dm_X43_stretch)
theorem em_X43_stretch : m_X43_stretch = dm_X43_stretch := Classical.choose_spec (⟨dm_X43_stretch, rfl⟩ : ∃ f, f = dm_X43_stretch)
def du_X43_canReach_115 (s : jS) (x2 y0 y1 : Int) : Option (jS × Int) :=
  (m_X43_fail s y1 y0 (L2i x2)).bind fun q1 =>
  some (q1.1, Wz 0)
noncomputable def u_X43_canReach_115 : jS → Int → Int → Int → Option (jS × Int) := Classical.choose (⟨du_X43_canReach_115, rfl⟩ : ∃ f, f = du_X43_canReach_115)
theorem eu_X43_canReach_115 : u_X43_canReach_115 = du_X43_canReach_115 := Classical.choose_spec (⟨du_X43_canReach_115, rfl⟩ : ∃ f, f = du_X43_canReach_115)
def du_X43_canReach_105 (s : jS) (x0 x1 x2 : Int) : Option (jS × Int) :=
  if x1 = 0 then
    u_X43_canReach_115 s x2 4 x0
  else
    u_X43_canReach_115 s x2 3 x0
noncomputable def u_X43_canReach_105 : jS → Int → Int → Int → Option (jS × Int) := Classical.choose (⟨du_X43_canReach_105, rfl⟩ : ∃ f, f = du_X43_canReach_105)
theorem eu_X43_canReach_105 : u_X43_canReach_105 = du_X43_canReach_105 := Classical.choose_spec (⟨du_X43_canReach_105, rfl⟩ : ∃ f, f = du_X43_canReach_105)
def du_X43_canReach_95 (s : jS) (x0 x1 x2 y0 y1 y2 y3 : Int) : Option (jS × Int) :=
  (m_X43_without s y3 y2 y1 y0).bind fun v1 =>
  if (L_cmp v1 0) < 0 then
    some (s, Wz 1)
  else
    u_X43_canReach_105 s x0 x1 x2
noncomputable def u_X43_canReach_95 : jS → Int → Int → Int → Int → Int → Int → Int → Option (jS × Int) := Classical.choose (⟨du_X43_canReach_95, rfl⟩ : ∃ f, f = du_X43_canReach_95)
theorem eu_X43_canReach_95 : u_X43_canReach_95 = du_X43_canReach_95 := Classical.choose_spec (⟨du_X43_canReach_95, rfl⟩ : ∃ f, f = du_X43_canReach_95)
def du_X43_canReach_40 (s : jS) (x0 x1 : Int) : Option (jS × Int) :=
  (jlt s 1000 (x0 + 2) 4 1).bind fun v1 =>
  (jlt s 1000 (x0 + 9) 32 v1).bind fun v2 =>
  (jlt s 1000 (x0 + 2) 4 3).bind fun v3 =>
  (m_X43_bare s (W32 (v2 + v3))).bind fun v4 =>
  (m_X43_widthOf s x0 (jf s 47 x0 26)).bind fun v5 =>
  (jdv v5 (L_rem v4 v5)).bind fun v6 =>
  if (L_cmp v6 0) = 0 then
    if x1 = 0 then
      u_X43_canReach_95 s x0 x1 v4 2 v5 v4 x0
    else
      u_X43_canReach_95 s x0 x1 v4 1 v5 v4 x0
  else
    u_X43_canReach_105 s x0 x1 v4
noncomputable def u_X43_canReach_40 : jS → Int → Int → Option (jS × Int) := Classical.choose (⟨du_X43_canReach_40, rfl⟩ : ∃ f, f = du_X43_canReach_40)
theorem eu_X43_canReach_40 : u_X43_canReach_40 = du_X43_canReach_40 := Classical.choose_spec (⟨du_X43_canReach_40, rfl⟩ : ∃ f, f = du_X43_canReach_40)
def du_X43_canReach_23 (s : jS) (x0 y0 : Int) : Option (jS × Int) :=
  if y0 = 0 then
    (m_X43_isStore s (jf s 47 x0 26)).bind fun v1 =>
    if v1 = 0 then
      some (s, Wz 1)
    else
      u_X43_canReach_40 s x0 y0
  else
    u_X43_canReach_40 s x0 y0
noncomputable def u_X43_canReach_23 : jS → Int → Int → Option (jS × Int) := Classical.choose (⟨du_X43_canReach_23, rfl⟩ : ∃ f, f = du_X43_canReach_23)
theorem eu_X43_canReach_23 : u_X43_canReach_23 = du_X43_canReach_23 := Classical.choose_spec (⟨du_X43_canReach_23, rfl⟩ : ∃ f, f = du_X43_canReach_23)
def du_X43_canReach_22 (s : jS) (x0 : Int) : Option (jS × Int) :=
  u_X43_canReach_23 s x0 0
noncomputable def u_X43_canReach_22 : jS → Int → Option (jS × Int) := Classical.choose (⟨du_X43_canReach_22, rfl⟩ : ∃ f, f = du_X43_canReach_22)
theorem eu_X43_canReach_22 : u_X43_canReach_22 = du_X43_canReach_22 := Classical.choose_spec (⟨du_X43_canReach_22, rfl⟩ : ∃ f, f = du_X43_canReach_22)
def dm_X43_canReach (s : jS) (x0 : Int) : Option (jS × Int) :=
  if 9 < (jf s 47 x0 26) then
    if (jf s 47 x0 26) < 15 then
      u_X43_canReach_23 s x0 1
    else
      u_X43_canReach_22 s x0
  else
    u_X43_canReach_22 s x0
noncomputable def m_X43_canReach : jS → Int → Option (jS × Int) := Classical.choose (⟨dm_X43_canReach, rfl⟩ : ∃ f, f = dm_X43_canReach)
theorem em_X43_canReach : m_X43_canReach = dm_X43_canReach := Classical.choose_spec (⟨dm_X43_canReach, rfl⟩ : ∃ f, f = dm_X43_canReach)
def dm_X43_become (s : jS) (x0 x1 x2 : Int) : Option (jS × Int) :=
  if x1 = 0 then
    some (s, 0)
  else
    (m_X43_latest s x0).bind fun v1 =>
    (jst s 1000 (x0 + 12) 1300 (W32 (v1 + 8)) x1).bind fun s2 =>
    (m_X43_latest s2 x0).bind fun v3 =>
    (jlt s2 1000 (x0 + 9) 32 x1).bind fun v4 =>
    (jst s2 1000 (x0 + 12) 1300 (W32 (v3 + 9)) v4).bind fun s5 =>
    (jst s5 1000 (x0 + 9) 32 x1 x2).bind fun s6 =>
    some (s6, 0)
noncomputable def m_X43_become : jS → Int → Int → Int → Option (jS × Int) := Classical.choose (⟨dm_X43_become, rfl⟩ : ∃ f, f = dm_X43_become)
theorem em_X43_become : m_X43_become = dm_X43_become := Classical.choose_spec (⟨dm_X43_become, rfl⟩ : ∃ f, f = dm_X43_become)
def du_X43_reckoned_161 (s : jS) (x1 x2 : Int) : Option (Int) :=
  some (I_shr x1 (I_and x2 31))
noncomputable def u_X43_reckoned_161 : jS → Int → Int → Option (Int) := Classical.choose (⟨du_X43_reckoned_161, rfl⟩ : ∃ f, f = du_X43_reckoned_161)
theorem eu_X43_reckoned_161 : u_X43_reckoned_161 = du_X43_reckoned_161 := Classical.choose_spec (⟨du_X43_reckoned_161, rfl⟩ : ∃ f, f = du_X43_reckoned_161)
def du_X43_reckoned_154 (s : jS) (x1 x2 : Int) : Option (Int) :=
  some (I_ushr x1 (I_and x2 31))
noncomputable def u_X43_reckoned_154 : jS → Int → Int → Option (Int) := Classical.choose (⟨du_X43_reckoned_154, rfl⟩ : ∃ f, f = du_X43_reckoned_154)
theorem eu_X43_reckoned_154 : u_X43_reckoned_154 = du_X43_reckoned_154 := Classical.choose_spec (⟨du_X43_reckoned_154, rfl⟩ : ∃ f, f = du_X43_reckoned_154)
def du_X43_reckoned_147 (s : jS) (x1 x2 : Int) : Option (Int) :=
  some (I_shl x1 (I_and x2 31))
noncomputable def u_X43_reckoned_147 : jS → Int → Int → Option (Int) := Classical.choose (⟨du_X43_reckoned_147, rfl⟩ : ∃ f, f = du_X43_reckoned_147)
theorem eu_X43_reckoned_147 : u_X43_reckoned_147 = du_X43_reckoned_147 := Classical.choose_spec (⟨du_X43_reckoned_147, rfl⟩ : ∃ f, f = du_X43_reckoned_147)
def du_X43_reckoned_143 (s : jS) (x1 x2 : Int) : Option (Int) :=
  some (I_and x1 x2)
noncomputable def u_X43_reckoned_143 : jS → Int → Int → Option (Int) := Classical.choose (⟨du_X43_reckoned_143, rfl⟩ : ∃ f, f = du_X43_reckoned_143)
theorem eu_X43_reckoned_143 : u_X43_reckoned_143 = du_X43_reckoned_143 := Classical.choose_spec (⟨du_X43_reckoned_143, rfl⟩ : ∃ f, f = du_X43_reckoned_143)
def du_X43_reckoned_139 (s : jS) (x1 x2 : Int) : Option (Int) :=
  some (I_or x1 x2)
noncomputable def u_X43_reckoned_139 : jS → Int → Int → Option (Int) := Classical.choose (⟨du_X43_reckoned_139, rfl⟩ : ∃ f, f = du_X43_reckoned_139)
theorem eu_X43_reckoned_139 : u_X43_reckoned_139 = du_X43_reckoned_139 := Classical.choose_spec (⟨du_X43_reckoned_139, rfl⟩ : ∃ f, f = du_X43_reckoned_139)
def du_X43_reckoned_135 (s : jS) (x1 x2 : Int) : Option (Int) :=
  some (I_xor x1 x2)
noncomputable def u_X43_reckoned_135 : jS → Int → Int → Option (Int) := Classical.choose (⟨du_X43_reckoned_135, rfl⟩ : ∃ f, f = du_X43_reckoned_135)
theorem eu_X43_reckoned_135 : u_X43_reckoned_135 = du_X43_reckoned_135 := Classical.choose_spec (⟨du_X43_reckoned_135, rfl⟩ : ∃ f, f = du_X43_reckoned_135)
def du_X43_reckoned_131 (s : jS) (y0 : Int) : Option (Int) :=
  (m_X43_truth s y0).bind fun v1 =>
  some v1
noncomputable def u_X43_reckoned_131 : jS → Int → Option (Int) := Classical.choose (⟨du_X43_reckoned_131, rfl⟩ : ∃ f, f = du_X43_reckoned_131)
theorem eu_X43_reckoned_131 : u_X43_reckoned_131 = du_X43_reckoned_131 := Classical.choose_spec (⟨du_X43_reckoned_131, rfl⟩ : ∃ f, f = du_X43_reckoned_131)
def du_X43_reckoned_114 (s : jS) (x1 x2 : Int) : Option (Int) :=
  (m_X43_bare s x1).bind fun v1 =>
  (m_X43_bare s x2).bind fun v2 =>
  if (L_cmp v1 v2) < 0 then
    u_X43_reckoned_131 s 1
  else
    u_X43_reckoned_131 s 0
noncomputable def u_X43_reckoned_114 : jS → Int → Int → Option (Int) := Classical.choose (⟨du_X43_reckoned_114, rfl⟩ : ∃ f, f = du_X43_reckoned_114)
theorem eu_X43_reckoned_114 : u_X43_reckoned_114 = du_X43_reckoned_114 := Classical.choose_spec (⟨du_X43_reckoned_114, rfl⟩ : ∃ f, f = du_X43_reckoned_114)
def du_X43_reckoned_110 (s : jS) (y0 : Int) : Option (Int) :=
  (m_X43_truth s y0).bind fun v1 =>
  some v1
noncomputable def u_X43_reckoned_110 : jS → Int → Option (Int) := Classical.choose (⟨du_X43_reckoned_110, rfl⟩ : ∃ f, f = du_X43_reckoned_110)
theorem eu_X43_reckoned_110 : u_X43_reckoned_110 = du_X43_reckoned_110 := Classical.choose_spec (⟨du_X43_reckoned_110, rfl⟩ : ∃ f, f = du_X43_reckoned_110)
def du_X43_reckoned_100 (s : jS) (x1 x2 : Int) : Option (Int) :=
  if x1 < x2 then
    u_X43_reckoned_110 s 1
  else
    u_X43_reckoned_110 s 0
noncomputable def u_X43_reckoned_100 : jS → Int → Int → Option (Int) := Classical.choose (⟨du_X43_reckoned_100, rfl⟩ : ∃ f, f = du_X43_reckoned_100)
theorem eu_X43_reckoned_100 : u_X43_reckoned_100 = du_X43_reckoned_100 := Classical.choose_spec (⟨du_X43_reckoned_100, rfl⟩ : ∃ f, f = du_X43_reckoned_100)
def du_X43_reckoned_92 (s : jS) (x1 x2 : Int) : Option (Int) :=
  some (W32 (x1 + x2))
noncomputable def u_X43_reckoned_92 : jS → Int → Int → Option (Int) := Classical.choose (⟨du_X43_reckoned_92, rfl⟩ : ∃ f, f = du_X43_reckoned_92)
theorem eu_X43_reckoned_92 : u_X43_reckoned_92 = du_X43_reckoned_92 := Classical.choose_spec (⟨du_X43_reckoned_92, rfl⟩ : ∃ f, f = du_X43_reckoned_92)
def dm_X43_reckoned (s : jS) (x0 x1 x2 : Int) : Option (Int) :=
  if x0 = 18 then
    u_X43_reckoned_92 s x1 x2
  else
  if x0 = 19 then
    u_X43_reckoned_100 s x1 x2
  else
  if x0 = 20 then
    u_X43_reckoned_114 s x1 x2
  else
  if x0 = 21 then
    u_X43_reckoned_135 s x1 x2
  else
  if x0 = 22 then
    u_X43_reckoned_139 s x1 x2
  else
  if x0 = 23 then
    u_X43_reckoned_143 s x1 x2
  else
  if x0 = 24 then
    u_X43_reckoned_147 s x1 x2
  else
  if x0 = 25 then
    u_X43_reckoned_154 s x1 x2
  else
  if x0 = 26 then
    u_X43_reckoned_161 s x1 x2
  else
  if x0 = 27 then
    u_X43_reckoned_92 s x1 x2
  else
  if x0 = 28 then
    some (W32 (x1 - x2))
  else
  if x0 = 29 then
    u_X43_reckoned_147 s x1 x2
  else
  if x0 = 30 then
    u_X43_reckoned_100 s x1 x2
  else
  if x0 = 31 then
    u_X43_reckoned_114 s x1 x2
  else
  if x0 = 32 then
    u_X43_reckoned_135 s x1 x2
  else
  if x0 = 33 then
    u_X43_reckoned_154 s x1 x2
  else
  if x0 = 34 then
    u_X43_reckoned_161 s x1 x2
  else
  if x0 = 35 then
    u_X43_reckoned_139 s x1 x2
  else
  if x0 = 36 then
    u_X43_reckoned_143 s x1 x2
  else
  (m_X43_multiplied s x0 x1 x2).bind fun v1 =>
  some v1
noncomputable def m_X43_reckoned : jS → Int → Int → Int → Option (Int) := Classical.choose (⟨dm_X43_reckoned, rfl⟩ : ∃ f, f = dm_X43_reckoned)
theorem em_X43_reckoned : m_X43_reckoned = dm_X43_reckoned := Classical.choose_spec (⟨dm_X43_reckoned, rfl⟩ : ∃ f, f = dm_X43_reckoned)
def du_X43_serve_237 (s : jS) (x0 : Int) : Option (jS × Int) :=
  (m_X43_fail s x0 7 (jf s 47 x0 11)).bind fun q1 =>
  some (q1.1, 0)
noncomputable def u_X43_serve_237 : jS → Int → Option (jS × Int) := Classical.choose (⟨du_X43_serve_237, rfl⟩ : ∃ f, f = du_X43_serve_237)
theorem eu_X43_serve_237 : u_X43_serve_237 = du_X43_serve_237 := Classical.choose_spec (⟨du_X43_serve_237, rfl⟩ : ∃ f, f = du_X43_serve_237)
def du_X43_serve_189 (s : jS) (x0 x2 y0 y1 : Int) : Option (jS × Int) :=
  jls (jp s 47 y1 14 y0) fun s1 =>
  (m_X43_become s1 x0 10 x2).bind fun q2 =>
  some (q2.1, 0)
noncomputable def u_X43_serve_189 : jS → Int → Int → Int → Int → Option (jS × Int) := Classical.choose (⟨du_X43_serve_189, rfl⟩ : ∃ f, f = du_X43_serve_189)
theorem eu_X43_serve_189 : u_X43_serve_189 = du_X43_serve_189 := Classical.choose_spec (⟨du_X43_serve_189, rfl⟩ : ∃ f, f = du_X43_serve_189)
def du_X43_serve_163 (s : jS) (x0 y0 : Int) : Option (jS × Int) :=
  if (jf s 47 x0 14) < (jf s 47 x0 13) then
    u_X43_serve_189 s x0 y0 (W32 ((jf s 47 x0 14) + 1)) x0
  else
    u_X43_serve_189 s x0 y0 (jf s 47 x0 14) x0
noncomputable def u_X43_serve_163 : jS → Int → Int → Option (jS × Int) := Classical.choose (⟨du_X43_serve_163, rfl⟩ : ∃ f, f = du_X43_serve_163)
theorem eu_X43_serve_163 : u_X43_serve_163 = du_X43_serve_163 := Classical.choose_spec (⟨du_X43_serve_163, rfl⟩ : ∃ f, f = du_X43_serve_163)
def du_X43_serve_133 (s : jS) (y0 y1 y2 : Int) : Option (jS × Int) :=
  (m_X43_become s y2 y1 y0).bind fun q1 =>
  some (q1.1, 0)
noncomputable def u_X43_serve_133 : jS → Int → Int → Int → Option (jS × Int) := Classical.choose (⟨du_X43_serve_133, rfl⟩ : ∃ f, f = du_X43_serve_133)
theorem eu_X43_serve_133 : u_X43_serve_133 = du_X43_serve_133 := Classical.choose_spec (⟨du_X43_serve_133, rfl⟩ : ∃ f, f = du_X43_serve_133)
def du_X43_serve_118 (s : jS) (x0 x2 : Int) : Option (jS × Int) :=
  if x2 = 0 then
    u_X43_serve_133 s (-1) 10 x0
  else
    u_X43_serve_133 s (jf s 47 x0 16) 10 x0
noncomputable def u_X43_serve_118 : jS → Int → Int → Option (jS × Int) := Classical.choose (⟨du_X43_serve_118, rfl⟩ : ∃ f, f = du_X43_serve_118)
theorem eu_X43_serve_118 : u_X43_serve_118 = du_X43_serve_118 := Classical.choose_spec (⟨du_X43_serve_118, rfl⟩ : ∃ f, f = du_X43_serve_118)
def du_X43_serve_83 (s : jS) (x0 y0 : Int) : Option (jS × Int) :=
  if y0 = 0 then
    u_X43_serve_118 s x0 y0
  else
    (jlt s 1000 (x0 + 9) 32 10).bind fun v1 =>
    (jst s 1000 (x0 + 11) 2000 (jf s 47 x0 16) (I_and v1 255)).bind fun s2 =>
    jls (jp s2 47 x0 16 (W32 ((jf s2 47 x0 16) + 1))) fun s3 =>
    u_X43_serve_118 s3 x0 y0
noncomputable def u_X43_serve_83 : jS → Int → Int → Option (jS × Int) := Classical.choose (⟨du_X43_serve_83, rfl⟩ : ∃ f, f = du_X43_serve_83)
theorem eu_X43_serve_83 : u_X43_serve_83 = du_X43_serve_83 := Classical.choose_spec (⟨du_X43_serve_83, rfl⟩ : ∃ f, f = du_X43_serve_83)
def dm_X43_serve (s : jS) (x0 : Int) : Option (jS × Int) :=
  (jlt s 1000 (x0 + 9) 32 17).bind fun v1 =>
  if v1 = 1 then
    if (jf s 47 x0 16) < 2000 then
      u_X43_serve_83 s x0 1
    else
      u_X43_serve_83 s x0 0
  else
  if v1 = 2 then
    if (jf s 47 x0 14) < (jf s 47 x0 13) then
      (jlt s 1000 (x0 + 10) 1000 (jf s 47 x0 14)).bind fun v2 =>
      u_X43_serve_163 s x0 v2
    else
      u_X43_serve_163 s x0 (-1)
  else
  if v1 = 3 then
    (m_X43_become s x0 10 (jf s 47 x0 20)).bind fun q3 =>
    some (q3.1, 0)
  else
  if v1 = 4 then
    u_X43_serve_237 s x0
  else
  if v1 = 5 then
    u_X43_serve_237 s x0
  else
  if v1 = 6 then
    u_X43_serve_237 s x0
  else
  if v1 = 7 then
    u_X43_serve_237 s x0
  else
  if v1 = 8 then
    u_X43_serve_237 s x0
  else
  if v1 = 9 then
    u_X43_serve_237 s x0
  else
  if v1 = 10 then
    (jlt s 1000 (x0 + 9) 32 10).bind fun v4 =>
    jls (jp s 47 x0 19 v4) fun s5 =>
    (m_X43_fail s5 x0 8 (jf s5 47 x0 11)).bind fun q6 =>
    some (q6.1, 0)
  else
  u_X43_serve_237 s x0
noncomputable def m_X43_serve : jS → Int → Option (jS × Int) := Classical.choose (⟨dm_X43_serve, rfl⟩ : ∃ f, f = dm_X43_serve)
theorem em_X43_serve : m_X43_serve = dm_X43_serve := Classical.choose_spec (⟨dm_X43_serve, rfl⟩ : ∃ f, f = dm_X43_serve)
def dm_X37_feed (s : jS) (x0 x1 x2 x3 x4 x5 : Int) : Option (jS × Int) :=
  jls (jp s 41 x0 4 0) fun s1 =>
  (m_X39_feed s1 (x0 + 8) x1 x2 x3 x4 x5).bind fun q2 =>
  some (q2.1, 0)
noncomputable def m_X37_feed : jS → Int → Int → Int → Int → Int → Int → Option (jS × Int) := Classical.choose (⟨dm_X37_feed, rfl⟩ : ∃ f, f = dm_X37_feed)
theorem em_X37_feed : m_X37_feed = dm_X37_feed := Classical.choose_spec (⟨dm_X37_feed, rfl⟩ : ∃ f, f = dm_X37_feed)
def dm_X37_newSymbol (s : jS) (x0 x1 : Int) : Option (jS × Int) :=
  if (jf s 41 x0 12) = 100 then
    (m_X37_fail s x0 18).bind fun q1 =>
    some (q1.1, (-1))
  else
    jls (jp s 41 x0 12 (W32 ((jf s 41 x0 12) + 1))) fun s2 =>
    (jst s2 1000 (x0 + 143) 100 (jf s 41 x0 12) x1).bind fun s3 =>
    (jst s3 1000 (x0 + 144) 100 (jf s 41 x0 12) (-2)).bind fun s4 =>
    (jst s4 1000 (x0 + 145) 100 (jf s 41 x0 12) 0).bind fun s5 =>
    (jst s5 1000 (x0 + 146) 100 (jf s 41 x0 12) 0).bind fun s6 =>
    (jst s6 1000 (x0 + 147) 100 (jf s 41 x0 12) 0).bind fun s7 =>
    some (s7, jf s 41 x0 12)
noncomputable def m_X37_newSymbol : jS → Int → Int → Option (jS × Int) := Classical.choose (⟨dm_X37_newSymbol, rfl⟩ : ∃ f, f = dm_X37_newSymbol)
theorem em_X37_newSymbol : m_X37_newSymbol = dm_X37_newSymbol := Classical.choose_spec (⟨dm_X37_newSymbol, rfl⟩ : ∃ f, f = dm_X37_newSymbol)
def dm_X37_newHidden (s : jS) (x0 : Int) : Option (jS × Int) :=
  (m_X37_newSymbol s x0 (W32 ((-2) - (jf s 41 x0 19)))).bind fun q1 =>
  if q1.2 = (-1) then
    some (q1.1, q1.2)
  else
    jls (jp q1.1 41 x0 19 (W32 ((jf q1.1 41 x0 19) + 1))) fun s2 =>
    some (s2, q1.2)
noncomputable def m_X37_newHidden : jS → Int → Option (jS × Int) := Classical.choose (⟨dm_X37_newHidden, rfl⟩ : ∃ f, f = dm_X37_newHidden)
theorem em_X37_newHidden : m_X37_newHidden = dm_X37_newHidden := Classical.choose_spec (⟨dm_X37_newHidden, rfl⟩ : ∃ f, f = dm_X37_newHidden)
def du_X37_wordOf_839 (s : jS) (x2 x4 : Int) : Option (jS × Int) :=
  if (L_cmp x4 0) = 0 then
    if (L_cmp x2 1952541036) = 0 then
      some (s, 224)
    else
      some (s, (-1))
  else
    some (s, (-1))
noncomputable def u_X37_wordOf_839 : jS → Int → Int → Option (jS × Int) := Classical.choose (⟨du_X37_wordOf_839, rfl⟩ : ∃ f, f = du_X37_wordOf_839)
theorem eu_X37_wordOf_839 : u_X37_wordOf_839 = du_X37_wordOf_839 := Classical.choose_spec (⟨du_X37_wordOf_839, rfl⟩ : ∃ f, f = du_X37_wordOf_839)
def du_X37_wordOf_820 (s : jS) (x2 x4 : Int) : Option (jS × Int) :=
  if (L_cmp x4 0) = 0 then
    if (L_cmp x2 1667329132) = 0 then
      some (s, 223)
    else
      u_X37_wordOf_839 s x2 x4
  else
    u_X37_wordOf_839 s x2 x4
noncomputable def u_X37_wordOf_820 : jS → Int → Int → Option (jS × Int) := Classical.choose (⟨du_X37_wordOf_820, rfl⟩ : ∃ f, f = du_X37_wordOf_820)
theorem eu_X37_wordOf_820 : u_X37_wordOf_820 = du_X37_wordOf_820 := Classical.choose_spec (⟨du_X37_wordOf_820, rfl⟩ : ∃ f, f = du_X37_wordOf_820)
def du_X37_wordOf_801 (s : jS) (x2 x4 : Int) : Option (jS × Int) :=
  if (L_cmp x4 0) = 0 then
    if (L_cmp x2 7497076) = 0 then
      some (s, 222)
    else
      u_X37_wordOf_820 s x2 x4
  else
    u_X37_wordOf_820 s x2 x4
noncomputable def u_X37_wordOf_801 : jS → Int → Int → Option (jS × Int) := Classical.choose (⟨du_X37_wordOf_801, rfl⟩ : ∃ f, f = du_X37_wordOf_801)
theorem eu_X37_wordOf_801 : u_X37_wordOf_801 = du_X37_wordOf_801 := Classical.choose_spec (⟨du_X37_wordOf_801, rfl⟩ : ∃ f, f = du_X37_wordOf_801)
def du_X37_wordOf_782 (s : jS) (x2 x4 : Int) : Option (jS × Int) :=
  if (L_cmp x4 0) = 0 then
    if (L_cmp x2 27250) = 0 then
      some (s, 221)
    else
      u_X37_wordOf_801 s x2 x4
  else
    u_X37_wordOf_801 s x2 x4
noncomputable def u_X37_wordOf_782 : jS → Int → Int → Option (jS × Int) := Classical.choose (⟨du_X37_wordOf_782, rfl⟩ : ∃ f, f = du_X37_wordOf_782)
theorem eu_X37_wordOf_782 : u_X37_wordOf_782 = du_X37_wordOf_782 := Classical.choose_spec (⟨du_X37_wordOf_782, rfl⟩ : ∃ f, f = du_X37_wordOf_782)
def du_X37_wordOf_763 (s : jS) (x2 x4 : Int) : Option (jS × Int) :=
  if (L_cmp x4 0) = 0 then
    if (L_cmp x2 106) = 0 then
      some (s, 220)
    else
      u_X37_wordOf_782 s x2 x4
  else
    u_X37_wordOf_782 s x2 x4
noncomputable def u_X37_wordOf_763 : jS → Int → Int → Option (jS × Int) := Classical.choose (⟨du_X37_wordOf_763, rfl⟩ : ∃ f, f = du_X37_wordOf_763)
theorem eu_X37_wordOf_763 : u_X37_wordOf_763 = du_X37_wordOf_763 := Classical.choose_spec (⟨du_X37_wordOf_763, rfl⟩ : ∃ f, f = du_X37_wordOf_763)
def du_X37_wordOf_744 (s : jS) (x2 x4 : Int) : Option (jS × Int) :=
  if (L_cmp x4 0) = 0 then
    if (L_cmp x2 1651271029) = 0 then
      some (s, 219)
    else
      u_X37_wordOf_763 s x2 x4
  else
    u_X37_wordOf_763 s x2 x4
noncomputable def u_X37_wordOf_744 : jS → Int → Int → Option (jS × Int) := Classical.choose (⟨du_X37_wordOf_744, rfl⟩ : ∃ f, f = du_X37_wordOf_744)
theorem eu_X37_wordOf_744 : u_X37_wordOf_744 = du_X37_wordOf_744 := Classical.choose_spec (⟨du_X37_wordOf_744, rfl⟩ : ∃ f, f = du_X37_wordOf_744)
def du_X37_wordOf_725 (s : jS) (x2 x4 : Int) : Option (jS × Int) :=
  if (L_cmp x4 0) = 0 then
    if (L_cmp x2 1650947189) = 0 then
      some (s, 218)
    else
      u_X37_wordOf_744 s x2 x4
  else
    u_X37_wordOf_744 s x2 x4
noncomputable def u_X37_wordOf_725 : jS → Int → Int → Option (jS × Int) := Classical.choose (⟨du_X37_wordOf_725, rfl⟩ : ∃ f, f = du_X37_wordOf_725)
theorem eu_X37_wordOf_725 : u_X37_wordOf_725 = du_X37_wordOf_725 := Classical.choose_spec (⟨du_X37_wordOf_725, rfl⟩ : ∃ f, f = du_X37_wordOf_725)
def du_X37_wordOf_706 (s : jS) (x2 x4 : Int) : Option (jS × Int) :=
  if (L_cmp x4 0) = 0 then
    if (L_cmp x2 6450277) = 0 then
      some (s, 217)
    else
      u_X37_wordOf_725 s x2 x4
  else
    u_X37_wordOf_725 s x2 x4
noncomputable def u_X37_wordOf_706 : jS → Int → Int → Option (jS × Int) := Classical.choose (⟨du_X37_wordOf_706, rfl⟩ : ∃ f, f = du_X37_wordOf_706)
theorem eu_X37_wordOf_706 : u_X37_wordOf_706 = du_X37_wordOf_706 := Classical.choose_spec (⟨du_X37_wordOf_706, rfl⟩ : ∃ f, f = du_X37_wordOf_706)
def du_X37_wordOf_687 (s : jS) (x2 x4 : Int) : Option (jS × Int) :=
  if (L_cmp x4 0) = 0 then
    if (L_cmp x2 6449012) = 0 then
      some (s, 216)
    else
      u_X37_wordOf_706 s x2 x4
  else
    u_X37_wordOf_706 s x2 x4
noncomputable def u_X37_wordOf_687 : jS → Int → Int → Option (jS × Int) := Classical.choose (⟨du_X37_wordOf_687, rfl⟩ : ∃ f, f = du_X37_wordOf_687)
theorem eu_X37_wordOf_687 : u_X37_wordOf_687 = du_X37_wordOf_687 := Classical.choose_spec (⟨du_X37_wordOf_687, rfl⟩ : ∃ f, f = du_X37_wordOf_687)
def du_X37_wordOf_668 (s : jS) (x2 x4 : Int) : Option (jS × Int) :=
  if (L_cmp x4 0) = 0 then
    if (L_cmp x2 1650947194) = 0 then
      some (s, 215)
    else
      u_X37_wordOf_687 s x2 x4
  else
    u_X37_wordOf_687 s x2 x4
noncomputable def u_X37_wordOf_668 : jS → Int → Int → Option (jS × Int) := Classical.choose (⟨du_X37_wordOf_668, rfl⟩ : ∃ f, f = du_X37_wordOf_668)
theorem eu_X37_wordOf_668 : u_X37_wordOf_668 = du_X37_wordOf_668 := Classical.choose_spec (⟨du_X37_wordOf_668, rfl⟩ : ∃ f, f = du_X37_wordOf_668)
def du_X37_wordOf_649 (s : jS) (x2 x4 : Int) : Option (jS × Int) :=
  if (L_cmp x4 0) = 0 then
    if (L_cmp x2 1651271034) = 0 then
      some (s, 214)
    else
      u_X37_wordOf_668 s x2 x4
  else
    u_X37_wordOf_668 s x2 x4
noncomputable def u_X37_wordOf_649 : jS → Int → Int → Option (jS × Int) := Classical.choose (⟨du_X37_wordOf_649, rfl⟩ : ∃ f, f = du_X37_wordOf_649)
theorem eu_X37_wordOf_649 : u_X37_wordOf_649 = du_X37_wordOf_649 := Classical.choose_spec (⟨du_X37_wordOf_649, rfl⟩ : ∃ f, f = du_X37_wordOf_649)
def du_X37_wordOf_630 (s : jS) (x2 x4 : Int) : Option (jS × Int) :=
  if (L_cmp x4 0) = 0 then
    if (L_cmp x2 1651274874) = 0 then
      some (s, 213)
    else
      u_X37_wordOf_649 s x2 x4
  else
    u_X37_wordOf_649 s x2 x4
noncomputable def u_X37_wordOf_630 : jS → Int → Int → Option (jS × Int) := Classical.choose (⟨du_X37_wordOf_630, rfl⟩ : ∃ f, f = du_X37_wordOf_630)
theorem eu_X37_wordOf_630 : u_X37_wordOf_630 = du_X37_wordOf_630 := Classical.choose_spec (⟨du_X37_wordOf_630, rfl⟩ : ∃ f, f = du_X37_wordOf_630)
def du_X37_wordOf_611 (s : jS) (x2 x4 : Int) : Option (jS × Int) :=
  if (L_cmp x4 0) = 0 then
    if (L_cmp x2 1650943354) = 0 then
      some (s, 212)
    else
      u_X37_wordOf_630 s x2 x4
  else
    u_X37_wordOf_630 s x2 x4
noncomputable def u_X37_wordOf_611 : jS → Int → Int → Option (jS × Int) := Classical.choose (⟨du_X37_wordOf_611, rfl⟩ : ∃ f, f = du_X37_wordOf_611)
theorem eu_X37_wordOf_611 : u_X37_wordOf_611 = du_X37_wordOf_611 := Classical.choose_spec (⟨du_X37_wordOf_611, rfl⟩ : ∃ f, f = du_X37_wordOf_611)
def du_X37_wordOf_592 (s : jS) (x2 x4 : Int) : Option (jS × Int) :=
  if (L_cmp x4 0) = 0 then
    if (L_cmp x2 1651402106) = 0 then
      some (s, 211)
    else
      u_X37_wordOf_611 s x2 x4
  else
    u_X37_wordOf_611 s x2 x4
noncomputable def u_X37_wordOf_592 : jS → Int → Int → Option (jS × Int) := Classical.choose (⟨du_X37_wordOf_592, rfl⟩ : ∃ f, f = du_X37_wordOf_592)
theorem eu_X37_wordOf_592 : u_X37_wordOf_592 = du_X37_wordOf_592 := Classical.choose_spec (⟨du_X37_wordOf_592, rfl⟩ : ∃ f, f = du_X37_wordOf_592)
def du_X37_wordOf_573 (s : jS) (x2 x4 : Int) : Option (jS × Int) :=
  if (L_cmp x4 0) = 0 then
    if (L_cmp x2 1650815354) = 0 then
      some (s, 210)
    else
      u_X37_wordOf_592 s x2 x4
  else
    u_X37_wordOf_592 s x2 x4
noncomputable def u_X37_wordOf_573 : jS → Int → Int → Option (jS × Int) := Classical.choose (⟨du_X37_wordOf_573, rfl⟩ : ∃ f, f = du_X37_wordOf_573)
theorem eu_X37_wordOf_573 : u_X37_wordOf_573 = du_X37_wordOf_573 := Classical.choose_spec (⟨du_X37_wordOf_573, rfl⟩ : ∃ f, f = du_X37_wordOf_573)
def du_X37_wordOf_554 (s : jS) (x2 x4 : Int) : Option (jS × Int) :=
  if (L_cmp x4 0) = 0 then
    if (L_cmp x2 1936159866) = 0 then
      some (s, 209)
    else
      u_X37_wordOf_573 s x2 x4
  else
    u_X37_wordOf_573 s x2 x4
noncomputable def u_X37_wordOf_554 : jS → Int → Int → Option (jS × Int) := Classical.choose (⟨du_X37_wordOf_554, rfl⟩ : ∃ f, f = du_X37_wordOf_554)
theorem eu_X37_wordOf_554 : u_X37_wordOf_554 = du_X37_wordOf_554 := Classical.choose_spec (⟨du_X37_wordOf_554, rfl⟩ : ∃ f, f = du_X37_wordOf_554)
def du_X37_wordOf_535 (s : jS) (x2 x4 : Int) : Option (jS × Int) :=
  if (L_cmp x4 0) = 0 then
    if (L_cmp x2 1936487546) = 0 then
      some (s, 208)
    else
      u_X37_wordOf_554 s x2 x4
  else
    u_X37_wordOf_554 s x2 x4
noncomputable def u_X37_wordOf_535 : jS → Int → Int → Option (jS × Int) := Classical.choose (⟨du_X37_wordOf_535, rfl⟩ : ∃ f, f = du_X37_wordOf_535)
theorem eu_X37_wordOf_535 : u_X37_wordOf_535 = du_X37_wordOf_535 := Classical.choose_spec (⟨du_X37_wordOf_535, rfl⟩ : ∃ f, f = du_X37_wordOf_535)
def du_X37_wordOf_516 (s : jS) (x2 x4 : Int) : Option (jS × Int) :=
  if (L_cmp x4 0) = 0 then
    if (L_cmp x2 1936614778) = 0 then
      some (s, 207)
    else
      u_X37_wordOf_535 s x2 x4
  else
    u_X37_wordOf_535 s x2 x4
noncomputable def u_X37_wordOf_516 : jS → Int → Int → Option (jS × Int) := Classical.choose (⟨du_X37_wordOf_516, rfl⟩ : ∃ f, f = du_X37_wordOf_516)
theorem eu_X37_wordOf_516 : u_X37_wordOf_516 = du_X37_wordOf_516 := Classical.choose_spec (⟨du_X37_wordOf_516, rfl⟩ : ∃ f, f = du_X37_wordOf_516)
def du_X37_wordOf_497 (s : jS) (x2 x4 : Int) : Option (jS × Int) :=
  if (L_cmp x4 0) = 0 then
    if (L_cmp x2 1936028026) = 0 then
      some (s, 206)
    else
      u_X37_wordOf_516 s x2 x4
  else
    u_X37_wordOf_516 s x2 x4
noncomputable def u_X37_wordOf_497 : jS → Int → Int → Option (jS × Int) := Classical.choose (⟨du_X37_wordOf_497, rfl⟩ : ∃ f, f = du_X37_wordOf_497)
theorem eu_X37_wordOf_497 : u_X37_wordOf_497 = du_X37_wordOf_497 := Classical.choose_spec (⟨du_X37_wordOf_497, rfl⟩ : ∃ f, f = du_X37_wordOf_497)
def du_X37_wordOf_478 (s : jS) (x2 x4 : Int) : Option (jS × Int) :=
  if (L_cmp x4 0) = 0 then
    if (L_cmp x2 7234919) = 0 then
      some (s, 205)
    else
      u_X37_wordOf_497 s x2 x4
  else
    u_X37_wordOf_497 s x2 x4
noncomputable def u_X37_wordOf_478 : jS → Int → Int → Option (jS × Int) := Classical.choose (⟨du_X37_wordOf_478, rfl⟩ : ∃ f, f = du_X37_wordOf_478)
theorem eu_X37_wordOf_478 : u_X37_wordOf_478 = du_X37_wordOf_478 := Classical.choose_spec (⟨du_X37_wordOf_478, rfl⟩ : ∃ f, f = du_X37_wordOf_478)
def du_X37_wordOf_459 (s : jS) (x2 x4 : Int) : Option (jS × Int) :=
  if (L_cmp x4 0) = 0 then
    if (L_cmp x2 7237492) = 0 then
      some (s, 204)
    else
      u_X37_wordOf_478 s x2 x4
  else
    u_X37_wordOf_478 s x2 x4
noncomputable def u_X37_wordOf_459 : jS → Int → Int → Option (jS × Int) := Classical.choose (⟨du_X37_wordOf_459, rfl⟩ : ∃ f, f = du_X37_wordOf_459)
theorem eu_X37_wordOf_459 : u_X37_wordOf_459 = du_X37_wordOf_459 := Classical.choose_spec (⟨du_X37_wordOf_459, rfl⟩ : ∃ f, f = du_X37_wordOf_459)
def du_X37_wordOf_440 (s : jS) (x2 x4 : Int) : Option (jS × Int) :=
  if (L_cmp x4 0) = 0 then
    if (L_cmp x2 28022) = 0 then
      some (s, 203)
    else
      u_X37_wordOf_459 s x2 x4
  else
    u_X37_wordOf_459 s x2 x4
noncomputable def u_X37_wordOf_440 : jS → Int → Int → Option (jS × Int) := Classical.choose (⟨du_X37_wordOf_440, rfl⟩ : ∃ f, f = du_X37_wordOf_440)
theorem eu_X37_wordOf_440 : u_X37_wordOf_440 = du_X37_wordOf_440 := Classical.choose_spec (⟨du_X37_wordOf_440, rfl⟩ : ∃ f, f = du_X37_wordOf_440)
def du_X37_wordOf_421 (s : jS) (x2 x4 : Int) : Option (jS × Int) :=
  if (L_cmp x4 0) = 0 then
    if (L_cmp x2 27745) = 0 then
      some (s, 202)
    else
      u_X37_wordOf_440 s x2 x4
  else
    u_X37_wordOf_440 s x2 x4
noncomputable def u_X37_wordOf_421 : jS → Int → Int → Option (jS × Int) := Classical.choose (⟨du_X37_wordOf_421, rfl⟩ : ∃ f, f = du_X37_wordOf_421)
theorem eu_X37_wordOf_421 : u_X37_wordOf_421 = du_X37_wordOf_421 := Classical.choose_spec (⟨du_X37_wordOf_421, rfl⟩ : ∃ f, f = du_X37_wordOf_421)
def du_X37_wordOf_402 (s : jS) (x2 x4 : Int) : Option (jS × Int) :=
  if (L_cmp x4 0) = 0 then
    if (L_cmp x2 27753) = 0 then
      some (s, 201)
    else
      u_X37_wordOf_421 s x2 x4
  else
    u_X37_wordOf_421 s x2 x4
noncomputable def u_X37_wordOf_402 : jS → Int → Int → Option (jS × Int) := Classical.choose (⟨du_X37_wordOf_402, rfl⟩ : ∃ f, f = du_X37_wordOf_402)
theorem eu_X37_wordOf_402 : u_X37_wordOf_402 = du_X37_wordOf_402 := Classical.choose_spec (⟨du_X37_wordOf_402, rfl⟩ : ∃ f, f = du_X37_wordOf_402)
def du_X37_wordOf_383 (s : jS) (x2 x4 : Int) : Option (jS × Int) :=
  if (L_cmp x4 0) = 0 then
    if (L_cmp x2 7237488) = 0 then
      some (s, 200)
    else
      u_X37_wordOf_402 s x2 x4
  else
    u_X37_wordOf_402 s x2 x4
noncomputable def u_X37_wordOf_383 : jS → Int → Int → Option (jS × Int) := Classical.choose (⟨du_X37_wordOf_383, rfl⟩ : ∃ f, f = du_X37_wordOf_383)
theorem eu_X37_wordOf_383 : u_X37_wordOf_383 = du_X37_wordOf_383 := Classical.choose_spec (⟨du_X37_wordOf_383, rfl⟩ : ∃ f, f = du_X37_wordOf_383)
def du_X37_wordOf_365 (s : jS) (x2 x4 : Int) : Option (jS × Int) :=
  if (L_cmp x4 0) = 0 then
    if (L_cmp x2 13070377708777326) = 0 then
      some (s, 115)
    else
      u_X37_wordOf_383 s x2 x4
  else
    u_X37_wordOf_383 s x2 x4
noncomputable def u_X37_wordOf_365 : jS → Int → Int → Option (jS × Int) := Classical.choose (⟨du_X37_wordOf_365, rfl⟩ : ∃ f, f = du_X37_wordOf_365)
theorem eu_X37_wordOf_365 : u_X37_wordOf_365 = du_X37_wordOf_365 := Classical.choose_spec (⟨du_X37_wordOf_365, rfl⟩ : ∃ f, f = du_X37_wordOf_365)
def du_X37_wordOf_347 (s : jS) (x2 x4 : Int) : Option (jS × Int) :=
  if (L_cmp x4 0) = 0 then
    if (L_cmp x2 50995965552494) = 0 then
      some (s, 114)
    else
      u_X37_wordOf_365 s x2 x4
  else
    u_X37_wordOf_365 s x2 x4
noncomputable def u_X37_wordOf_347 : jS → Int → Int → Option (jS × Int) := Classical.choose (⟨du_X37_wordOf_347, rfl⟩ : ∃ f, f = du_X37_wordOf_347)
theorem eu_X37_wordOf_347 : u_X37_wordOf_347 = du_X37_wordOf_347 := Classical.choose_spec (⟨du_X37_wordOf_347, rfl⟩ : ∃ f, f = du_X37_wordOf_347)
def du_X37_wordOf_329 (s : jS) (x2 x4 : Int) : Option (jS × Int) :=
  if (L_cmp x4 0) = 0 then
    if (L_cmp x2 199621964399) = 0 then
      some (s, 113)
    else
      u_X37_wordOf_347 s x2 x4
  else
    u_X37_wordOf_347 s x2 x4
noncomputable def u_X37_wordOf_329 : jS → Int → Int → Option (jS × Int) := Classical.choose (⟨du_X37_wordOf_329, rfl⟩ : ∃ f, f = du_X37_wordOf_329)
theorem eu_X37_wordOf_329 : u_X37_wordOf_329 = du_X37_wordOf_329 := Classical.choose_spec (⟨du_X37_wordOf_329, rfl⟩ : ∃ f, f = du_X37_wordOf_329)
def du_X37_wordOf_311 (s : jS) (x2 x4 : Int) : Option (jS × Int) :=
  if (L_cmp x4 0) = 0 then
    if (L_cmp x2 50996082600314) = 0 then
      some (s, 112)
    else
      u_X37_wordOf_329 s x2 x4
  else
    u_X37_wordOf_329 s x2 x4
noncomputable def u_X37_wordOf_311 : jS → Int → Int → Option (jS × Int) := Classical.choose (⟨du_X37_wordOf_311, rfl⟩ : ∃ f, f = du_X37_wordOf_311)
theorem eu_X37_wordOf_311 : u_X37_wordOf_311 = du_X37_wordOf_311 := Classical.choose_spec (⟨du_X37_wordOf_311, rfl⟩ : ∃ f, f = du_X37_wordOf_311)
def du_X37_wordOf_293 (s : jS) (x2 x4 : Int) : Option (jS × Int) :=
  if (L_cmp x4 0) = 0 then
    if (L_cmp x2 50996082600297) = 0 then
      some (s, 111)
    else
      u_X37_wordOf_311 s x2 x4
  else
    u_X37_wordOf_311 s x2 x4
noncomputable def u_X37_wordOf_293 : jS → Int → Int → Option (jS × Int) := Classical.choose (⟨du_X37_wordOf_293, rfl⟩ : ∃ f, f = du_X37_wordOf_293)
theorem eu_X37_wordOf_293 : u_X37_wordOf_293 = du_X37_wordOf_293 := Classical.choose_spec (⟨du_X37_wordOf_293, rfl⟩ : ∃ f, f = du_X37_wordOf_293)
def du_X37_wordOf_275 (s : jS) (x2 x4 : Int) : Option (jS × Int) :=
  if (L_cmp x4 0) = 0 then
    if (L_cmp x2 199572288100) = 0 then
      some (s, 110)
    else
      u_X37_wordOf_293 s x2 x4
  else
    u_X37_wordOf_293 s x2 x4
noncomputable def u_X37_wordOf_275 : jS → Int → Int → Option (jS × Int) := Classical.choose (⟨du_X37_wordOf_275, rfl⟩ : ∃ f, f = du_X37_wordOf_275)
theorem eu_X37_wordOf_275 : u_X37_wordOf_275 = du_X37_wordOf_275 := Classical.choose_spec (⟨du_X37_wordOf_275, rfl⟩ : ∃ f, f = du_X37_wordOf_275)
def du_X37_wordOf_257 (s : jS) (x2 x4 : Int) : Option (jS × Int) :=
  if (L_cmp x4 0) = 0 then
    if (L_cmp x2 199319710822) = 0 then
      some (s, 109)
    else
      u_X37_wordOf_275 s x2 x4
  else
    u_X37_wordOf_275 s x2 x4
noncomputable def u_X37_wordOf_257 : jS → Int → Int → Option (jS × Int) := Classical.choose (⟨du_X37_wordOf_257, rfl⟩ : ∃ f, f = du_X37_wordOf_257)
theorem eu_X37_wordOf_257 : u_X37_wordOf_257 = du_X37_wordOf_257 := Classical.choose_spec (⟨du_X37_wordOf_257, rfl⟩ : ∃ f, f = du_X37_wordOf_257)
def du_X37_wordOf_239 (s : jS) (x2 x4 : Int) : Option (jS × Int) :=
  if (L_cmp x4 0) = 0 then
    if (L_cmp x2 199220622437) = 0 then
      some (s, 108)
    else
      u_X37_wordOf_257 s x2 x4
  else
    u_X37_wordOf_257 s x2 x4
noncomputable def u_X37_wordOf_239 : jS → Int → Int → Option (jS × Int) := Classical.choose (⟨du_X37_wordOf_239, rfl⟩ : ∃ f, f = du_X37_wordOf_239)
theorem eu_X37_wordOf_239 : u_X37_wordOf_239 = du_X37_wordOf_239 := Classical.choose_spec (⟨du_X37_wordOf_239, rfl⟩ : ∃ f, f = du_X37_wordOf_239)
def du_X37_wordOf_221 (s : jS) (x2 x4 : Int) : Option (jS × Int) :=
  if (L_cmp x4 0) = 0 then
    if (L_cmp x2 199236742509) = 0 then
      some (s, 107)
    else
      u_X37_wordOf_239 s x2 x4
  else
    u_X37_wordOf_239 s x2 x4
noncomputable def u_X37_wordOf_221 : jS → Int → Int → Option (jS × Int) := Classical.choose (⟨du_X37_wordOf_221, rfl⟩ : ∃ f, f = du_X37_wordOf_221)
theorem eu_X37_wordOf_221 : u_X37_wordOf_221 = du_X37_wordOf_221 := Classical.choose_spec (⟨du_X37_wordOf_221, rfl⟩ : ∃ f, f = du_X37_wordOf_221)
def du_X37_wordOf_203 (s : jS) (x2 x4 : Int) : Option (jS × Int) :=
  if (L_cmp x4 0) = 0 then
    if (L_cmp x2 778400117) = 0 then
      some (s, 106)
    else
      u_X37_wordOf_221 s x2 x4
  else
    u_X37_wordOf_221 s x2 x4
noncomputable def u_X37_wordOf_203 : jS → Int → Int → Option (jS × Int) := Classical.choose (⟨du_X37_wordOf_203, rfl⟩ : ∃ f, f = du_X37_wordOf_203)
theorem eu_X37_wordOf_203 : u_X37_wordOf_203 = du_X37_wordOf_203 := Classical.choose_spec (⟨du_X37_wordOf_203, rfl⟩ : ∃ f, f = du_X37_wordOf_203)
def du_X37_wordOf_185 (s : jS) (x2 x4 : Int) : Option (jS × Int) :=
  if (L_cmp x4 0) = 0 then
    if (L_cmp x2 199571628395) = 0 then
      some (s, 105)
    else
      u_X37_wordOf_203 s x2 x4
  else
    u_X37_wordOf_203 s x2 x4
noncomputable def u_X37_wordOf_185 : jS → Int → Int → Option (jS × Int) := Classical.choose (⟨du_X37_wordOf_185, rfl⟩ : ∃ f, f = du_X37_wordOf_185)
theorem eu_X37_wordOf_185 : u_X37_wordOf_185 = du_X37_wordOf_185 := Classical.choose_spec (⟨du_X37_wordOf_185, rfl⟩ : ∃ f, f = du_X37_wordOf_185)
def du_X37_wordOf_167 (s : jS) (x2 x4 : Int) : Option (jS × Int) :=
  if (L_cmp x4 0) = 0 then
    if (L_cmp x2 51021735748204) = 0 then
      some (s, 104)
    else
      u_X37_wordOf_185 s x2 x4
  else
    u_X37_wordOf_185 s x2 x4
noncomputable def u_X37_wordOf_167 : jS → Int → Int → Option (jS × Int) := Classical.choose (⟨du_X37_wordOf_167, rfl⟩ : ∃ f, f = du_X37_wordOf_167)
theorem eu_X37_wordOf_167 : u_X37_wordOf_167 = du_X37_wordOf_167 := Classical.choose_spec (⟨du_X37_wordOf_167, rfl⟩ : ∃ f, f = du_X37_wordOf_167)
def du_X37_wordOf_149 (s : jS) (x2 x4 : Int) : Option (jS × Int) :=
  if (L_cmp x4 0) = 0 then
    if (L_cmp x2 778204019) = 0 then
      some (s, 103)
    else
      u_X37_wordOf_167 s x2 x4
  else
    u_X37_wordOf_167 s x2 x4
noncomputable def u_X37_wordOf_149 : jS → Int → Int → Option (jS × Int) := Classical.choose (⟨du_X37_wordOf_149, rfl⟩ : ∃ f, f = du_X37_wordOf_149)
theorem eu_X37_wordOf_149 : u_X37_wordOf_149 = du_X37_wordOf_149 := Classical.choose_spec (⟨du_X37_wordOf_149, rfl⟩ : ∃ f, f = du_X37_wordOf_149)
def du_X37_wordOf_131 (s : jS) (x2 x4 : Int) : Option (jS × Int) :=
  if (L_cmp x4 0) = 0 then
    if (L_cmp x2 199252604001) = 0 then
      some (s, 102)
    else
      u_X37_wordOf_149 s x2 x4
  else
    u_X37_wordOf_149 s x2 x4
noncomputable def u_X37_wordOf_131 : jS → Int → Int → Option (jS × Int) := Classical.choose (⟨du_X37_wordOf_131, rfl⟩ : ∃ f, f = du_X37_wordOf_131)
theorem eu_X37_wordOf_131 : u_X37_wordOf_131 = du_X37_wordOf_131 := Classical.choose_spec (⟨du_X37_wordOf_131, rfl⟩ : ∃ f, f = du_X37_wordOf_131)
def du_X37_wordOf_113 (s : jS) (x2 x4 : Int) : Option (jS × Int) :=
  if (L_cmp x4 0) = 0 then
    if (L_cmp x2 13073671679734881) = 0 then
      some (s, 101)
    else
      u_X37_wordOf_131 s x2 x4
  else
    u_X37_wordOf_131 s x2 x4
noncomputable def u_X37_wordOf_113 : jS → Int → Int → Option (jS × Int) := Classical.choose (⟨du_X37_wordOf_113, rfl⟩ : ∃ f, f = du_X37_wordOf_113)
theorem eu_X37_wordOf_113 : u_X37_wordOf_113 = du_X37_wordOf_113 := Classical.choose_spec (⟨du_X37_wordOf_113, rfl⟩ : ∃ f, f = du_X37_wordOf_113)
def du_X37_wordOf_74 (s : jS) (x0 x2 x4 : Int) : Option (jS × Int) :=
  (m_X38_named s (x0 + 4) x2 x4).bind fun q1 =>
  if q1.2 = (-1) then
    if (L_cmp x4 0) = 0 then
      if (L_cmp x2 199521302644) = 0 then
        some (q1.1, 100)
      else
        u_X37_wordOf_113 q1.1 x2 x4
    else
      u_X37_wordOf_113 q1.1 x2 x4
  else
    some (q1.1, q1.2)
noncomputable def u_X37_wordOf_74 : jS → Int → Int → Int → Option (jS × Int) := Classical.choose (⟨du_X37_wordOf_74, rfl⟩ : ∃ f, f = du_X37_wordOf_74)
theorem eu_X37_wordOf_74 : u_X37_wordOf_74 = du_X37_wordOf_74 := Classical.choose_spec (⟨du_X37_wordOf_74, rfl⟩ : ∃ f, f = du_X37_wordOf_74)
def du_X37_wordOf_68 (s : jS) (x0 x1 x2 x4 x6 : Int) : Option ((jS × List Int) ⊕ (jS × Int)) :=
  some (.inl (s, [x0, x1, x2, x4, W32 (x6 + 1)]))
noncomputable def u_X37_wordOf_68 : jS → Int → Int → Int → Int → Int → Option ((jS × List Int) ⊕ (jS × Int)) := Classical.choose (⟨du_X37_wordOf_68, rfl⟩ : ∃ f, f = du_X37_wordOf_68)
theorem eu_X37_wordOf_68 : u_X37_wordOf_68 = du_X37_wordOf_68 := Classical.choose_spec (⟨du_X37_wordOf_68, rfl⟩ : ∃ f, f = du_X37_wordOf_68)
def b_X37_wordOf_8 (s : jS) (x0 x1 x2 x4 x6 : Int) : Option ((jS × List Int) ⊕ (jS × Int)) :=
  (m_X39_name s (x0 + 8) x1 x6).bind fun q1 =>
  if q1.2 = (-1) then
    jinr (u_X37_wordOf_74 q1.1 x0 x2 x4)
  else
    if x6 < 8 then
      (m_X39_name q1.1 (x0 + 8) x1 x6).bind fun q2 =>
      jlet (L_or (L_shl x2 8) q2.2) fun v3 =>
      u_X37_wordOf_68 q2.1 x0 x1 v3 x4 x6
    else
      (m_X39_name q1.1 (x0 + 8) x1 x6).bind fun q4 =>
      jlet (L_or (L_shl x4 8) q4.2) fun v5 =>
      u_X37_wordOf_68 q4.1 x0 x1 x2 v5 x6
def du_X37_wordOf_8 (s : jS) (x0 x1 x2 x4 x6 : Int) : Option (jS × Int) := jlpW (jc5 b_X37_wordOf_8) [x0, x1, x2, x4, x6] s
noncomputable def u_X37_wordOf_8 : jS → Int → Int → Int → Int → Int → Option (jS × Int) := Classical.choose (⟨du_X37_wordOf_8, rfl⟩ : ∃ f, f = du_X37_wordOf_8)
theorem eu_X37_wordOf_8 : u_X37_wordOf_8 = du_X37_wordOf_8 := Classical.choose_spec (⟨du_X37_wordOf_8, rfl⟩ : ∃ f, f = du_X37_wordOf_8)
def dm_X37_wordOf (s : jS) (x0 x1 : Int) : Option (jS × Int) :=
  u_X37_wordOf_8 s x0 x1 0 0 0
noncomputable def m_X37_wordOf : jS → Int → Int → Option (jS × Int) := Classical.choose (⟨dm_X37_wordOf, rfl⟩ : ∃ f, f = dm_X37_wordOf)
theorem em_X37_wordOf : m_X37_wordOf = dm_X37_wordOf := Classical.choose_spec (⟨dm_X37_wordOf, rfl⟩ : ∃ f, f = dm_X37_wordOf)
def dm_X37_isSort (s : jS) (x0 x1 x2 : Int) : Option (jS × Int) :=
  if x1 < (jf s 41 x0 46) then
    (m_X37_sortOf s x0 (W32 ((jf s 41 x0 45) + x1))).bind fun q1 =>
    if q1.2 = x2 then
      (m_X37_markOf q1.1 x0 (W32 ((jf q1.1 41 x0 45) + x1))).bind fun q2 =>
      if q2.2 = 0 then
        some (q2.1, Wz 1)
      else
        some (q2.1, Wz 0)
    else
      some (q1.1, Wz 0)
  else
    some (s, Wz 0)
noncomputable def m_X37_isSort : jS → Int → Int → Int → Option (jS × Int) := Classical.choose (⟨dm_X37_isSort, rfl⟩ : ∃ f, f = dm_X37_isSort)
theorem em_X37_isSort : m_X37_isSort = dm_X37_isSort := Classical.choose_spec (⟨dm_X37_isSort, rfl⟩ : ∃ f, f = dm_X37_isSort)
def du_X37_are_36 (s : jS) (x0 x1 x4 : Int) : Option (jS × Int) :=
  if x1 < 3 then
    some (s, Wz 1)
  else
    (m_X37_isSort s x0 2 x4).bind fun q1 =>
    if q1.2 = 0 then
      some (q1.1, Wz 0)
    else
      some (q1.1, Wz 1)
noncomputable def u_X37_are_36 : jS → Int → Int → Int → Option (jS × Int) := Classical.choose (⟨du_X37_are_36, rfl⟩ : ∃ f, f = du_X37_are_36)
theorem eu_X37_are_36 : u_X37_are_36 = du_X37_are_36 := Classical.choose_spec (⟨du_X37_are_36, rfl⟩ : ∃ f, f = du_X37_are_36)
def du_X37_are_22 (s : jS) (x0 x1 x3 x4 : Int) : Option (jS × Int) :=
  if x1 < 2 then
    u_X37_are_36 s x0 x1 x4
  else
    (m_X37_isSort s x0 1 x3).bind fun q1 =>
    if q1.2 = 0 then
      some (q1.1, Wz 0)
    else
      u_X37_are_36 q1.1 x0 x1 x4
noncomputable def u_X37_are_22 : jS → Int → Int → Int → Int → Option (jS × Int) := Classical.choose (⟨du_X37_are_22, rfl⟩ : ∃ f, f = du_X37_are_22)
theorem eu_X37_are_22 : u_X37_are_22 = du_X37_are_22 := Classical.choose_spec (⟨du_X37_are_22, rfl⟩ : ∃ f, f = du_X37_are_22)
def dm_X37_are (s : jS) (x0 x1 x2 x3 x4 : Int) : Option (jS × Int) :=
  if (jf s 41 x0 46) = x1 then
    if x1 < 1 then
      u_X37_are_22 s x0 x1 x3 x4
    else
      (m_X37_isSort s x0 0 x2).bind fun q1 =>
      if q1.2 = 0 then
        some (q1.1, Wz 0)
      else
        u_X37_are_22 q1.1 x0 x1 x3 x4
  else
    some (s, Wz 0)
noncomputable def m_X37_are : jS → Int → Int → Int → Int → Int → Option (jS × Int) := Classical.choose (⟨dm_X37_are, rfl⟩ : ∃ f, f = dm_X37_are)
theorem em_X37_are : m_X37_are = dm_X37_are := Classical.choose_spec (⟨dm_X37_are, rfl⟩ : ∃ f, f = dm_X37_are)
def du_X37_areLocalsThere_77 (s : jS) (x0 x1 : Int) : Option (jS × Int) :=
  (m_X37_placeOf s x0 x1).bind fun q1 =>
  (m_X37_fail_2 q1.1 x0 13 q1.2).bind fun q2 =>
  some (q2.1, Wz q2.2)
noncomputable def u_X37_areLocalsThere_77 : jS → Int → Int → Option (jS × Int) := Classical.choose (⟨du_X37_areLocalsThere_77, rfl⟩ : ∃ f, f = du_X37_areLocalsThere_77)
theorem eu_X37_areLocalsThere_77 : u_X37_areLocalsThere_77 = du_X37_areLocalsThere_77 := Classical.choose_spec (⟨du_X37_areLocalsThere_77, rfl⟩ : ∃ f, f = du_X37_areLocalsThere_77)
def du_X37_areLocalsThere_89 (s : jS) (x0 x1 x2 x3 x4 : Int) : Option ((jS × List Int) ⊕ (jS × Int)) :=
  some (.inl (s, [x0, x1, x2, x3, W32 (x4 + 1)]))
noncomputable def u_X37_areLocalsThere_89 : jS → Int → Int → Int → Int → Int → Option ((jS × List Int) ⊕ (jS × Int)) := Classical.choose (⟨du_X37_areLocalsThere_89, rfl⟩ : ∃ f, f = du_X37_areLocalsThere_89)
theorem eu_X37_areLocalsThere_89 : u_X37_areLocalsThere_89 = du_X37_areLocalsThere_89 := Classical.choose_spec (⟨du_X37_areLocalsThere_89, rfl⟩ : ∃ f, f = du_X37_areLocalsThere_89)
def b_X37_areLocalsThere_23 (s : jS) (x0 x1 x2 x3 x4 : Int) : Option ((jS × List Int) ⊕ (jS × Int)) :=
  if x4 < (W32 (x2 + x3)) then
    (m_X39_item s (x0 + 8) x4 1).bind fun q1 =>
    (m_X39_item q1.1 (x0 + 8) x4 0).bind fun q2 =>
    if q2.2 = 2 then
      (jdv 2 (I_rem q1.2 2)).bind fun v3 =>
      if v3 = 0 then
        (jdv 2 (I_div q1.2 2)).bind fun v4 =>
        (jlt q2.1 1000 (x0 + 149) 10 v4).bind fun v5 =>
        if v5 = (-1) then
          jinr (u_X37_areLocalsThere_77 q2.1 x0 x1)
        else
          u_X37_areLocalsThere_89 q2.1 x0 x1 x2 x3 x4
      else
        u_X37_areLocalsThere_89 q2.1 x0 x1 x2 x3 x4
    else
      u_X37_areLocalsThere_89 q2.1 x0 x1 x2 x3 x4
  else
    jinr (some (s, Wz 1))
def du_X37_areLocalsThere_23 (s : jS) (x0 x1 x2 x3 x4 : Int) : Option (jS × Int) := jlpW (jc5 b_X37_areLocalsThere_23) [x0, x1, x2, x3, x4] s
noncomputable def u_X37_areLocalsThere_23 : jS → Int → Int → Int → Int → Int → Option (jS × Int) := Classical.choose (⟨du_X37_areLocalsThere_23, rfl⟩ : ∃ f, f = du_X37_areLocalsThere_23)
theorem eu_X37_areLocalsThere_23 : u_X37_areLocalsThere_23 = du_X37_areLocalsThere_23 := Classical.choose_spec (⟨du_X37_areLocalsThere_23, rfl⟩ : ∃ f, f = du_X37_areLocalsThere_23)
def dm_X37_areLocalsThere (s : jS) (x0 x1 : Int) : Option (jS × Int) :=
  (m_X39_operand s (x0 + 8) x1 3).bind fun q1 =>
  (m_X39_operand q1.1 (x0 + 8) x1 4).bind fun q2 =>
  u_X37_areLocalsThere_23 q2.1 x0 x1 q1.2 q2.2 q1.2
noncomputable def m_X37_areLocalsThere : jS → Int → Int → Option (jS × Int) := Classical.choose (⟨dm_X37_areLocalsThere, rfl⟩ : ∃ f, f = dm_X37_areLocalsThere)
theorem em_X37_areLocalsThere : m_X37_areLocalsThere = dm_X37_areLocalsThere := Classical.choose_spec (⟨dm_X37_areLocalsThere, rfl⟩ : ∃ f, f = dm_X37_areLocalsThere)
def du_X37_localSymbol_48 (s : jS) (x0 x3 : Int) : Option (jS × Int) :=
  (jlt s 1000 (x0 + 150) 10 x3).bind fun v1 =>
  some (s, v1)
noncomputable def u_X37_localSymbol_48 : jS → Int → Int → Option (jS × Int) := Classical.choose (⟨du_X37_localSymbol_48, rfl⟩ : ∃ f, f = du_X37_localSymbol_48)
theorem eu_X37_localSymbol_48 : u_X37_localSymbol_48 = du_X37_localSymbol_48 := Classical.choose_spec (⟨du_X37_localSymbol_48, rfl⟩ : ∃ f, f = du_X37_localSymbol_48)
def dm_X37_localSymbol (s : jS) (x0 x1 x2 : Int) : Option (jS × Int) :=
  (jdv 2 (I_div x1 2)).bind fun v1 =>
  (jdv 2 (I_rem x1 2)).bind fun v2 =>
  if v2 = 0 then
    (jlt s 1000 (x0 + 149) 10 v1).bind fun v3 =>
    some (s, v3)
  else
    (jlt s 1000 (x0 + 150) 10 v1).bind fun v4 =>
    if v4 = (-1) then
      (m_X37_newHidden s x0).bind fun q5 =>
      (jst q5.1 1000 (x0 + 150) 10 v1 q5.2).bind fun s6 =>
      (m_X37_placeOf s6 x0 x2).bind fun q7 =>
      (jst q7.1 1000 (x0 + 151) 10 v1 q7.2).bind fun s8 =>
      u_X37_localSymbol_48 s8 x0 v1
    else
      u_X37_localSymbol_48 s x0 v1
noncomputable def m_X37_localSymbol : jS → Int → Int → Int → Option (jS × Int) := Classical.choose (⟨dm_X37_localSymbol, rfl⟩ : ∃ f, f = dm_X37_localSymbol)
theorem em_X37_localSymbol : m_X37_localSymbol = dm_X37_localSymbol := Classical.choose_spec (⟨dm_X37_localSymbol, rfl⟩ : ∃ f, f = dm_X37_localSymbol)
def du_X37_symbolHere_45 (s : jS) (x0 : Int) : Option (jS × Int) :=
  some (s, jf s 41 x0 48)
noncomputable def u_X37_symbolHere_45 : jS → Int → Option (jS × Int) := Classical.choose (⟨du_X37_symbolHere_45, rfl⟩ : ∃ f, f = du_X37_symbolHere_45)
theorem eu_X37_symbolHere_45 : u_X37_symbolHere_45 = du_X37_symbolHere_45 := Classical.choose_spec (⟨du_X37_symbolHere_45, rfl⟩ : ∃ f, f = du_X37_symbolHere_45)
def dm_X37_symbolHere (s : jS) (x0 : Int) : Option (jS × Int) :=
  if (jf s 41 x0 48) = (-1) then
    (m_X37_newHidden s x0).bind fun q1 =>
    jls (jp q1.1 41 x0 48 q1.2) fun s2 =>
    if (jf s2 41 x0 48) = (-1) then
      u_X37_symbolHere_45 s2 x0
    else
      (m_X37_define s2 x0 (jf s2 41 x0 48) (jf s2 41 x0 34) (jf s2 41 x0 47)).bind fun q3 =>
      u_X37_symbolHere_45 q3.1 x0
  else
    some (s, jf s 41 x0 48)
noncomputable def m_X37_symbolHere : jS → Int → Option (jS × Int) := Classical.choose (⟨dm_X37_symbolHere, rfl⟩ : ∃ f, f = dm_X37_symbolHere)
theorem em_X37_symbolHere : m_X37_symbolHere = dm_X37_symbolHere := Classical.choose_spec (⟨dm_X37_symbolHere, rfl⟩ : ∃ f, f = dm_X37_symbolHere)
def b_X37_putBytes_5 (s : jS) (x0 x1 x2 x3 x4 : Int) : Option ((jS × List Int) ⊕ (jS × Int)) :=
  if x4 < x2 then
    if x3 = 0 then
      jinr (some (s, Wz x3))
    else
      (m_X37_putByte s x0 (I_shr x1 (W32 (8 * x4)))).bind fun q1 =>
      some (.inl (q1.1, [x0, x1, x2, q1.2, W32 (x4 + 1)]))
  else
    jinr (some (s, Wz x3))
def du_X37_putBytes_5 (s : jS) (x0 x1 x2 x3 x4 : Int) : Option (jS × Int) := jlpW (jc5 b_X37_putBytes_5) [x0, x1, x2, x3, x4] s
noncomputable def u_X37_putBytes_5 : jS → Int → Int → Int → Int → Int → Option (jS × Int) := Classical.choose (⟨du_X37_putBytes_5, rfl⟩ : ∃ f, f = du_X37_putBytes_5)
theorem eu_X37_putBytes_5 : u_X37_putBytes_5 = du_X37_putBytes_5 := Classical.choose_spec (⟨du_X37_putBytes_5, rfl⟩ : ∃ f, f = du_X37_putBytes_5)
def dm_X37_putBytes (s : jS) (x0 x1 x2 : Int) : Option (jS × Int) :=
  u_X37_putBytes_5 s x0 x1 x2 1 0
noncomputable def m_X37_putBytes : jS → Int → Int → Int → Option (jS × Int) := Classical.choose (⟨dm_X37_putBytes, rfl⟩ : ∃ f, f = dm_X37_putBytes)
theorem em_X37_putBytes : m_X37_putBytes = dm_X37_putBytes := Classical.choose_spec (⟨dm_X37_putBytes, rfl⟩ : ∃ f, f = dm_X37_putBytes)
def du_X37_strings_155 (s : jS) (x0 x1 x3 : Int) : Option ((jS × List Int) ⊕ (jS × Int)) :=
  some (.inl (s, [x0, x1, W32 (x3 + 1)]))
noncomputable def u_X37_strings_155 : jS → Int → Int → Int → Option ((jS × List Int) ⊕ (jS × Int)) := Classical.choose (⟨du_X37_strings_155, rfl⟩ : ∃ f, f = du_X37_strings_155)
theorem eu_X37_strings_155 : u_X37_strings_155 = du_X37_strings_155 := Classical.choose_spec (⟨du_X37_strings_155, rfl⟩ : ∃ f, f = du_X37_strings_155)
def du_X37_strings_141 (s : jS) (x0 x1 x3 : Int) : Option ((jS × List Int) ⊕ (jS × Int)) :=
  if x1 = 0 then
    u_X37_strings_155 s x0 x1 x3
  else
    (m_X37_putByte s x0 0).bind fun q1 =>
    if q1.2 = 0 then
      jinr (some (q1.1, Wz 0))
    else
      u_X37_strings_155 q1.1 x0 x1 x3
noncomputable def u_X37_strings_141 : jS → Int → Int → Int → Option ((jS × List Int) ⊕ (jS × Int)) := Classical.choose (⟨du_X37_strings_141, rfl⟩ : ∃ f, f = du_X37_strings_141)
theorem eu_X37_strings_141 : u_X37_strings_141 = du_X37_strings_141 := Classical.choose_spec (⟨du_X37_strings_141, rfl⟩ : ∃ f, f = du_X37_strings_141)
def b_X37_strings_104 (s : jS) (x0 x1 x3 x4 x5 : Int) : Option ((jS × List Int) ⊕ ((jS × List Int) ⊕ (jS × Int))) :=
  if x5 < x4 then
    (m_X39_string s (x0 + 8) (W32 ((jf s 41 x0 45) + x3)) x5).bind fun q1 =>
    (m_X37_putByte q1.1 x0 q1.2).bind fun q2 =>
    if q2.2 = 0 then
      jinr (jinr (some (q2.1, Wz 0)))
    else
      some (.inl (q2.1, [x0, x1, x3, x4, W32 (x5 + 1)]))
  else
    jinr (u_X37_strings_141 s x0 x1 x3)
def du_X37_strings_104 (s : jS) (x0 x1 x3 x4 x5 : Int) : Option ((jS × List Int) ⊕ (jS × Int)) := jlpW (jc5 b_X37_strings_104) [x0, x1, x3, x4, x5] s
noncomputable def u_X37_strings_104 : jS → Int → Int → Int → Int → Int → Option ((jS × List Int) ⊕ (jS × Int)) := Classical.choose (⟨du_X37_strings_104, rfl⟩ : ∃ f, f = du_X37_strings_104)
theorem eu_X37_strings_104 : u_X37_strings_104 = du_X37_strings_104 := Classical.choose_spec (⟨du_X37_strings_104, rfl⟩ : ∃ f, f = du_X37_strings_104)
def b_X37_strings_76 (s : jS) (x0 x1 x3 : Int) : Option ((jS × List Int) ⊕ (jS × Int)) :=
  if x3 < (jf s 41 x0 46) then
    (m_X39_operand s (x0 + 8) (W32 ((jf s 41 x0 45) + x3)) 6).bind fun q1 =>
    u_X37_strings_104 q1.1 x0 x1 x3 q1.2 0
  else
    jinr (some (s, Wz 1))
def du_X37_strings_76 (s : jS) (x0 x1 x3 : Int) : Option (jS × Int) := jlpW (jc3 b_X37_strings_76) [x0, x1, x3] s
noncomputable def u_X37_strings_76 : jS → Int → Int → Int → Option (jS × Int) := Classical.choose (⟨du_X37_strings_76, rfl⟩ : ∃ f, f = du_X37_strings_76)
theorem eu_X37_strings_76 : u_X37_strings_76 = du_X37_strings_76 := Classical.choose_spec (⟨du_X37_strings_76, rfl⟩ : ∃ f, f = du_X37_strings_76)
def du_X37_strings_63 (s : jS) (x0 x1 x2 : Int) : Option (jS × Int) :=
  if x2 = 0 then
    (m_X37_fail s x0 12).bind fun q1 =>
    some (q1.1, Wz q1.2)
  else
    u_X37_strings_76 s x0 x1 0
noncomputable def u_X37_strings_63 : jS → Int → Int → Int → Option (jS × Int) := Classical.choose (⟨du_X37_strings_63, rfl⟩ : ∃ f, f = du_X37_strings_63)
theorem eu_X37_strings_63 : u_X37_strings_63 = du_X37_strings_63 := Classical.choose_spec (⟨du_X37_strings_63, rfl⟩ : ∃ f, f = du_X37_strings_63)
def du_X37_strings_56 (s : jS) (x0 x1 x3 y0 : Int) : Option ((jS × List Int) ⊕ (jS × Int)) :=
  some (.inl (s, [x0, x1, y0, W32 (x3 + 1)]))
noncomputable def u_X37_strings_56 : jS → Int → Int → Int → Int → Option ((jS × List Int) ⊕ (jS × Int)) := Classical.choose (⟨du_X37_strings_56, rfl⟩ : ∃ f, f = du_X37_strings_56)
theorem eu_X37_strings_56 : u_X37_strings_56 = du_X37_strings_56 := Classical.choose_spec (⟨du_X37_strings_56, rfl⟩ : ∃ f, f = du_X37_strings_56)
def du_X37_strings_55 (s : jS) (x0 x1 x3 : Int) : Option ((jS × List Int) ⊕ (jS × Int)) :=
  u_X37_strings_56 s x0 x1 x3 0
noncomputable def u_X37_strings_55 : jS → Int → Int → Int → Option ((jS × List Int) ⊕ (jS × Int)) := Classical.choose (⟨du_X37_strings_55, rfl⟩ : ∃ f, f = du_X37_strings_55)
theorem eu_X37_strings_55 : u_X37_strings_55 = du_X37_strings_55 := Classical.choose_spec (⟨du_X37_strings_55, rfl⟩ : ∃ f, f = du_X37_strings_55)
def b_X37_strings_30 (s : jS) (x0 x1 x2 x3 : Int) : Option ((jS × List Int) ⊕ (jS × Int)) :=
  if x3 < (jf s 41 x0 46) then
    if x2 = 0 then
      u_X37_strings_55 s x0 x1 x3
    else
      (m_X37_isSort s x0 x3 3).bind fun q1 =>
      if q1.2 = 0 then
        u_X37_strings_55 q1.1 x0 x1 x3
      else
        u_X37_strings_56 q1.1 x0 x1 x3 1
  else
    jinr (u_X37_strings_63 s x0 x1 x2)
def du_X37_strings_30 (s : jS) (x0 x1 x2 x3 : Int) : Option (jS × Int) := jlpW (jc4 b_X37_strings_30) [x0, x1, x2, x3] s
noncomputable def u_X37_strings_30 : jS → Int → Int → Int → Int → Option (jS × Int) := Classical.choose (⟨du_X37_strings_30, rfl⟩ : ∃ f, f = du_X37_strings_30)
theorem eu_X37_strings_30 : u_X37_strings_30 = du_X37_strings_30 := Classical.choose_spec (⟨du_X37_strings_30, rfl⟩ : ∃ f, f = du_X37_strings_30)
def du_X37_strings_27 (s : jS) (x0 x1 y0 : Int) : Option (jS × Int) :=
  u_X37_strings_30 s x0 x1 y0 0
noncomputable def u_X37_strings_27 : jS → Int → Int → Int → Option (jS × Int) := Classical.choose (⟨du_X37_strings_27, rfl⟩ : ∃ f, f = du_X37_strings_27)
theorem eu_X37_strings_27 : u_X37_strings_27 = du_X37_strings_27 := Classical.choose_spec (⟨du_X37_strings_27, rfl⟩ : ∃ f, f = du_X37_strings_27)
def dm_X37_strings (s : jS) (x0 x1 : Int) : Option (jS × Int) :=
  if (jf s 41 x0 34) = 3 then
    (m_X37_fail s x0 10).bind fun q1 =>
    some (q1.1, Wz q1.2)
  else
    if 0 < (jf s 41 x0 46) then
      u_X37_strings_27 s x0 x1 1
    else
      u_X37_strings_27 s x0 x1 0
noncomputable def m_X37_strings : jS → Int → Int → Option (jS × Int) := Classical.choose (⟨dm_X37_strings, rfl⟩ : ∃ f, f = dm_X37_strings)
theorem em_X37_strings : m_X37_strings = dm_X37_strings := Classical.choose_spec (⟨dm_X37_strings, rfl⟩ : ∃ f, f = dm_X37_strings)
def du_X37_putMoved_25 (s : jS) (x0 x2 x3 x4 x5 y0 y1 y2 : Int) : Option (jS × Int) :=
  (m_X37_putBytes s y2 y1 y0).bind fun q1 =>
  if q1.2 = 0 then
    some (q1.1, Wz 0)
  else
    (m_X37_wordMove q1.1 x0 x5 x2 x3 x4).bind fun q2 =>
    if q2.2 = 0 then
      some (q2.1, Wz 0)
    else
      some (q2.1, Wz 1)
noncomputable def u_X37_putMoved_25 : jS → Int → Int → Int → Int → Int → Int → Int → Int → Option (jS × Int) := Classical.choose (⟨du_X37_putMoved_25, rfl⟩ : ∃ f, f = du_X37_putMoved_25)
theorem eu_X37_putMoved_25 : u_X37_putMoved_25 = du_X37_putMoved_25 := Classical.choose_spec (⟨du_X37_putMoved_25, rfl⟩ : ∃ f, f = du_X37_putMoved_25)
def dm_X37_putMoved (s : jS) (x0 x1 x2 x3 x4 : Int) : Option (jS × Int) :=
  (jlt s 1000 (x0 + 153) 4 (jf s 41 x0 34)).bind fun v1 =>
  if (I_and x1 3) = 3 then
    u_X37_putMoved_25 s x0 x2 x3 x4 v1 4 x1 x0
  else
    u_X37_putMoved_25 s x0 x2 x3 x4 v1 2 x1 x0
noncomputable def m_X37_putMoved : jS → Int → Int → Int → Int → Int → Option (jS × Int) := Classical.choose (⟨dm_X37_putMoved, rfl⟩ : ∃ f, f = dm_X37_putMoved)
theorem em_X37_putMoved : m_X37_putMoved = dm_X37_putMoved := Classical.choose_spec (⟨dm_X37_putMoved, rfl⟩ : ∃ f, f = dm_X37_putMoved)
def dm_X37_isStack (s : jS) (x0 x1 : Int) : Option (jS × Int) :=
  (m_X37_isSort s x0 x1 1).bind fun q1 =>
  if q1.2 = 0 then
    some (q1.1, Wz 0)
  else
    (m_X37_registerOf q1.1 x0 (W32 ((jf q1.1 41 x0 45) + x1))).bind fun q2 =>
    if q2.2 = 2 then
      some (q2.1, Wz 1)
    else
      some (q2.1, Wz 0)
noncomputable def m_X37_isStack : jS → Int → Int → Option (jS × Int) := Classical.choose (⟨dm_X37_isStack, rfl⟩ : ∃ f, f = dm_X37_isStack)
theorem em_X37_isStack : m_X37_isStack = dm_X37_isStack := Classical.choose_spec (⟨dm_X37_isStack, rfl⟩ : ∃ f, f = dm_X37_isStack)
def dm_X37_takeRegister (s : jS) (x0 x1 x2 x3 : Int) : Option (jS × Int) :=
  (m_X37_registerOf s x0 x3).bind fun q1 =>
  (jst q1.1 1000 (x0 + 169) 4 x2 q1.2).bind fun s2 =>
  (jlt s2 1000 (x0 + 169) 4 x2).bind fun v3 =>
  (m_X38_isRegister s2 (x0 + 4) x1 x2 v3).bind fun v4 =>
  if v4 = 0 then
    (m_X37_placeOf s2 x0 x3).bind fun q5 =>
    (m_X37_fail_2 q5.1 x0 15 q5.2).bind fun q6 =>
    if q6.2 = 0 then
      some (q6.1, Wz 0)
    else
      some (q6.1, Wz 1)
  else
    some (s2, Wz 1)
noncomputable def m_X37_takeRegister : jS → Int → Int → Int → Int → Option (jS × Int) := Classical.choose (⟨dm_X37_takeRegister, rfl⟩ : ∃ f, f = dm_X37_takeRegister)
theorem em_X37_takeRegister : m_X37_takeRegister = dm_X37_takeRegister := Classical.choose_spec (⟨dm_X37_takeRegister, rfl⟩ : ∃ f, f = dm_X37_takeRegister)
def b_X37_makeObject_235 (s : jS) (x0 x1 : Int) : Option ((jS × List Int) ⊕ (jS × Int)) :=
  if x1 < (jf s 41 x0 28) then
    (jlt s 1000 (x0 + 156) 300 x1).bind fun v1 =>
    (jlt s 1000 (x0 + 157) 300 x1).bind fun v2 =>
    (jlt s 1000 (x0 + 158) 300 x1).bind fun v3 =>
    (jlt s 1000 (x0 + 159) 300 x1).bind fun v4 =>
    (jlt s 1000 (x0 + 160) 300 x1).bind fun v5 =>
    (m_X40_relocation s (x0 + 25) v1 v2 v3 v4 v5).bind fun q6 =>
    some (.inl (q6.1, [x0, W32 (x1 + 1)]))
  else
    jinr (some (s, 0))
def du_X37_makeObject_235 (s : jS) (x0 x1 : Int) : Option (jS × Int) := jlpW (jc2 b_X37_makeObject_235) [x0, x1] s
noncomputable def u_X37_makeObject_235 : jS → Int → Int → Option (jS × Int) := Classical.choose (⟨du_X37_makeObject_235, rfl⟩ : ∃ f, f = du_X37_makeObject_235)
theorem eu_X37_makeObject_235 : u_X37_makeObject_235 = du_X37_makeObject_235 := Classical.choose_spec (⟨du_X37_makeObject_235, rfl⟩ : ∃ f, f = du_X37_makeObject_235)
def du_X37_makeObject_233 (s : jS) (x0 : Int) : Option (jS × Int) :=
  u_X37_makeObject_235 s x0 0
noncomputable def u_X37_makeObject_233 : jS → Int → Option (jS × Int) := Classical.choose (⟨du_X37_makeObject_233, rfl⟩ : ∃ f, f = du_X37_makeObject_233)
theorem eu_X37_makeObject_233 : u_X37_makeObject_233 = du_X37_makeObject_233 := Classical.choose_spec (⟨du_X37_makeObject_233, rfl⟩ : ∃ f, f = du_X37_makeObject_233)
def du_X37_makeObject_209 (s : jS) (x0 x1 x3 y0 y1 : Int) : Option ((jS × List Int) ⊕ (jS × Int)) :=
  (jlt s 1000 (x0 + 145) 100 x1).bind fun v1 =>
  (jlt s 1000 (x0 + 146) 100 x1).bind fun v2 =>
  (m_X40_symbol s y1 y0 v1 v2 x3 0).bind fun q3 =>
  some (.inl (q3.1, [x0, W32 (x1 + 1)]))
noncomputable def u_X37_makeObject_209 : jS → Int → Int → Int → Int → Int → Option ((jS × List Int) ⊕ (jS × Int)) := Classical.choose (⟨du_X37_makeObject_209, rfl⟩ : ∃ f, f = du_X37_makeObject_209)
theorem eu_X37_makeObject_209 : u_X37_makeObject_209 = du_X37_makeObject_209 := Classical.choose_spec (⟨du_X37_makeObject_209, rfl⟩ : ∃ f, f = du_X37_makeObject_209)
def du_X37_makeObject_190 (s : jS) (x0 x1 x2 y0 : Int) : Option ((jS × List Int) ⊕ (jS × Int)) :=
  if x2 = 0 then
    (jlt s 1000 (x0 + 144) 100 x1).bind fun v1 =>
    u_X37_makeObject_209 s x0 x1 y0 v1 (x0 + 25)
  else
    u_X37_makeObject_209 s x0 x1 y0 (-1) (x0 + 25)
noncomputable def u_X37_makeObject_190 : jS → Int → Int → Int → Int → Option ((jS × List Int) ⊕ (jS × Int)) := Classical.choose (⟨du_X37_makeObject_190, rfl⟩ : ∃ f, f = du_X37_makeObject_190)
theorem eu_X37_makeObject_190 : u_X37_makeObject_190 = du_X37_makeObject_190 := Classical.choose_spec (⟨du_X37_makeObject_190, rfl⟩ : ∃ f, f = du_X37_makeObject_190)
def du_X37_makeObject_184 (s : jS) (x0 x1 x2 : Int) : Option ((jS × List Int) ⊕ (jS × Int)) :=
  (jlt s 1000 (x0 + 147) 100 x1).bind fun v1 =>
  u_X37_makeObject_190 s x0 x1 x2 v1
noncomputable def u_X37_makeObject_184 : jS → Int → Int → Int → Option ((jS × List Int) ⊕ (jS × Int)) := Classical.choose (⟨du_X37_makeObject_184, rfl⟩ : ∃ f, f = du_X37_makeObject_184)
theorem eu_X37_makeObject_184 : u_X37_makeObject_184 = du_X37_makeObject_184 := Classical.choose_spec (⟨du_X37_makeObject_184, rfl⟩ : ∃ f, f = du_X37_makeObject_184)
def du_X37_makeObject_166 (s : jS) (x0 x1 y0 : Int) : Option ((jS × List Int) ⊕ (jS × Int)) :=
  if y0 = 0 then
    u_X37_makeObject_184 s x0 x1 y0
  else
    (jlt s 1000 (x0 + 147) 100 x1).bind fun v1 =>
    if v1 = 0 then
      u_X37_makeObject_190 s x0 x1 y0 1
    else
      u_X37_makeObject_184 s x0 x1 y0
noncomputable def u_X37_makeObject_166 : jS → Int → Int → Int → Option ((jS × List Int) ⊕ (jS × Int)) := Classical.choose (⟨du_X37_makeObject_166, rfl⟩ : ∃ f, f = du_X37_makeObject_166)
theorem eu_X37_makeObject_166 : u_X37_makeObject_166 = du_X37_makeObject_166 := Classical.choose_spec (⟨du_X37_makeObject_166, rfl⟩ : ∃ f, f = du_X37_makeObject_166)
def b_X37_makeObject_132 (s : jS) (x0 x1 : Int) : Option ((jS × List Int) ⊕ (jS × Int)) :=
  if x1 < (jf s 41 x0 12) then
    (jlt s 1000 (x0 + 143) 100 x1).bind fun v1 =>
    (m_X37_spell s x0 v1).bind fun q2 =>
    (jlt q2.1 1000 (x0 + 144) 100 x1).bind fun v3 =>
    if v3 = (-2) then
      u_X37_makeObject_166 q2.1 x0 x1 1
    else
      u_X37_makeObject_166 q2.1 x0 x1 0
  else
    jinr (u_X37_makeObject_233 s x0)
def du_X37_makeObject_132 (s : jS) (x0 x1 : Int) : Option (jS × Int) := jlpW (jc2 b_X37_makeObject_132) [x0, x1] s
noncomputable def u_X37_makeObject_132 : jS → Int → Int → Option (jS × Int) := Classical.choose (⟨du_X37_makeObject_132, rfl⟩ : ∃ f, f = du_X37_makeObject_132)
theorem eu_X37_makeObject_132 : u_X37_makeObject_132 = du_X37_makeObject_132 := Classical.choose_spec (⟨du_X37_makeObject_132, rfl⟩ : ∃ f, f = du_X37_makeObject_132)
def du_X37_makeObject_130 (s : jS) (x0 : Int) : Option (jS × Int) :=
  u_X37_makeObject_132 s x0 0
noncomputable def u_X37_makeObject_130 : jS → Int → Option (jS × Int) := Classical.choose (⟨du_X37_makeObject_130, rfl⟩ : ∃ f, f = du_X37_makeObject_130)
theorem eu_X37_makeObject_130 : u_X37_makeObject_130 = du_X37_makeObject_130 := Classical.choose_spec (⟨du_X37_makeObject_130, rfl⟩ : ∃ f, f = du_X37_makeObject_130)
def b_X37_makeObject_102 (s : jS) (x0 x1 : Int) : Option ((jS × List Int) ⊕ (jS × Int)) :=
  if x1 < (jf s 41 x0 26) then
    (jlt s 1000 (x0 + 155) 1024 x1).bind fun v1 =>
    (m_X40_start s (x0 + 25) v1).bind fun q2 =>
    some (.inl (q2.1, [x0, W32 (x1 + 1)]))
  else
    jinr (u_X37_makeObject_130 s x0)
def du_X37_makeObject_102 (s : jS) (x0 x1 : Int) : Option (jS × Int) := jlpW (jc2 b_X37_makeObject_102) [x0, x1] s
noncomputable def u_X37_makeObject_102 : jS → Int → Int → Option (jS × Int) := Classical.choose (⟨du_X37_makeObject_102, rfl⟩ : ∃ f, f = du_X37_makeObject_102)
theorem eu_X37_makeObject_102 : u_X37_makeObject_102 = du_X37_makeObject_102 := Classical.choose_spec (⟨du_X37_makeObject_102, rfl⟩ : ∃ f, f = du_X37_makeObject_102)
def du_X37_makeObject_100 (s : jS) (x0 : Int) : Option (jS × Int) :=
  u_X37_makeObject_102 s x0 0
noncomputable def u_X37_makeObject_100 : jS → Int → Option (jS × Int) := Classical.choose (⟨du_X37_makeObject_100, rfl⟩ : ∃ f, f = du_X37_makeObject_100)
theorem eu_X37_makeObject_100 : u_X37_makeObject_100 = du_X37_makeObject_100 := Classical.choose_spec (⟨du_X37_makeObject_100, rfl⟩ : ∃ f, f = du_X37_makeObject_100)
def du_X37_makeObject_94 (s : jS) (x0 x1 : Int) : Option ((jS × List Int) ⊕ (jS × Int)) :=
  some (.inl (s, [x0, W32 (x1 + 1)]))
noncomputable def u_X37_makeObject_94 : jS → Int → Int → Option ((jS × List Int) ⊕ (jS × Int)) := Classical.choose (⟨du_X37_makeObject_94, rfl⟩ : ∃ f, f = du_X37_makeObject_94)
theorem eu_X37_makeObject_94 : u_X37_makeObject_94 = du_X37_makeObject_94 := Classical.choose_spec (⟨du_X37_makeObject_94, rfl⟩ : ∃ f, f = du_X37_makeObject_94)
def b_X37_makeObject_46 (s : jS) (x0 x1 x2 : Int) : Option ((jS × List Int) ⊕ ((jS × List Int) ⊕ (jS × Int))) :=
  (jlt s 1000 (x0 + 153) 4 x1).bind fun v1 =>
  if x2 < v1 then
    if x1 < 3 then
      (jlt s 1000 (x0 + 152) 6144 (W32 ((W32 (2048 * x1)) + x2))).bind fun v2 =>
      (jst s 1000 ((x0 + 25) + 1) 12288 (W32 ((W32 (2048 * x1)) + x2)) v2).bind fun s3 =>
      some (.inl (s3, [x0, x1, W32 (x2 + 1)]))
    else
      jinr (u_X37_makeObject_94 s x0 x1)
  else
    jinr (u_X37_makeObject_94 s x0 x1)
def du_X37_makeObject_46 (s : jS) (x0 x1 x2 : Int) : Option ((jS × List Int) ⊕ (jS × Int)) := jlpW (jc3 b_X37_makeObject_46) [x0, x1, x2] s
noncomputable def u_X37_makeObject_46 : jS → Int → Int → Int → Option ((jS × List Int) ⊕ (jS × Int)) := Classical.choose (⟨du_X37_makeObject_46, rfl⟩ : ∃ f, f = du_X37_makeObject_46)
theorem eu_X37_makeObject_46 : u_X37_makeObject_46 = du_X37_makeObject_46 := Classical.choose_spec (⟨du_X37_makeObject_46, rfl⟩ : ∃ f, f = du_X37_makeObject_46)
def b_X37_makeObject_9 (s : jS) (x0 x1 : Int) : Option ((jS × List Int) ⊕ (jS × Int)) :=
  if x1 < 4 then
    (jlt s 1000 (x0 + 153) 4 x1).bind fun v1 =>
    (jst s 1000 ((x0 + 25) + 2) 8 x1 v1).bind fun s2 =>
    (jlt s2 1000 (x0 + 154) 4 x1).bind fun v3 =>
    (jst s2 1000 ((x0 + 25) + 3) 8 x1 v3).bind fun s4 =>
    u_X37_makeObject_46 s4 x0 x1 0
  else
    jinr (u_X37_makeObject_100 s x0)
def du_X37_makeObject_9 (s : jS) (x0 x1 : Int) : Option (jS × Int) := jlpW (jc2 b_X37_makeObject_9) [x0, x1] s
noncomputable def u_X37_makeObject_9 : jS → Int → Int → Option (jS × Int) := Classical.choose (⟨du_X37_makeObject_9, rfl⟩ : ∃ f, f = du_X37_makeObject_9)
theorem eu_X37_makeObject_9 : u_X37_makeObject_9 = du_X37_makeObject_9 := Classical.choose_spec (⟨du_X37_makeObject_9, rfl⟩ : ∃ f, f = du_X37_makeObject_9)
def dm_X37_makeObject (s : jS) (x0 : Int) : Option (jS × Int) :=
  (m_X40_clear s (x0 + 25)).bind fun q1 =>
  u_X37_makeObject_9 q1.1 x0 0
noncomputable def m_X37_makeObject : jS → Int → Option (jS × Int) := Classical.choose (⟨dm_X37_makeObject, rfl⟩ : ∃ f, f = dm_X37_makeObject)
theorem em_X37_makeObject : m_X37_makeObject = dm_X37_makeObject := Classical.choose_spec (⟨dm_X37_makeObject, rfl⟩ : ∃ f, f = dm_X37_makeObject)
def du_X37_defineGlobals_311 (s : jS) (x0 : Int) : Option (jS × Int) :=
  (m_X37_isStartThere s x0).bind fun v1 =>
  if v1 = 0 then
    (m_X37_refuse s x0 5 (-1) (-1)).bind fun q2 =>
    if q2.2 = 0 then
      some (q2.1, Wz 0)
    else
      some (q2.1, Wz 1)
  else
    some (s, Wz 1)
noncomputable def u_X37_defineGlobals_311 : jS → Int → Option (jS × Int) := Classical.choose (⟨du_X37_defineGlobals_311, rfl⟩ : ∃ f, f = du_X37_defineGlobals_311)
theorem eu_X37_defineGlobals_311 : u_X37_defineGlobals_311 = du_X37_defineGlobals_311 := Classical.choose_spec (⟨du_X37_defineGlobals_311, rfl⟩ : ∃ f, f = du_X37_defineGlobals_311)
def du_X37_defineGlobals_291 (s : jS) (x0 x1 x2 : Int) : Option (jS × Int) :=
  (m_X37_refuse s x0 4 x1 x2).bind fun q1 =>
  some (q1.1, Wz q1.2)
noncomputable def u_X37_defineGlobals_291 : jS → Int → Int → Int → Option (jS × Int) := Classical.choose (⟨du_X37_defineGlobals_291, rfl⟩ : ∃ f, f = du_X37_defineGlobals_291)
theorem eu_X37_defineGlobals_291 : u_X37_defineGlobals_291 = du_X37_defineGlobals_291 := Classical.choose_spec (⟨du_X37_defineGlobals_291, rfl⟩ : ∃ f, f = du_X37_defineGlobals_291)
def du_X37_defineGlobals_305 (s : jS) (x0 x1 : Int) : Option ((jS × List Int) ⊕ (jS × Int)) :=
  some (.inl (s, [x0, W32 (x1 + 1)]))
noncomputable def u_X37_defineGlobals_305 : jS → Int → Int → Option ((jS × List Int) ⊕ (jS × Int)) := Classical.choose (⟨du_X37_defineGlobals_305, rfl⟩ : ∃ f, f = du_X37_defineGlobals_305)
theorem eu_X37_defineGlobals_305 : u_X37_defineGlobals_305 = du_X37_defineGlobals_305 := Classical.choose_spec (⟨du_X37_defineGlobals_305, rfl⟩ : ∃ f, f = du_X37_defineGlobals_305)
def du_X37_defineGlobals_299 (s : jS) (x0 x1 x2 : Int) : Option ((jS × List Int) ⊕ ((jS × List Int) ⊕ (jS × Int))) :=
  some (.inl (s, [x0, x1, W32 (x2 + 1)]))
noncomputable def u_X37_defineGlobals_299 : jS → Int → Int → Int → Option ((jS × List Int) ⊕ ((jS × List Int) ⊕ (jS × Int))) := Classical.choose (⟨du_X37_defineGlobals_299, rfl⟩ : ∃ f, f = du_X37_defineGlobals_299)
theorem eu_X37_defineGlobals_299 : u_X37_defineGlobals_299 = du_X37_defineGlobals_299 := Classical.choose_spec (⟨du_X37_defineGlobals_299, rfl⟩ : ∃ f, f = du_X37_defineGlobals_299)
def b_X37_defineGlobals_246 (s : jS) (x0 x1 x2 : Int) : Option ((jS × List Int) ⊕ ((jS × List Int) ⊕ (jS × Int))) :=
  (jlt s 1000 (x0 + 176) 6 x1).bind fun v1 =>
  if x2 < v1 then
    (jlt s 1000 (x0 + 180) 600 (W32 ((W32 (100 * x1)) + x2))).bind fun v2 =>
    if v2 = 1 then
      (jlt s 1000 (x0 + 189) 600 (W32 ((W32 (100 * x1)) + x2))).bind fun v3 =>
      (jlt s 1000 (x0 + 191) 600 v3).bind fun v4 =>
      if v4 = 4 then
        jinr (jinr (u_X37_defineGlobals_291 s x0 x1 x2))
      else
        u_X37_defineGlobals_299 s x0 x1 x2
    else
      u_X37_defineGlobals_299 s x0 x1 x2
  else
    jinr (u_X37_defineGlobals_305 s x0 x1)
def du_X37_defineGlobals_246 (s : jS) (x0 x1 x2 : Int) : Option ((jS × List Int) ⊕ (jS × Int)) := jlpW (jc3 b_X37_defineGlobals_246) [x0, x1, x2] s
noncomputable def u_X37_defineGlobals_246 : jS → Int → Int → Int → Option ((jS × List Int) ⊕ (jS × Int)) := Classical.choose (⟨du_X37_defineGlobals_246, rfl⟩ : ∃ f, f = du_X37_defineGlobals_246)
theorem eu_X37_defineGlobals_246 : u_X37_defineGlobals_246 = du_X37_defineGlobals_246 := Classical.choose_spec (⟨du_X37_defineGlobals_246, rfl⟩ : ∃ f, f = du_X37_defineGlobals_246)
def b_X37_defineGlobals_227 (s : jS) (x0 x1 : Int) : Option ((jS × List Int) ⊕ (jS × Int)) :=
  if x1 < 6 then
    (m_X37_isIn s x0 x1).bind fun v1 =>
    if v1 = 0 then
      u_X37_defineGlobals_305 s x0 x1
    else
      u_X37_defineGlobals_246 s x0 x1 0
  else
    jinr (u_X37_defineGlobals_311 s x0)
def du_X37_defineGlobals_227 (s : jS) (x0 x1 : Int) : Option (jS × Int) := jlpW (jc2 b_X37_defineGlobals_227) [x0, x1] s
noncomputable def u_X37_defineGlobals_227 : jS → Int → Int → Option (jS × Int) := Classical.choose (⟨du_X37_defineGlobals_227, rfl⟩ : ∃ f, f = du_X37_defineGlobals_227)
theorem eu_X37_defineGlobals_227 : u_X37_defineGlobals_227 = du_X37_defineGlobals_227 := Classical.choose_spec (⟨du_X37_defineGlobals_227, rfl⟩ : ∃ f, f = du_X37_defineGlobals_227)
def du_X37_defineGlobals_225 (s : jS) (x0 : Int) : Option (jS × Int) :=
  u_X37_defineGlobals_227 s x0 0
noncomputable def u_X37_defineGlobals_225 : jS → Int → Option (jS × Int) := Classical.choose (⟨du_X37_defineGlobals_225, rfl⟩ : ∃ f, f = du_X37_defineGlobals_225)
theorem eu_X37_defineGlobals_225 : u_X37_defineGlobals_225 = du_X37_defineGlobals_225 := Classical.choose_spec (⟨du_X37_defineGlobals_225, rfl⟩ : ∃ f, f = du_X37_defineGlobals_225)
def du_X37_defineGlobals_219 (s : jS) (x0 x1 : Int) : Option ((jS × List Int) ⊕ (jS × Int)) :=
  some (.inl (s, [x0, W32 (x1 + 1)]))
noncomputable def u_X37_defineGlobals_219 : jS → Int → Int → Option ((jS × List Int) ⊕ (jS × Int)) := Classical.choose (⟨du_X37_defineGlobals_219, rfl⟩ : ∃ f, f = du_X37_defineGlobals_219)
theorem eu_X37_defineGlobals_219 : u_X37_defineGlobals_219 = du_X37_defineGlobals_219 := Classical.choose_spec (⟨du_X37_defineGlobals_219, rfl⟩ : ∃ f, f = du_X37_defineGlobals_219)
def du_X37_defineGlobals_218 (s : jS) (x0 x1 y0 y1 y2 : Int) : Option ((jS × List Int) ⊕ (jS × Int)) :=
  (jst s 1000 y2 600 y1 y0).bind fun s1 =>
  u_X37_defineGlobals_219 s1 x0 x1
noncomputable def u_X37_defineGlobals_218 : jS → Int → Int → Int → Int → Int → Option ((jS × List Int) ⊕ (jS × Int)) := Classical.choose (⟨du_X37_defineGlobals_218, rfl⟩ : ∃ f, f = du_X37_defineGlobals_218)
theorem eu_X37_defineGlobals_218 : u_X37_defineGlobals_218 = du_X37_defineGlobals_218 := Classical.choose_spec (⟨du_X37_defineGlobals_218, rfl⟩ : ∃ f, f = du_X37_defineGlobals_218)
def du_X37_defineGlobals_198 (s : jS) (x0 x1 y0 y1 y2 : Int) : Option ((jS × List Int) ⊕ (jS × Int)) :=
  (jst s 1000 y2 600 y1 y0).bind fun s1 =>
  (jlt s1 1000 (x0 + 196) 600 x1).bind fun v2 =>
  if 0 < v2 then
    u_X37_defineGlobals_218 s1 x0 x1 3 x1 (x0 + 191)
  else
    u_X37_defineGlobals_218 s1 x0 x1 4 x1 (x0 + 191)
noncomputable def u_X37_defineGlobals_198 : jS → Int → Int → Int → Int → Int → Option ((jS × List Int) ⊕ (jS × Int)) := Classical.choose (⟨du_X37_defineGlobals_198, rfl⟩ : ∃ f, f = du_X37_defineGlobals_198)
theorem eu_X37_defineGlobals_198 : u_X37_defineGlobals_198 = du_X37_defineGlobals_198 := Classical.choose_spec (⟨du_X37_defineGlobals_198, rfl⟩ : ∃ f, f = du_X37_defineGlobals_198)
def b_X37_defineGlobals_90 (s : jS) (x0 x1 : Int) : Option ((jS × List Int) ⊕ (jS × Int)) :=
  if x1 < (jf s 41 x0 81) then
    (jlt s 1000 (x0 + 191) 600 x1).bind fun v1 =>
    if v1 = 0 then
      (jlt s 1000 (x0 + 190) 600 x1).bind fun v2 =>
      (m_X37_isNamed s x0 v2 6252400).bind fun v3 =>
      if v3 = 0 then
        (m_X37_isNamed s x0 v2 104889349142644).bind fun v4 =>
        if v4 = 0 then
          (m_X37_isNamed s x0 v2 104889080444001).bind fun v5 =>
          if v5 = 0 then
            (m_X37_isNamed s x0 v2 1600287603).bind fun v6 =>
            if v6 = 0 then
              (m_X37_isNamed s x0 v2 1600482916).bind fun v7 =>
              if v7 = 0 then
                u_X37_defineGlobals_198 s x0 x1 0 x1 (x0 + 196)
              else
                u_X37_defineGlobals_198 s x0 x1 5 x1 (x0 + 196)
            else
              u_X37_defineGlobals_198 s x0 x1 4 x1 (x0 + 196)
          else
            u_X37_defineGlobals_198 s x0 x1 3 x1 (x0 + 196)
        else
          u_X37_defineGlobals_198 s x0 x1 2 x1 (x0 + 196)
      else
        u_X37_defineGlobals_198 s x0 x1 1 x1 (x0 + 196)
    else
      u_X37_defineGlobals_219 s x0 x1
  else
    jinr (u_X37_defineGlobals_225 s x0)
def du_X37_defineGlobals_90 (s : jS) (x0 x1 : Int) : Option (jS × Int) := jlpW (jc2 b_X37_defineGlobals_90) [x0, x1] s
noncomputable def u_X37_defineGlobals_90 : jS → Int → Int → Option (jS × Int) := Classical.choose (⟨du_X37_defineGlobals_90, rfl⟩ : ∃ f, f = du_X37_defineGlobals_90)
theorem eu_X37_defineGlobals_90 : u_X37_defineGlobals_90 = du_X37_defineGlobals_90 := Classical.choose_spec (⟨du_X37_defineGlobals_90, rfl⟩ : ∃ f, f = du_X37_defineGlobals_90)
def du_X37_defineGlobals_88 (s : jS) (x0 : Int) : Option (jS × Int) :=
  u_X37_defineGlobals_90 s x0 0
noncomputable def u_X37_defineGlobals_88 : jS → Int → Option (jS × Int) := Classical.choose (⟨du_X37_defineGlobals_88, rfl⟩ : ∃ f, f = du_X37_defineGlobals_88)
theorem eu_X37_defineGlobals_88 : u_X37_defineGlobals_88 = du_X37_defineGlobals_88 := Classical.choose_spec (⟨du_X37_defineGlobals_88, rfl⟩ : ∃ f, f = du_X37_defineGlobals_88)
def du_X37_defineGlobals_82 (s : jS) (x0 x1 : Int) : Option ((jS × List Int) ⊕ (jS × Int)) :=
  some (.inl (s, [x0, W32 (x1 + 1)]))
noncomputable def u_X37_defineGlobals_82 : jS → Int → Int → Option ((jS × List Int) ⊕ (jS × Int)) := Classical.choose (⟨du_X37_defineGlobals_82, rfl⟩ : ∃ f, f = du_X37_defineGlobals_82)
theorem eu_X37_defineGlobals_82 : u_X37_defineGlobals_82 = du_X37_defineGlobals_82 := Classical.choose_spec (⟨du_X37_defineGlobals_82, rfl⟩ : ∃ f, f = du_X37_defineGlobals_82)
def du_X37_defineGlobals_76 (s : jS) (x0 x1 x2 : Int) : Option ((jS × List Int) ⊕ ((jS × List Int) ⊕ (jS × Int))) :=
  some (.inl (s, [x0, x1, W32 (x2 + 1)]))
noncomputable def u_X37_defineGlobals_76 : jS → Int → Int → Int → Option ((jS × List Int) ⊕ ((jS × List Int) ⊕ (jS × Int))) := Classical.choose (⟨du_X37_defineGlobals_76, rfl⟩ : ∃ f, f = du_X37_defineGlobals_76)
theorem eu_X37_defineGlobals_76 : u_X37_defineGlobals_76 = du_X37_defineGlobals_76 := Classical.choose_spec (⟨du_X37_defineGlobals_76, rfl⟩ : ∃ f, f = du_X37_defineGlobals_76)
def du_X37_defineGlobals_70 (s : jS) (x0 x1 x2 x3 : Int) : Option ((jS × List Int) ⊕ ((jS × List Int) ⊕ ((jS × List Int) ⊕ (jS × Int)))) :=
  some (.inl (s, [x0, x1, x2, W32 (x3 + 1)]))
noncomputable def u_X37_defineGlobals_70 : jS → Int → Int → Int → Int → Option ((jS × List Int) ⊕ ((jS × List Int) ⊕ ((jS × List Int) ⊕ (jS × Int)))) := Classical.choose (⟨du_X37_defineGlobals_70, rfl⟩ : ∃ f, f = du_X37_defineGlobals_70)
theorem eu_X37_defineGlobals_70 : u_X37_defineGlobals_70 = du_X37_defineGlobals_70 := Classical.choose_spec (⟨du_X37_defineGlobals_70, rfl⟩ : ∃ f, f = du_X37_defineGlobals_70)
def b_X37_defineGlobals_28 (s : jS) (x0 x1 x2 x3 : Int) : Option ((jS × List Int) ⊕ ((jS × List Int) ⊕ ((jS × List Int) ⊕ (jS × Int)))) :=
  (jlt s 1000 (x0 + 176) 6 x2).bind fun v1 =>
  if x3 < v1 then
    jlet (W32 ((W32 (100 * x2)) + x3)) fun v2 =>
    (jlt s 1000 (x0 + 180) 600 v2).bind fun v3 =>
    if v3 = 0 then
      u_X37_defineGlobals_70 s x0 x1 x2 x3
    else
      (jlt s 1000 (x0 + 189) 600 v2).bind fun v4 =>
      (m_X37_defineBy s x0 v2 v4 x1).bind fun q5 =>
      u_X37_defineGlobals_70 q5.1 x0 x1 x2 x3
  else
    jinr (u_X37_defineGlobals_76 s x0 x1 x2)
def du_X37_defineGlobals_28 (s : jS) (x0 x1 x2 x3 : Int) : Option ((jS × List Int) ⊕ ((jS × List Int) ⊕ (jS × Int))) := jlpW (jc4 b_X37_defineGlobals_28) [x0, x1, x2, x3] s
noncomputable def u_X37_defineGlobals_28 : jS → Int → Int → Int → Int → Option ((jS × List Int) ⊕ ((jS × List Int) ⊕ (jS × Int))) := Classical.choose (⟨du_X37_defineGlobals_28, rfl⟩ : ∃ f, f = du_X37_defineGlobals_28)
theorem eu_X37_defineGlobals_28 : u_X37_defineGlobals_28 = du_X37_defineGlobals_28 := Classical.choose_spec (⟨du_X37_defineGlobals_28, rfl⟩ : ∃ f, f = du_X37_defineGlobals_28)
def b_X37_defineGlobals_9 (s : jS) (x0 x1 x2 : Int) : Option ((jS × List Int) ⊕ ((jS × List Int) ⊕ (jS × Int))) :=
  if x2 < 6 then
    (m_X37_isIn s x0 x2).bind fun v1 =>
    if v1 = 0 then
      u_X37_defineGlobals_76 s x0 x1 x2
    else
      u_X37_defineGlobals_28 s x0 x1 x2 0
  else
    jinr (u_X37_defineGlobals_82 s x0 x1)
def du_X37_defineGlobals_9 (s : jS) (x0 x1 x2 : Int) : Option ((jS × List Int) ⊕ (jS × Int)) := jlpW (jc3 b_X37_defineGlobals_9) [x0, x1, x2] s
noncomputable def u_X37_defineGlobals_9 : jS → Int → Int → Int → Option ((jS × List Int) ⊕ (jS × Int)) := Classical.choose (⟨du_X37_defineGlobals_9, rfl⟩ : ∃ f, f = du_X37_defineGlobals_9)
theorem eu_X37_defineGlobals_9 : u_X37_defineGlobals_9 = du_X37_defineGlobals_9 := Classical.choose_spec (⟨du_X37_defineGlobals_9, rfl⟩ : ∃ f, f = du_X37_defineGlobals_9)
def b_X37_defineGlobals_2 (s : jS) (x0 x1 : Int) : Option ((jS × List Int) ⊕ (jS × Int)) :=
  if x1 < 2 then
    u_X37_defineGlobals_9 s x0 x1 0
  else
    jinr (u_X37_defineGlobals_88 s x0)
def du_X37_defineGlobals_2 (s : jS) (x0 x1 : Int) : Option (jS × Int) := jlpW (jc2 b_X37_defineGlobals_2) [x0, x1] s
noncomputable def u_X37_defineGlobals_2 : jS → Int → Int → Option (jS × Int) := Classical.choose (⟨du_X37_defineGlobals_2, rfl⟩ : ∃ f, f = du_X37_defineGlobals_2)
theorem eu_X37_defineGlobals_2 : u_X37_defineGlobals_2 = du_X37_defineGlobals_2 := Classical.choose_spec (⟨du_X37_defineGlobals_2, rfl⟩ : ∃ f, f = du_X37_defineGlobals_2)
def dm_X37_defineGlobals (s : jS) (x0 : Int) : Option (jS × Int) :=
  u_X37_defineGlobals_2 s x0 0
noncomputable def m_X37_defineGlobals : jS → Int → Option (jS × Int) := Classical.choose (⟨dm_X37_defineGlobals, rfl⟩ : ∃ f, f = dm_X37_defineGlobals)
theorem em_X37_defineGlobals : m_X37_defineGlobals = dm_X37_defineGlobals := Classical.choose_spec (⟨dm_X37_defineGlobals, rfl⟩ : ∃ f, f = dm_X37_defineGlobals)
def b_X37_emptyLayout_150 (s : jS) (x0 x1 : Int) : Option ((jS × List Int) ⊕ (jS × Int)) :=
  if x1 < 1800 then
    (jst s 1000 (x0 + 203) 1800 x1 (-1)).bind fun s1 =>
    some (.inl (s1, [x0, W32 (x1 + 1)]))
  else
    jinr (some (s, 0))
def du_X37_emptyLayout_150 (s : jS) (x0 x1 : Int) : Option (jS × Int) := jlpW (jc2 b_X37_emptyLayout_150) [x0, x1] s
noncomputable def u_X37_emptyLayout_150 : jS → Int → Int → Option (jS × Int) := Classical.choose (⟨du_X37_emptyLayout_150, rfl⟩ : ∃ f, f = du_X37_emptyLayout_150)
theorem eu_X37_emptyLayout_150 : u_X37_emptyLayout_150 = du_X37_emptyLayout_150 := Classical.choose_spec (⟨du_X37_emptyLayout_150, rfl⟩ : ∃ f, f = du_X37_emptyLayout_150)
def du_X37_emptyLayout_148 (s : jS) (x0 : Int) : Option (jS × Int) :=
  u_X37_emptyLayout_150 s x0 0
noncomputable def u_X37_emptyLayout_148 : jS → Int → Option (jS × Int) := Classical.choose (⟨du_X37_emptyLayout_148, rfl⟩ : ∃ f, f = du_X37_emptyLayout_148)
theorem eu_X37_emptyLayout_148 : u_X37_emptyLayout_148 = du_X37_emptyLayout_148 := Classical.choose_spec (⟨du_X37_emptyLayout_148, rfl⟩ : ∃ f, f = du_X37_emptyLayout_148)
def b_X37_emptyLayout_128 (s : jS) (x0 x1 : Int) : Option ((jS × List Int) ⊕ (jS × Int)) :=
  if x1 < 1200 then
    (jst s 1000 (x0 + 204) 1200 x1 (-1)).bind fun s1 =>
    some (.inl (s1, [x0, W32 (x1 + 1)]))
  else
    jinr (u_X37_emptyLayout_148 s x0)
def du_X37_emptyLayout_128 (s : jS) (x0 x1 : Int) : Option (jS × Int) := jlpW (jc2 b_X37_emptyLayout_128) [x0, x1] s
noncomputable def u_X37_emptyLayout_128 : jS → Int → Int → Option (jS × Int) := Classical.choose (⟨du_X37_emptyLayout_128, rfl⟩ : ∃ f, f = du_X37_emptyLayout_128)
theorem eu_X37_emptyLayout_128 : u_X37_emptyLayout_128 = du_X37_emptyLayout_128 := Classical.choose_spec (⟨du_X37_emptyLayout_128, rfl⟩ : ∃ f, f = du_X37_emptyLayout_128)
def du_X37_emptyLayout_126 (s : jS) (x0 : Int) : Option (jS × Int) :=
  u_X37_emptyLayout_128 s x0 0
noncomputable def u_X37_emptyLayout_126 : jS → Int → Option (jS × Int) := Classical.choose (⟨du_X37_emptyLayout_126, rfl⟩ : ∃ f, f = du_X37_emptyLayout_126)
theorem eu_X37_emptyLayout_126 : u_X37_emptyLayout_126 = du_X37_emptyLayout_126 := Classical.choose_spec (⟨du_X37_emptyLayout_126, rfl⟩ : ∃ f, f = du_X37_emptyLayout_126)
def du_X37_emptyLayout_116 (s : jS) (x0 x1 y0 y1 y2 : Int) : Option ((jS × List Int) ⊕ (jS × Int)) :=
  (m_X41_align s y2 y1 y0).bind fun q1 =>
  some (.inl (q1.1, [x0, W32 (x1 + 1)]))
noncomputable def u_X37_emptyLayout_116 : jS → Int → Int → Int → Int → Int → Option ((jS × List Int) ⊕ (jS × Int)) := Classical.choose (⟨du_X37_emptyLayout_116, rfl⟩ : ∃ f, f = du_X37_emptyLayout_116)
theorem eu_X37_emptyLayout_116 : u_X37_emptyLayout_116 = du_X37_emptyLayout_116 := Classical.choose_spec (⟨du_X37_emptyLayout_116, rfl⟩ : ∃ f, f = du_X37_emptyLayout_116)
def b_X37_emptyLayout_96 (s : jS) (x0 x1 : Int) : Option ((jS × List Int) ⊕ (jS × Int)) :=
  if x1 < 4 then
    if x1 = 3 then
      u_X37_emptyLayout_116 s x0 x1 0 x1 (x0 + 93)
    else
      u_X37_emptyLayout_116 s x0 x1 4 x1 (x0 + 93)
  else
    jinr (u_X37_emptyLayout_126 s x0)
def du_X37_emptyLayout_96 (s : jS) (x0 x1 : Int) : Option (jS × Int) := jlpW (jc2 b_X37_emptyLayout_96) [x0, x1] s
noncomputable def u_X37_emptyLayout_96 : jS → Int → Int → Option (jS × Int) := Classical.choose (⟨du_X37_emptyLayout_96, rfl⟩ : ∃ f, f = du_X37_emptyLayout_96)
theorem eu_X37_emptyLayout_96 : u_X37_emptyLayout_96 = du_X37_emptyLayout_96 := Classical.choose_spec (⟨du_X37_emptyLayout_96, rfl⟩ : ∃ f, f = du_X37_emptyLayout_96)
def du_X37_emptyLayout_83 (s : jS) (x0 : Int) : Option (jS × Int) :=
  (m_X41_base s (x0 + 93) 65536).bind fun q1 =>
  u_X37_emptyLayout_96 q1.1 x0 0
noncomputable def u_X37_emptyLayout_83 : jS → Int → Option (jS × Int) := Classical.choose (⟨du_X37_emptyLayout_83, rfl⟩ : ∃ f, f = du_X37_emptyLayout_83)
theorem eu_X37_emptyLayout_83 : u_X37_emptyLayout_83 = du_X37_emptyLayout_83 := Classical.choose_spec (⟨du_X37_emptyLayout_83, rfl⟩ : ∃ f, f = du_X37_emptyLayout_83)
def b_X37_emptyLayout_60 (s : jS) (x0 x1 : Int) : Option ((jS × List Int) ⊕ (jS × Int)) :=
  if x1 < 256 then
    (jst s 1002 ((x0 + 93) + 19) 256 x1 (Wz 0)).bind fun s1 =>
    some (.inl (s1, [x0, W32 (x1 + 1)]))
  else
    jinr (u_X37_emptyLayout_83 s x0)
def du_X37_emptyLayout_60 (s : jS) (x0 x1 : Int) : Option (jS × Int) := jlpW (jc2 b_X37_emptyLayout_60) [x0, x1] s
noncomputable def u_X37_emptyLayout_60 : jS → Int → Int → Option (jS × Int) := Classical.choose (⟨du_X37_emptyLayout_60, rfl⟩ : ∃ f, f = du_X37_emptyLayout_60)
theorem eu_X37_emptyLayout_60 : u_X37_emptyLayout_60 = du_X37_emptyLayout_60 := Classical.choose_spec (⟨du_X37_emptyLayout_60, rfl⟩ : ∃ f, f = du_X37_emptyLayout_60)
def du_X37_emptyLayout_58 (s : jS) (x0 : Int) : Option (jS × Int) :=
  u_X37_emptyLayout_60 s x0 0
noncomputable def u_X37_emptyLayout_58 : jS → Int → Option (jS × Int) := Classical.choose (⟨du_X37_emptyLayout_58, rfl⟩ : ∃ f, f = du_X37_emptyLayout_58)
theorem eu_X37_emptyLayout_58 : u_X37_emptyLayout_58 = du_X37_emptyLayout_58 := Classical.choose_spec (⟨du_X37_emptyLayout_58, rfl⟩ : ∃ f, f = du_X37_emptyLayout_58)
def b_X37_emptyLayout_26 (s : jS) (x0 x1 : Int) : Option ((jS × List Int) ⊕ (jS × Int)) :=
  if x1 < 32 then
    (jst s 1002 ((x0 + 93) + 7) 32 x1 (Wz 0)).bind fun s1 =>
    (jst s1 1002 ((x0 + 93) + 6) 32 x1 (Wz 0)).bind fun s2 =>
    some (.inl (s2, [x0, W32 (x1 + 1)]))
  else
    jinr (u_X37_emptyLayout_58 s x0)
def du_X37_emptyLayout_26 (s : jS) (x0 x1 : Int) : Option (jS × Int) := jlpW (jc2 b_X37_emptyLayout_26) [x0, x1] s
noncomputable def u_X37_emptyLayout_26 : jS → Int → Int → Option (jS × Int) := Classical.choose (⟨du_X37_emptyLayout_26, rfl⟩ : ∃ f, f = du_X37_emptyLayout_26)
theorem eu_X37_emptyLayout_26 : u_X37_emptyLayout_26 = du_X37_emptyLayout_26 := Classical.choose_spec (⟨du_X37_emptyLayout_26, rfl⟩ : ∃ f, f = du_X37_emptyLayout_26)
def dm_X37_emptyLayout (s : jS) (x0 : Int) : Option (jS × Int) :=
  jls (jp s 45 (x0 + 93) 4 0) fun s1 =>
  jls (jp s1 45 (x0 + 93) 12 0) fun s2 =>
  jls (jp s2 45 (x0 + 93) 25 0) fun s3 =>
  u_X37_emptyLayout_26 s3 x0 0
noncomputable def m_X37_emptyLayout : jS → Int → Option (jS × Int) := Classical.choose (⟨dm_X37_emptyLayout, rfl⟩ : ∃ f, f = dm_X37_emptyLayout)
theorem em_X37_emptyLayout : m_X37_emptyLayout = dm_X37_emptyLayout := Classical.choose_spec (⟨dm_X37_emptyLayout, rfl⟩ : ∃ f, f = dm_X37_emptyLayout)
def du_X37_nextTaken_71 (s : jS) (x0 x1 x2 x3 x4 : Int) : Option (List Int ⊕ (Int)) :=
  some (.inl [x0, x1, x2, x3, W32 (x4 + 1)])
noncomputable def u_X37_nextTaken_71 : jS → Int → Int → Int → Int → Int → Option (List Int ⊕ (Int)) := Classical.choose (⟨du_X37_nextTaken_71, rfl⟩ : ∃ f, f = du_X37_nextTaken_71)
theorem eu_X37_nextTaken_71 : u_X37_nextTaken_71 = du_X37_nextTaken_71 := Classical.choose_spec (⟨du_X37_nextTaken_71, rfl⟩ : ∃ f, f = du_X37_nextTaken_71)
def du_X37_nextTaken_68 (s : jS) (x0 x1 x2 x4 x5 : Int) : Option (List Int ⊕ (Int)) :=
  u_X37_nextTaken_71 s x0 x1 x2 x5 x4
noncomputable def u_X37_nextTaken_68 : jS → Int → Int → Int → Int → Int → Option (List Int ⊕ (Int)) := Classical.choose (⟨du_X37_nextTaken_68, rfl⟩ : ∃ f, f = du_X37_nextTaken_68)
theorem eu_X37_nextTaken_68 : u_X37_nextTaken_68 = du_X37_nextTaken_68 := Classical.choose_spec (⟨du_X37_nextTaken_68, rfl⟩ : ∃ f, f = du_X37_nextTaken_68)
def b_X37_nextTaken_5 (s : jS) (x0 x1 x2 x3 x4 : Int) : Option (List Int ⊕ (Int)) :=
  (jlt s 1000 (x0 + 183) 6 x1).bind fun v1 =>
  if x4 < v1 then
    jlet (W32 ((W32 (300 * x1)) + x4)) fun v2 =>
    (jlt s 1000 (x0 + 185) 1800 v2).bind fun v3 =>
    if v3 < x2 then
      u_X37_nextTaken_71 s x0 x1 x2 x3 x4
    else
      (m_X37_isTakable s x0 x1 v2).bind fun v4 =>
      if v4 = 0 then
        u_X37_nextTaken_71 s x0 x1 x2 x3 x4
      else
        if x3 = (-1) then
          u_X37_nextTaken_68 s x0 x1 x2 x4 v2
        else
          (jlt s 1000 (x0 + 185) 1800 v2).bind fun v5 =>
          (jlt s 1000 (x0 + 185) 1800 x3).bind fun v6 =>
          if v5 < v6 then
            u_X37_nextTaken_68 s x0 x1 x2 x4 v2
          else
            u_X37_nextTaken_71 s x0 x1 x2 x3 x4
  else
    jinr (some x3)
def du_X37_nextTaken_5 (s : jS) (x0 x1 x2 x3 x4 : Int) : Option (Int) := jlpR (jc5 b_X37_nextTaken_5) [x0, x1, x2, x3, x4] s
noncomputable def u_X37_nextTaken_5 : jS → Int → Int → Int → Int → Int → Option (Int) := Classical.choose (⟨du_X37_nextTaken_5, rfl⟩ : ∃ f, f = du_X37_nextTaken_5)
theorem eu_X37_nextTaken_5 : u_X37_nextTaken_5 = du_X37_nextTaken_5 := Classical.choose_spec (⟨du_X37_nextTaken_5, rfl⟩ : ∃ f, f = du_X37_nextTaken_5)
def dm_X37_nextTaken (s : jS) (x0 x1 x2 : Int) : Option (Int) :=
  u_X37_nextTaken_5 s x0 x1 x2 (-1) 0
noncomputable def m_X37_nextTaken : jS → Int → Int → Int → Option (Int) := Classical.choose (⟨dm_X37_nextTaken, rfl⟩ : ∃ f, f = dm_X37_nextTaken)
theorem em_X37_nextTaken : m_X37_nextTaken = dm_X37_nextTaken := Classical.choose_spec (⟨dm_X37_nextTaken, rfl⟩ : ∃ f, f = dm_X37_nextTaken)
def dm_X37_plainPiece (s : jS) (x0 x1 x2 x3 : Int) : Option (jS × Int) :=
  (m_X41_plain s (x0 + 93) x1 x3).bind fun q1 =>
  (m_X37_added q1.1 x0 q1.2 x1 x2 x3 (-1)).bind fun q2 =>
  some (q2.1, Wz q2.2)
noncomputable def m_X37_plainPiece : jS → Int → Int → Int → Int → Option (jS × Int) := Classical.choose (⟨dm_X37_plainPiece, rfl⟩ : ∃ f, f = dm_X37_plainPiece)
theorem em_X37_plainPiece : m_X37_plainPiece = dm_X37_plainPiece := Classical.choose_spec (⟨dm_X37_plainPiece, rfl⟩ : ∃ f, f = dm_X37_plainPiece)
def du_X37_putLabel_195 (s : jS) (y0 y1 y2 y3 : Int) : Option (jS × Int) :=
  (m_X41_put s y3 y2 y1 y0).bind fun q1 =>
  some (q1.1, 0)
noncomputable def u_X37_putLabel_195 : jS → Int → Int → Int → Int → Option (jS × Int) := Classical.choose (⟨du_X37_putLabel_195, rfl⟩ : ∃ f, f = du_X37_putLabel_195)
theorem eu_X37_putLabel_195 : u_X37_putLabel_195 = du_X37_putLabel_195 := Classical.choose_spec (⟨du_X37_putLabel_195, rfl⟩ : ∃ f, f = du_X37_putLabel_195)
def du_X37_putLabel_95 (s : jS) (x0 x1 x2 : Int) : Option (jS × Int) :=
  (jlt s 1000 (x0 + 177) 600 x2).bind fun v1 =>
  if v1 < 0 then
    some (s, 0)
  else
    (jlt s 1000 (x0 + 177) 600 x2).bind fun v2 =>
    if 3 < v2 then
      some (s, 0)
    else
      (jdv 100 (I_div x2 100)).bind fun v3 =>
      (jlt s 1000 (x0 + 177) 600 x2).bind fun v4 =>
      (jlt s 1000 (x0 + 202) 24 (W32 ((W32 (4 * v3)) + v4))).bind fun v5 =>
      (jlt s 1000 (x0 + 178) 600 x2).bind fun v6 =>
      (m_X37_pieceAt s x0 v5 v6).bind fun v7 =>
      (jlt s 1000 (x0 + 178) 600 x2).bind fun v8 =>
      (jlt s 1000 (x0 + 197) 256 v7).bind fun v9 =>
      jlet (W32 (v8 - v9)) fun v10 =>
      (jlt s 1000 (x0 + 204) 1200 x1).bind fun v11 =>
      (jlt s 1000 (x0 + 199) 256 v7).bind fun v12 =>
      if v12 = (-1) then
        u_X37_putLabel_195 s v10 v7 v11 (x0 + 93)
      else
        if v10 = 0 then
          u_X37_putLabel_195 s 0 v7 v11 (x0 + 93)
        else
          u_X37_putLabel_195 s 1 v7 v11 (x0 + 93)
noncomputable def u_X37_putLabel_95 : jS → Int → Int → Int → Option (jS × Int) := Classical.choose (⟨du_X37_putLabel_95, rfl⟩ : ∃ f, f = du_X37_putLabel_95)
theorem eu_X37_putLabel_95 : u_X37_putLabel_95 = du_X37_putLabel_95 := Classical.choose_spec (⟨du_X37_putLabel_95, rfl⟩ : ∃ f, f = du_X37_putLabel_95)
def du_X37_putLabel_74 (s : jS) (x0 x1 x2 : Int) : Option (jS × Int) :=
  if x1 < 600 then
    u_X37_putLabel_95 s x0 x1 x2
  else
    (jlt s 1000 (x0 + 191) 600 (W32 (x1 - 600))).bind fun v1 =>
    if v1 = 1 then
      u_X37_putLabel_95 s x0 x1 x2
    else
      some (s, 0)
noncomputable def u_X37_putLabel_74 : jS → Int → Int → Int → Option (jS × Int) := Classical.choose (⟨du_X37_putLabel_74, rfl⟩ : ∃ f, f = du_X37_putLabel_74)
theorem eu_X37_putLabel_74 : u_X37_putLabel_74 = du_X37_putLabel_74 := Classical.choose_spec (⟨du_X37_putLabel_74, rfl⟩ : ∃ f, f = du_X37_putLabel_74)
def du_X37_putLabel_21 (s : jS) (x0 x1 y0 : Int) : Option (jS × Int) :=
  if x1 < 600 then
    u_X37_putLabel_74 s x0 x1 y0
  else
    (jlt s 1000 (x0 + 191) 600 (W32 (x1 - 600))).bind fun v1 =>
    if v1 = 2 then
      (jlt s 1000 (x0 + 204) 1200 x1).bind fun v2 =>
      (jlt s 1000 (x0 + 195) 600 (W32 (x1 - 600))).bind fun v3 =>
      (jlt s 1000 (x0 + 200) 32 v3).bind fun v4 =>
      (m_X41_put s (x0 + 93) v2 v4 0).bind fun q5 =>
      some (q5.1, 0)
    else
      u_X37_putLabel_74 s x0 x1 y0
noncomputable def u_X37_putLabel_21 : jS → Int → Int → Int → Option (jS × Int) := Classical.choose (⟨du_X37_putLabel_21, rfl⟩ : ∃ f, f = du_X37_putLabel_21)
theorem eu_X37_putLabel_21 : u_X37_putLabel_21 = du_X37_putLabel_21 := Classical.choose_spec (⟨du_X37_putLabel_21, rfl⟩ : ∃ f, f = du_X37_putLabel_21)
def dm_X37_putLabel (s : jS) (x0 x1 : Int) : Option (jS × Int) :=
  if x1 < 600 then
    u_X37_putLabel_21 s x0 x1 x1
  else
    (jlt s 1000 (x0 + 192) 600 (W32 (x1 - 600))).bind fun v1 =>
    u_X37_putLabel_21 s x0 x1 v1
noncomputable def m_X37_putLabel : jS → Int → Int → Option (jS × Int) := Classical.choose (⟨dm_X37_putLabel, rfl⟩ : ∃ f, f = dm_X37_putLabel)
theorem em_X37_putLabel : m_X37_putLabel = dm_X37_putLabel := Classical.choose_spec (⟨dm_X37_putLabel, rfl⟩ : ∃ f, f = dm_X37_putLabel)
def dm_X37_valueOf (s : jS) (x0 x1 : Int) : Option (Int) :=
  (jlt s 1000 (x0 + 180) 600 x1).bind fun v1 =>
  if v1 = 0 then
    (m_X37_symbolPlace s x0 x1).bind fun v2 =>
    some v2
  else
    (jlt s 1000 (x0 + 189) 600 x1).bind fun v3 =>
    (m_X37_globalValue s x0 v3).bind fun v4 =>
    some v4
noncomputable def m_X37_valueOf : jS → Int → Int → Option (Int) := Classical.choose (⟨dm_X37_valueOf, rfl⟩ : ∃ f, f = dm_X37_valueOf)
theorem em_X37_valueOf : m_X37_valueOf = dm_X37_valueOf := Classical.choose_spec (⟨dm_X37_valueOf, rfl⟩ : ∃ f, f = dm_X37_valueOf)
def b_X37_imageSegment_35 (s : jS) (x0 x1 x3 : Int) : Option ((jS × List Int) ⊕ (jS × Int)) :=
  (m_X37_outputSize s x0 x1).bind fun v1 =>
  if x3 < v1 then
    (jlt s 1000 (x0 + 205) 12288 (W32 ((W32 (4096 * x1)) + x3))).bind fun v2 =>
    (jst s 1000 ((x0 + 118) + 5) 24576 (W32 ((W32 (4096 * x1)) + x3)) v2).bind fun s3 =>
    some (.inl (s3, [x0, x1, W32 (x3 + 1)]))
  else
    jinr (some (s, 0))
def du_X37_imageSegment_35 (s : jS) (x0 x1 x3 : Int) : Option (jS × Int) := jlpW (jc3 b_X37_imageSegment_35) [x0, x1, x3] s
noncomputable def u_X37_imageSegment_35 : jS → Int → Int → Int → Option (jS × Int) := Classical.choose (⟨du_X37_imageSegment_35, rfl⟩ : ∃ f, f = du_X37_imageSegment_35)
theorem eu_X37_imageSegment_35 : u_X37_imageSegment_35 = du_X37_imageSegment_35 := Classical.choose_spec (⟨du_X37_imageSegment_35, rfl⟩ : ∃ f, f = du_X37_imageSegment_35)
def dm_X37_imageSegment (s : jS) (x0 x1 x2 : Int) : Option (jS × Int) :=
  (jlt s 1000 ((x0 + 93) + 2) 4 x1).bind fun v1 =>
  (m_X42_segment s (x0 + 118) x1 v1 x2).bind fun q2 =>
  (m_X37_outputSize q2.1 x0 x1).bind fun v3 =>
  (jst q2.1 1000 ((x0 + 118) + 4) 6 x1 v3).bind fun s4 =>
  u_X37_imageSegment_35 s4 x0 x1 0
noncomputable def m_X37_imageSegment : jS → Int → Int → Int → Option (jS × Int) := Classical.choose (⟨dm_X37_imageSegment, rfl⟩ : ∃ f, f = dm_X37_imageSegment)
theorem em_X37_imageSegment : m_X37_imageSegment = dm_X37_imageSegment := Classical.choose_spec (⟨dm_X37_imageSegment, rfl⟩ : ∃ f, f = dm_X37_imageSegment)
def du_X37_renew_100 (s : jS) (x0 : Int) : Option (jS × Int) :=
  (m_X43_marking s (x0 + 130) 0).bind fun q1 =>
  jls (jp q1.1 47 (x0 + 130) 9 0) fun s2 =>
  jls (jp s2 47 (x0 + 130) 11 0) fun s3 =>
  jls (jp s3 47 (x0 + 130) 13 0) fun s4 =>
  jls (jp s4 47 (x0 + 130) 14 0) fun s5 =>
  jls (jp s5 47 (x0 + 130) 16 0) fun s6 =>
  jls (jp s6 47 (x0 + 130) 17 0) fun s7 =>
  jls (jp s7 47 (x0 + 130) 18 0) fun s8 =>
  jls (jp s8 47 (x0 + 130) 19 0) fun s9 =>
  jls (jp s9 47 (x0 + 130) 20 0) fun s10 =>
  jls (jp s10 47 (x0 + 130) 21 0) fun s11 =>
  jls (jp s11 47 (x0 + 130) 23 0) fun s12 =>
  some (s12, 0)
noncomputable def u_X37_renew_100 : jS → Int → Option (jS × Int) := Classical.choose (⟨du_X37_renew_100, rfl⟩ : ∃ f, f = du_X37_renew_100)
theorem eu_X37_renew_100 : u_X37_renew_100 = du_X37_renew_100 := Classical.choose_spec (⟨du_X37_renew_100, rfl⟩ : ∃ f, f = du_X37_renew_100)
def b_X37_renew_78 (s : jS) (x0 x1 : Int) : Option ((jS × List Int) ⊕ (jS × Int)) :=
  if x1 < 32 then
    (jst s 1000 ((x0 + 130) + 9) 32 x1 0).bind fun s1 =>
    some (.inl (s1, [x0, W32 (x1 + 1)]))
  else
    jinr (u_X37_renew_100 s x0)
def du_X37_renew_78 (s : jS) (x0 x1 : Int) : Option (jS × Int) := jlpW (jc2 b_X37_renew_78) [x0, x1] s
noncomputable def u_X37_renew_78 : jS → Int → Int → Option (jS × Int) := Classical.choose (⟨du_X37_renew_78, rfl⟩ : ∃ f, f = du_X37_renew_78)
theorem eu_X37_renew_78 : u_X37_renew_78 = du_X37_renew_78 := Classical.choose_spec (⟨du_X37_renew_78, rfl⟩ : ∃ f, f = du_X37_renew_78)
def du_X37_renew_76 (s : jS) (x0 : Int) : Option (jS × Int) :=
  u_X37_renew_78 s x0 0
noncomputable def u_X37_renew_76 : jS → Int → Option (jS × Int) := Classical.choose (⟨du_X37_renew_76, rfl⟩ : ∃ f, f = du_X37_renew_76)
theorem eu_X37_renew_76 : u_X37_renew_76 = du_X37_renew_76 := Classical.choose_spec (⟨du_X37_renew_76, rfl⟩ : ∃ f, f = du_X37_renew_76)
def b_X37_renew_52 (s : jS) (x0 x1 : Int) : Option ((jS × List Int) ⊕ (jS × Int)) :=
  if x1 < 8 then
    (m_X43_segment s (x0 + 130) x1 0 0 0).bind fun q1 =>
    some (.inl (q1.1, [x0, W32 (x1 + 1)]))
  else
    jinr (u_X37_renew_76 s x0)
def du_X37_renew_52 (s : jS) (x0 x1 : Int) : Option (jS × Int) := jlpW (jc2 b_X37_renew_52) [x0, x1] s
noncomputable def u_X37_renew_52 : jS → Int → Int → Option (jS × Int) := Classical.choose (⟨du_X37_renew_52, rfl⟩ : ∃ f, f = du_X37_renew_52)
theorem eu_X37_renew_52 : u_X37_renew_52 = du_X37_renew_52 := Classical.choose_spec (⟨du_X37_renew_52, rfl⟩ : ∃ f, f = du_X37_renew_52)
def du_X37_renew_50 (s : jS) (x0 : Int) : Option (jS × Int) :=
  u_X37_renew_52 s x0 0
noncomputable def u_X37_renew_50 : jS → Int → Option (jS × Int) := Classical.choose (⟨du_X37_renew_50, rfl⟩ : ∃ f, f = du_X37_renew_50)
theorem eu_X37_renew_50 : u_X37_renew_50 = du_X37_renew_50 := Classical.choose_spec (⟨du_X37_renew_50, rfl⟩ : ∃ f, f = du_X37_renew_50)
def b_X37_renew_27 (s : jS) (x0 x1 : Int) : Option ((jS × List Int) ⊕ (jS × Int)) :=
  if x1 < 65536 then
    (jst s 1002 ((x0 + 130) + 4) 65536 x1 (Wz 0)).bind fun s1 =>
    some (.inl (s1, [x0, W32 (x1 + 1)]))
  else
    jinr (u_X37_renew_50 s x0)
def du_X37_renew_27 (s : jS) (x0 x1 : Int) : Option (jS × Int) := jlpW (jc2 b_X37_renew_27) [x0, x1] s
noncomputable def u_X37_renew_27 : jS → Int → Int → Option (jS × Int) := Classical.choose (⟨du_X37_renew_27, rfl⟩ : ∃ f, f = du_X37_renew_27)
theorem eu_X37_renew_27 : u_X37_renew_27 = du_X37_renew_27 := Classical.choose_spec (⟨du_X37_renew_27, rfl⟩ : ∃ f, f = du_X37_renew_27)
def du_X37_renew_25 (s : jS) (x0 : Int) : Option (jS × Int) :=
  u_X37_renew_27 s x0 0
noncomputable def u_X37_renew_25 : jS → Int → Option (jS × Int) := Classical.choose (⟨du_X37_renew_25, rfl⟩ : ∃ f, f = du_X37_renew_25)
theorem eu_X37_renew_25 : u_X37_renew_25 = du_X37_renew_25 := Classical.choose_spec (⟨du_X37_renew_25, rfl⟩ : ∃ f, f = du_X37_renew_25)
def b_X37_renew_2 (s : jS) (x0 x1 : Int) : Option ((jS × List Int) ⊕ (jS × Int)) :=
  if x1 < 131072 then
    (jst s 1000 ((x0 + 130) + 3) 131072 x1 0).bind fun s1 =>
    some (.inl (s1, [x0, W32 (x1 + 1)]))
  else
    jinr (u_X37_renew_25 s x0)
def du_X37_renew_2 (s : jS) (x0 x1 : Int) : Option (jS × Int) := jlpW (jc2 b_X37_renew_2) [x0, x1] s
noncomputable def u_X37_renew_2 : jS → Int → Int → Option (jS × Int) := Classical.choose (⟨du_X37_renew_2, rfl⟩ : ∃ f, f = du_X37_renew_2)
theorem eu_X37_renew_2 : u_X37_renew_2 = du_X37_renew_2 := Classical.choose_spec (⟨du_X37_renew_2, rfl⟩ : ∃ f, f = du_X37_renew_2)
def dm_X37_renew (s : jS) (x0 : Int) : Option (jS × Int) :=
  u_X37_renew_2 s x0 0
noncomputable def m_X37_renew : jS → Int → Option (jS × Int) := Classical.choose (⟨dm_X37_renew, rfl⟩ : ∃ f, f = dm_X37_renew)
theorem em_X37_renew : m_X37_renew = dm_X37_renew := Classical.choose_spec (⟨dm_X37_renew, rfl⟩ : ∃ f, f = dm_X37_renew)
def du_X38_init_47 (s : jS) (x0 : Int) : Option (jS × Int) :=
  (jct s 58 x0 (m_X38_layShort s x0)).bind fun q1 =>
  some (q1.1, 0)
noncomputable def u_X38_init_47 : jS → Int → Option (jS × Int) := Classical.choose (⟨du_X38_init_47, rfl⟩ : ∃ f, f = du_X38_init_47)
theorem eu_X38_init_47 : u_X38_init_47 = du_X38_init_47 := Classical.choose_spec (⟨du_X38_init_47, rfl⟩ : ∃ f, f = du_X38_init_47)
def b_X38_init_30 (s : jS) (x0 x1 : Int) : Option ((jS × List Int) ⊕ (jS × Int)) :=
  if x1 < 75 then
    (jct s 58 x0 (m_X38_layLong s x0 x1)).bind fun q1 =>
    some (.inl (q1.1, [x0, W32 (x1 + 1)]))
  else
    jinr (u_X38_init_47 s x0)
def du_X38_init_30 (s : jS) (x0 x1 : Int) : Option (jS × Int) := jlpW (jc2 b_X38_init_30) [x0, x1] s
noncomputable def u_X38_init_30 : jS → Int → Int → Option (jS × Int) := Classical.choose (⟨du_X38_init_30, rfl⟩ : ∃ f, f = du_X38_init_30)
theorem eu_X38_init_30 : u_X38_init_30 = du_X38_init_30 := Classical.choose_spec (⟨du_X38_init_30, rfl⟩ : ∃ f, f = du_X38_init_30)
def dm_X38_init (s : jS) (x0 : Int) : Option (jS × Int) :=
  jck0 x0 <|
  (jna s 1000 2400 0).bind fun q1 =>
  (jwr q1.1 42 x0 1 q1.2).bind fun s2 =>
  (jna s2 1000 4 0).bind fun q3 =>
  (jwr q3.1 42 x0 2 q3.2).bind fun s4 =>
  (jna s4 1000 80 0).bind fun q5 =>
  (jwr q5.1 42 x0 3 q5.2).bind fun s6 =>
  u_X38_init_30 s6 x0 0
noncomputable def m_X38_init : jS → Int → Option (jS × Int) := Classical.choose (⟨dm_X38_init, rfl⟩ : ∃ f, f = dm_X38_init)
theorem em_X38_init : m_X38_init = dm_X38_init := Classical.choose_spec (⟨dm_X38_init, rfl⟩ : ∃ f, f = dm_X38_init)
def du_X38_areGood_39 (s : jS) (x0 x1 : Int) : Option (Int) :=
  (m_X38_has s x0 x1 3).bind fun v1 =>
  if v1 = 0 then
    some (Wz 1)
  else
    (jlt s 1000 (x0 + 2) 4 3).bind fun v2 =>
    (m_X38_isImmediate s x1 v2).bind fun v3 =>
    if v3 = 0 then
      some (Wz 0)
    else
      some (Wz 1)
noncomputable def u_X38_areGood_39 : jS → Int → Int → Option (Int) := Classical.choose (⟨du_X38_areGood_39, rfl⟩ : ∃ f, f = du_X38_areGood_39)
theorem eu_X38_areGood_39 : u_X38_areGood_39 = du_X38_areGood_39 := Classical.choose_spec (⟨du_X38_areGood_39, rfl⟩ : ∃ f, f = du_X38_areGood_39)
def du_X38_areGood_33 (s : jS) (x0 x1 x2 : Int) : Option (List Int ⊕ (Int)) :=
  some (.inl [x0, x1, W32 (x2 + 1)])
noncomputable def u_X38_areGood_33 : jS → Int → Int → Int → Option (List Int ⊕ (Int)) := Classical.choose (⟨du_X38_areGood_33, rfl⟩ : ∃ f, f = du_X38_areGood_33)
theorem eu_X38_areGood_33 : u_X38_areGood_33 = du_X38_areGood_33 := Classical.choose_spec (⟨du_X38_areGood_33, rfl⟩ : ∃ f, f = du_X38_areGood_33)
def b_X38_areGood_2 (s : jS) (x0 x1 x2 : Int) : Option (List Int ⊕ (Int)) :=
  if x2 < 3 then
    (m_X38_has s x0 x1 x2).bind fun v1 =>
    if v1 = 0 then
      u_X38_areGood_33 s x0 x1 x2
    else
      (jlt s 1000 (x0 + 2) 4 x2).bind fun v2 =>
      (m_X38_isRegister s x0 x1 x2 v2).bind fun v3 =>
      if v3 = 0 then
        jinr (some (Wz 0))
      else
        u_X38_areGood_33 s x0 x1 x2
  else
    jinr (u_X38_areGood_39 s x0 x1)
def du_X38_areGood_2 (s : jS) (x0 x1 x2 : Int) : Option (Int) := jlpR (jc3 b_X38_areGood_2) [x0, x1, x2] s
noncomputable def u_X38_areGood_2 : jS → Int → Int → Int → Option (Int) := Classical.choose (⟨du_X38_areGood_2, rfl⟩ : ∃ f, f = du_X38_areGood_2)
theorem eu_X38_areGood_2 : u_X38_areGood_2 = du_X38_areGood_2 := Classical.choose_spec (⟨du_X38_areGood_2, rfl⟩ : ∃ f, f = du_X38_areGood_2)
def dm_X38_areGood (s : jS) (x0 x1 : Int) : Option (Int) :=
  u_X38_areGood_2 s x0 x1 0
noncomputable def m_X38_areGood : jS → Int → Int → Option (Int) := Classical.choose (⟨dm_X38_areGood, rfl⟩ : ∃ f, f = dm_X38_areGood)
theorem em_X38_areGood : m_X38_areGood = dm_X38_areGood := Classical.choose_spec (⟨dm_X38_areGood, rfl⟩ : ∃ f, f = dm_X38_areGood)
def du_X38_take_210 (s : jS) (x0 x1 : Int) : Option (jS × Int) :=
  (m_X38_areGood s x0 x1).bind fun v1 =>
  some (s, Wz v1)
noncomputable def u_X38_take_210 : jS → Int → Int → Option (jS × Int) := Classical.choose (⟨du_X38_take_210, rfl⟩ : ∃ f, f = du_X38_take_210)
theorem eu_X38_take_210 : u_X38_take_210 = du_X38_take_210 := Classical.choose_spec (⟨du_X38_take_210, rfl⟩ : ∃ f, f = du_X38_take_210)
def du_X38_take_189 (s : jS) (x0 x1 : Int) : Option (jS × Int) :=
  if x1 = 56 then
    (jlt s 1000 (x0 + 2) 4 3).bind fun v1 =>
    (jst s 1000 (x0 + 2) 4 3 (I_and v1 1048575)).bind fun s2 =>
    u_X38_take_210 s2 x0 x1
  else
    u_X38_take_210 s x0 x1
noncomputable def u_X38_take_189 : jS → Int → Int → Option (jS × Int) := Classical.choose (⟨du_X38_take_189, rfl⟩ : ∃ f, f = du_X38_take_189)
theorem eu_X38_take_189 : u_X38_take_189 = du_X38_take_189 := Classical.choose_spec (⟨du_X38_take_189, rfl⟩ : ∃ f, f = du_X38_take_189)
def du_X38_take_158 (s : jS) (x0 x1 : Int) : Option (jS × Int) :=
  (m_X38_signOf s x1).bind fun v1 =>
  if v1 < 0 then
    u_X38_take_189 s x0 x1
  else
    (jlt s 1000 (x0 + 2) 4 3).bind fun v2 =>
    (jst s 1000 (x0 + 2) 4 3 (I_shr (I_shl v2 (W32 (31 - v1))) (W32 (31 - v1)))).bind fun s3 =>
    u_X38_take_189 s3 x0 x1
noncomputable def u_X38_take_158 : jS → Int → Int → Option (jS × Int) := Classical.choose (⟨du_X38_take_158, rfl⟩ : ∃ f, f = du_X38_take_158)
theorem eu_X38_take_158 : u_X38_take_158 = du_X38_take_158 := Classical.choose_spec (⟨du_X38_take_158, rfl⟩ : ∃ f, f = du_X38_take_158)
def du_X38_take_152 (s : jS) (x0 x1 x2 x3 : Int) : Option ((jS × List Int) ⊕ (jS × Int)) :=
  some (.inl (s, [x0, x1, x2, W32 (x3 + 1)]))
noncomputable def u_X38_take_152 : jS → Int → Int → Int → Int → Option ((jS × List Int) ⊕ (jS × Int)) := Classical.choose (⟨du_X38_take_152, rfl⟩ : ∃ f, f = du_X38_take_152)
theorem eu_X38_take_152 : u_X38_take_152 = du_X38_take_152 := Classical.choose_spec (⟨du_X38_take_152, rfl⟩ : ∃ f, f = du_X38_take_152)
def du_X38_take_121 (s : jS) (x0 x1 x2 x3 x4 x5 : Int) : Option ((jS × List Int) ⊕ (jS × Int)) :=
  if x4 < 500 then
    u_X38_take_152 s x0 x1 x2 x3
  else
    (jdv 100 (I_div x4 100)).bind fun v1 =>
    (jlt s 1000 (x0 + 2) 4 (W32 (v1 - 5))).bind fun v2 =>
    (jdv 100 (I_rem x4 100)).bind fun v3 =>
    (jst s 1000 (x0 + 2) 4 (W32 (v1 - 5)) (W32 (v2 + (I_shl x5 v3)))).bind fun s4 =>
    u_X38_take_152 s4 x0 x1 x2 x3
noncomputable def u_X38_take_121 : jS → Int → Int → Int → Int → Int → Int → Option ((jS × List Int) ⊕ (jS × Int)) := Classical.choose (⟨du_X38_take_121, rfl⟩ : ∃ f, f = du_X38_take_121)
theorem eu_X38_take_121 : u_X38_take_121 = du_X38_take_121 := Classical.choose_spec (⟨du_X38_take_121, rfl⟩ : ∃ f, f = du_X38_take_121)
def du_X38_take_84 (s : jS) (x0 x1 x2 x3 x4 x5 : Int) : Option ((jS × List Int) ⊕ (jS × Int)) :=
  if 1 < x4 then
    if x4 < 500 then
      (jdv 100 (I_div x4 100)).bind fun v1 =>
      (jlt s 1000 (x0 + 2) 4 (W32 (v1 - 1))).bind fun v2 =>
      (jdv 100 (I_rem x4 100)).bind fun v3 =>
      (jst s 1000 (x0 + 2) 4 (W32 (v1 - 1)) (W32 (v2 + (I_shl x5 v3)))).bind fun s4 =>
      u_X38_take_121 s4 x0 x1 x2 x3 x4 x5
    else
      u_X38_take_121 s x0 x1 x2 x3 x4 x5
  else
    u_X38_take_121 s x0 x1 x2 x3 x4 x5
noncomputable def u_X38_take_84 : jS → Int → Int → Int → Int → Int → Int → Option ((jS × List Int) ⊕ (jS × Int)) := Classical.choose (⟨du_X38_take_84, rfl⟩ : ∃ f, f = du_X38_take_84)
theorem eu_X38_take_84 : u_X38_take_84 = du_X38_take_84 := Classical.choose_spec (⟨du_X38_take_84, rfl⟩ : ∃ f, f = du_X38_take_84)
def b_X38_take_41 (s : jS) (x0 x1 x2 x3 : Int) : Option ((jS × List Int) ⊕ (jS × Int)) :=
  (m_X38_bitsOf s x1).bind fun v1 =>
  if x3 < v1 then
    (jlt s 1000 (x0 + 1) 2400 (W32 ((W32 (32 * x1)) + x3))).bind fun v2 =>
    jlet (I_and (I_shr x2 x3) 1) fun v3 =>
    if v2 < 2 then
      if v2 = v3 then
        u_X38_take_84 s x0 x1 x2 x3 v2 v3
      else
        jinr (some (s, Wz 0))
    else
      u_X38_take_84 s x0 x1 x2 x3 v2 v3
  else
    jinr (u_X38_take_158 s x0 x1)
def du_X38_take_41 (s : jS) (x0 x1 x2 x3 : Int) : Option (jS × Int) := jlpW (jc4 b_X38_take_41) [x0, x1, x2, x3] s
noncomputable def u_X38_take_41 : jS → Int → Int → Int → Int → Option (jS × Int) := Classical.choose (⟨du_X38_take_41, rfl⟩ : ∃ f, f = du_X38_take_41)
theorem eu_X38_take_41 : u_X38_take_41 = du_X38_take_41 := Classical.choose_spec (⟨du_X38_take_41, rfl⟩ : ∃ f, f = du_X38_take_41)
def du_X38_take_39 (s : jS) (x0 x1 x2 : Int) : Option (jS × Int) :=
  u_X38_take_41 s x0 x1 x2 0
noncomputable def u_X38_take_39 : jS → Int → Int → Int → Option (jS × Int) := Classical.choose (⟨du_X38_take_39, rfl⟩ : ∃ f, f = du_X38_take_39)
theorem eu_X38_take_39 : u_X38_take_39 = du_X38_take_39 := Classical.choose_spec (⟨du_X38_take_39, rfl⟩ : ∃ f, f = du_X38_take_39)
def du_X38_take_32 (s : jS) (x0 x1 x2 x3 y0 y1 y2 : Int) : Option ((jS × List Int) ⊕ (jS × Int)) :=
  (jst s 1000 y2 4 y1 y0).bind fun s1 =>
  some (.inl (s1, [x0, x1, x2, W32 (x3 + 1)]))
noncomputable def u_X38_take_32 : jS → Int → Int → Int → Int → Int → Int → Int → Option ((jS × List Int) ⊕ (jS × Int)) := Classical.choose (⟨du_X38_take_32, rfl⟩ : ∃ f, f = du_X38_take_32)
theorem eu_X38_take_32 : u_X38_take_32 = du_X38_take_32 := Classical.choose_spec (⟨du_X38_take_32, rfl⟩ : ∃ f, f = du_X38_take_32)
def du_X38_take_31 (s : jS) (x0 x1 x2 x3 y0 y1 : Int) : Option ((jS × List Int) ⊕ (jS × Int)) :=
  u_X38_take_32 s x0 x1 x2 x3 0 y0 y1
noncomputable def u_X38_take_31 : jS → Int → Int → Int → Int → Int → Int → Option ((jS × List Int) ⊕ (jS × Int)) := Classical.choose (⟨du_X38_take_31, rfl⟩ : ∃ f, f = du_X38_take_31)
theorem eu_X38_take_31 : u_X38_take_31 = du_X38_take_31 := Classical.choose_spec (⟨du_X38_take_31, rfl⟩ : ∃ f, f = du_X38_take_31)
def b_X38_take_2 (s : jS) (x0 x1 x2 x3 : Int) : Option ((jS × List Int) ⊕ (jS × Int)) :=
  if x3 < 4 then
    if x3 < 3 then
      (m_X38_isShortPart s x0 x1 x3).bind fun v1 =>
      if v1 = 0 then
        u_X38_take_31 s x0 x1 x2 x3 x3 (x0 + 2)
      else
        u_X38_take_32 s x0 x1 x2 x3 8 x3 (x0 + 2)
    else
      u_X38_take_31 s x0 x1 x2 x3 x3 (x0 + 2)
  else
    jinr (u_X38_take_39 s x0 x1 x2)
def du_X38_take_2 (s : jS) (x0 x1 x2 x3 : Int) : Option (jS × Int) := jlpW (jc4 b_X38_take_2) [x0, x1, x2, x3] s
noncomputable def u_X38_take_2 : jS → Int → Int → Int → Int → Option (jS × Int) := Classical.choose (⟨du_X38_take_2, rfl⟩ : ∃ f, f = du_X38_take_2)
theorem eu_X38_take_2 : u_X38_take_2 = du_X38_take_2 := Classical.choose_spec (⟨du_X38_take_2, rfl⟩ : ∃ f, f = du_X38_take_2)
def dm_X38_take (s : jS) (x0 x1 x2 : Int) : Option (jS × Int) :=
  u_X38_take_2 s x0 x1 x2 0
noncomputable def m_X38_take : jS → Int → Int → Int → Option (jS × Int) := Classical.choose (⟨dm_X38_take, rfl⟩ : ∃ f, f = dm_X38_take)
theorem em_X38_take : m_X38_take = dm_X38_take := Classical.choose_spec (⟨dm_X38_take, rfl⟩ : ∃ f, f = dm_X38_take)
def du_X38_operands_248 (s : jS) (x0 x1 : Int) : Option (jS × Int) :=
  if x1 = 6 then
    (m_X38_ahead s x0).bind fun q1 =>
    (jlt q1.1 1000 (x0 + 2) 4 3).bind fun v2 =>
    (m_X38_sayHexadecimal q1.1 x0 v2).bind fun q3 =>
    some (q3.1, 0)
  else
    some (s, 0)
noncomputable def u_X38_operands_248 : jS → Int → Int → Option (jS × Int) := Classical.choose (⟨du_X38_operands_248, rfl⟩ : ∃ f, f = du_X38_operands_248)
theorem eu_X38_operands_248 : u_X38_operands_248 = du_X38_operands_248 := Classical.choose_spec (⟨du_X38_operands_248, rfl⟩ : ∃ f, f = du_X38_operands_248)
def du_X38_operands_243 (s : jS) (x0 x1 x2 : Int) : Option (jS × Int) :=
  (m_X38_place s x0 x2).bind fun q1 =>
  u_X38_operands_248 q1.1 x0 x1
noncomputable def u_X38_operands_243 : jS → Int → Int → Int → Option (jS × Int) := Classical.choose (⟨du_X38_operands_243, rfl⟩ : ∃ f, f = du_X38_operands_243)
theorem eu_X38_operands_243 : u_X38_operands_243 = du_X38_operands_243 := Classical.choose_spec (⟨du_X38_operands_243, rfl⟩ : ∃ f, f = du_X38_operands_243)
def du_X38_operands_220 (s : jS) (x0 x1 x2 : Int) : Option (jS × Int) :=
  if x1 = 5 then
    u_X38_operands_243 s x0 x1 x2
  else
    if x1 = 7 then
      u_X38_operands_243 s x0 x1 x2
    else
      if x1 = 8 then
        u_X38_operands_243 s x0 x1 x2
      else
        if x1 = 9 then
          u_X38_operands_243 s x0 x1 x2
        else
          u_X38_operands_248 s x0 x1
noncomputable def u_X38_operands_220 : jS → Int → Int → Int → Option (jS × Int) := Classical.choose (⟨du_X38_operands_220, rfl⟩ : ∃ f, f = du_X38_operands_220)
theorem eu_X38_operands_220 : u_X38_operands_220 = du_X38_operands_220 := Classical.choose_spec (⟨du_X38_operands_220, rfl⟩ : ∃ f, f = du_X38_operands_220)
def du_X38_operands_216 (s : jS) (x0 x1 x2 : Int) : Option (jS × Int) :=
  (m_X38_number s x0).bind fun q1 =>
  u_X38_operands_220 q1.1 x0 x1 x2
noncomputable def u_X38_operands_216 : jS → Int → Int → Int → Option (jS × Int) := Classical.choose (⟨du_X38_operands_216, rfl⟩ : ∃ f, f = du_X38_operands_216)
theorem eu_X38_operands_216 : u_X38_operands_216 = du_X38_operands_216 := Classical.choose_spec (⟨du_X38_operands_216, rfl⟩ : ∃ f, f = du_X38_operands_216)
def du_X38_operands_193 (s : jS) (x0 x1 x2 : Int) : Option (jS × Int) :=
  if x1 = 2 then
    u_X38_operands_216 s x0 x1 x2
  else
    if x1 = 12 then
      u_X38_operands_216 s x0 x1 x2
    else
      if x1 = 15 then
        u_X38_operands_216 s x0 x1 x2
      else
        if x1 = 16 then
          u_X38_operands_216 s x0 x1 x2
        else
          u_X38_operands_220 s x0 x1 x2
noncomputable def u_X38_operands_193 : jS → Int → Int → Int → Option (jS × Int) := Classical.choose (⟨du_X38_operands_193, rfl⟩ : ∃ f, f = du_X38_operands_193)
theorem eu_X38_operands_193 : u_X38_operands_193 = du_X38_operands_193 := Classical.choose_spec (⟨du_X38_operands_193, rfl⟩ : ∃ f, f = du_X38_operands_193)
def du_X38_operands_188 (s : jS) (x0 x1 x2 : Int) : Option (jS × Int) :=
  (m_X38_offset s x0 2).bind fun q1 =>
  u_X38_operands_193 q1.1 x0 x1 x2
noncomputable def u_X38_operands_188 : jS → Int → Int → Int → Option (jS × Int) := Classical.choose (⟨du_X38_operands_188, rfl⟩ : ∃ f, f = du_X38_operands_188)
theorem eu_X38_operands_188 : u_X38_operands_188 = du_X38_operands_188 := Classical.choose_spec (⟨du_X38_operands_188, rfl⟩ : ∃ f, f = du_X38_operands_188)
def du_X38_operands_176 (s : jS) (x0 x1 x2 : Int) : Option (jS × Int) :=
  if x1 = 13 then
    u_X38_operands_188 s x0 x1 x2
  else
    if x1 = 14 then
      u_X38_operands_188 s x0 x1 x2
    else
      u_X38_operands_193 s x0 x1 x2
noncomputable def u_X38_operands_176 : jS → Int → Int → Int → Option (jS × Int) := Classical.choose (⟨du_X38_operands_176, rfl⟩ : ∃ f, f = du_X38_operands_176)
theorem eu_X38_operands_176 : u_X38_operands_176 = du_X38_operands_176 := Classical.choose_spec (⟨du_X38_operands_176, rfl⟩ : ∃ f, f = du_X38_operands_176)
def du_X38_operands_166 (s : jS) (x0 x1 x2 : Int) : Option (jS × Int) :=
  (jlt s 1000 (x0 + 2) 4 1).bind fun v1 =>
  (m_X38_offset s x0 v1).bind fun q2 =>
  u_X38_operands_176 q2.1 x0 x1 x2
noncomputable def u_X38_operands_166 : jS → Int → Int → Int → Option (jS × Int) := Classical.choose (⟨du_X38_operands_166, rfl⟩ : ∃ f, f = du_X38_operands_166)
theorem eu_X38_operands_166 : u_X38_operands_166 = du_X38_operands_166 := Classical.choose_spec (⟨du_X38_operands_166, rfl⟩ : ∃ f, f = du_X38_operands_166)
def du_X38_operands_156 (s : jS) (x0 x1 x2 : Int) : Option (jS × Int) :=
  if x1 = 3 then
    u_X38_operands_166 s x0 x1 x2
  else
    if x1 = 4 then
      u_X38_operands_166 s x0 x1 x2
    else
      u_X38_operands_176 s x0 x1 x2
noncomputable def u_X38_operands_156 : jS → Int → Int → Int → Option (jS × Int) := Classical.choose (⟨du_X38_operands_156, rfl⟩ : ∃ f, f = du_X38_operands_156)
theorem eu_X38_operands_156 : u_X38_operands_156 = du_X38_operands_156 := Classical.choose_spec (⟨du_X38_operands_156, rfl⟩ : ∃ f, f = du_X38_operands_156)
def du_X38_operands_151 (s : jS) (x0 x1 x2 : Int) : Option (jS × Int) :=
  (m_X38_register s x0 2).bind fun q1 =>
  u_X38_operands_156 q1.1 x0 x1 x2
noncomputable def u_X38_operands_151 : jS → Int → Int → Int → Option (jS × Int) := Classical.choose (⟨du_X38_operands_151, rfl⟩ : ∃ f, f = du_X38_operands_151)
theorem eu_X38_operands_151 : u_X38_operands_151 = du_X38_operands_151 := Classical.choose_spec (⟨du_X38_operands_151, rfl⟩ : ∃ f, f = du_X38_operands_151)
def du_X38_operands_139 (s : jS) (x0 x1 x2 : Int) : Option (jS × Int) :=
  if x1 = 15 then
    u_X38_operands_151 s x0 x1 x2
  else
    if x1 = 16 then
      u_X38_operands_151 s x0 x1 x2
    else
      u_X38_operands_156 s x0 x1 x2
noncomputable def u_X38_operands_139 : jS → Int → Int → Int → Option (jS × Int) := Classical.choose (⟨du_X38_operands_139, rfl⟩ : ∃ f, f = du_X38_operands_139)
theorem eu_X38_operands_139 : u_X38_operands_139 = du_X38_operands_139 := Classical.choose_spec (⟨du_X38_operands_139, rfl⟩ : ∃ f, f = du_X38_operands_139)
def du_X38_operands_129 (s : jS) (x0 x1 x2 : Int) : Option (jS × Int) :=
  (jlt s 1000 (x0 + 2) 4 2).bind fun v1 =>
  (m_X38_register s x0 v1).bind fun q2 =>
  u_X38_operands_139 q2.1 x0 x1 x2
noncomputable def u_X38_operands_129 : jS → Int → Int → Int → Option (jS × Int) := Classical.choose (⟨du_X38_operands_129, rfl⟩ : ∃ f, f = du_X38_operands_129)
theorem eu_X38_operands_129 : u_X38_operands_129 = du_X38_operands_129 := Classical.choose_spec (⟨du_X38_operands_129, rfl⟩ : ∃ f, f = du_X38_operands_129)
def du_X38_operands_102 (s : jS) (x0 x1 x2 : Int) : Option (jS × Int) :=
  if x1 = 1 then
    u_X38_operands_129 s x0 x1 x2
  else
    if x1 = 4 then
      u_X38_operands_129 s x0 x1 x2
    else
      if x1 = 5 then
        u_X38_operands_129 s x0 x1 x2
      else
        if x1 = 10 then
          u_X38_operands_129 s x0 x1 x2
        else
          if x1 = 14 then
            u_X38_operands_129 s x0 x1 x2
          else
            u_X38_operands_139 s x0 x1 x2
noncomputable def u_X38_operands_102 : jS → Int → Int → Int → Option (jS × Int) := Classical.choose (⟨du_X38_operands_102, rfl⟩ : ∃ f, f = du_X38_operands_102)
theorem eu_X38_operands_102 : u_X38_operands_102 = du_X38_operands_102 := Classical.choose_spec (⟨du_X38_operands_102, rfl⟩ : ∃ f, f = du_X38_operands_102)
def du_X38_operands_92 (s : jS) (x0 x1 x2 : Int) : Option (jS × Int) :=
  (jlt s 1000 (x0 + 2) 4 1).bind fun v1 =>
  (m_X38_register s x0 v1).bind fun q2 =>
  u_X38_operands_102 q2.1 x0 x1 x2
noncomputable def u_X38_operands_92 : jS → Int → Int → Int → Option (jS × Int) := Classical.choose (⟨du_X38_operands_92, rfl⟩ : ∃ f, f = du_X38_operands_92)
theorem eu_X38_operands_92 : u_X38_operands_92 = du_X38_operands_92 := Classical.choose_spec (⟨du_X38_operands_92, rfl⟩ : ∃ f, f = du_X38_operands_92)
def du_X38_operands_65 (s : jS) (x0 x1 x2 : Int) : Option (jS × Int) :=
  if x1 = 1 then
    u_X38_operands_92 s x0 x1 x2
  else
    if x1 = 2 then
      u_X38_operands_92 s x0 x1 x2
    else
      if x1 = 5 then
        u_X38_operands_92 s x0 x1 x2
      else
        if x1 = 9 then
          u_X38_operands_92 s x0 x1 x2
        else
          if x1 = 11 then
            u_X38_operands_92 s x0 x1 x2
          else
            u_X38_operands_102 s x0 x1 x2
noncomputable def u_X38_operands_65 : jS → Int → Int → Int → Option (jS × Int) := Classical.choose (⟨du_X38_operands_65, rfl⟩ : ∃ f, f = du_X38_operands_65)
theorem eu_X38_operands_65 : u_X38_operands_65 = du_X38_operands_65 := Classical.choose_spec (⟨du_X38_operands_65, rfl⟩ : ∃ f, f = du_X38_operands_65)
def du_X38_operands_50 (s : jS) (x0 x1 x2 y0 : Int) : Option (jS × Int) :=
  if y0 = 0 then
    u_X38_operands_65 s x0 x1 x2
  else
    (jlt s 1000 (x0 + 2) 4 0).bind fun v1 =>
    (m_X38_register s x0 v1).bind fun q2 =>
    u_X38_operands_65 q2.1 x0 x1 x2
noncomputable def u_X38_operands_50 : jS → Int → Int → Int → Int → Option (jS × Int) := Classical.choose (⟨du_X38_operands_50, rfl⟩ : ∃ f, f = du_X38_operands_50)
theorem eu_X38_operands_50 : u_X38_operands_50 = du_X38_operands_50 := Classical.choose_spec (⟨du_X38_operands_50, rfl⟩ : ∃ f, f = du_X38_operands_50)
def du_X38_operands_45 (s : jS) (x0 x1 x2 : Int) : Option (jS × Int) :=
  u_X38_operands_50 s x0 x1 x2 1
noncomputable def u_X38_operands_45 : jS → Int → Int → Int → Option (jS × Int) := Classical.choose (⟨du_X38_operands_45, rfl⟩ : ∃ f, f = du_X38_operands_45)
theorem eu_X38_operands_45 : u_X38_operands_45 = du_X38_operands_45 := Classical.choose_spec (⟨du_X38_operands_45, rfl⟩ : ∃ f, f = du_X38_operands_45)
def du_X38_operands_9 (s : jS) (x0 x1 x2 : Int) : Option (jS × Int) :=
  if x1 = 6 then
    u_X38_operands_45 s x0 x1 x2
  else
    if x1 = 7 then
      u_X38_operands_45 s x0 x1 x2
    else
      if x1 = 10 then
        u_X38_operands_45 s x0 x1 x2
      else
        if x1 = 12 then
          u_X38_operands_45 s x0 x1 x2
        else
          if x1 = 13 then
            u_X38_operands_45 s x0 x1 x2
          else
            if x1 = 15 then
              u_X38_operands_45 s x0 x1 x2
            else
              u_X38_operands_50 s x0 x1 x2 0
noncomputable def u_X38_operands_9 : jS → Int → Int → Int → Option (jS × Int) := Classical.choose (⟨du_X38_operands_9, rfl⟩ : ∃ f, f = du_X38_operands_9)
theorem eu_X38_operands_9 : u_X38_operands_9 = du_X38_operands_9 := Classical.choose_spec (⟨du_X38_operands_9, rfl⟩ : ∃ f, f = du_X38_operands_9)
def dm_X38_operands (s : jS) (x0 x1 x2 : Int) : Option (jS × Int) :=
  if 0 < x1 then
    if x1 < 4 then
      u_X38_operands_45 s x0 x1 x2
    else
      u_X38_operands_9 s x0 x1 x2
  else
    u_X38_operands_9 s x0 x1 x2
noncomputable def m_X38_operands : jS → Int → Int → Int → Option (jS × Int) := Classical.choose (⟨dm_X38_operands, rfl⟩ : ∃ f, f = dm_X38_operands)
theorem em_X38_operands : m_X38_operands = dm_X38_operands := Classical.choose_spec (⟨dm_X38_operands, rfl⟩ : ∃ f, f = dm_X38_operands)
def du_X39_nameWord_73 (s : jS) (x0 y0 y1 : Int) : Option (jS × Int) :=
  jls (jp s 43 y1 15 y0) fun s1 =>
  if 16 < (W32 ((jf s1 43 x0 18) - (jf s1 43 x0 17))) then
    (m_X39_bad s1 x0 2 (jf s1 43 x0 17)).bind fun q2 =>
    some (q2.1, 0)
  else
    some (s1, 0)
noncomputable def u_X39_nameWord_73 : jS → Int → Int → Int → Option (jS × Int) := Classical.choose (⟨du_X39_nameWord_73, rfl⟩ : ∃ f, f = du_X39_nameWord_73)
theorem eu_X39_nameWord_73 : u_X39_nameWord_73 = du_X39_nameWord_73 := Classical.choose_spec (⟨du_X39_nameWord_73, rfl⟩ : ∃ f, f = du_X39_nameWord_73)
def du_X39_nameWord_72 (s : jS) (x0 y0 : Int) : Option (jS × Int) :=
  u_X39_nameWord_73 s x0 1 y0
noncomputable def u_X39_nameWord_72 : jS → Int → Int → Option (jS × Int) := Classical.choose (⟨du_X39_nameWord_72, rfl⟩ : ∃ f, f = du_X39_nameWord_72)
theorem eu_X39_nameWord_72 : u_X39_nameWord_72 = du_X39_nameWord_72 := Classical.choose_spec (⟨du_X39_nameWord_72, rfl⟩ : ∃ f, f = du_X39_nameWord_72)
def du_X39_nameWord_39 (s : jS) (x0 : Int) : Option (jS × Int) :=
  if (W32 ((jf s 43 x0 18) - (jf s 43 x0 17))) = 1 then
    (jlt s 1000 (x0 + 2) 3000 (jf s 43 x0 17)).bind fun v1 =>
    if v1 = 46 then
      u_X39_nameWord_73 s x0 7 x0
    else
      u_X39_nameWord_72 s x0 x0
  else
    u_X39_nameWord_72 s x0 x0
noncomputable def u_X39_nameWord_39 : jS → Int → Option (jS × Int) := Classical.choose (⟨du_X39_nameWord_39, rfl⟩ : ∃ f, f = du_X39_nameWord_39)
theorem eu_X39_nameWord_39 : u_X39_nameWord_39 = du_X39_nameWord_39 := Classical.choose_spec (⟨du_X39_nameWord_39, rfl⟩ : ∃ f, f = du_X39_nameWord_39)
def b_X39_nameWord_0 (s : jS) (x0 : Int) : Option ((jS × List Int) ⊕ (jS × Int)) :=
  if (jf s 43 x0 18) < (jf s 43 x0 3) then
    (jlt s 1000 (x0 + 2) 3000 (jf s 43 x0 18)).bind fun v1 =>
    (m_X39_isInName s v1).bind fun v2 =>
    if v2 = 0 then
      jinr (u_X39_nameWord_39 s x0)
    else
      jls (jp s 43 x0 18 (W32 ((jf s 43 x0 18) + 1))) fun s3 =>
      some (.inl (s3, [x0]))
  else
    jinr (u_X39_nameWord_39 s x0)
def du_X39_nameWord_0 (s : jS) (x0 : Int) : Option (jS × Int) := jlpW (jc1 b_X39_nameWord_0) [x0] s
noncomputable def u_X39_nameWord_0 : jS → Int → Option (jS × Int) := Classical.choose (⟨du_X39_nameWord_0, rfl⟩ : ∃ f, f = du_X39_nameWord_0)
theorem eu_X39_nameWord_0 : u_X39_nameWord_0 = du_X39_nameWord_0 := Classical.choose_spec (⟨du_X39_nameWord_0, rfl⟩ : ∃ f, f = du_X39_nameWord_0)
def dm_X39_nameWord (s : jS) (x0 : Int) : Option (jS × Int) :=
  u_X39_nameWord_0 s x0
noncomputable def m_X39_nameWord : jS → Int → Option (jS × Int) := Classical.choose (⟨dm_X39_nameWord, rfl⟩ : ∃ f, f = dm_X39_nameWord)
theorem em_X39_nameWord : m_X39_nameWord = dm_X39_nameWord := Classical.choose_spec (⟨dm_X39_nameWord, rfl⟩ : ∃ f, f = dm_X39_nameWord)
def du_X39_register_200 (s : jS) (x0 y0 : Int) : Option (Int) :=
  (m_X39_byteOf s x0 0).bind fun v1 =>
  if v1 = 97 then
    if y0 < 8 then
      some (W32 (10 + y0))
    else
      some (-1)
  else
  if v1 = 115 then
    if y0 < 2 then
      some (W32 (8 + y0))
    else
      if y0 < 12 then
        some (W32 (16 + y0))
      else
        some (-1)
  else
  if v1 = 116 then
    if y0 < 3 then
      some (W32 (5 + y0))
    else
      if y0 < 7 then
        some (W32 (25 + y0))
      else
        some (-1)
  else
  if v1 = 120 then
    if y0 < 32 then
      some y0
    else
      some (-1)
  else
  some (-1)
noncomputable def u_X39_register_200 : jS → Int → Int → Option (Int) := Classical.choose (⟨du_X39_register_200, rfl⟩ : ∃ f, f = du_X39_register_200)
theorem eu_X39_register_200 : u_X39_register_200 = du_X39_register_200 := Classical.choose_spec (⟨du_X39_register_200, rfl⟩ : ∃ f, f = du_X39_register_200)
def du_X39_register_164 (s : jS) (x0 x1 : Int) : Option (Int) :=
  if x1 = 1 then
    (m_X39_byteOf s x0 1).bind fun v1 =>
    u_X39_register_200 s x0 (W32 (v1 - 48))
  else
    (m_X39_byteOf s x0 1).bind fun v2 =>
    (m_X39_byteOf s x0 2).bind fun v3 =>
    jlet (W32 ((W32 ((W32 (10 * (W32 (v2 - 48)))) + v3)) - 48)) fun v4 =>
    u_X39_register_200 s x0 v4
noncomputable def u_X39_register_164 : jS → Int → Int → Option (Int) := Classical.choose (⟨du_X39_register_164, rfl⟩ : ∃ f, f = du_X39_register_164)
theorem eu_X39_register_164 : u_X39_register_164 = du_X39_register_164 := Classical.choose_spec (⟨du_X39_register_164, rfl⟩ : ∃ f, f = du_X39_register_164)
def dm_X39_register (s : jS) (x0 : Int) : Option (Int) :=
  if (jf s 43 x0 15) = 1 then
    (m_X39_is s x0 122 101 114 111).bind fun v1 =>
    if v1 = 0 then
      (m_X39_is s x0 114 97 0 0).bind fun v2 =>
      if v2 = 0 then
        (m_X39_is s x0 115 112 0 0).bind fun v3 =>
        if v3 = 0 then
          (m_X39_is s x0 103 112 0 0).bind fun v4 =>
          if v4 = 0 then
            (m_X39_is s x0 116 112 0 0).bind fun v5 =>
            if v5 = 0 then
              (m_X39_is s x0 102 112 0 0).bind fun v6 =>
              if v6 = 0 then
                jlet (W32 ((W32 ((jf s 43 x0 18) - (jf s 43 x0 17))) - 1)) fun v7 =>
                if v7 < 1 then
                  some (-1)
                else
                  if 2 < v7 then
                    some (-1)
                  else
                    (m_X39_byteOf s x0 1).bind fun v8 =>
                    (m_X39_isDigit s v8).bind fun v9 =>
                    if v9 = 0 then
                      some (-1)
                    else
                      if v7 = 2 then
                        (m_X39_byteOf s x0 2).bind fun v10 =>
                        (m_X39_isDigit s v10).bind fun v11 =>
                        if v11 = 0 then
                          some (-1)
                        else
                          (m_X39_byteOf s x0 1).bind fun v12 =>
                          if v12 = 48 then
                            some (-1)
                          else
                            u_X39_register_164 s x0 v7
                      else
                        u_X39_register_164 s x0 v7
              else
                some 8
            else
              some 4
          else
            some 3
        else
          some 2
      else
        some 1
    else
      some 0
  else
    some (-1)
noncomputable def m_X39_register : jS → Int → Option (Int) := Classical.choose (⟨dm_X39_register, rfl⟩ : ∃ f, f = dm_X39_register)
theorem em_X39_register : m_X39_register = dm_X39_register := Classical.choose_spec (⟨dm_X39_register, rfl⟩ : ∃ f, f = dm_X39_register)
def du_X40_init_308 (s : jS) (x0 : Int) : Option (jS × Int) :=
  (jct s 60 x0 (m_X40_title s x0 0 120 116 101 120 116 0 0 0)).bind fun q1 =>
  (jct q1.1 60 x0 (m_X40_title q1.1 x0 1 120 114 111 100 97 116 97 0)).bind fun q2 =>
  (jct q2.1 60 x0 (m_X40_title q2.1 x0 2 120 100 97 116 97 0 0 0)).bind fun q3 =>
  (jct q3.1 60 x0 (m_X40_title q3.1 x0 3 120 98 115 115 0 0 0 0)).bind fun q4 =>
  (jct q4.1 60 x0 (m_X40_title q4.1 x0 4 120 115 116 97 114 116 115 0)).bind fun q5 =>
  (jct q5.1 60 x0 (m_X40_title q5.1 x0 5 114 116 101 120 116 0 0 0)).bind fun q6 =>
  (jct q6.1 60 x0 (m_X40_title q6.1 x0 6 114 114 111 100 97 116 97 0)).bind fun q7 =>
  (jct q7.1 60 x0 (m_X40_title q7.1 x0 7 114 100 97 116 97 0 0 0)).bind fun q8 =>
  (jct q8.1 60 x0 (m_X40_title q8.1 x0 8 120 115 121 109 116 97 98 0)).bind fun q9 =>
  (jct q9.1 60 x0 (m_X40_title q9.1 x0 9 120 115 116 114 116 97 98 0)).bind fun q10 =>
  (jct q10.1 60 x0 (m_X40_title q10.1 x0 10 120 115 104 115 116 114 116 97)).bind fun q11 =>
  (jrd q11.1 44 x0 24).bind fun v12 =>
  (jrd q11.1 44 x0 36).bind fun v13 =>
  (jsa q11.1 1000 v12 (W32 (v13 - 1)) 98).bind fun s14 =>
  (jrd s14 44 x0 24).bind fun v15 =>
  (jrd s14 44 x0 36).bind fun v16 =>
  (jsa s14 1000 v15 v16 0).bind fun s17 =>
  (jrd s17 44 x0 36).bind fun v18 =>
  (jwr s17 44 x0 36 (W32 (v18 + 1))).bind fun s19 =>
  some (s19, 0)
noncomputable def u_X40_init_308 : jS → Int → Option (jS × Int) := Classical.choose (⟨du_X40_init_308, rfl⟩ : ∃ f, f = du_X40_init_308)
theorem eu_X40_init_308 : u_X40_init_308 = du_X40_init_308 := Classical.choose_spec (⟨du_X40_init_308, rfl⟩ : ∃ f, f = du_X40_init_308)
def b_X40_init_289 (s : jS) (x0 x1 : Int) : Option ((jS × List Int) ⊕ (jS × Int)) :=
  if x1 < 8 then
    (jrd s 44 x0 2).bind fun v1 =>
    (jsa s 1000 v1 x1 1).bind fun s2 =>
    some (.inl (s2, [x0, W32 (x1 + 1)]))
  else
    jinr (u_X40_init_308 s x0)
def du_X40_init_289 (s : jS) (x0 x1 : Int) : Option (jS × Int) := jlpW (jc2 b_X40_init_289) [x0, x1] s
noncomputable def u_X40_init_289 : jS → Int → Int → Option (jS × Int) := Classical.choose (⟨du_X40_init_289, rfl⟩ : ∃ f, f = du_X40_init_289)
theorem eu_X40_init_289 : u_X40_init_289 = du_X40_init_289 := Classical.choose_spec (⟨du_X40_init_289, rfl⟩ : ∃ f, f = du_X40_init_289)
def dm_X40_init (s : jS) (x0 : Int) : Option (jS × Int) :=
  jck0 x0 <|
  (jna s 1000 12288 0).bind fun q1 =>
  (jwr q1.1 44 x0 0 q1.2).bind fun s2 =>
  (jna s2 1000 8 0).bind fun q3 =>
  (jwr q3.1 44 x0 1 q3.2).bind fun s4 =>
  (jna s4 1000 8 0).bind fun q5 =>
  (jwr q5.1 44 x0 2 q5.2).bind fun s6 =>
  (jna s6 1000 2048 0).bind fun q7 =>
  (jwr q7.1 44 x0 3 q7.2).bind fun s8 =>
  (jna s8 1000 2 0).bind fun q9 =>
  (jwr q9.1 44 x0 4 q9.2).bind fun s10 =>
  (jna s10 1000 200 0).bind fun q11 =>
  (jwr q11.1 44 x0 5 q11.2).bind fun s12 =>
  (jna s12 1000 200 0).bind fun q13 =>
  (jwr q13.1 44 x0 6 q13.2).bind fun s14 =>
  (jna s14 1000 200 0).bind fun q15 =>
  (jwr q15.1 44 x0 7 q15.2).bind fun s16 =>
  (jna s16 1000 200 0).bind fun q17 =>
  (jwr q17.1 44 x0 8 q17.2).bind fun s18 =>
  (jna s18 1000 200 0).bind fun q19 =>
  (jwr q19.1 44 x0 9 q19.2).bind fun s20 =>
  (jna s20 1000 200 0).bind fun q21 =>
  (jwr q21.1 44 x0 10 q21.2).bind fun s22 =>
  (jna s22 1000 3200 0).bind fun q23 =>
  (jwr q23.1 44 x0 11 q23.2).bind fun s24 =>
  (jna s24 1000 2 0).bind fun q25 =>
  (jwr q25.1 44 x0 12 q25.2).bind fun s26 =>
  (jna s26 1000 600 0).bind fun q27 =>
  (jwr q27.1 44 x0 13 q27.2).bind fun s28 =>
  (jna s28 1000 600 0).bind fun q29 =>
  (jwr q29.1 44 x0 14 q29.2).bind fun s30 =>
  (jna s30 1000 600 0).bind fun q31 =>
  (jwr q31.1 44 x0 15 q31.2).bind fun s32 =>
  (jna s32 1000 600 0).bind fun q33 =>
  (jwr q33.1 44 x0 16 q33.2).bind fun s34 =>
  (jna s34 1000 600 0).bind fun q35 =>
  (jwr q35.1 44 x0 17 q35.2).bind fun s36 =>
  (jna s36 1000 2 0).bind fun q37 =>
  (jwr q37.1 44 x0 18 q37.2).bind fun s38 =>
  (jna s38 1000 16 0).bind fun q39 =>
  (jwr q39.1 44 x0 19 q39.2).bind fun s40 =>
  (jna s40 1000 8192 0).bind fun q41 =>
  (jwr q41.1 44 x0 21 q41.2).bind fun s42 =>
  (jwr s42 44 x0 23 (-1)).bind fun s43 =>
  (jna s43 1000 128 0).bind fun q44 =>
  (jwr q44.1 44 x0 24 q44.2).bind fun s45 =>
  (jna s45 1000 11 0).bind fun q46 =>
  (jwr q46.1 44 x0 25 q46.2).bind fun s47 =>
  (jna s47 1000 11 0).bind fun q48 =>
  (jwr q48.1 44 x0 26 q48.2).bind fun s49 =>
  (jna s49 1000 11 0).bind fun q50 =>
  (jwr q50.1 44 x0 27 q50.2).bind fun s51 =>
  (jna s51 1000 11 0).bind fun q52 =>
  (jwr q52.1 44 x0 28 q52.2).bind fun s53 =>
  (jna s53 1000 2048 0).bind fun q54 =>
  (jwr q54.1 44 x0 29 q54.2).bind fun s55 =>
  (jna s55 1000 24 0).bind fun q56 =>
  (jwr q56.1 44 x0 31 q56.2).bind fun s57 =>
  (jna s57 1000 100 0).bind fun q58 =>
  (jwr q58.1 44 x0 33 q58.2).bind fun s59 =>
  (jna s59 1000 100 0).bind fun q60 =>
  (jwr q60.1 44 x0 34 q60.2).bind fun s61 =>
  (jna s61 1000 11 0).bind fun q62 =>
  (jwr q62.1 44 x0 35 q62.2).bind fun s63 =>
  (jna s63 1000 11 0).bind fun q64 =>
  (jwr q64.1 44 x0 37 q64.2).bind fun s65 =>
  (jna s65 1000 16 0).bind fun q66 =>
  (jwr q66.1 44 x0 38 q66.2).bind fun s67 =>
  u_X40_init_289 s67 x0 0
noncomputable def m_X40_init : jS → Int → Option (jS × Int) := Classical.choose (⟨dm_X40_init, rfl⟩ : ∃ f, f = dm_X40_init)
theorem em_X40_init : m_X40_init = dm_X40_init := Classical.choose_spec (⟨dm_X40_init, rfl⟩ : ∃ f, f = dm_X40_init)
def du_X40_entryFault_319 (s : jS) (x0 x1 : Int) : Option (jS × Int) :=
  (m_X40_spotOf s x0 x1 4).bind fun v1 =>
  (m_X40_fault s x0 14 v1).bind fun q2 =>
  some (q2.1, q2.2)
noncomputable def u_X40_entryFault_319 : jS → Int → Int → Option (jS × Int) := Classical.choose (⟨du_X40_entryFault_319, rfl⟩ : ∃ f, f = du_X40_entryFault_319)
theorem eu_X40_entryFault_319 : u_X40_entryFault_319 = du_X40_entryFault_319 := Classical.choose_spec (⟨du_X40_entryFault_319, rfl⟩ : ∃ f, f = du_X40_entryFault_319)
def du_X40_entryFault_332 (s : jS) (x0 x1 x4 x6 x8 x11 : Int) : Option ((jS × List Int) ⊕ (jS × Int)) :=
  some (.inl (s, [x0, x1, x4, x6, x8, W32 (x11 + 1)]))
noncomputable def u_X40_entryFault_332 : jS → Int → Int → Int → Int → Int → Int → Option ((jS × List Int) ⊕ (jS × Int)) := Classical.choose (⟨du_X40_entryFault_332, rfl⟩ : ∃ f, f = du_X40_entryFault_332)
theorem eu_X40_entryFault_332 : u_X40_entryFault_332 = du_X40_entryFault_332 := Classical.choose_spec (⟨du_X40_entryFault_332, rfl⟩ : ∃ f, f = du_X40_entryFault_332)
def b_X40_entryFault_270 (s : jS) (x0 x1 x4 x6 x8 x11 : Int) : Option ((jS × List Int) ⊕ (jS × Int)) :=
  if x11 < x1 then
    if x8 = 0 then
      jinr (some (s, 0))
    else
      (m_X40_told s x0 x11 1).bind fun v1 =>
      if (L_cmp v1 8) = 0 then
        u_X40_entryFault_332 s x0 x1 x4 x6 x8 x11
      else
        (m_X40_told s x0 x11 4).bind fun v2 =>
        (m_X40_told s x0 x11 5).bind fun v3 =>
        (m_X40_meets s x4 x6 v2 v3).bind fun v4 =>
        if v4 = 0 then
          u_X40_entryFault_332 s x0 x1 x4 x6 x8 x11
        else
          jinr (u_X40_entryFault_319 s x0 x1)
  else
    jinr (some (s, 0))
def du_X40_entryFault_270 (s : jS) (x0 x1 x4 x6 x8 x11 : Int) : Option (jS × Int) := jlpW (jc6 b_X40_entryFault_270) [x0, x1, x4, x6, x8, x11] s
noncomputable def u_X40_entryFault_270 : jS → Int → Int → Int → Int → Int → Int → Option (jS × Int) := Classical.choose (⟨du_X40_entryFault_270, rfl⟩ : ∃ f, f = du_X40_entryFault_270)
theorem eu_X40_entryFault_270 : u_X40_entryFault_270 = du_X40_entryFault_270 := Classical.choose_spec (⟨du_X40_entryFault_270, rfl⟩ : ∃ f, f = du_X40_entryFault_270)
def du_X40_entryFault_267 (s : jS) (x0 x1 x4 x6 x8 : Int) : Option (jS × Int) :=
  u_X40_entryFault_270 s x0 x1 x4 x6 x8 1
noncomputable def u_X40_entryFault_267 : jS → Int → Int → Int → Int → Int → Option (jS × Int) := Classical.choose (⟨du_X40_entryFault_267, rfl⟩ : ∃ f, f = du_X40_entryFault_267)
theorem eu_X40_entryFault_267 : u_X40_entryFault_267 = du_X40_entryFault_267 := Classical.choose_spec (⟨du_X40_entryFault_267, rfl⟩ : ∃ f, f = du_X40_entryFault_267)
def du_X40_entryFault_225 (s : jS) (x0 x1 x4 x6 x8 : Int) : Option (jS × Int) :=
  if x8 = 0 then
    u_X40_entryFault_267 s x0 x1 x4 x6 x8
  else
    (m_X40_meets s x4 x6 (jf s 44 x0 39) (W64 (40 * (jf s 44 x0 40)))).bind fun v1 =>
    if v1 = 0 then
      u_X40_entryFault_267 s x0 x1 x4 x6 x8
    else
      (m_X40_spotOf s x0 x1 4).bind fun v2 =>
      (m_X40_fault s x0 14 v2).bind fun q3 =>
      some (q3.1, q3.2)
noncomputable def u_X40_entryFault_225 : jS → Int → Int → Int → Int → Int → Option (jS × Int) := Classical.choose (⟨du_X40_entryFault_225, rfl⟩ : ∃ f, f = du_X40_entryFault_225)
theorem eu_X40_entryFault_225 : u_X40_entryFault_225 = du_X40_entryFault_225 := Classical.choose_spec (⟨du_X40_entryFault_225, rfl⟩ : ∃ f, f = du_X40_entryFault_225)
def du_X40_entryFault_211 (s : jS) (x0 x1 : Int) : Option (jS × Int) :=
  (m_X40_spotOf s x0 x1 8).bind fun v1 =>
  (m_X40_fault s x0 13 v1).bind fun q2 =>
  some (q2.1, q2.2)
noncomputable def u_X40_entryFault_211 : jS → Int → Int → Option (jS × Int) := Classical.choose (⟨du_X40_entryFault_211, rfl⟩ : ∃ f, f = du_X40_entryFault_211)
theorem eu_X40_entryFault_211 : u_X40_entryFault_211 = du_X40_entryFault_211 := Classical.choose_spec (⟨du_X40_entryFault_211, rfl⟩ : ∃ f, f = du_X40_entryFault_211)
def du_X40_entryFault_169 (s : jS) (x0 x1 x4 x6 x8 : Int) : Option (jS × Int) :=
  (m_X40_told s x0 x1 8).bind fun v1 =>
  if 0 < (L_cmp v1 64) then
    u_X40_entryFault_211 s x0 x1
  else
    (m_X40_isPower s (L2i v1)).bind fun v2 =>
    if v2 = 0 then
      u_X40_entryFault_211 s x0 x1
    else
      if x8 = 0 then
        u_X40_entryFault_225 s x0 x1 x4 x6 x8
      else
        (jdv v1 (L_rem x4 v1)).bind fun v3 =>
        if (L_cmp v3 0) = 0 then
          u_X40_entryFault_225 s x0 x1 x4 x6 x8
        else
          u_X40_entryFault_211 s x0 x1
noncomputable def u_X40_entryFault_169 : jS → Int → Int → Int → Int → Int → Option (jS × Int) := Classical.choose (⟨du_X40_entryFault_169, rfl⟩ : ∃ f, f = du_X40_entryFault_169)
theorem eu_X40_entryFault_169 : u_X40_entryFault_169 = du_X40_entryFault_169 := Classical.choose_spec (⟨du_X40_entryFault_169, rfl⟩ : ∃ f, f = du_X40_entryFault_169)
def du_X40_entryFault_156 (s : jS) (x0 x1 : Int) : Option (jS × Int) :=
  (m_X40_spotOf s x0 x1 4).bind fun v1 =>
  (m_X40_fault s x0 12 v1).bind fun q2 =>
  some (q2.1, q2.2)
noncomputable def u_X40_entryFault_156 : jS → Int → Int → Option (jS × Int) := Classical.choose (⟨du_X40_entryFault_156, rfl⟩ : ∃ f, f = du_X40_entryFault_156)
theorem eu_X40_entryFault_156 : u_X40_entryFault_156 = du_X40_entryFault_156 := Classical.choose_spec (⟨du_X40_entryFault_156, rfl⟩ : ∃ f, f = du_X40_entryFault_156)
def du_X40_entryFault_119 (s : jS) (x0 x1 x4 x6 y0 : Int) : Option (jS × Int) :=
  if y0 = 0 then
    u_X40_entryFault_169 s x0 x1 x4 x6 y0
  else
    if 0 < (L_cmp (W64 (x4 + x6)) (jf s 44 x0 22)) then
      u_X40_entryFault_156 s x0 x1
    else
      if 0 < (L_cmp x6 0) then
        if (L_cmp x4 52) < 0 then
          u_X40_entryFault_156 s x0 x1
        else
          u_X40_entryFault_169 s x0 x1 x4 x6 y0
      else
        u_X40_entryFault_169 s x0 x1 x4 x6 y0
noncomputable def u_X40_entryFault_119 : jS → Int → Int → Int → Int → Int → Option (jS × Int) := Classical.choose (⟨du_X40_entryFault_119, rfl⟩ : ∃ f, f = du_X40_entryFault_119)
theorem eu_X40_entryFault_119 : u_X40_entryFault_119 = du_X40_entryFault_119 := Classical.choose_spec (⟨du_X40_entryFault_119, rfl⟩ : ∃ f, f = du_X40_entryFault_119)
def du_X40_entryFault_90 (s : jS) (x0 x1 x2 : Int) : Option (jS × Int) :=
  (m_X40_told s x0 x1 4).bind fun v1 =>
  (m_X40_told s x0 x1 5).bind fun v2 =>
  if (L_cmp x2 8) = 0 then
    u_X40_entryFault_119 s x0 x1 v1 v2 0
  else
    u_X40_entryFault_119 s x0 x1 v1 v2 1
noncomputable def u_X40_entryFault_90 : jS → Int → Int → Int → Option (jS × Int) := Classical.choose (⟨du_X40_entryFault_90, rfl⟩ : ∃ f, f = du_X40_entryFault_90)
theorem eu_X40_entryFault_90 : u_X40_entryFault_90 = du_X40_entryFault_90 := Classical.choose_spec (⟨du_X40_entryFault_90, rfl⟩ : ∃ f, f = du_X40_entryFault_90)
def du_X40_entryFault_77 (s : jS) (x0 x1 : Int) : Option (jS × Int) :=
  (m_X40_spotOf s x0 x1 1).bind fun v1 =>
  (m_X40_fault s x0 11 v1).bind fun q2 =>
  some (q2.1, q2.2)
noncomputable def u_X40_entryFault_77 : jS → Int → Int → Option (jS × Int) := Classical.choose (⟨du_X40_entryFault_77, rfl⟩ : ∃ f, f = du_X40_entryFault_77)
theorem eu_X40_entryFault_77 : u_X40_entryFault_77 = du_X40_entryFault_77 := Classical.choose_spec (⟨du_X40_entryFault_77, rfl⟩ : ∃ f, f = du_X40_entryFault_77)
def du_X40_entryFault_42 (s : jS) (x0 x1 : Int) : Option (jS × Int) :=
  if x1 = 0 then
    some (s, 0)
  else
    (m_X40_told s x0 x1 1).bind fun v1 =>
    if (L_cmp v1 1) < 0 then
      u_X40_entryFault_77 s x0 x1
    else
      if 0 < (L_cmp v1 4) then
        if (L_cmp v1 8) = 0 then
          u_X40_entryFault_90 s x0 x1 v1
        else
          u_X40_entryFault_77 s x0 x1
      else
        u_X40_entryFault_90 s x0 x1 v1
noncomputable def u_X40_entryFault_42 : jS → Int → Int → Option (jS × Int) := Classical.choose (⟨du_X40_entryFault_42, rfl⟩ : ∃ f, f = du_X40_entryFault_42)
theorem eu_X40_entryFault_42 : u_X40_entryFault_42 = du_X40_entryFault_42 := Classical.choose_spec (⟨du_X40_entryFault_42, rfl⟩ : ∃ f, f = du_X40_entryFault_42)
def du_X40_entryFault_23 (s : jS) (x0 x2 : Int) : Option (jS × Int) :=
  (m_X40_spotOf s x0 0 x2).bind fun v1 =>
  (m_X40_fault s x0 11 v1).bind fun q2 =>
  some (q2.1, q2.2)
noncomputable def u_X40_entryFault_23 : jS → Int → Int → Option (jS × Int) := Classical.choose (⟨du_X40_entryFault_23, rfl⟩ : ∃ f, f = du_X40_entryFault_23)
theorem eu_X40_entryFault_23 : u_X40_entryFault_23 = du_X40_entryFault_23 := Classical.choose_spec (⟨du_X40_entryFault_23, rfl⟩ : ∃ f, f = du_X40_entryFault_23)
def b_X40_entryFault_2 (s : jS) (x0 x1 x2 : Int) : Option ((jS × List Int) ⊕ (jS × Int)) :=
  if x2 < 10 then
    if x1 = 0 then
      (m_X40_told s x0 0 x2).bind fun v1 =>
      if (L_cmp v1 0) = 0 then
        some (.inl (s, [x0, x1, W32 (x2 + 1)]))
      else
        jinr (u_X40_entryFault_23 s x0 x2)
    else
      jinr (u_X40_entryFault_42 s x0 x1)
  else
    jinr (u_X40_entryFault_42 s x0 x1)
def du_X40_entryFault_2 (s : jS) (x0 x1 x2 : Int) : Option (jS × Int) := jlpW (jc3 b_X40_entryFault_2) [x0, x1, x2] s
noncomputable def u_X40_entryFault_2 : jS → Int → Int → Int → Option (jS × Int) := Classical.choose (⟨du_X40_entryFault_2, rfl⟩ : ∃ f, f = du_X40_entryFault_2)
theorem eu_X40_entryFault_2 : u_X40_entryFault_2 = du_X40_entryFault_2 := Classical.choose_spec (⟨du_X40_entryFault_2, rfl⟩ : ∃ f, f = du_X40_entryFault_2)
def dm_X40_entryFault (s : jS) (x0 x1 : Int) : Option (jS × Int) :=
  u_X40_entryFault_2 s x0 x1 0
noncomputable def m_X40_entryFault : jS → Int → Int → Option (jS × Int) := Classical.choose (⟨dm_X40_entryFault, rfl⟩ : ∃ f, f = dm_X40_entryFault)
theorem em_X40_entryFault : m_X40_entryFault = dm_X40_entryFault := Classical.choose_spec (⟨dm_X40_entryFault, rfl⟩ : ∃ f, f = dm_X40_entryFault)
def du_X40_sizeFaults_300 (s : jS) (x0 : Int) : Option (jS × Int) :=
  (m_X40_bytesOf s x0 9).bind fun v1 =>
  jlet (L2i v1) fun v2 =>
  if v2 = 0 then
    (jlt s 1000 (x0 + 32) 11 9).bind fun v3 =>
    (m_X40_spotOf s x0 v3 5).bind fun v4 =>
    (m_X40_fault s x0 20 v4).bind fun q5 =>
    some (q5.1, q5.2)
  else
    (m_X40_from s x0 9).bind fun v6 =>
    (jlt s 1000 (x0 + 21) 8192 v6).bind fun v7 =>
    if v7 = 0 then
      (m_X40_from s x0 9).bind fun v8 =>
      (jlt s 1000 (x0 + 21) 8192 (W32 ((W32 (v8 + v2)) - 1))).bind fun v9 =>
      if v9 = 0 then
        some (s, 0)
      else
        (m_X40_from s x0 9).bind fun v10 =>
        (m_X40_fault s x0 20 (W32 ((W32 (v10 + v2)) - 1))).bind fun q11 =>
        some (q11.1, q11.2)
    else
      (m_X40_from s x0 9).bind fun v12 =>
      (m_X40_fault s x0 20 v12).bind fun q13 =>
      some (q13.1, q13.2)
noncomputable def u_X40_sizeFaults_300 : jS → Int → Option (jS × Int) := Classical.choose (⟨du_X40_sizeFaults_300, rfl⟩ : ∃ f, f = du_X40_sizeFaults_300)
theorem eu_X40_sizeFaults_300 : u_X40_sizeFaults_300 = du_X40_sizeFaults_300 := Classical.choose_spec (⟨du_X40_sizeFaults_300, rfl⟩ : ∃ f, f = du_X40_sizeFaults_300)
def du_X40_sizeFaults_281 (s : jS) (x0 x3 : Int) : Option (jS × Int) :=
  (m_X40_spotOf s x0 x3 5).bind fun v1 =>
  (m_X40_fault s x0 19 v1).bind fun q2 =>
  some (q2.1, q2.2)
noncomputable def u_X40_sizeFaults_281 : jS → Int → Int → Option (jS × Int) := Classical.choose (⟨du_X40_sizeFaults_281, rfl⟩ : ∃ f, f = du_X40_sizeFaults_281)
theorem eu_X40_sizeFaults_281 : u_X40_sizeFaults_281 = du_X40_sizeFaults_281 := Classical.choose_spec (⟨du_X40_sizeFaults_281, rfl⟩ : ∃ f, f = du_X40_sizeFaults_281)
def du_X40_sizeFaults_274 (s : jS) (x0 x1 x3 y0 : Int) : Option ((jS × List Int) ⊕ (jS × Int)) :=
  if y0 = 0 then
    jinr (u_X40_sizeFaults_281 s x0 x3)
  else
    some (.inl (s, [x0, x1, W32 (x3 + 1)]))
noncomputable def u_X40_sizeFaults_274 : jS → Int → Int → Int → Int → Option ((jS × List Int) ⊕ (jS × Int)) := Classical.choose (⟨du_X40_sizeFaults_274, rfl⟩ : ∃ f, f = du_X40_sizeFaults_274)
theorem eu_X40_sizeFaults_274 : u_X40_sizeFaults_274 = du_X40_sizeFaults_274 := Classical.choose_spec (⟨du_X40_sizeFaults_274, rfl⟩ : ∃ f, f = du_X40_sizeFaults_274)
def du_X40_sizeFaults_273 (s : jS) (x0 x1 x3 : Int) : Option ((jS × List Int) ⊕ (jS × Int)) :=
  u_X40_sizeFaults_274 s x0 x1 x3 0
noncomputable def u_X40_sizeFaults_273 : jS → Int → Int → Int → Option ((jS × List Int) ⊕ (jS × Int)) := Classical.choose (⟨du_X40_sizeFaults_273, rfl⟩ : ∃ f, f = du_X40_sizeFaults_273)
theorem eu_X40_sizeFaults_273 : u_X40_sizeFaults_273 = du_X40_sizeFaults_273 := Classical.choose_spec (⟨du_X40_sizeFaults_273, rfl⟩ : ∃ f, f = du_X40_sizeFaults_273)
def du_X40_sizeFaults_269 (s : jS) (x0 x1 x3 : Int) : Option ((jS × List Int) ⊕ (jS × Int)) :=
  u_X40_sizeFaults_274 s x0 x1 x3 1
noncomputable def u_X40_sizeFaults_269 : jS → Int → Int → Int → Option ((jS × List Int) ⊕ (jS × Int)) := Classical.choose (⟨du_X40_sizeFaults_269, rfl⟩ : ∃ f, f = du_X40_sizeFaults_269)
theorem eu_X40_sizeFaults_269 : u_X40_sizeFaults_269 = du_X40_sizeFaults_269 := Classical.choose_spec (⟨du_X40_sizeFaults_269, rfl⟩ : ∃ f, f = du_X40_sizeFaults_269)
def du_X40_sizeFaults_229 (s : jS) (x0 x1 x3 : Int) : Option ((jS × List Int) ⊕ (jS × Int)) :=
  u_X40_sizeFaults_274 s x0 x1 x3 0
noncomputable def u_X40_sizeFaults_229 : jS → Int → Int → Int → Option ((jS × List Int) ⊕ (jS × Int)) := Classical.choose (⟨du_X40_sizeFaults_229, rfl⟩ : ∃ f, f = du_X40_sizeFaults_229)
theorem eu_X40_sizeFaults_229 : u_X40_sizeFaults_229 = du_X40_sizeFaults_229 := Classical.choose_spec (⟨du_X40_sizeFaults_229, rfl⟩ : ∃ f, f = du_X40_sizeFaults_229)
def du_X40_sizeFaults_197 (s : jS) (x0 x1 x3 : Int) : Option ((jS × List Int) ⊕ (jS × Int)) :=
  u_X40_sizeFaults_274 s x0 x1 x3 0
noncomputable def u_X40_sizeFaults_197 : jS → Int → Int → Int → Option ((jS × List Int) ⊕ (jS × Int)) := Classical.choose (⟨du_X40_sizeFaults_197, rfl⟩ : ∃ f, f = du_X40_sizeFaults_197)
theorem eu_X40_sizeFaults_197 : u_X40_sizeFaults_197 = du_X40_sizeFaults_197 := Classical.choose_spec (⟨du_X40_sizeFaults_197, rfl⟩ : ∃ f, f = du_X40_sizeFaults_197)
def du_X40_sizeFaults_119 (s : jS) (x0 x3 x4 x5 x7 y0 y1 : Int) : Option ((jS × List Int) ⊕ (jS × Int)) :=
  jlet (W64 (y1 + y0)) fun v1 =>
  if x4 < 3 then
    if 0 < (L_cmp x5 2048) then
      u_X40_sizeFaults_274 s x0 v1 x3 0
    else
      u_X40_sizeFaults_274 s x0 v1 x3 1
  else
    if x4 = 3 then
      if 0 < (L_cmp x5 4096) then
        u_X40_sizeFaults_274 s x0 v1 x3 0
      else
        u_X40_sizeFaults_274 s x0 v1 x3 1
    else
      if x4 = 4 then
        if 0 < (L_cmp x5 2048) then
          u_X40_sizeFaults_197 s x0 v1 x3
        else
          (jdv 2 (L_rem x5 2)).bind fun v2 =>
          if (L_cmp v2 0) = 0 then
            u_X40_sizeFaults_274 s x0 v1 x3 1
          else
            u_X40_sizeFaults_197 s x0 v1 x3
      else
        if x7 = 0 then
          if x4 = 8 then
            (jdv 16 (L_rem x5 16)).bind fun v3 =>
            if (L_cmp v3 0) = 0 then
              if (L_cmp x5 16) < 0 then
                u_X40_sizeFaults_273 s x0 v1 x3
              else
                if 0 < (L_cmp x5 1616) then
                  u_X40_sizeFaults_273 s x0 v1 x3
                else
                  u_X40_sizeFaults_269 s x0 v1 x3
            else
              u_X40_sizeFaults_273 s x0 v1 x3
          else
            u_X40_sizeFaults_269 s x0 v1 x3
        else
          (jdv 12 (L_rem x5 12)).bind fun v4 =>
          if (L_cmp v4 0) = 0 then
            if 0 < (L_cmp v1 300) then
              u_X40_sizeFaults_229 s x0 v1 x3
            else
              u_X40_sizeFaults_274 s x0 v1 x3 1
          else
            u_X40_sizeFaults_229 s x0 v1 x3
noncomputable def u_X40_sizeFaults_119 : jS → Int → Int → Int → Int → Int → Int → Int → Option ((jS × List Int) ⊕ (jS × Int)) := Classical.choose (⟨du_X40_sizeFaults_119, rfl⟩ : ∃ f, f = du_X40_sizeFaults_119)
theorem eu_X40_sizeFaults_119 : u_X40_sizeFaults_119 = du_X40_sizeFaults_119 := Classical.choose_spec (⟨du_X40_sizeFaults_119, rfl⟩ : ∃ f, f = du_X40_sizeFaults_119)
def du_X40_sizeFaults_101 (s : jS) (x0 x1 x3 x4 x5 y0 : Int) : Option ((jS × List Int) ⊕ (jS × Int)) :=
  if y0 = 0 then
    u_X40_sizeFaults_119 s x0 x3 x4 x5 y0 0 x1
  else
    (jdv 12 (L_div x5 12)).bind fun v1 =>
    u_X40_sizeFaults_119 s x0 x3 x4 x5 y0 v1 x1
noncomputable def u_X40_sizeFaults_101 : jS → Int → Int → Int → Int → Int → Int → Option ((jS × List Int) ⊕ (jS × Int)) := Classical.choose (⟨du_X40_sizeFaults_101, rfl⟩ : ∃ f, f = du_X40_sizeFaults_101)
theorem eu_X40_sizeFaults_101 : u_X40_sizeFaults_101 = du_X40_sizeFaults_101 := Classical.choose_spec (⟨du_X40_sizeFaults_101, rfl⟩ : ∃ f, f = du_X40_sizeFaults_101)
def du_X40_sizeFaults_100 (s : jS) (x0 x1 x3 x4 x5 : Int) : Option ((jS × List Int) ⊕ (jS × Int)) :=
  u_X40_sizeFaults_101 s x0 x1 x3 x4 x5 0
noncomputable def u_X40_sizeFaults_100 : jS → Int → Int → Int → Int → Int → Option ((jS × List Int) ⊕ (jS × Int)) := Classical.choose (⟨du_X40_sizeFaults_100, rfl⟩ : ∃ f, f = du_X40_sizeFaults_100)
theorem eu_X40_sizeFaults_100 : u_X40_sizeFaults_100 = du_X40_sizeFaults_100 := Classical.choose_spec (⟨du_X40_sizeFaults_100, rfl⟩ : ∃ f, f = du_X40_sizeFaults_100)
def b_X40_sizeFaults_59 (s : jS) (x0 x1 x3 : Int) : Option ((jS × List Int) ⊕ (jS × Int)) :=
  if x3 < (jf s 44 x0 40) then
    (jlt s 1000 (x0 + 33) 16 x3).bind fun v1 =>
    (m_X40_told s x0 x3 5).bind fun v2 =>
    if v1 < 5 then
      u_X40_sizeFaults_100 s x0 x1 x3 v1 v2
    else
      if v1 < 8 then
        u_X40_sizeFaults_101 s x0 x1 x3 v1 v2 1
      else
        u_X40_sizeFaults_100 s x0 x1 x3 v1 v2
  else
    jinr (u_X40_sizeFaults_300 s x0)
def du_X40_sizeFaults_59 (s : jS) (x0 x1 x3 : Int) : Option (jS × Int) := jlpW (jc3 b_X40_sizeFaults_59) [x0, x1, x3] s
noncomputable def u_X40_sizeFaults_59 : jS → Int → Int → Int → Option (jS × Int) := Classical.choose (⟨du_X40_sizeFaults_59, rfl⟩ : ∃ f, f = du_X40_sizeFaults_59)
theorem eu_X40_sizeFaults_59 : u_X40_sizeFaults_59 = du_X40_sizeFaults_59 := Classical.choose_spec (⟨du_X40_sizeFaults_59, rfl⟩ : ∃ f, f = du_X40_sizeFaults_59)
def du_X40_sizeFaults_46 (s : jS) (x0 : Int) : Option (jS × Int) :=
  (m_X40_fault s x0 18 50).bind fun q1 =>
  some (q1.1, q1.2)
noncomputable def u_X40_sizeFaults_46 : jS → Int → Option (jS × Int) := Classical.choose (⟨du_X40_sizeFaults_46, rfl⟩ : ∃ f, f = du_X40_sizeFaults_46)
theorem eu_X40_sizeFaults_46 : u_X40_sizeFaults_46 = du_X40_sizeFaults_46 := Classical.choose_spec (⟨du_X40_sizeFaults_46, rfl⟩ : ∃ f, f = du_X40_sizeFaults_46)
def dm_X40_sizeFaults (s : jS) (x0 : Int) : Option (jS × Int) :=
  (jlt s 1000 (x0 + 32) 11 8).bind fun v1 =>
  if v1 = 0 then
    u_X40_sizeFaults_46 s x0
  else
    (jlt s 1000 (x0 + 32) 11 9).bind fun v2 =>
    if v2 = 0 then
      u_X40_sizeFaults_46 s x0
    else
      (jlt s 1000 (x0 + 32) 11 10).bind fun v3 =>
      if v3 = 0 then
        u_X40_sizeFaults_46 s x0
      else
        (jlt s 1000 (x0 + 32) 11 10).bind fun v4 =>
        (m_X40_read2 s x0 50).bind fun v5 =>
        if v4 = v5 then
          u_X40_sizeFaults_59 s x0 0 1
        else
          u_X40_sizeFaults_46 s x0
noncomputable def m_X40_sizeFaults : jS → Int → Option (jS × Int) := Classical.choose (⟨dm_X40_sizeFaults, rfl⟩ : ∃ f, f = dm_X40_sizeFaults)
theorem em_X40_sizeFaults : m_X40_sizeFaults = dm_X40_sizeFaults := Classical.choose_spec (⟨dm_X40_sizeFaults, rfl⟩ : ∃ f, f = dm_X40_sizeFaults)
def du_X40_symbolFault_255 (s : jS) (x0 x2 : Int) : Option (jS × Int) :=
  (m_X40_fault s x0 27 x2).bind fun q1 =>
  some (q1.1, q1.2)
noncomputable def u_X40_symbolFault_255 : jS → Int → Int → Option (jS × Int) := Classical.choose (⟨du_X40_symbolFault_255, rfl⟩ : ∃ f, f = du_X40_symbolFault_255)
theorem eu_X40_symbolFault_255 : u_X40_symbolFault_255 = du_X40_symbolFault_255 := Classical.choose_spec (⟨du_X40_symbolFault_255, rfl⟩ : ∃ f, f = du_X40_symbolFault_255)
def du_X40_symbolFault_263 (s : jS) (x0 x1 x2 x3 x5 : Int) : Option ((jS × List Int) ⊕ (jS × Int)) :=
  some (.inl (s, [x0, x1, x2, x3, W32 (x5 + 1)]))
noncomputable def u_X40_symbolFault_263 : jS → Int → Int → Int → Int → Int → Option ((jS × List Int) ⊕ (jS × Int)) := Classical.choose (⟨du_X40_symbolFault_263, rfl⟩ : ∃ f, f = du_X40_symbolFault_263)
theorem eu_X40_symbolFault_263 : u_X40_symbolFault_263 = du_X40_symbolFault_263 := Classical.choose_spec (⟨du_X40_symbolFault_263, rfl⟩ : ∃ f, f = du_X40_symbolFault_263)
def b_X40_symbolFault_224 (s : jS) (x0 x1 x2 x3 x5 : Int) : Option ((jS × List Int) ⊕ (jS × Int)) :=
  if x5 < x1 then
    if (I_shr x3 4) = 0 then
      jinr (some (s, 0))
    else
      (m_X40_bindOf s x0 x5).bind fun v1 =>
      if v1 = 0 then
        u_X40_symbolFault_263 s x0 x1 x2 x3 x5
      else
        (m_X40_isSameIn s x0 x1 x5).bind fun v2 =>
        if v2 = 0 then
          u_X40_symbolFault_263 s x0 x1 x2 x3 x5
        else
          jinr (u_X40_symbolFault_255 s x0 x2)
  else
    jinr (some (s, 0))
def du_X40_symbolFault_224 (s : jS) (x0 x1 x2 x3 x5 : Int) : Option (jS × Int) := jlpW (jc5 b_X40_symbolFault_224) [x0, x1, x2, x3, x5] s
noncomputable def u_X40_symbolFault_224 : jS → Int → Int → Int → Int → Int → Option (jS × Int) := Classical.choose (⟨du_X40_symbolFault_224, rfl⟩ : ∃ f, f = du_X40_symbolFault_224)
theorem eu_X40_symbolFault_224 : u_X40_symbolFault_224 = du_X40_symbolFault_224 := Classical.choose_spec (⟨du_X40_symbolFault_224, rfl⟩ : ∃ f, f = du_X40_symbolFault_224)
def du_X40_symbolFault_177 (s : jS) (x0 x1 x2 x3 : Int) : Option (jS × Int) :=
  (m_X40_whereOf s x0 x1).bind fun v1 =>
  if v1 = (-2) then
    (m_X40_fault s x0 25 (W32 (x2 + 14))).bind fun q2 =>
    some (q2.1, q2.2)
  else
    (m_X40_amiss s x0 x1).bind fun v3 =>
    if 0 < v3 then
      (m_X40_fault s x0 26 (W32 (x2 + v3))).bind fun q4 =>
      some (q4.1, q4.2)
    else
      u_X40_symbolFault_224 s x0 x1 x2 x3 1
noncomputable def u_X40_symbolFault_177 : jS → Int → Int → Int → Int → Option (jS × Int) := Classical.choose (⟨du_X40_symbolFault_177, rfl⟩ : ∃ f, f = du_X40_symbolFault_177)
theorem eu_X40_symbolFault_177 : u_X40_symbolFault_177 = du_X40_symbolFault_177 := Classical.choose_spec (⟨du_X40_symbolFault_177, rfl⟩ : ∃ f, f = du_X40_symbolFault_177)
def du_X40_symbolFault_111 (s : jS) (x0 x2 : Int) : Option (jS × Int) :=
  (m_X40_fault s x0 23 (W32 (x2 + 12))).bind fun q1 =>
  some (q1.1, q1.2)
noncomputable def u_X40_symbolFault_111 : jS → Int → Int → Option (jS × Int) := Classical.choose (⟨du_X40_symbolFault_111, rfl⟩ : ∃ f, f = du_X40_symbolFault_111)
theorem eu_X40_symbolFault_111 : u_X40_symbolFault_111 = du_X40_symbolFault_111 := Classical.choose_spec (⟨du_X40_symbolFault_111, rfl⟩ : ∃ f, f = du_X40_symbolFault_111)
def du_X40_symbolFault_78 (s : jS) (x0 x2 : Int) : Option (jS × Int) :=
  (m_X40_fault s x0 22 x2).bind fun q1 =>
  some (q1.1, q1.2)
noncomputable def u_X40_symbolFault_78 : jS → Int → Int → Option (jS × Int) := Classical.choose (⟨du_X40_symbolFault_78, rfl⟩ : ∃ f, f = du_X40_symbolFault_78)
theorem eu_X40_symbolFault_78 : u_X40_symbolFault_78 = du_X40_symbolFault_78 := Classical.choose_spec (⟨du_X40_symbolFault_78, rfl⟩ : ∃ f, f = du_X40_symbolFault_78)
def du_X40_symbolFault_45 (s : jS) (x0 x1 x2 : Int) : Option (jS × Int) :=
  if x1 = 0 then
    some (s, 0)
  else
    (m_X40_read4 s x0 x2).bind fun v1 =>
    (m_X40_bytesOf s x0 9).bind fun v2 =>
    if (L_cmp v1 v2) < 0 then
      (m_X40_namePlace s x0 x1).bind fun v3 =>
      (m_X40_isName s x0 v3).bind fun v4 =>
      if v4 = 0 then
        u_X40_symbolFault_78 s x0 x2
      else
        (jlt s 1000 (x0 + 21) 8192 (W32 (x2 + 12))).bind fun v5 =>
        if 2 < (I_shr v5 4) then
          u_X40_symbolFault_111 s x0 x2
        else
          if 2 < (I_and v5 15) then
            u_X40_symbolFault_111 s x0 x2
          else
            (jlt s 1000 (x0 + 21) 8192 (W32 (x2 + 13))).bind fun v6 =>
            if v6 = 0 then
              if (I_shr v5 4) = 0 then
                if 1 < x1 then
                  (m_X40_bindOf s x0 (W32 (x1 - 1))).bind fun v7 =>
                  if v7 = 0 then
                    u_X40_symbolFault_177 s x0 x1 x2 v5
                  else
                    (m_X40_fault s x0 24 (W32 (x2 + 12))).bind fun q8 =>
                    some (q8.1, q8.2)
                else
                  u_X40_symbolFault_177 s x0 x1 x2 v5
              else
                u_X40_symbolFault_177 s x0 x1 x2 v5
            else
              (m_X40_fault s x0 23 (W32 (x2 + 13))).bind fun q9 =>
              some (q9.1, q9.2)
    else
      u_X40_symbolFault_78 s x0 x2
noncomputable def u_X40_symbolFault_45 : jS → Int → Int → Int → Option (jS × Int) := Classical.choose (⟨du_X40_symbolFault_45, rfl⟩ : ∃ f, f = du_X40_symbolFault_45)
theorem eu_X40_symbolFault_45 : u_X40_symbolFault_45 = du_X40_symbolFault_45 := Classical.choose_spec (⟨du_X40_symbolFault_45, rfl⟩ : ∃ f, f = du_X40_symbolFault_45)
def du_X40_symbolFault_29 (s : jS) (x0 x2 x3 : Int) : Option (jS × Int) :=
  (m_X40_fault s x0 21 (W32 (x2 + x3))).bind fun q1 =>
  some (q1.1, q1.2)
noncomputable def u_X40_symbolFault_29 : jS → Int → Int → Int → Option (jS × Int) := Classical.choose (⟨du_X40_symbolFault_29, rfl⟩ : ∃ f, f = du_X40_symbolFault_29)
theorem eu_X40_symbolFault_29 : u_X40_symbolFault_29 = du_X40_symbolFault_29 := Classical.choose_spec (⟨du_X40_symbolFault_29, rfl⟩ : ∃ f, f = du_X40_symbolFault_29)
def b_X40_symbolFault_8 (s : jS) (x0 x1 x2 x3 : Int) : Option ((jS × List Int) ⊕ (jS × Int)) :=
  if x3 < 16 then
    if x1 = 0 then
      (jlt s 1000 (x0 + 21) 8192 (W32 (x2 + x3))).bind fun v1 =>
      if v1 = 0 then
        some (.inl (s, [x0, x1, x2, W32 (x3 + 1)]))
      else
        jinr (u_X40_symbolFault_29 s x0 x2 x3)
    else
      jinr (u_X40_symbolFault_45 s x0 x1 x2)
  else
    jinr (u_X40_symbolFault_45 s x0 x1 x2)
def du_X40_symbolFault_8 (s : jS) (x0 x1 x2 x3 : Int) : Option (jS × Int) := jlpW (jc4 b_X40_symbolFault_8) [x0, x1, x2, x3] s
noncomputable def u_X40_symbolFault_8 : jS → Int → Int → Int → Int → Option (jS × Int) := Classical.choose (⟨du_X40_symbolFault_8, rfl⟩ : ∃ f, f = du_X40_symbolFault_8)
theorem eu_X40_symbolFault_8 : u_X40_symbolFault_8 = du_X40_symbolFault_8 := Classical.choose_spec (⟨du_X40_symbolFault_8, rfl⟩ : ∃ f, f = du_X40_symbolFault_8)
def dm_X40_symbolFault (s : jS) (x0 x1 : Int) : Option (jS × Int) :=
  (m_X40_symbolPlace s x0 x1).bind fun v1 =>
  u_X40_symbolFault_8 s x0 x1 v1 0
noncomputable def m_X40_symbolFault : jS → Int → Int → Option (jS × Int) := Classical.choose (⟨dm_X40_symbolFault, rfl⟩ : ∃ f, f = dm_X40_symbolFault)
theorem em_X40_symbolFault : m_X40_symbolFault = dm_X40_symbolFault := Classical.choose_spec (⟨dm_X40_symbolFault, rfl⟩ : ∃ f, f = dm_X40_symbolFault)
def du_X40_relocationFault_119 (s : jS) (x0 x1 x2 x5 x8 : Int) : Option (jS × Int) :=
  (m_X40_widthOf s x5 (L2i x8)).bind fun v1 =>
  (m_X40_read4 s x0 x2).bind fun v2 =>
  (m_X40_bytesOf s x0 x1).bind fun v3 =>
  if 0 < (L_cmp (W64 (v2 + v1)) v3) then
    (m_X40_fault s x0 32 x2).bind fun q4 =>
    some (q4.1, q4.2)
  else
    some (s, 0)
noncomputable def u_X40_relocationFault_119 : jS → Int → Int → Int → Int → Int → Option (jS × Int) := Classical.choose (⟨du_X40_relocationFault_119, rfl⟩ : ∃ f, f = du_X40_relocationFault_119)
theorem eu_X40_relocationFault_119 : u_X40_relocationFault_119 = du_X40_relocationFault_119 := Classical.choose_spec (⟨du_X40_relocationFault_119, rfl⟩ : ∃ f, f = du_X40_relocationFault_119)
def du_X40_relocationFault_73 (s : jS) (x0 x2 : Int) : Option (jS × Int) :=
  (m_X40_fault s x0 30 (W32 (x2 + 4))).bind fun q1 =>
  some (q1.1, q1.2)
noncomputable def u_X40_relocationFault_73 : jS → Int → Int → Option (jS × Int) := Classical.choose (⟨du_X40_relocationFault_73, rfl⟩ : ∃ f, f = du_X40_relocationFault_73)
theorem eu_X40_relocationFault_73 : u_X40_relocationFault_73 = du_X40_relocationFault_73 := Classical.choose_spec (⟨du_X40_relocationFault_73, rfl⟩ : ∃ f, f = du_X40_relocationFault_73)
def du_X40_relocationFault_70 (s : jS) (x0 x1 x2 x5 y0 y1 : Int) : Option (jS × Int) :=
  if y1 = y0 then
    (m_X40_read4 s x0 (W32 (x2 + 8))).bind fun v1 =>
    if x5 = 43 then
      (m_X40_isSkip s v1).bind fun v2 =>
      if v2 = 0 then
        (m_X40_fault s x0 31 (W32 (x2 + 8))).bind fun q3 =>
        some (q3.1, q3.2)
      else
        u_X40_relocationFault_119 s x0 x1 x2 x5 v1
    else
      u_X40_relocationFault_119 s x0 x1 x2 x5 v1
  else
    u_X40_relocationFault_73 s x0 x2
noncomputable def u_X40_relocationFault_70 : jS → Int → Int → Int → Int → Int → Int → Option (jS × Int) := Classical.choose (⟨du_X40_relocationFault_70, rfl⟩ : ∃ f, f = du_X40_relocationFault_70)
theorem eu_X40_relocationFault_70 : u_X40_relocationFault_70 = du_X40_relocationFault_70 := Classical.choose_spec (⟨du_X40_relocationFault_70, rfl⟩ : ∃ f, f = du_X40_relocationFault_70)
def dm_X40_relocationFault (s : jS) (x0 x1 x2 : Int) : Option (jS × Int) :=
  (m_X40_read4 s x0 (W32 (x2 + 4))).bind fun v1 =>
  (jdv 256 (L_rem v1 256)).bind fun v2 =>
  jlet (L2i v2) fun v3 =>
  (jdv 256 (L_div v1 256)).bind fun v4 =>
  (m_X40_isKindOf s v3 x1).bind fun v5 =>
  if v5 = 0 then
    (m_X40_fault s x0 29 (W32 (x2 + 4))).bind fun q6 =>
    some (q6.1, q6.2)
  else
    (m_X40_symbolsIn s x0).bind fun v7 =>
    if (L_cmp v4 v7) < 0 then
      (m_X40_isAlone s v3).bind fun v8 =>
      if (L_cmp v4 0) = 0 then
        u_X40_relocationFault_70 s x0 x1 x2 v3 1 v8
      else
        u_X40_relocationFault_70 s x0 x1 x2 v3 0 v8
    else
      u_X40_relocationFault_73 s x0 x2
noncomputable def m_X40_relocationFault : jS → Int → Int → Int → Option (jS × Int) := Classical.choose (⟨dm_X40_relocationFault, rfl⟩ : ∃ f, f = dm_X40_relocationFault)
theorem em_X40_relocationFault : m_X40_relocationFault = dm_X40_relocationFault := Classical.choose_spec (⟨dm_X40_relocationFault, rfl⟩ : ∃ f, f = dm_X40_relocationFault)
def du_X40_lay_318 (s : jS) (x1 : Int) : Option (jS × Int) :=
  (m_X40_roundUp s x1 4).bind fun v1 =>
  some (s, v1)
noncomputable def u_X40_lay_318 : jS → Int → Option (jS × Int) := Classical.choose (⟨du_X40_lay_318, rfl⟩ : ∃ f, f = du_X40_lay_318)
theorem eu_X40_lay_318 : u_X40_lay_318 = du_X40_lay_318 := Classical.choose_spec (⟨du_X40_lay_318, rfl⟩ : ∃ f, f = du_X40_lay_318)
def du_X40_lay_312 (s : jS) (x0 x1 x3 : Int) : Option ((jS × List Int) ⊕ (jS × Int)) :=
  some (.inl (s, [x0, x1, W32 (x3 + 1)]))
noncomputable def u_X40_lay_312 : jS → Int → Int → Int → Option ((jS × List Int) ⊕ (jS × Int)) := Classical.choose (⟨du_X40_lay_312, rfl⟩ : ∃ f, f = du_X40_lay_312)
theorem eu_X40_lay_312 : u_X40_lay_312 = du_X40_lay_312 := Classical.choose_spec (⟨du_X40_lay_312, rfl⟩ : ∃ f, f = du_X40_lay_312)
def du_X40_lay_295 (s : jS) (x0 x3 y0 : Int) : Option ((jS × List Int) ⊕ (jS × Int)) :=
  (jst s 1000 (x0 + 24) 11 x3 y0).bind fun s1 =>
  (jlt s1 1000 (x0 + 25) 11 x3).bind fun v2 =>
  jlet (W32 (y0 + v2)) fun v3 =>
  u_X40_lay_312 s1 x0 v3 x3
noncomputable def u_X40_lay_295 : jS → Int → Int → Int → Option ((jS × List Int) ⊕ (jS × Int)) := Classical.choose (⟨du_X40_lay_295, rfl⟩ : ∃ f, f = du_X40_lay_295)
theorem eu_X40_lay_295 : u_X40_lay_295 = du_X40_lay_295 := Classical.choose_spec (⟨du_X40_lay_295, rfl⟩ : ∃ f, f = du_X40_lay_295)
def b_X40_lay_249 (s : jS) (x0 x1 x3 : Int) : Option ((jS × List Int) ⊕ (jS × Int)) :=
  if x3 < 11 then
    (jlt s 1000 (x0 + 26) 11 x3).bind fun v1 =>
    if v1 = 0 then
      u_X40_lay_312 s x0 x1 x3
    else
      if x3 = 4 then
        (m_X40_roundUp s x1 2).bind fun v2 =>
        u_X40_lay_295 s x0 x3 v2
      else
        if x3 < 9 then
          (m_X40_roundUp s x1 4).bind fun v3 =>
          u_X40_lay_295 s x0 x3 v3
        else
          u_X40_lay_295 s x0 x3 x1
  else
    jinr (u_X40_lay_318 s x1)
def du_X40_lay_249 (s : jS) (x0 x1 x3 : Int) : Option (jS × Int) := jlpW (jc3 b_X40_lay_249) [x0, x1, x3] s
noncomputable def u_X40_lay_249 : jS → Int → Int → Int → Option (jS × Int) := Classical.choose (⟨du_X40_lay_249, rfl⟩ : ∃ f, f = du_X40_lay_249)
theorem eu_X40_lay_249 : u_X40_lay_249 = du_X40_lay_249 := Classical.choose_spec (⟨du_X40_lay_249, rfl⟩ : ∃ f, f = du_X40_lay_249)
def du_X40_lay_236 (s : jS) (x0 x1 : Int) : Option (jS × Int) :=
  (m_X40_sizeOfTitles s x0).bind fun q1 =>
  (jst q1.1 1000 (x0 + 25) 11 10 q1.2).bind fun s2 =>
  u_X40_lay_249 s2 x0 x1 4
noncomputable def u_X40_lay_236 : jS → Int → Int → Option (jS × Int) := Classical.choose (⟨du_X40_lay_236, rfl⟩ : ∃ f, f = du_X40_lay_236)
theorem eu_X40_lay_236 : u_X40_lay_236 = du_X40_lay_236 := Classical.choose_spec (⟨du_X40_lay_236, rfl⟩ : ∃ f, f = du_X40_lay_236)
def du_X40_lay_226 (s : jS) (x0 x1 x3 y0 y1 y2 : Int) : Option ((jS × List Int) ⊕ (jS × Int)) :=
  jls (jp s 44 y2 40 (W32 (y1 + y0))) fun s1 =>
  some (.inl (s1, [x0, x1, W32 (x3 + 1)]))
noncomputable def u_X40_lay_226 : jS → Int → Int → Int → Int → Int → Int → Option ((jS × List Int) ⊕ (jS × Int)) := Classical.choose (⟨du_X40_lay_226, rfl⟩ : ∃ f, f = du_X40_lay_226)
theorem eu_X40_lay_226 : u_X40_lay_226 = du_X40_lay_226 := Classical.choose_spec (⟨du_X40_lay_226, rfl⟩ : ∃ f, f = du_X40_lay_226)
def du_X40_lay_210 (s : jS) (x0 x1 x3 x4 y0 y1 y2 : Int) : Option ((jS × List Int) ⊕ (jS × Int)) :=
  (jst s 1000 y2 11 y1 y0).bind fun s1 =>
  if x4 = 0 then
    u_X40_lay_226 s1 x0 x1 x3 0 (jf s1 44 x0 40) x0
  else
    u_X40_lay_226 s1 x0 x1 x3 1 (jf s1 44 x0 40) x0
noncomputable def u_X40_lay_210 : jS → Int → Int → Int → Int → Int → Int → Int → Option ((jS × List Int) ⊕ (jS × Int)) := Classical.choose (⟨du_X40_lay_210, rfl⟩ : ∃ f, f = du_X40_lay_210)
theorem eu_X40_lay_210 : u_X40_lay_210 = du_X40_lay_210 := Classical.choose_spec (⟨du_X40_lay_210, rfl⟩ : ∃ f, f = du_X40_lay_210)
def du_X40_lay_190 (s : jS) (x0 x1 x3 y0 : Int) : Option ((jS × List Int) ⊕ (jS × Int)) :=
  if y0 = 0 then
    u_X40_lay_210 s x0 x1 x3 y0 0 x3 (x0 + 26)
  else
    u_X40_lay_210 s x0 x1 x3 y0 (jf s 44 x0 40) x3 (x0 + 26)
noncomputable def u_X40_lay_190 : jS → Int → Int → Int → Int → Option ((jS × List Int) ⊕ (jS × Int)) := Classical.choose (⟨du_X40_lay_190, rfl⟩ : ∃ f, f = du_X40_lay_190)
theorem eu_X40_lay_190 : u_X40_lay_190 = du_X40_lay_190 := Classical.choose_spec (⟨du_X40_lay_190, rfl⟩ : ∃ f, f = du_X40_lay_190)
def du_X40_lay_185 (s : jS) (x0 x1 x3 : Int) : Option ((jS × List Int) ⊕ (jS × Int)) :=
  u_X40_lay_190 s x0 x1 x3 1
noncomputable def u_X40_lay_185 : jS → Int → Int → Int → Option ((jS × List Int) ⊕ (jS × Int)) := Classical.choose (⟨du_X40_lay_185, rfl⟩ : ∃ f, f = du_X40_lay_185)
theorem eu_X40_lay_185 : u_X40_lay_185 = du_X40_lay_185 := Classical.choose_spec (⟨du_X40_lay_185, rfl⟩ : ∃ f, f = du_X40_lay_185)
def b_X40_lay_159 (s : jS) (x0 x1 x3 : Int) : Option ((jS × List Int) ⊕ (jS × Int)) :=
  if x3 < 11 then
    if x3 < 4 then
      u_X40_lay_185 s x0 x1 x3
    else
      if x3 < 8 then
        (jlt s 1000 (x0 + 25) 11 x3).bind fun v1 =>
        if 0 < v1 then
          u_X40_lay_185 s x0 x1 x3
        else
          u_X40_lay_190 s x0 x1 x3 0
      else
        u_X40_lay_185 s x0 x1 x3
  else
    jinr (u_X40_lay_236 s x0 x1)
def du_X40_lay_159 (s : jS) (x0 x1 x3 : Int) : Option (jS × Int) := jlpW (jc3 b_X40_lay_159) [x0, x1, x3] s
noncomputable def u_X40_lay_159 : jS → Int → Int → Int → Option (jS × Int) := Classical.choose (⟨du_X40_lay_159, rfl⟩ : ∃ f, f = du_X40_lay_159)
theorem eu_X40_lay_159 : u_X40_lay_159 = du_X40_lay_159 := Classical.choose_spec (⟨du_X40_lay_159, rfl⟩ : ∃ f, f = du_X40_lay_159)
def du_X40_lay_117 (s : jS) (x0 x1 : Int) : Option (jS × Int) :=
  (jlt s 1000 (x0 + 13) 2 0).bind fun v1 =>
  (jst s 1000 (x0 + 25) 11 8 (W32 (16 + (W32 (16 * v1))))).bind fun s2 =>
  (m_X40_order s2 x0).bind fun q3 =>
  (m_X40_sizeOfSymbolNames q3.1 x0).bind fun q4 =>
  (jst q4.1 1000 (x0 + 25) 11 9 q4.2).bind fun s5 =>
  jls (jp s5 44 x0 40 1) fun s6 =>
  u_X40_lay_159 s6 x0 x1 0
noncomputable def u_X40_lay_117 : jS → Int → Int → Option (jS × Int) := Classical.choose (⟨du_X40_lay_117, rfl⟩ : ∃ f, f = du_X40_lay_117)
theorem eu_X40_lay_117 : u_X40_lay_117 = du_X40_lay_117 := Classical.choose_spec (⟨du_X40_lay_117, rfl⟩ : ∃ f, f = du_X40_lay_117)
def b_X40_lay_90 (s : jS) (x0 x1 x2 : Int) : Option ((jS × List Int) ⊕ (jS × Int)) :=
  if x2 < 3 then
    (m_X40_relocationsOf s x0 x2).bind fun v1 =>
    (jst s 1000 (x0 + 25) 11 (W32 (5 + x2)) (W32 (12 * v1))).bind fun s2 =>
    some (.inl (s2, [x0, x1, W32 (x2 + 1)]))
  else
    jinr (u_X40_lay_117 s x0 x1)
def du_X40_lay_90 (s : jS) (x0 x1 x2 : Int) : Option (jS × Int) := jlpW (jc3 b_X40_lay_90) [x0, x1, x2] s
noncomputable def u_X40_lay_90 : jS → Int → Int → Int → Option (jS × Int) := Classical.choose (⟨du_X40_lay_90, rfl⟩ : ∃ f, f = du_X40_lay_90)
theorem eu_X40_lay_90 : u_X40_lay_90 = du_X40_lay_90 := Classical.choose_spec (⟨du_X40_lay_90, rfl⟩ : ∃ f, f = du_X40_lay_90)
def du_X40_lay_55 (s : jS) (x0 x1 : Int) : Option (jS × Int) :=
  (jst s 1000 (x0 + 24) 11 3 x1).bind fun s1 =>
  (jlt s1 1000 (x0 + 2) 8 3).bind fun v2 =>
  (jst s1 1000 (x0 + 25) 11 3 v2).bind fun s3 =>
  (jlt s3 1000 (x0 + 5) 2 0).bind fun v4 =>
  (jst s3 1000 (x0 + 25) 11 4 (W32 (2 * v4))).bind fun s5 =>
  u_X40_lay_90 s5 x0 x1 0
noncomputable def u_X40_lay_55 : jS → Int → Int → Option (jS × Int) := Classical.choose (⟨du_X40_lay_55, rfl⟩ : ∃ f, f = du_X40_lay_55)
theorem eu_X40_lay_55 : u_X40_lay_55 = du_X40_lay_55 := Classical.choose_spec (⟨du_X40_lay_55, rfl⟩ : ∃ f, f = du_X40_lay_55)
def b_X40_lay_5 (s : jS) (x0 x1 x2 : Int) : Option ((jS × List Int) ⊕ (jS × Int)) :=
  if x2 < 3 then
    (jlt s 1000 (x0 + 3) 8 x2).bind fun v1 =>
    (m_X40_roundUp s x1 v1).bind fun v2 =>
    (jst s 1000 (x0 + 24) 11 x2 v2).bind fun s3 =>
    (jlt s3 1000 (x0 + 2) 8 x2).bind fun v4 =>
    (jst s3 1000 (x0 + 25) 11 x2 v4).bind fun s5 =>
    (jlt s5 1000 (x0 + 2) 8 x2).bind fun v6 =>
    jlet (W32 (v2 + v6)) fun v7 =>
    some (.inl (s5, [x0, v7, W32 (x2 + 1)]))
  else
    jinr (u_X40_lay_55 s x0 x1)
def du_X40_lay_5 (s : jS) (x0 x1 x2 : Int) : Option (jS × Int) := jlpW (jc3 b_X40_lay_5) [x0, x1, x2] s
noncomputable def u_X40_lay_5 : jS → Int → Int → Int → Option (jS × Int) := Classical.choose (⟨du_X40_lay_5, rfl⟩ : ∃ f, f = du_X40_lay_5)
theorem eu_X40_lay_5 : u_X40_lay_5 = du_X40_lay_5 := Classical.choose_spec (⟨du_X40_lay_5, rfl⟩ : ∃ f, f = du_X40_lay_5)
def dm_X40_lay (s : jS) (x0 : Int) : Option (jS × Int) :=
  u_X40_lay_5 s x0 52 0
noncomputable def m_X40_lay : jS → Int → Option (jS × Int) := Classical.choose (⟨dm_X40_lay, rfl⟩ : ∃ f, f = dm_X40_lay)
theorem em_X40_lay : m_X40_lay = dm_X40_lay := Classical.choose_spec (⟨dm_X40_lay, rfl⟩ : ∃ f, f = dm_X40_lay)
def dm_X40_write4 (s : jS) (x0 x1 x2 : Int) : Option (jS × Int) :=
  (m_X40_write2 s x0 x1 x2).bind fun q1 =>
  (m_X40_write2 q1.1 x0 (W32 (x1 + 2)) (I_shr x2 16)).bind fun q2 =>
  some (q2.1, 0)
noncomputable def m_X40_write4 : jS → Int → Int → Int → Option (jS × Int) := Classical.choose (⟨dm_X40_write4, rfl⟩ : ∃ f, f = dm_X40_write4)
theorem em_X40_write4 : m_X40_write4 = dm_X40_write4 := Classical.choose_spec (⟨dm_X40_write4, rfl⟩ : ∃ f, f = dm_X40_write4)
def du_X40_writeRelocations_107 (s : jS) (x0 x1 x2 x3 : Int) : Option ((jS × List Int) ⊕ (jS × Int)) :=
  some (.inl (s, [x0, x1, x2, W32 (x3 + 1)]))
noncomputable def u_X40_writeRelocations_107 : jS → Int → Int → Int → Int → Option ((jS × List Int) ⊕ (jS × Int)) := Classical.choose (⟨du_X40_writeRelocations_107, rfl⟩ : ∃ f, f = du_X40_writeRelocations_107)
theorem eu_X40_writeRelocations_107 : u_X40_writeRelocations_107 = du_X40_writeRelocations_107 := Classical.choose_spec (⟨du_X40_writeRelocations_107, rfl⟩ : ∃ f, f = du_X40_writeRelocations_107)
def du_X40_writeRelocations_79 (s : jS) (x0 x1 x2 x3 y0 y1 y2 y3 : Int) : Option ((jS × List Int) ⊕ (jS × Int)) :=
  (jlt s 1000 (x0 + 16) 600 x3).bind fun v1 =>
  (m_X40_write4 s y3 y2 (W32 ((W32 (y1 * y0)) + v1))).bind fun q2 =>
  (jlt q2.1 1000 (x0 + 18) 600 x3).bind fun v3 =>
  (m_X40_write4 q2.1 x0 (W32 (x2 + 8)) v3).bind fun q4 =>
  u_X40_writeRelocations_107 q4.1 x0 x1 (W32 (x2 + 12)) x3
noncomputable def u_X40_writeRelocations_79 : jS → Int → Int → Int → Int → Int → Int → Int → Int → Option ((jS × List Int) ⊕ (jS × Int)) := Classical.choose (⟨du_X40_writeRelocations_79, rfl⟩ : ∃ f, f = du_X40_writeRelocations_79)
theorem eu_X40_writeRelocations_79 : u_X40_writeRelocations_79 = du_X40_writeRelocations_79 := Classical.choose_spec (⟨du_X40_writeRelocations_79, rfl⟩ : ∃ f, f = du_X40_writeRelocations_79)
def b_X40_writeRelocations_11 (s : jS) (x0 x1 x2 x3 : Int) : Option ((jS × List Int) ⊕ (jS × Int)) :=
  (jlt s 1000 (x0 + 19) 2 0).bind fun v1 =>
  if x3 < v1 then
    (jlt s 1000 (x0 + 14) 600 x3).bind fun v2 =>
    if v2 = x1 then
      (jlt s 1000 (x0 + 15) 600 x3).bind fun v3 =>
      (m_X40_write4 s x0 x2 v3).bind fun q4 =>
      (jlt q4.1 1000 (x0 + 17) 600 x3).bind fun v5 =>
      if v5 = (-1) then
        u_X40_writeRelocations_79 q4.1 x0 x1 x2 x3 0 256 (W32 (x2 + 4)) x0
      else
        (jlt q4.1 1000 (x0 + 17) 600 x3).bind fun v6 =>
        (jlt q4.1 1000 (x0 + 30) 100 v6).bind fun v7 =>
        u_X40_writeRelocations_79 q4.1 x0 x1 x2 x3 (W32 (1 + v7)) 256 (W32 (x2 + 4)) x0
    else
      u_X40_writeRelocations_107 s x0 x1 x2 x3
  else
    jinr (some (s, 0))
def du_X40_writeRelocations_11 (s : jS) (x0 x1 x2 x3 : Int) : Option (jS × Int) := jlpW (jc4 b_X40_writeRelocations_11) [x0, x1, x2, x3] s
noncomputable def u_X40_writeRelocations_11 : jS → Int → Int → Int → Int → Option (jS × Int) := Classical.choose (⟨du_X40_writeRelocations_11, rfl⟩ : ∃ f, f = du_X40_writeRelocations_11)
theorem eu_X40_writeRelocations_11 : u_X40_writeRelocations_11 = du_X40_writeRelocations_11 := Classical.choose_spec (⟨du_X40_writeRelocations_11, rfl⟩ : ∃ f, f = du_X40_writeRelocations_11)
def dm_X40_writeRelocations (s : jS) (x0 x1 : Int) : Option (jS × Int) :=
  (jlt s 1000 (x0 + 24) 11 (W32 (5 + x1))).bind fun v1 =>
  u_X40_writeRelocations_11 s x0 x1 v1 0
noncomputable def m_X40_writeRelocations : jS → Int → Int → Option (jS × Int) := Classical.choose (⟨dm_X40_writeRelocations, rfl⟩ : ∃ f, f = dm_X40_writeRelocations)
theorem em_X40_writeRelocations : m_X40_writeRelocations = dm_X40_writeRelocations := Classical.choose_spec (⟨dm_X40_writeRelocations, rfl⟩ : ∃ f, f = dm_X40_writeRelocations)
def du_X40_writeSymbols_155 (s : jS) (x0 x1 y0 y1 y2 : Int) : Option ((jS × List Int) ⊕ (jS × Int)) :=
  (m_X40_write2 s y2 y1 y0).bind fun q1 =>
  some (.inl (q1.1, [x0, W32 (x1 + 1)]))
noncomputable def u_X40_writeSymbols_155 : jS → Int → Int → Int → Int → Int → Option ((jS × List Int) ⊕ (jS × Int)) := Classical.choose (⟨du_X40_writeSymbols_155, rfl⟩ : ∃ f, f = du_X40_writeSymbols_155)
theorem eu_X40_writeSymbols_155 : u_X40_writeSymbols_155 = du_X40_writeSymbols_155 := Classical.choose_spec (⟨du_X40_writeSymbols_155, rfl⟩ : ∃ f, f = du_X40_writeSymbols_155)
def b_X40_writeSymbols_2 (s : jS) (x0 x1 : Int) : Option ((jS × List Int) ⊕ (jS × Int)) :=
  (jlt s 1000 (x0 + 13) 2 0).bind fun v1 =>
  if x1 < v1 then
    (jlt s 1000 (x0 + 24) 11 8).bind fun v2 =>
    (jlt s 1000 (x0 + 30) 100 x1).bind fun v3 =>
    jlet (W32 ((W32 (v2 + 16)) + (W32 (16 * v3)))) fun v4 =>
    (jlt s 1000 (x0 + 29) 100 x1).bind fun v5 =>
    (m_X40_write4 s x0 v4 v5).bind fun q6 =>
    (jlt q6.1 1000 (x0 + 7) 200 x1).bind fun v7 =>
    (m_X40_write4 q6.1 x0 (W32 (v4 + 4)) v7).bind fun q8 =>
    (jlt q8.1 1000 (x0 + 8) 200 x1).bind fun v9 =>
    (m_X40_write4 q8.1 x0 (W32 (v4 + 8)) v9).bind fun q10 =>
    (jlt q10.1 1000 (x0 + 9) 200 x1).bind fun v11 =>
    (jlt q10.1 1000 (x0 + 10) 200 x1).bind fun v12 =>
    (m_X40_write1 q10.1 x0 (W32 (v4 + 12)) (W32 ((W32 (16 * v11)) + v12))).bind fun q13 =>
    (jlt q13.1 1000 (x0 + 6) 200 x1).bind fun v14 =>
    if v14 = (-1) then
      u_X40_writeSymbols_155 q13.1 x0 x1 0 (W32 (v4 + 14)) x0
    else
      (jlt q13.1 1000 (x0 + 6) 200 x1).bind fun v15 =>
      if v15 < 4 then
        (jlt q13.1 1000 (x0 + 6) 200 x1).bind fun v16 =>
        (jlt q13.1 1000 (x0 + 26) 11 v16).bind fun v17 =>
        u_X40_writeSymbols_155 q13.1 x0 x1 v17 (W32 (v4 + 14)) x0
      else
        (jlt q13.1 1000 (x0 + 6) 200 x1).bind fun v18 =>
        if v18 = 4 then
          u_X40_writeSymbols_155 q13.1 x0 x1 65521 (W32 (v4 + 14)) x0
        else
          u_X40_writeSymbols_155 q13.1 x0 x1 65522 (W32 (v4 + 14)) x0
  else
    jinr (some (s, 0))
def du_X40_writeSymbols_2 (s : jS) (x0 x1 : Int) : Option (jS × Int) := jlpW (jc2 b_X40_writeSymbols_2) [x0, x1] s
noncomputable def u_X40_writeSymbols_2 : jS → Int → Int → Option (jS × Int) := Classical.choose (⟨du_X40_writeSymbols_2, rfl⟩ : ∃ f, f = du_X40_writeSymbols_2)
theorem eu_X40_writeSymbols_2 : u_X40_writeSymbols_2 = du_X40_writeSymbols_2 := Classical.choose_spec (⟨du_X40_writeSymbols_2, rfl⟩ : ∃ f, f = du_X40_writeSymbols_2)
def dm_X40_writeSymbols (s : jS) (x0 : Int) : Option (jS × Int) :=
  u_X40_writeSymbols_2 s x0 0
noncomputable def m_X40_writeSymbols : jS → Int → Option (jS × Int) := Classical.choose (⟨dm_X40_writeSymbols, rfl⟩ : ∃ f, f = dm_X40_writeSymbols)
theorem em_X40_writeSymbols : m_X40_writeSymbols = dm_X40_writeSymbols := Classical.choose_spec (⟨dm_X40_writeSymbols, rfl⟩ : ∃ f, f = dm_X40_writeSymbols)
def du_X40_writeEntry_196 (s : jS) (x0 x1 x2 y0 y1 y2 : Int) : Option (jS × Int) :=
  (m_X40_write4 s y2 y1 y0).bind fun q1 =>
  (m_X40_eachOf q1.1 x1).bind fun v2 =>
  (m_X40_write4 q1.1 x0 (W32 (x2 + 36)) v2).bind fun q3 =>
  some (q3.1, 0)
noncomputable def u_X40_writeEntry_196 : jS → Int → Int → Int → Int → Int → Int → Option (jS × Int) := Classical.choose (⟨du_X40_writeEntry_196, rfl⟩ : ∃ f, f = du_X40_writeEntry_196)
theorem eu_X40_writeEntry_196 : u_X40_writeEntry_196 = du_X40_writeEntry_196 := Classical.choose_spec (⟨du_X40_writeEntry_196, rfl⟩ : ∃ f, f = du_X40_writeEntry_196)
def du_X40_writeEntry_154 (s : jS) (x0 x1 x2 y0 y1 y2 : Int) : Option (jS × Int) :=
  (m_X40_write4 s y2 y1 y0).bind fun q1 =>
  if x1 < 4 then
    (jlt q1.1 1000 (x0 + 3) 8 x1).bind fun v2 =>
    u_X40_writeEntry_196 q1.1 x0 x1 x2 v2 (W32 (x2 + 32)) x0
  else
    if x1 = 4 then
      u_X40_writeEntry_196 q1.1 x0 x1 x2 2 (W32 (x2 + 32)) x0
    else
      if x1 < 9 then
        u_X40_writeEntry_196 q1.1 x0 x1 x2 4 (W32 (x2 + 32)) x0
      else
        u_X40_writeEntry_196 q1.1 x0 x1 x2 1 (W32 (x2 + 32)) x0
noncomputable def u_X40_writeEntry_154 : jS → Int → Int → Int → Int → Int → Int → Option (jS × Int) := Classical.choose (⟨du_X40_writeEntry_154, rfl⟩ : ∃ f, f = du_X40_writeEntry_154)
theorem eu_X40_writeEntry_154 : u_X40_writeEntry_154 = du_X40_writeEntry_154 := Classical.choose_spec (⟨du_X40_writeEntry_154, rfl⟩ : ∃ f, f = du_X40_writeEntry_154)
def du_X40_writeEntry_117 (s : jS) (x0 x1 x2 x3 x4 y0 y1 y2 : Int) : Option (jS × Int) :=
  (m_X40_write4 s y2 y1 y0).bind fun q1 =>
  if x4 = 0 then
    if x1 = 8 then
      u_X40_writeEntry_154 q1.1 x0 x1 x2 (W32 (1 + x3)) (W32 (x2 + 28)) x0
    else
      u_X40_writeEntry_154 q1.1 x0 x1 x2 0 (W32 (x2 + 28)) x0
  else
    (jlt q1.1 1000 (x0 + 26) 11 (W32 (x1 - 5))).bind fun v2 =>
    u_X40_writeEntry_154 q1.1 x0 x1 x2 v2 (W32 (x2 + 28)) x0
noncomputable def u_X40_writeEntry_117 : jS → Int → Int → Int → Int → Int → Int → Int → Int → Option (jS × Int) := Classical.choose (⟨du_X40_writeEntry_117, rfl⟩ : ∃ f, f = du_X40_writeEntry_117)
theorem eu_X40_writeEntry_117 : u_X40_writeEntry_117 = du_X40_writeEntry_117 := Classical.choose_spec (⟨du_X40_writeEntry_117, rfl⟩ : ∃ f, f = du_X40_writeEntry_117)
def du_X40_writeEntry_16 (s : jS) (x0 x1 x2 x3 y0 : Int) : Option (jS × Int) :=
  (jlt s 1000 (x0 + 31) 11 x1).bind fun v1 =>
  (m_X40_write4 s x0 x2 v1).bind fun q2 =>
  (m_X40_sortOf q2.1 x1).bind fun v3 =>
  (m_X40_write4 q2.1 x0 (W32 (x2 + 4)) v3).bind fun q4 =>
  (m_X40_flagsOf q4.1 x1).bind fun v5 =>
  (m_X40_write4 q4.1 x0 (W32 (x2 + 8)) v5).bind fun q6 =>
  (jlt q6.1 1000 (x0 + 24) 11 x1).bind fun v7 =>
  (m_X40_write4 q6.1 x0 (W32 (x2 + 16)) v7).bind fun q8 =>
  (jlt q8.1 1000 (x0 + 25) 11 x1).bind fun v9 =>
  (m_X40_write4 q8.1 x0 (W32 (x2 + 20)) v9).bind fun q10 =>
  if y0 = 0 then
    if x1 = 8 then
      (jlt q10.1 1000 (x0 + 26) 11 9).bind fun v11 =>
      u_X40_writeEntry_117 q10.1 x0 x1 x2 x3 y0 v11 (W32 (x2 + 24)) x0
    else
      u_X40_writeEntry_117 q10.1 x0 x1 x2 x3 y0 0 (W32 (x2 + 24)) x0
  else
    (jlt q10.1 1000 (x0 + 26) 11 8).bind fun v12 =>
    u_X40_writeEntry_117 q10.1 x0 x1 x2 x3 y0 v12 (W32 (x2 + 24)) x0
noncomputable def u_X40_writeEntry_16 : jS → Int → Int → Int → Int → Int → Option (jS × Int) := Classical.choose (⟨du_X40_writeEntry_16, rfl⟩ : ∃ f, f = du_X40_writeEntry_16)
theorem eu_X40_writeEntry_16 : u_X40_writeEntry_16 = du_X40_writeEntry_16 := Classical.choose_spec (⟨du_X40_writeEntry_16, rfl⟩ : ∃ f, f = du_X40_writeEntry_16)
def du_X40_writeEntry_15 (s : jS) (x0 x1 x2 x3 : Int) : Option (jS × Int) :=
  u_X40_writeEntry_16 s x0 x1 x2 x3 0
noncomputable def u_X40_writeEntry_15 : jS → Int → Int → Int → Int → Option (jS × Int) := Classical.choose (⟨du_X40_writeEntry_15, rfl⟩ : ∃ f, f = du_X40_writeEntry_15)
theorem eu_X40_writeEntry_15 : u_X40_writeEntry_15 = du_X40_writeEntry_15 := Classical.choose_spec (⟨du_X40_writeEntry_15, rfl⟩ : ∃ f, f = du_X40_writeEntry_15)
def dm_X40_writeEntry (s : jS) (x0 x1 x2 x3 : Int) : Option (jS × Int) :=
  if x1 < 5 then
    u_X40_writeEntry_15 s x0 x1 x2 x3
  else
    if x1 < 8 then
      u_X40_writeEntry_16 s x0 x1 x2 x3 1
    else
      u_X40_writeEntry_15 s x0 x1 x2 x3
noncomputable def m_X40_writeEntry : jS → Int → Int → Int → Int → Option (jS × Int) := Classical.choose (⟨dm_X40_writeEntry, rfl⟩ : ∃ f, f = dm_X40_writeEntry)
theorem em_X40_writeEntry : m_X40_writeEntry = dm_X40_writeEntry := Classical.choose_spec (⟨dm_X40_writeEntry, rfl⟩ : ∃ f, f = dm_X40_writeEntry)
def dm_X41_call (s : jS) (x0 x1 x2 x3 x4 : Int) : Option (jS × Int) :=
  (m_X41_aimed s x0 x1 1 x2 x3 x4).bind fun q1 =>
  some (q1.1, q1.2)
noncomputable def m_X41_call : jS → Int → Int → Int → Int → Int → Option (jS × Int) := Classical.choose (⟨dm_X41_call, rfl⟩ : ∃ f, f = dm_X41_call)
theorem em_X41_call : m_X41_call = dm_X41_call := Classical.choose_spec (⟨dm_X41_call, rfl⟩ : ∃ f, f = dm_X41_call)
def dm_X41_hasAim (s : jS) (x0 x1 : Int) : Option (Int) :=
  (m_X41_shrinks s x0 x1).bind fun v1 =>
  if v1 = 0 then
    some (Wz 0)
  else
    (jlt s 1000 (x0 + 16) 256 x1).bind fun v2 =>
    (m_X41_hasValue s x0 v2).bind fun v3 =>
    if v3 = 0 then
      some (Wz 0)
    else
      some (Wz 1)
noncomputable def m_X41_hasAim : jS → Int → Int → Option (Int) := Classical.choose (⟨dm_X41_hasAim, rfl⟩ : ∃ f, f = dm_X41_hasAim)
theorem em_X41_hasAim : m_X41_hasAim = dm_X41_hasAim := Classical.choose_spec (⟨dm_X41_hasAim, rfl⟩ : ∃ f, f = dm_X41_hasAim)
def dm_X42_isRight (s : jS) (x0 x1 x2 : Int) : Option (Int) :=
  (jlt s 1000 (x0 + 4) 6 (W32 (3 * x1))).bind fun v1 =>
  if (W32 (2 * x2)) < v1 then
    (m_X42_sizeOfMark s x0 x1 x2).bind fun v2 =>
    if v1 < (W32 ((W32 (2 * x2)) + v2)) then
      some (Wz 0)
    else
      if v2 = 2 then
        some (Wz 1)
      else
        if (W32 ((W32 (2 * x2)) + 2)) < 4096 then
          (jlt s 1002 (x0 + 6) 4096 (W32 ((W32 ((W32 (2048 * x1)) + x2)) + 1))).bind fun v3 =>
          if v3 = 0 then
            some (Wz 1)
          else
            some (Wz 0)
        else
          some (Wz 1)
  else
    some (Wz 0)
noncomputable def m_X42_isRight : jS → Int → Int → Int → Option (Int) := Classical.choose (⟨dm_X42_isRight, rfl⟩ : ∃ f, f = dm_X42_isRight)
theorem em_X42_isRight : m_X42_isRight = dm_X42_isRight := Classical.choose_spec (⟨dm_X42_isRight, rfl⟩ : ∃ f, f = dm_X42_isRight)
def du_X42_sumOf_129 (s : jS) (x0 : Int) : Option (jS × Int) :=
  some (s, I_xor (jf s 46 x0 15) (-1))
noncomputable def u_X42_sumOf_129 : jS → Int → Option (jS × Int) := Classical.choose (⟨du_X42_sumOf_129, rfl⟩ : ∃ f, f = du_X42_sumOf_129)
theorem eu_X42_sumOf_129 : u_X42_sumOf_129 = du_X42_sumOf_129 := Classical.choose_spec (⟨du_X42_sumOf_129, rfl⟩ : ∃ f, f = du_X42_sumOf_129)
def b_X42_sumOf_108 (s : jS) (x0 x1 x2 x3 : Int) : Option ((jS × List Int) ⊕ (jS × Int)) :=
  if x3 < x2 then
    (m_X42_markByte s x0 x1 x3).bind fun v1 =>
    (m_X42_addByte s x0 v1).bind fun q2 =>
    some (.inl (q2.1, [x0, x1, x2, W32 (x3 + 1)]))
  else
    jinr (u_X42_sumOf_129 s x0)
def du_X42_sumOf_108 (s : jS) (x0 x1 x2 x3 : Int) : Option (jS × Int) := jlpW (jc4 b_X42_sumOf_108) [x0, x1, x2, x3] s
noncomputable def u_X42_sumOf_108 : jS → Int → Int → Int → Int → Option (jS × Int) := Classical.choose (⟨du_X42_sumOf_108, rfl⟩ : ∃ f, f = du_X42_sumOf_108)
theorem eu_X42_sumOf_108 : u_X42_sumOf_108 = du_X42_sumOf_108 := Classical.choose_spec (⟨du_X42_sumOf_108, rfl⟩ : ∃ f, f = du_X42_sumOf_108)
def du_X42_sumOf_100 (s : jS) (x0 x1 : Int) : Option (jS × Int) :=
  (m_X42_markBytes s x0 x1).bind fun v1 =>
  u_X42_sumOf_108 s x0 x1 v1 0
noncomputable def u_X42_sumOf_100 : jS → Int → Int → Option (jS × Int) := Classical.choose (⟨du_X42_sumOf_100, rfl⟩ : ∃ f, f = du_X42_sumOf_100)
theorem eu_X42_sumOf_100 : u_X42_sumOf_100 = du_X42_sumOf_100 := Classical.choose_spec (⟨du_X42_sumOf_100, rfl⟩ : ∃ f, f = du_X42_sumOf_100)
def du_X42_sumOf_94 (s : jS) (x0 x1 x2 : Int) : Option ((jS × List Int) ⊕ (jS × Int)) :=
  some (.inl (s, [x0, x1, W32 (x2 + 1)]))
noncomputable def u_X42_sumOf_94 : jS → Int → Int → Int → Option ((jS × List Int) ⊕ (jS × Int)) := Classical.choose (⟨du_X42_sumOf_94, rfl⟩ : ∃ f, f = du_X42_sumOf_94)
theorem eu_X42_sumOf_94 : u_X42_sumOf_94 = du_X42_sumOf_94 := Classical.choose_spec (⟨du_X42_sumOf_94, rfl⟩ : ∃ f, f = du_X42_sumOf_94)
def b_X42_sumOf_62 (s : jS) (x0 x1 x2 x3 : Int) : Option ((jS × List Int) ⊕ ((jS × List Int) ⊕ (jS × Int))) :=
  (jlt s 1000 (x0 + 4) 6 x2).bind fun v1 =>
  if x3 < v1 then
    (jlt s 1000 (x0 + 5) 24576 (W32 ((W32 (4096 * x2)) + x3))).bind fun v2 =>
    (m_X42_addByte s x0 v2).bind fun q3 =>
    some (.inl (q3.1, [x0, x1, x2, W32 (x3 + 1)]))
  else
    jinr (u_X42_sumOf_94 s x0 x1 x2)
def du_X42_sumOf_62 (s : jS) (x0 x1 x2 x3 : Int) : Option ((jS × List Int) ⊕ (jS × Int)) := jlpW (jc4 b_X42_sumOf_62) [x0, x1, x2, x3] s
noncomputable def u_X42_sumOf_62 : jS → Int → Int → Int → Int → Option ((jS × List Int) ⊕ (jS × Int)) := Classical.choose (⟨du_X42_sumOf_62, rfl⟩ : ∃ f, f = du_X42_sumOf_62)
theorem eu_X42_sumOf_62 : u_X42_sumOf_62 = du_X42_sumOf_62 := Classical.choose_spec (⟨du_X42_sumOf_62, rfl⟩ : ∃ f, f = du_X42_sumOf_62)
def b_X42_sumOf_19 (s : jS) (x0 x1 x2 : Int) : Option ((jS × List Int) ⊕ (jS × Int)) :=
  if x2 < (W32 ((W32 (3 * x1)) + 3)) then
    (jlt s 1002 (x0 + 1) 6 x2).bind fun v1 =>
    if v1 = 0 then
      u_X42_sumOf_94 s x0 x1 x2
    else
      (jlt s 1000 (x0 + 2) 6 x2).bind fun v2 =>
      (m_X42_addNumber s x0 v2).bind fun q3 =>
      (jlt q3.1 1000 (x0 + 3) 6 x2).bind fun v4 =>
      (m_X42_addNumber q3.1 x0 v4).bind fun q5 =>
      u_X42_sumOf_62 q5.1 x0 x1 x2 0
  else
    jinr (u_X42_sumOf_100 s x0 x1)
def du_X42_sumOf_19 (s : jS) (x0 x1 x2 : Int) : Option (jS × Int) := jlpW (jc3 b_X42_sumOf_19) [x0, x1, x2] s
noncomputable def u_X42_sumOf_19 : jS → Int → Int → Int → Option (jS × Int) := Classical.choose (⟨du_X42_sumOf_19, rfl⟩ : ∃ f, f = du_X42_sumOf_19)
theorem eu_X42_sumOf_19 : u_X42_sumOf_19 = du_X42_sumOf_19 := Classical.choose_spec (⟨du_X42_sumOf_19, rfl⟩ : ∃ f, f = du_X42_sumOf_19)
def dm_X42_sumOf (s : jS) (x0 x1 : Int) : Option (jS × Int) :=
  jls (jp s 46 x0 15 (-1)) fun s1 =>
  (jlt s1 1000 (x0 + 7) 2 x1).bind fun v2 =>
  (m_X42_addNumber s1 x0 v2).bind fun q3 =>
  jlet (W32 (3 * x1)) fun v4 =>
  u_X42_sumOf_19 q3.1 x0 x1 v4
noncomputable def m_X42_sumOf : jS → Int → Int → Option (jS × Int) := Classical.choose (⟨dm_X42_sumOf, rfl⟩ : ∃ f, f = dm_X42_sumOf)
theorem em_X42_sumOf : m_X42_sumOf = dm_X42_sumOf := Classical.choose_spec (⟨dm_X42_sumOf, rfl⟩ : ∃ f, f = dm_X42_sumOf)
def du_X42_rowFault_546 (s : jS) (x0 x1 x15 : Int) : Option (jS × Int) :=
  (jst s 1000 (x0 + 10) 4 x15 x1).bind fun s1 =>
  some (s1, 0)
noncomputable def u_X42_rowFault_546 : jS → Int → Int → Int → Option (jS × Int) := Classical.choose (⟨du_X42_rowFault_546, rfl⟩ : ∃ f, f = du_X42_rowFault_546)
theorem eu_X42_rowFault_546 : u_X42_rowFault_546 = du_X42_rowFault_546 := Classical.choose_spec (⟨du_X42_rowFault_546, rfl⟩ : ∃ f, f = du_X42_rowFault_546)
def du_X42_rowFault_527 (s : jS) (x0 x1 : Int) : Option (jS × Int) :=
  (m_X42_spot s x0 x1 1).bind fun v1 =>
  (m_X42_fault s x0 19 v1).bind fun q2 =>
  some (q2.1, q2.2)
noncomputable def u_X42_rowFault_527 : jS → Int → Int → Option (jS × Int) := Classical.choose (⟨du_X42_rowFault_527, rfl⟩ : ∃ f, f = du_X42_rowFault_527)
theorem eu_X42_rowFault_527 : u_X42_rowFault_527 = du_X42_rowFault_527 := Classical.choose_spec (⟨du_X42_rowFault_527, rfl⟩ : ∃ f, f = du_X42_rowFault_527)
def du_X42_rowFault_540 (s : jS) (x0 x1 x5 x9 x15 x16 : Int) : Option ((jS × List Int) ⊕ (jS × Int)) :=
  some (.inl (s, [x0, x1, x5, x9, x15, W32 (x16 + 1)]))
noncomputable def u_X42_rowFault_540 : jS → Int → Int → Int → Int → Int → Int → Option ((jS × List Int) ⊕ (jS × Int)) := Classical.choose (⟨du_X42_rowFault_540, rfl⟩ : ∃ f, f = du_X42_rowFault_540)
theorem eu_X42_rowFault_540 : u_X42_rowFault_540 = du_X42_rowFault_540 := Classical.choose_spec (⟨du_X42_rowFault_540, rfl⟩ : ∃ f, f = du_X42_rowFault_540)
def b_X42_rowFault_451 (s : jS) (x0 x1 x5 x9 x15 x16 : Int) : Option ((jS × List Int) ⊕ (jS × Int)) :=
  if x16 < x1 then
    (m_X42_number s x0 x16 0).bind fun v1 =>
    if (L_cmp v1 0) = 0 then
      u_X42_rowFault_540 s x0 x1 x5 x9 x15 x16
    else
      (m_X42_number s x0 x16 4).bind fun v2 =>
      if 0 < (L_cmp x9 0) then
        if 0 < (L_cmp v2 0) then
          (m_X42_number s x0 x16 1).bind fun v3 =>
          if (L_cmp x5 (W64 (v3 + v2))) < 0 then
            (m_X42_number s x0 x16 1).bind fun v4 =>
            if (L_cmp v4 (W64 (x5 + x9))) < 0 then
              jinr (u_X42_rowFault_527 s x0 x1)
            else
              u_X42_rowFault_540 s x0 x1 x5 x9 x15 x16
          else
            u_X42_rowFault_540 s x0 x1 x5 x9 x15 x16
        else
          u_X42_rowFault_540 s x0 x1 x5 x9 x15 x16
      else
        u_X42_rowFault_540 s x0 x1 x5 x9 x15 x16
  else
    jinr (u_X42_rowFault_546 s x0 x1 x15)
def du_X42_rowFault_451 (s : jS) (x0 x1 x5 x9 x15 x16 : Int) : Option (jS × Int) := jlpW (jc6 b_X42_rowFault_451) [x0, x1, x5, x9, x15, x16] s
noncomputable def u_X42_rowFault_451 : jS → Int → Int → Int → Int → Int → Int → Option (jS × Int) := Classical.choose (⟨du_X42_rowFault_451, rfl⟩ : ∃ f, f = du_X42_rowFault_451)
theorem eu_X42_rowFault_451 : u_X42_rowFault_451 = du_X42_rowFault_451 := Classical.choose_spec (⟨du_X42_rowFault_451, rfl⟩ : ∃ f, f = du_X42_rowFault_451)
def du_X42_rowFault_448 (s : jS) (x0 x1 x5 x9 x15 : Int) : Option (jS × Int) :=
  u_X42_rowFault_451 s x0 x1 x5 x9 x15 0
noncomputable def u_X42_rowFault_448 : jS → Int → Int → Int → Int → Int → Option (jS × Int) := Classical.choose (⟨du_X42_rowFault_448, rfl⟩ : ∃ f, f = du_X42_rowFault_448)
theorem eu_X42_rowFault_448 : u_X42_rowFault_448 = du_X42_rowFault_448 := Classical.choose_spec (⟨du_X42_rowFault_448, rfl⟩ : ∃ f, f = du_X42_rowFault_448)
def du_X42_rowFault_393 (s : jS) (x0 x1 x5 x9 x15 : Int) : Option (jS × Int) :=
  if 0 < (L_cmp x9 0) then
    if (L_cmp x5 (W64 ((jf s 46 x0 11) + (W64 (32 * (jf s 46 x0 12)))))) < 0 then
      if (L_cmp (jf s 46 x0 11) (W64 (x5 + x9))) < 0 then
        (m_X42_spot s x0 x1 1).bind fun v1 =>
        (m_X42_fault s x0 19 v1).bind fun q2 =>
        some (q2.1, q2.2)
      else
        u_X42_rowFault_448 s x0 x1 x5 x9 x15
    else
      u_X42_rowFault_448 s x0 x1 x5 x9 x15
  else
    u_X42_rowFault_448 s x0 x1 x5 x9 x15
noncomputable def u_X42_rowFault_393 : jS → Int → Int → Int → Int → Int → Option (jS × Int) := Classical.choose (⟨du_X42_rowFault_393, rfl⟩ : ∃ f, f = du_X42_rowFault_393)
theorem eu_X42_rowFault_393 : u_X42_rowFault_393 = du_X42_rowFault_393 := Classical.choose_spec (⟨du_X42_rowFault_393, rfl⟩ : ∃ f, f = du_X42_rowFault_393)
def du_X42_rowFault_380 (s : jS) (x0 x1 : Int) : Option (jS × Int) :=
  (m_X42_spot s x0 x1 5).bind fun v1 =>
  (m_X42_fault s x0 18 v1).bind fun q2 =>
  some (q2.1, q2.2)
noncomputable def u_X42_rowFault_380 : jS → Int → Int → Option (jS × Int) := Classical.choose (⟨du_X42_rowFault_380, rfl⟩ : ∃ f, f = du_X42_rowFault_380)
theorem eu_X42_rowFault_380 : u_X42_rowFault_380 = du_X42_rowFault_380 := Classical.choose_spec (⟨du_X42_rowFault_380, rfl⟩ : ∃ f, f = du_X42_rowFault_380)
def du_X42_rowFault_331 (s : jS) (x0 x1 x4 x5 x9 x11 x15 : Int) : Option (jS × Int) :=
  if x4 = 0 then
    if (L_cmp x11 x9) < 0 then
      u_X42_rowFault_380 s x0 x1
    else
      if 0 < (L_cmp (W64 (x11 - x9)) 32768) then
        u_X42_rowFault_380 s x0 x1
      else
        if x15 < 2 then
          if (L_cmp x11 x9) = 0 then
            u_X42_rowFault_393 s x0 x1 x5 x9 x15
          else
            u_X42_rowFault_380 s x0 x1
        else
          u_X42_rowFault_393 s x0 x1 x5 x9 x15
  else
    if (L_cmp x11 0) = 0 then
      u_X42_rowFault_393 s x0 x1 x5 x9 x15
    else
      u_X42_rowFault_380 s x0 x1
noncomputable def u_X42_rowFault_331 : jS → Int → Int → Int → Int → Int → Int → Int → Option (jS × Int) := Classical.choose (⟨du_X42_rowFault_331, rfl⟩ : ∃ f, f = du_X42_rowFault_331)
theorem eu_X42_rowFault_331 : u_X42_rowFault_331 = du_X42_rowFault_331 := Classical.choose_spec (⟨du_X42_rowFault_331, rfl⟩ : ∃ f, f = du_X42_rowFault_331)
def du_X42_rowFault_279 (s : jS) (x0 x1 x4 x5 x7 x9 x11 x15 : Int) : Option (jS × Int) :=
  (m_X42_number s x0 x1 3).bind fun v1 =>
  if (L_cmp v1 x7) = 0 then
    if x4 = 0 then
      if 0 < (L_cmp x9 4096) then
        (m_X42_spot s x0 x1 4).bind fun v2 =>
        (m_X42_fault s x0 17 v2).bind fun q3 =>
        some (q3.1, q3.2)
      else
        u_X42_rowFault_331 s x0 x1 x4 x5 x9 x11 x15
    else
      u_X42_rowFault_331 s x0 x1 x4 x5 x9 x11 x15
  else
    (m_X42_spot s x0 x1 3).bind fun v4 =>
    (m_X42_fault s x0 16 v4).bind fun q5 =>
    some (q5.1, q5.2)
noncomputable def u_X42_rowFault_279 : jS → Int → Int → Int → Int → Int → Int → Int → Int → Option (jS × Int) := Classical.choose (⟨du_X42_rowFault_279, rfl⟩ : ∃ f, f = du_X42_rowFault_279)
theorem eu_X42_rowFault_279 : u_X42_rowFault_279 = du_X42_rowFault_279 := Classical.choose_spec (⟨du_X42_rowFault_279, rfl⟩ : ∃ f, f = du_X42_rowFault_279)
def du_X42_rowFault_266 (s : jS) (x0 x1 : Int) : Option (jS × Int) :=
  (m_X42_spot s x0 x1 2).bind fun v1 =>
  (m_X42_fault s x0 15 v1).bind fun q2 =>
  some (q2.1, q2.2)
noncomputable def u_X42_rowFault_266 : jS → Int → Int → Option (jS × Int) := Classical.choose (⟨du_X42_rowFault_266, rfl⟩ : ∃ f, f = du_X42_rowFault_266)
theorem eu_X42_rowFault_266 : u_X42_rowFault_266 = du_X42_rowFault_266 := Classical.choose_spec (⟨du_X42_rowFault_266, rfl⟩ : ∃ f, f = du_X42_rowFault_266)
def du_X42_rowFault_228 (s : jS) (x0 x1 : Int) : Option (jS × Int) :=
  (m_X42_spot s x0 x1 6).bind fun v1 =>
  (m_X42_fault s x0 14 v1).bind fun q2 =>
  some (q2.1, q2.2)
noncomputable def u_X42_rowFault_228 : jS → Int → Int → Option (jS × Int) := Classical.choose (⟨du_X42_rowFault_228, rfl⟩ : ∃ f, f = du_X42_rowFault_228)
theorem eu_X42_rowFault_228 : u_X42_rowFault_228 = du_X42_rowFault_228 := Classical.choose_spec (⟨du_X42_rowFault_228, rfl⟩ : ∃ f, f = du_X42_rowFault_228)
def du_X42_rowFault_204 (s : jS) (x0 x1 x4 x5 x7 x9 x11 : Int) : Option (jS × Int) :=
  (m_X42_sortOf s x0 x1).bind fun v1 =>
  if v1 = (-1) then
    u_X42_rowFault_228 s x0 x1
  else
    (jlt s 1000 (x0 + 10) 4 v1).bind fun v2 =>
    if v2 = (-1) then
      if x4 = 0 then
        if (L_cmp x7 131072) < 0 then
          u_X42_rowFault_279 s x0 x1 x4 x5 x7 x9 x11 v1
        else
          u_X42_rowFault_266 s x0 x1
      else
        if (L_cmp x7 0) = 0 then
          u_X42_rowFault_279 s x0 x1 x4 x5 x7 x9 x11 v1
        else
          u_X42_rowFault_266 s x0 x1
    else
      u_X42_rowFault_228 s x0 x1
noncomputable def u_X42_rowFault_204 : jS → Int → Int → Int → Int → Int → Int → Int → Option (jS × Int) := Classical.choose (⟨du_X42_rowFault_204, rfl⟩ : ∃ f, f = du_X42_rowFault_204)
theorem eu_X42_rowFault_204 : u_X42_rowFault_204 = du_X42_rowFault_204 := Classical.choose_spec (⟨du_X42_rowFault_204, rfl⟩ : ∃ f, f = du_X42_rowFault_204)
def du_X42_rowFault_190 (s : jS) (x0 x1 : Int) : Option (jS × Int) :=
  (m_X42_spot s x0 x1 7).bind fun v1 =>
  (m_X42_fault s x0 13 v1).bind fun q2 =>
  some (q2.1, q2.2)
noncomputable def u_X42_rowFault_190 : jS → Int → Int → Option (jS × Int) := Classical.choose (⟨du_X42_rowFault_190, rfl⟩ : ∃ f, f = du_X42_rowFault_190)
theorem eu_X42_rowFault_190 : u_X42_rowFault_190 = du_X42_rowFault_190 := Classical.choose_spec (⟨du_X42_rowFault_190, rfl⟩ : ∃ f, f = du_X42_rowFault_190)
def du_X42_rowFault_171 (s : jS) (x0 x1 x4 x5 x7 x9 x11 x13 : Int) : Option (jS × Int) :=
  if x4 = 0 then
    (jdv x13 (L_rem x5 x13)).bind fun v1 =>
    (jdv x13 (L_rem x7 x13)).bind fun v2 =>
    if (L_cmp v1 v2) = 0 then
      u_X42_rowFault_204 s x0 x1 x4 x5 x7 x9 x11
    else
      u_X42_rowFault_190 s x0 x1
  else
    u_X42_rowFault_204 s x0 x1 x4 x5 x7 x9 x11
noncomputable def u_X42_rowFault_171 : jS → Int → Int → Int → Int → Int → Int → Int → Int → Option (jS × Int) := Classical.choose (⟨du_X42_rowFault_171, rfl⟩ : ∃ f, f = du_X42_rowFault_171)
theorem eu_X42_rowFault_171 : u_X42_rowFault_171 = du_X42_rowFault_171 := Classical.choose_spec (⟨du_X42_rowFault_171, rfl⟩ : ∃ f, f = du_X42_rowFault_171)
def du_X42_rowFault_147 (s : jS) (x0 x1 x4 x5 x7 x9 x11 x13 : Int) : Option (jS × Int) :=
  (m_X42_isPower s x13).bind fun v1 =>
  if v1 = 0 then
    u_X42_rowFault_190 s x0 x1
  else
    if x4 = 0 then
      u_X42_rowFault_171 s x0 x1 x4 x5 x7 x9 x11 x13
    else
      (jdv 4 (L_rem x5 4)).bind fun v2 =>
      if (L_cmp v2 0) = 0 then
        u_X42_rowFault_171 s x0 x1 x4 x5 x7 x9 x11 x13
      else
        u_X42_rowFault_190 s x0 x1
noncomputable def u_X42_rowFault_147 : jS → Int → Int → Int → Int → Int → Int → Int → Int → Option (jS × Int) := Classical.choose (⟨du_X42_rowFault_147, rfl⟩ : ∃ f, f = du_X42_rowFault_147)
theorem eu_X42_rowFault_147 : u_X42_rowFault_147 = du_X42_rowFault_147 := Classical.choose_spec (⟨du_X42_rowFault_147, rfl⟩ : ∃ f, f = du_X42_rowFault_147)
def du_X42_rowFault_134 (s : jS) (x0 x1 : Int) : Option (jS × Int) :=
  (m_X42_spot s x0 x1 1).bind fun v1 =>
  (m_X42_fault s x0 12 v1).bind fun q2 =>
  some (q2.1, q2.2)
noncomputable def u_X42_rowFault_134 : jS → Int → Int → Option (jS × Int) := Classical.choose (⟨du_X42_rowFault_134, rfl⟩ : ∃ f, f = du_X42_rowFault_134)
theorem eu_X42_rowFault_134 : u_X42_rowFault_134 = du_X42_rowFault_134 := Classical.choose_spec (⟨du_X42_rowFault_134, rfl⟩ : ∃ f, f = du_X42_rowFault_134)
def du_X42_rowFault_61 (s : jS) (x0 x1 y0 : Int) : Option (jS × Int) :=
  (m_X42_number s x0 x1 1).bind fun v1 =>
  (m_X42_number s x0 x1 2).bind fun v2 =>
  (m_X42_number s x0 x1 4).bind fun v3 =>
  (m_X42_number s x0 x1 5).bind fun v4 =>
  (m_X42_number s x0 x1 7).bind fun v5 =>
  if 0 < (L_cmp (W64 (v1 + v3)) (jf s 46 x0 9)) then
    u_X42_rowFault_134 s x0 x1
  else
    if 0 < (L_cmp v3 0) then
      if (L_cmp v1 52) < 0 then
        u_X42_rowFault_134 s x0 x1
      else
        u_X42_rowFault_147 s x0 x1 y0 v1 v2 v3 v4 v5
    else
      u_X42_rowFault_147 s x0 x1 y0 v1 v2 v3 v4 v5
noncomputable def u_X42_rowFault_61 : jS → Int → Int → Int → Option (jS × Int) := Classical.choose (⟨du_X42_rowFault_61, rfl⟩ : ∃ f, f = du_X42_rowFault_61)
theorem eu_X42_rowFault_61 : u_X42_rowFault_61 = du_X42_rowFault_61 := Classical.choose_spec (⟨du_X42_rowFault_61, rfl⟩ : ∃ f, f = du_X42_rowFault_61)
def du_X42_rowFault_40 (s : jS) (x0 x1 x2 : Int) : Option (jS × Int) :=
  if (L_cmp x2 0) = 0 then
    some (s, 0)
  else
    if (L_cmp x2 4) = 0 then
      u_X42_rowFault_61 s x0 x1 1
    else
      u_X42_rowFault_61 s x0 x1 0
noncomputable def u_X42_rowFault_40 : jS → Int → Int → Int → Option (jS × Int) := Classical.choose (⟨du_X42_rowFault_40, rfl⟩ : ∃ f, f = du_X42_rowFault_40)
theorem eu_X42_rowFault_40 : u_X42_rowFault_40 = du_X42_rowFault_40 := Classical.choose_spec (⟨du_X42_rowFault_40, rfl⟩ : ∃ f, f = du_X42_rowFault_40)
def dm_X42_rowFault (s : jS) (x0 x1 : Int) : Option (jS × Int) :=
  (m_X42_number s x0 x1 0).bind fun v1 =>
  if (L_cmp v1 0) = 0 then
    u_X42_rowFault_40 s x0 x1 v1
  else
    if (L_cmp v1 1) = 0 then
      u_X42_rowFault_40 s x0 x1 v1
    else
      if (L_cmp v1 4) = 0 then
        u_X42_rowFault_40 s x0 x1 v1
      else
        (m_X42_spot s x0 x1 0).bind fun v2 =>
        (m_X42_fault s x0 11 v2).bind fun q3 =>
        some (q3.1, q3.2)
noncomputable def m_X42_rowFault : jS → Int → Int → Option (jS × Int) := Classical.choose (⟨dm_X42_rowFault, rfl⟩ : ∃ f, f = dm_X42_rowFault)
theorem em_X42_rowFault : m_X42_rowFault = dm_X42_rowFault := Classical.choose_spec (⟨dm_X42_rowFault, rfl⟩ : ∃ f, f = dm_X42_rowFault)
def du_X42_meetFault_41 (s : jS) (x0 y0 : Int) : Option (jS × Int) :=
  (m_X42_spot s x0 y0 2).bind fun v1 =>
  (m_X42_fault s x0 23 v1).bind fun q2 =>
  some (q2.1, q2.2)
noncomputable def u_X42_meetFault_41 : jS → Int → Int → Option (jS × Int) := Classical.choose (⟨du_X42_meetFault_41, rfl⟩ : ∃ f, f = du_X42_meetFault_41)
theorem eu_X42_meetFault_41 : u_X42_meetFault_41 = du_X42_meetFault_41 := Classical.choose_spec (⟨du_X42_meetFault_41, rfl⟩ : ∃ f, f = du_X42_meetFault_41)
def dm_X42_meetFault (s : jS) (x0 x1 x2 : Int) : Option (jS × Int) :=
  (m_X42_meetsIn s x0 x1 x2).bind fun v1 =>
  if v1 = 0 then
    some (s, 0)
  else
    (jlt s 1000 (x0 + 10) 4 x1).bind fun v2 =>
    (jlt s 1000 (x0 + 10) 4 x2).bind fun v3 =>
    if v3 < v2 then
      (jlt s 1000 (x0 + 10) 4 x1).bind fun v4 =>
      u_X42_meetFault_41 s x0 v4
    else
      (jlt s 1000 (x0 + 10) 4 x2).bind fun v5 =>
      u_X42_meetFault_41 s x0 v5
noncomputable def m_X42_meetFault : jS → Int → Int → Int → Option (jS × Int) := Classical.choose (⟨dm_X42_meetFault, rfl⟩ : ∃ f, f = dm_X42_meetFault)
theorem em_X42_meetFault : m_X42_meetFault = dm_X42_meetFault := Classical.choose_spec (⟨dm_X42_meetFault, rfl⟩ : ∃ f, f = dm_X42_meetFault)
def du_X42_markFaults_142 (s : jS) (x0 : Int) : Option (jS × Int) :=
  (m_X42_fault s x0 28 24).bind fun q1 =>
  some (q1.1, q1.2)
noncomputable def u_X42_markFaults_142 : jS → Int → Option (jS × Int) := Classical.choose (⟨du_X42_markFaults_142, rfl⟩ : ∃ f, f = du_X42_markFaults_142)
theorem eu_X42_markFaults_142 : u_X42_markFaults_142 = du_X42_markFaults_142 := Classical.choose_spec (⟨du_X42_markFaults_142, rfl⟩ : ∃ f, f = du_X42_markFaults_142)
def du_X42_markFaults_91 (s : jS) (x0 x1 : Int) : Option (jS × Int) :=
  (m_X42_read4 s x0 24).bind fun v1 =>
  (jlt s 1000 (x0 + 10) 4 0).bind fun v2 =>
  (m_X42_number s x0 v2 2).bind fun v3 =>
  jlet (W64 (v1 - v3)) fun v4 =>
  if (L_cmp v4 0) < 0 then
    u_X42_markFaults_142 s x0
  else
    if (L_cmp v4 x1) < 0 then
      (jdv 2 (L_rem v4 2)).bind fun v5 =>
      if (L_cmp v5 0) = 0 then
        (m_X42_isMarkIn s x0 (L2i v4)).bind fun v6 =>
        if v6 = 0 then
          u_X42_markFaults_142 s x0
        else
          some (s, 0)
      else
        u_X42_markFaults_142 s x0
    else
      u_X42_markFaults_142 s x0
noncomputable def u_X42_markFaults_91 : jS → Int → Int → Option (jS × Int) := Classical.choose (⟨du_X42_markFaults_91, rfl⟩ : ∃ f, f = du_X42_markFaults_91)
theorem eu_X42_markFaults_91 : u_X42_markFaults_91 = du_X42_markFaults_91 := Classical.choose_spec (⟨du_X42_markFaults_91, rfl⟩ : ∃ f, f = du_X42_markFaults_91)
def du_X42_markFaults_69 (s : jS) (x0 x2 x3 : Int) : Option (jS × Int) :=
  (jdv 16 (I_div x3 16)).bind fun v1 =>
  (m_X42_fault s x0 27 (W32 ((W32 (x2 + 28)) + v1))).bind fun q2 =>
  some (q2.1, q2.2)
noncomputable def u_X42_markFaults_69 : jS → Int → Int → Int → Option (jS × Int) := Classical.choose (⟨du_X42_markFaults_69, rfl⟩ : ∃ f, f = du_X42_markFaults_69)
theorem eu_X42_markFaults_69 : u_X42_markFaults_69 = du_X42_markFaults_69 := Classical.choose_spec (⟨du_X42_markFaults_69, rfl⟩ : ∃ f, f = du_X42_markFaults_69)
def du_X42_markFaults_85 (s : jS) (x0 x1 x2 x3 : Int) : Option ((jS × List Int) ⊕ (jS × Int)) :=
  some (.inl (s, [x0, x1, x2, W32 (x3 + 2)]))
noncomputable def u_X42_markFaults_85 : jS → Int → Int → Int → Int → Option ((jS × List Int) ⊕ (jS × Int)) := Classical.choose (⟨du_X42_markFaults_85, rfl⟩ : ∃ f, f = du_X42_markFaults_85)
theorem eu_X42_markFaults_85 : u_X42_markFaults_85 = du_X42_markFaults_85 := Classical.choose_spec (⟨du_X42_markFaults_85, rfl⟩ : ∃ f, f = du_X42_markFaults_85)
def b_X42_markFaults_28 (s : jS) (x0 x1 x2 x3 : Int) : Option ((jS × List Int) ⊕ (jS × Int)) :=
  if x3 < x1 then
    (m_X42_isMarkIn s x0 x3).bind fun v1 =>
    if v1 = 0 then
      u_X42_markFaults_85 s x0 x1 x2 x3
    else
      (m_X42_isShortIn s x0 x3).bind fun v2 =>
      if v2 = 0 then
        if x1 < (W32 (x3 + 4)) then
          jinr (u_X42_markFaults_69 s x0 x2 x3)
        else
          (m_X42_isMarkIn s x0 (W32 (x3 + 2))).bind fun v3 =>
          if v3 = 0 then
            u_X42_markFaults_85 s x0 x1 x2 x3
          else
            jinr (u_X42_markFaults_69 s x0 x2 x3)
      else
        u_X42_markFaults_85 s x0 x1 x2 x3
  else
    jinr (u_X42_markFaults_91 s x0 x1)
def du_X42_markFaults_28 (s : jS) (x0 x1 x2 x3 : Int) : Option (jS × Int) := jlpW (jc4 b_X42_markFaults_28) [x0, x1, x2, x3] s
noncomputable def u_X42_markFaults_28 : jS → Int → Int → Int → Int → Option (jS × Int) := Classical.choose (⟨du_X42_markFaults_28, rfl⟩ : ∃ f, f = du_X42_markFaults_28)
theorem eu_X42_markFaults_28 : u_X42_markFaults_28 = du_X42_markFaults_28 := Classical.choose_spec (⟨du_X42_markFaults_28, rfl⟩ : ∃ f, f = du_X42_markFaults_28)
def dm_X42_markFaults (s : jS) (x0 : Int) : Option (jS × Int) :=
  (jlt s 1000 (x0 + 10) 4 0).bind fun v1 =>
  (m_X42_number s x0 v1 4).bind fun v2 =>
  jlet (L2i v2) fun v3 =>
  (jlt s 1000 (x0 + 10) 4 3).bind fun v4 =>
  (m_X42_number s x0 v4 1).bind fun v5 =>
  jlet (L2i v5) fun v6 =>
  u_X42_markFaults_28 s x0 v3 v6 0
noncomputable def m_X42_markFaults : jS → Int → Option (jS × Int) := Classical.choose (⟨dm_X42_markFaults, rfl⟩ : ∃ f, f = dm_X42_markFaults)
theorem em_X42_markFaults : m_X42_markFaults = dm_X42_markFaults := Classical.choose_spec (⟨dm_X42_markFaults, rfl⟩ : ∃ f, f = dm_X42_markFaults)
def du_X42_lastFaults_109 (s : jS) (x0 x2 y0 : Int) : Option (jS × Int) :=
  if y0 = x2 then
    some (s, 0)
  else
    (m_X42_fault s x0 30 36).bind fun q1 =>
    some (q1.1, q1.2)
noncomputable def u_X42_lastFaults_109 : jS → Int → Int → Int → Option (jS × Int) := Classical.choose (⟨du_X42_lastFaults_109, rfl⟩ : ∃ f, f = du_X42_lastFaults_109)
theorem eu_X42_lastFaults_109 : u_X42_lastFaults_109 = du_X42_lastFaults_109 := Classical.choose_spec (⟨du_X42_lastFaults_109, rfl⟩ : ∃ f, f = du_X42_lastFaults_109)
def du_X42_lastFaults_93 (s : jS) (x0 x2 : Int) : Option (jS × Int) :=
  (m_X42_read4 s x0 36).bind fun v1 =>
  if (L_cmp v1 1) = 0 then
    u_X42_lastFaults_109 s x0 x2 1
  else
    u_X42_lastFaults_109 s x0 x2 0
noncomputable def u_X42_lastFaults_93 : jS → Int → Int → Option (jS × Int) := Classical.choose (⟨du_X42_lastFaults_93, rfl⟩ : ∃ f, f = du_X42_lastFaults_93)
theorem eu_X42_lastFaults_93 : u_X42_lastFaults_93 = du_X42_lastFaults_93 := Classical.choose_spec (⟨du_X42_lastFaults_93, rfl⟩ : ∃ f, f = du_X42_lastFaults_93)
def du_X42_lastFaults_86 (s : jS) (x0 x3 y0 : Int) : Option ((jS × List Int) ⊕ (jS × Int)) :=
  some (.inl (s, [x0, y0, W32 (x3 + 2)]))
noncomputable def u_X42_lastFaults_86 : jS → Int → Int → Int → Option ((jS × List Int) ⊕ (jS × Int)) := Classical.choose (⟨du_X42_lastFaults_86, rfl⟩ : ∃ f, f = du_X42_lastFaults_86)
theorem eu_X42_lastFaults_86 : u_X42_lastFaults_86 = du_X42_lastFaults_86 := Classical.choose_spec (⟨du_X42_lastFaults_86, rfl⟩ : ∃ f, f = du_X42_lastFaults_86)
def du_X42_lastFaults_85 (s : jS) (x0 x3 : Int) : Option ((jS × List Int) ⊕ (jS × Int)) :=
  u_X42_lastFaults_86 s x0 x3 0
noncomputable def u_X42_lastFaults_85 : jS → Int → Int → Option ((jS × List Int) ⊕ (jS × Int)) := Classical.choose (⟨du_X42_lastFaults_85, rfl⟩ : ∃ f, f = du_X42_lastFaults_85)
theorem eu_X42_lastFaults_85 : u_X42_lastFaults_85 = du_X42_lastFaults_85 := Classical.choose_spec (⟨du_X42_lastFaults_85, rfl⟩ : ∃ f, f = du_X42_lastFaults_85)
def du_X42_lastFaults_81 (s : jS) (x0 x3 : Int) : Option ((jS × List Int) ⊕ (jS × Int)) :=
  u_X42_lastFaults_86 s x0 x3 1
noncomputable def u_X42_lastFaults_81 : jS → Int → Int → Option ((jS × List Int) ⊕ (jS × Int)) := Classical.choose (⟨du_X42_lastFaults_81, rfl⟩ : ∃ f, f = du_X42_lastFaults_81)
theorem eu_X42_lastFaults_81 : u_X42_lastFaults_81 = du_X42_lastFaults_81 := Classical.choose_spec (⟨du_X42_lastFaults_81, rfl⟩ : ∃ f, f = du_X42_lastFaults_81)
def b_X42_lastFaults_44 (s : jS) (x0 x2 x3 : Int) : Option ((jS × List Int) ⊕ (jS × Int)) :=
  (jlt s 1000 (x0 + 10) 4 0).bind fun v1 =>
  (m_X42_number s x0 v1 4).bind fun v2 =>
  if (L_cmp x3 v2) < 0 then
    if x2 = 0 then
      (m_X42_isMarkIn s x0 x3).bind fun v3 =>
      if v3 = 0 then
        u_X42_lastFaults_85 s x0 x3
      else
        (m_X42_isShortIn s x0 x3).bind fun v4 =>
        if v4 = 0 then
          u_X42_lastFaults_85 s x0 x3
        else
          u_X42_lastFaults_81 s x0 x3
    else
      u_X42_lastFaults_81 s x0 x3
  else
    jinr (u_X42_lastFaults_93 s x0 x2)
def du_X42_lastFaults_44 (s : jS) (x0 x2 x3 : Int) : Option (jS × Int) := jlpW (jc3 b_X42_lastFaults_44) [x0, x2, x3] s
noncomputable def u_X42_lastFaults_44 : jS → Int → Int → Int → Option (jS × Int) := Classical.choose (⟨du_X42_lastFaults_44, rfl⟩ : ∃ f, f = du_X42_lastFaults_44)
theorem eu_X42_lastFaults_44 : u_X42_lastFaults_44 = du_X42_lastFaults_44 := Classical.choose_spec (⟨du_X42_lastFaults_44, rfl⟩ : ∃ f, f = du_X42_lastFaults_44)
def dm_X42_lastFaults (s : jS) (x0 : Int) : Option (jS × Int) :=
  (jlt s 1000 (x0 + 10) 4 3).bind fun v1 =>
  (m_X42_number s x0 v1 1).bind fun v2 =>
  jlet (L2i v2) fun v3 =>
  (m_X42_read4 s x0 (W32 (v3 + 24))).bind fun v4 =>
  (m_X42_sumIn s x0).bind fun q5 =>
  if (L2i v4) = q5.2 then
    u_X42_lastFaults_44 q5.1 x0 0 0
  else
    (m_X42_fault q5.1 x0 29 (W32 (v3 + 24))).bind fun q6 =>
    some (q6.1, q6.2)
noncomputable def m_X42_lastFaults : jS → Int → Option (jS × Int) := Classical.choose (⟨dm_X42_lastFaults, rfl⟩ : ∃ f, f = dm_X42_lastFaults)
theorem em_X42_lastFaults : m_X42_lastFaults = dm_X42_lastFaults := Classical.choose_spec (⟨dm_X42_lastFaults, rfl⟩ : ∃ f, f = dm_X42_lastFaults)
def dm_X42_told (s : jS) (x0 x1 : Int) : Option (jS × Int) :=
  if x1 = 0 then
    (jlt s 1000 (x0 + 7) 2 1).bind fun v1 =>
    some (s, v1)
  else
    if x1 = 1 then
      (jlt s 1000 (x0 + 8) 2 1).bind fun v2 =>
      some (s, v2)
    else
      if x1 = 2 then
        (m_X42_sumOf s x0 1).bind fun q3 =>
        some (q3.1, q3.2)
      else
        if x1 = 3 then
          (m_X42_marksIn s x0 1).bind fun v4 =>
          some (s, v4)
        else
          if x1 = 4 then
            (m_X42_shortsIn s x0 1).bind fun v5 =>
            some (s, v5)
          else
            some (s, 0)
noncomputable def m_X42_told : jS → Int → Int → Option (jS × Int) := Classical.choose (⟨dm_X42_told, rfl⟩ : ∃ f, f = dm_X42_told)
theorem em_X42_told : m_X42_told = dm_X42_told := Classical.choose_spec (⟨dm_X42_told, rfl⟩ : ∃ f, f = dm_X42_told)
def du_X43_init_122 (s : jS) (x0 : Int) : Option (jS × Int) :=
  (jct s 63 x0 (m_X43_layShort s x0)).bind fun q1 =>
  some (q1.1, 0)
noncomputable def u_X43_init_122 : jS → Int → Option (jS × Int) := Classical.choose (⟨du_X43_init_122, rfl⟩ : ∃ f, f = du_X43_init_122)
theorem eu_X43_init_122 : u_X43_init_122 = du_X43_init_122 := Classical.choose_spec (⟨du_X43_init_122, rfl⟩ : ∃ f, f = du_X43_init_122)
def b_X43_init_105 (s : jS) (x0 x1 : Int) : Option ((jS × List Int) ⊕ (jS × Int)) :=
  if x1 < 75 then
    (jct s 63 x0 (m_X43_layLong s x0 x1)).bind fun q1 =>
    some (.inl (q1.1, [x0, W32 (x1 + 1)]))
  else
    jinr (u_X43_init_122 s x0)
def du_X43_init_105 (s : jS) (x0 x1 : Int) : Option (jS × Int) := jlpW (jc2 b_X43_init_105) [x0, x1] s
noncomputable def u_X43_init_105 : jS → Int → Int → Option (jS × Int) := Classical.choose (⟨du_X43_init_105, rfl⟩ : ∃ f, f = du_X43_init_105)
theorem eu_X43_init_105 : u_X43_init_105 = du_X43_init_105 := Classical.choose_spec (⟨du_X43_init_105, rfl⟩ : ∃ f, f = du_X43_init_105)
def dm_X43_init (s : jS) (x0 : Int) : Option (jS × Int) :=
  jck0 x0 <|
  (jna s 1000 2400 0).bind fun q1 =>
  (jwr q1.1 47 x0 0 q1.2).bind fun s2 =>
  (jna s2 1000 4 0).bind fun q3 =>
  (jwr q3.1 47 x0 1 q3.2).bind fun s4 =>
  (jna s4 1000 131072 0).bind fun q5 =>
  (jwr q5.1 47 x0 2 q5.2).bind fun s6 =>
  (jna s6 1002 65536 0).bind fun q7 =>
  (jwr q7.1 47 x0 3 q7.2).bind fun s8 =>
  (jna s8 1000 8 0).bind fun q9 =>
  (jwr q9.1 47 x0 4 q9.2).bind fun s10 =>
  (jna s10 1000 8 0).bind fun q11 =>
  (jwr q11.1 47 x0 5 q11.2).bind fun s12 =>
  (jna s12 1000 8 0).bind fun q13 =>
  (jwr q13.1 47 x0 6 q13.2).bind fun s14 =>
  (jna s14 1000 8 0).bind fun q15 =>
  (jwr q15.1 47 x0 8 q15.2).bind fun s16 =>
  (jna s16 1000 32 0).bind fun q17 =>
  (jwr q17.1 47 x0 10 q17.2).bind fun s18 =>
  (jna s18 1000 1000 0).bind fun q19 =>
  (jwr q19.1 47 x0 12 q19.2).bind fun s20 =>
  (jna s20 1000 2000 0).bind fun q21 =>
  (jwr q21.1 47 x0 15 q21.2).bind fun s22 =>
  (jna s22 1000 1300 0).bind fun q23 =>
  (jwr q23.1 47 x0 22 q23.2).bind fun s24 =>
  u_X43_init_105 s24 x0 0
noncomputable def m_X43_init : jS → Int → Option (jS × Int) := Classical.choose (⟨dm_X43_init, rfl⟩ : ∃ f, f = dm_X43_init)
theorem em_X43_init : m_X43_init = dm_X43_init := Classical.choose_spec (⟨dm_X43_init, rfl⟩ : ∃ f, f = dm_X43_init)
def du_X43_areGood_39 (s : jS) (x0 x1 : Int) : Option (Int) :=
  (m_X43_has s x0 x1 3).bind fun v1 =>
  if v1 = 0 then
    some (Wz 1)
  else
    (jlt s 1000 (x0 + 2) 4 3).bind fun v2 =>
    (m_X43_isImmediate s x1 v2).bind fun v3 =>
    if v3 = 0 then
      some (Wz 0)
    else
      some (Wz 1)
noncomputable def u_X43_areGood_39 : jS → Int → Int → Option (Int) := Classical.choose (⟨du_X43_areGood_39, rfl⟩ : ∃ f, f = du_X43_areGood_39)
theorem eu_X43_areGood_39 : u_X43_areGood_39 = du_X43_areGood_39 := Classical.choose_spec (⟨du_X43_areGood_39, rfl⟩ : ∃ f, f = du_X43_areGood_39)
def du_X43_areGood_33 (s : jS) (x0 x1 x2 : Int) : Option (List Int ⊕ (Int)) :=
  some (.inl [x0, x1, W32 (x2 + 1)])
noncomputable def u_X43_areGood_33 : jS → Int → Int → Int → Option (List Int ⊕ (Int)) := Classical.choose (⟨du_X43_areGood_33, rfl⟩ : ∃ f, f = du_X43_areGood_33)
theorem eu_X43_areGood_33 : u_X43_areGood_33 = du_X43_areGood_33 := Classical.choose_spec (⟨du_X43_areGood_33, rfl⟩ : ∃ f, f = du_X43_areGood_33)
def b_X43_areGood_2 (s : jS) (x0 x1 x2 : Int) : Option (List Int ⊕ (Int)) :=
  if x2 < 3 then
    (m_X43_has s x0 x1 x2).bind fun v1 =>
    if v1 = 0 then
      u_X43_areGood_33 s x0 x1 x2
    else
      (jlt s 1000 (x0 + 2) 4 x2).bind fun v2 =>
      (m_X43_isRegister s x0 x1 x2 v2).bind fun v3 =>
      if v3 = 0 then
        jinr (some (Wz 0))
      else
        u_X43_areGood_33 s x0 x1 x2
  else
    jinr (u_X43_areGood_39 s x0 x1)
def du_X43_areGood_2 (s : jS) (x0 x1 x2 : Int) : Option (Int) := jlpR (jc3 b_X43_areGood_2) [x0, x1, x2] s
noncomputable def u_X43_areGood_2 : jS → Int → Int → Int → Option (Int) := Classical.choose (⟨du_X43_areGood_2, rfl⟩ : ∃ f, f = du_X43_areGood_2)
theorem eu_X43_areGood_2 : u_X43_areGood_2 = du_X43_areGood_2 := Classical.choose_spec (⟨du_X43_areGood_2, rfl⟩ : ∃ f, f = du_X43_areGood_2)
def dm_X43_areGood (s : jS) (x0 x1 : Int) : Option (Int) :=
  u_X43_areGood_2 s x0 x1 0
noncomputable def m_X43_areGood : jS → Int → Int → Option (Int) := Classical.choose (⟨dm_X43_areGood, rfl⟩ : ∃ f, f = dm_X43_areGood)
theorem em_X43_areGood : m_X43_areGood = dm_X43_areGood := Classical.choose_spec (⟨dm_X43_areGood, rfl⟩ : ∃ f, f = dm_X43_areGood)
def du_X43_work_368 (s : jS) (x0 y0 y1 : Int) : Option (jS × Int) :=
  jls (jp s 47 y1 11 y0) fun s1 =>
  if (jf s1 47 x0 28) = 0 then
    some (s1, 0)
  else
    if (jf s1 47 x0 7) = 0 then
      some (s1, 0)
    else
      (m_X43_bare s1 (jf s1 47 x0 27)).bind fun v2 =>
      (m_X43_isMarked s1 x0 v2).bind fun v3 =>
      if v3 = 0 then
        (m_X43_fail s1 x0 5 (jf s1 47 x0 27)).bind fun q4 =>
        some (q4.1, 0)
      else
        some (s1, 0)
noncomputable def u_X43_work_368 : jS → Int → Int → Int → Option (jS × Int) := Classical.choose (⟨du_X43_work_368, rfl⟩ : ∃ f, f = du_X43_work_368)
theorem eu_X43_work_368 : u_X43_work_368 = du_X43_work_368 := Classical.choose_spec (⟨du_X43_work_368, rfl⟩ : ∃ f, f = du_X43_work_368)
def du_X43_work_336 (s : jS) (x0 : Int) : Option (jS × Int) :=
  if (jf s 47 x0 17) = 0 then
    if (jf s 47 x0 28) = 0 then
      u_X43_work_368 s x0 (W32 ((jf s 47 x0 11) + (jf s 47 x0 25))) x0
    else
      u_X43_work_368 s x0 (jf s 47 x0 27) x0
  else
    some (s, 0)
noncomputable def u_X43_work_336 : jS → Int → Option (jS × Int) := Classical.choose (⟨du_X43_work_336, rfl⟩ : ∃ f, f = du_X43_work_336)
theorem eu_X43_work_336 : u_X43_work_336 = du_X43_work_336 := Classical.choose_spec (⟨du_X43_work_336, rfl⟩ : ∃ f, f = du_X43_work_336)
def du_X43_work_132 (s : jS) (x0 x1 y0 y1 : Int) : Option (jS × Int) :=
  jls (jp s 47 y1 27 y0) fun s1 =>
  (jzb 1).bind fun v2 =>
  jls (jp s1 47 x0 28 v2) fun s3 =>
  (m_X43_become s3 x0 x1 (W32 ((jf s3 47 x0 11) + (jf s3 47 x0 25)))).bind fun q4 =>
  u_X43_work_336 q4.1 x0
noncomputable def u_X43_work_132 : jS → Int → Int → Int → Int → Option (jS × Int) := Classical.choose (⟨du_X43_work_132, rfl⟩ : ∃ f, f = du_X43_work_132)
theorem eu_X43_work_132 : u_X43_work_132 = du_X43_work_132 := Classical.choose_spec (⟨du_X43_work_132, rfl⟩ : ∃ f, f = du_X43_work_132)
def du_X43_work_106 (s : jS) (x0 x1 x2 x4 : Int) : Option (jS × Int) :=
  if (jf s 47 x0 26) = 2 then
    u_X43_work_132 s x0 x1 (W32 ((jf s 47 x0 11) + x4)) x0
  else
    u_X43_work_132 s x0 x1 (I_and (W32 (x2 + x4)) (-2)) x0
noncomputable def u_X43_work_106 : jS → Int → Int → Int → Int → Option (jS × Int) := Classical.choose (⟨du_X43_work_106, rfl⟩ : ∃ f, f = du_X43_work_106)
theorem eu_X43_work_106 : u_X43_work_106 = du_X43_work_106 := Classical.choose_spec (⟨du_X43_work_106, rfl⟩ : ∃ f, f = du_X43_work_106)
def dm_X43_work (s : jS) (x0 : Int) : Option (jS × Int) :=
  (jlt s 1000 (x0 + 2) 4 0).bind fun v1 =>
  (jlt s 1000 (x0 + 2) 4 1).bind fun v2 =>
  (jlt s 1000 (x0 + 9) 32 v2).bind fun v3 =>
  (jlt s 1000 (x0 + 2) 4 2).bind fun v4 =>
  (jlt s 1000 (x0 + 9) 32 v4).bind fun v5 =>
  (jlt s 1000 (x0 + 2) 4 3).bind fun v6 =>
  (jzb 0).bind fun v7 =>
  jls (jp s 47 x0 28 v7) fun s8 =>
  if (jf s8 47 x0 26) = 0 then
    (m_X43_become s8 x0 v1 (I_shl v6 12)).bind fun q9 =>
    u_X43_work_336 q9.1 x0
  else
    if (jf s8 47 x0 26) = 1 then
      (m_X43_become s8 x0 v1 (W32 ((jf s8 47 x0 11) + (I_shl v6 12)))).bind fun q10 =>
      u_X43_work_336 q10.1 x0
    else
      if (jf s8 47 x0 26) = 2 then
        u_X43_work_106 s8 x0 v1 v3 v6
      else
        if (jf s8 47 x0 26) = 3 then
          u_X43_work_106 s8 x0 v1 v3 v6
        else
          if (jf s8 47 x0 26) < 10 then
            jls (jp s8 47 x0 27 (W32 ((jf s8 47 x0 11) + v6))) fun s11 =>
            (m_X43_branches s11 (jf s11 47 x0 26) v3 v5).bind fun v12 =>
            (jzb v12).bind fun v13 =>
            jls (jp s11 47 x0 28 v13) fun s14 =>
            u_X43_work_336 s14 x0
          else
            if (jf s8 47 x0 26) < 15 then
              (m_X43_loaded s8 x0 (W32 (v3 + v6))).bind fun v15 =>
              (m_X43_become s8 x0 v1 v15).bind fun q16 =>
              u_X43_work_336 q16.1 x0
            else
              if (jf s8 47 x0 26) < 18 then
                (m_X43_widthOf s8 x0 (jf s8 47 x0 26)).bind fun v17 =>
                (m_X43_store s8 x0 (W32 (v3 + v6)) v17 v5).bind fun q18 =>
                u_X43_work_336 q18.1 x0
              else
                if (jf s8 47 x0 26) < 27 then
                  (m_X43_reckoned s8 (jf s8 47 x0 26) v3 v6).bind fun v19 =>
                  (m_X43_become s8 x0 v1 v19).bind fun q20 =>
                  u_X43_work_336 q20.1 x0
                else
                  if (jf s8 47 x0 26) < 45 then
                    (m_X43_reckoned s8 (jf s8 47 x0 26) v3 v5).bind fun v21 =>
                    (m_X43_become s8 x0 v1 v21).bind fun q22 =>
                    u_X43_work_336 q22.1 x0
                  else
                    if (jf s8 47 x0 26) = 46 then
                      (m_X43_serve s8 x0).bind fun q23 =>
                      u_X43_work_336 q23.1 x0
                    else
                      if (jf s8 47 x0 26) = 47 then
                        (m_X43_fail s8 x0 6 (jf s8 47 x0 11)).bind fun q24 =>
                        u_X43_work_336 q24.1 x0
                      else
                        u_X43_work_336 s8 x0
noncomputable def m_X43_work : jS → Int → Option (jS × Int) := Classical.choose (⟨dm_X43_work, rfl⟩ : ∃ f, f = dm_X43_work)
theorem em_X43_work : m_X43_work = dm_X43_work := Classical.choose_spec (⟨dm_X43_work, rfl⟩ : ∃ f, f = dm_X43_work)
def dm_X37_init (s : jS) (x0 : Int) : Option (jS × Int) :=
  jck0 x0 <|
  (jna s 1000 49152 0).bind fun q1 =>
  (jwr q1.1 41 x0 0 q1.2).bind fun s2 =>
  (jna s2 1000 6 0).bind fun q3 =>
  (jwr q3.1 41 x0 1 q3.2).bind fun s4 =>
  (jna s4 1000 16384 0).bind fun q5 =>
  (jwr q5.1 41 x0 2 q5.2).bind fun s6 =>
  (jnw s6 42 6 (jdf 42)).bind fun q7 =>
  (jck0 q7.2 (m_X38_init q7.1 q7.2)).bind fun q8 =>
  (jwr q8.1 41 x0 5 q7.2).bind fun s9 =>
  (jnw s9 43 36 (jdf 43)).bind fun q10 =>
  (jck0 q10.2 (m_X39_init q10.1 q10.2)).bind fun q11 =>
  (jwr q11.1 41 x0 6 q10.2).bind fun s12 =>
  (jnw s12 44 41 (jdf 44)).bind fun q13 =>
  (jck0 q13.2 (m_X40_init q13.1 q13.2)).bind fun q14 =>
  (jwr q14.1 41 x0 7 q13.2).bind fun s15 =>
  (jnw s15 44 41 (jdf 44)).bind fun q16 =>
  (jck0 q16.2 (m_X40_init q16.1 q16.2)).bind fun q17 =>
  (jwr q17.1 41 x0 8 q16.2).bind fun s18 =>
  (jnw s18 45 28 (jdf 45)).bind fun q19 =>
  (jck0 q19.2 (m_X41_init q19.1 q19.2)).bind fun q20 =>
  (jwr q20.1 41 x0 9 q19.2).bind fun s21 =>
  (jnw s21 46 16 (jdf 46)).bind fun q22 =>
  (jck0 q22.2 (m_X42_init q22.1 q22.2)).bind fun q23 =>
  (jwr q23.1 41 x0 10 q22.2).bind fun s24 =>
  (jnw s24 47 29 (jdf 47)).bind fun q25 =>
  (jck0 q25.2 (m_X43_init q25.1 q25.2)).bind fun q26 =>
  (jwr q26.1 41 x0 11 q25.2).bind fun s27 =>
  (jna s27 1000 100 0).bind fun q28 =>
  (jwr q28.1 41 x0 13 q28.2).bind fun s29 =>
  (jna s29 1000 100 0).bind fun q30 =>
  (jwr q30.1 41 x0 14 q30.2).bind fun s31 =>
  (jna s31 1000 100 0).bind fun q32 =>
  (jwr q32.1 41 x0 15 q32.2).bind fun s33 =>
  (jna s33 1000 100 0).bind fun q34 =>
  (jwr q34.1 41 x0 16 q34.2).bind fun s35 =>
  (jna s35 1000 100 0).bind fun q36 =>
  (jwr q36.1 41 x0 17 q36.2).bind fun s37 =>
  (jna s37 1000 150 0).bind fun q38 =>
  (jwr q38.1 41 x0 18 q38.2).bind fun s39 =>
  (jna s39 1000 10 0).bind fun q40 =>
  (jwr q40.1 41 x0 20 q40.2).bind fun s41 =>
  (jna s41 1000 10 0).bind fun q42 =>
  (jwr q42.1 41 x0 21 q42.2).bind fun s43 =>
  (jna s43 1000 10 0).bind fun q44 =>
  (jwr q44.1 41 x0 22 q44.2).bind fun s45 =>
  (jna s45 1000 6144 0).bind fun q46 =>
  (jwr q46.1 41 x0 23 q46.2).bind fun s47 =>
  (jna s47 1000 4 0).bind fun q48 =>
  (jwr q48.1 41 x0 24 q48.2).bind fun s49 =>
  (jna s49 1000 4 0).bind fun q50 =>
  (jwr q50.1 41 x0 25 q50.2).bind fun s51 =>
  (jna s51 1000 1024 0).bind fun q52 =>
  (jwr q52.1 41 x0 27 q52.2).bind fun s53 =>
  (jna s53 1000 300 0).bind fun q54 =>
  (jwr q54.1 41 x0 29 q54.2).bind fun s55 =>
  (jna s55 1000 300 0).bind fun q56 =>
  (jwr q56.1 41 x0 30 q56.2).bind fun s57 =>
  (jna s57 1000 300 0).bind fun q58 =>
  (jwr q58.1 41 x0 31 q58.2).bind fun s59 =>
  (jna s59 1000 300 0).bind fun q60 =>
  (jwr q60.1 41 x0 32 q60.2).bind fun s61 =>
  (jna s61 1000 300 0).bind fun q62 =>
  (jwr q62.1 41 x0 33 q62.2).bind fun s63 =>
  (jna s63 1002 8 0).bind fun q64 =>
  (jwr q64.1 41 x0 38 q64.2).bind fun s65 =>
  (jna s65 1002 8 0).bind fun q66 =>
  (jwr q66.1 41 x0 39 q66.2).bind fun s67 =>
  (jwr s67 41 x0 41 (-1)).bind fun s68 =>
  (jna s68 1000 64 0).bind fun q69 =>
  (jwr q69.1 41 x0 49 q69.2).bind fun s70 =>
  (jna s70 1000 64 0).bind fun q71 =>
  (jwr q71.1 41 x0 50 q71.2).bind fun s72 =>
  (jna s72 1000 64 0).bind fun q73 =>
  (jwr q73.1 41 x0 51 q73.2).bind fun s74 =>
  (jna s74 1000 800 0).bind fun q75 =>
  (jwr q75.1 41 x0 55 q75.2).bind fun s76 =>
  (jna s76 1000 800 0).bind fun q77 =>
  (jwr q77.1 41 x0 56 q77.2).bind fun s78 =>
  (jna s78 1000 800 0).bind fun q79 =>
  (jwr q79.1 41 x0 57 q79.2).bind fun s80 =>
  (jna s80 1000 4 0).bind fun q81 =>
  (jwr q81.1 41 x0 58 q81.2).bind fun s82 =>
  (jna s82 1000 36864 0).bind fun q83 =>
  (jwr q83.1 41 x0 62 q83.2).bind fun s84 =>
  (jna s84 1000 24 0).bind fun q85 =>
  (jwr q85.1 41 x0 63 q85.2).bind fun s86 =>
  (jna s86 1000 24 0).bind fun q87 =>
  (jwr q87.1 41 x0 64 q87.2).bind fun s88 =>
  (jna s88 1000 6144 0).bind fun q89 =>
  (jwr q89.1 41 x0 65 q89.2).bind fun s90 =>
  (jna s90 1000 6 0).bind fun q91 =>
  (jwr q91.1 41 x0 66 q91.2).bind fun s92 =>
  (jna s92 1002 6 0).bind fun q93 =>
  (jwr q93.1 41 x0 67 q93.2).bind fun s94 =>
  (jna s94 1000 6 0).bind fun q95 =>
  (jwr q95.1 41 x0 68 q95.2).bind fun s96 =>
  (jna s96 1000 600 0).bind fun q97 =>
  (jwr q97.1 41 x0 69 q97.2).bind fun s98 =>
  (jna s98 1000 600 0).bind fun q99 =>
  (jwr q99.1 41 x0 70 q99.2).bind fun s100 =>
  (jna s100 1000 600 0).bind fun q101 =>
  (jwr q101.1 41 x0 71 q101.2).bind fun s102 =>
  (jna s102 1000 600 0).bind fun q103 =>
  (jwr q103.1 41 x0 72 q103.2).bind fun s104 =>
  (jna s104 1000 600 0).bind fun q105 =>
  (jwr q105.1 41 x0 73 q105.2).bind fun s106 =>
  (jna s106 1000 9600 0).bind fun q107 =>
  (jwr q107.1 41 x0 74 q107.2).bind fun s108 =>
  (jna s108 1000 6 0).bind fun q109 =>
  (jwr q109.1 41 x0 75 q109.2).bind fun s110 =>
  (jna s110 1000 1800 0).bind fun q111 =>
  (jwr q111.1 41 x0 76 q111.2).bind fun s112 =>
  (jna s112 1000 1800 0).bind fun q113 =>
  (jwr q113.1 41 x0 77 q113.2).bind fun s114 =>
  (jna s114 1000 1800 0).bind fun q115 =>
  (jwr q115.1 41 x0 78 q115.2).bind fun s116 =>
  (jna s116 1000 1800 0).bind fun q117 =>
  (jwr q117.1 41 x0 79 q117.2).bind fun s118 =>
  (jna s118 1000 1800 0).bind fun q119 =>
  (jwr q119.1 41 x0 80 q119.2).bind fun s120 =>
  (jna s120 1000 600 0).bind fun q121 =>
  (jwr q121.1 41 x0 82 q121.2).bind fun s122 =>
  (jna s122 1000 600 0).bind fun q123 =>
  (jwr q123.1 41 x0 83 q123.2).bind fun s124 =>
  (jna s124 1000 600 0).bind fun q125 =>
  (jwr q125.1 41 x0 84 q125.2).bind fun s126 =>
  (jna s126 1000 600 0).bind fun q127 =>
  (jwr q127.1 41 x0 85 q127.2).bind fun s128 =>
  (jna s128 1000 600 0).bind fun q129 =>
  (jwr q129.1 41 x0 86 q129.2).bind fun s130 =>
  (jna s130 1000 600 0).bind fun q131 =>
  (jwr q131.1 41 x0 87 q131.2).bind fun s132 =>
  (jna s132 1000 600 0).bind fun q133 =>
  (jwr q133.1 41 x0 88 q133.2).bind fun s134 =>
  (jna s134 1000 600 0).bind fun q135 =>
  (jwr q135.1 41 x0 89 q135.2).bind fun s136 =>
  (jna s136 1000 256 0).bind fun q137 =>
  (jwr q137.1 41 x0 90 q137.2).bind fun s138 =>
  (jna s138 1000 256 0).bind fun q139 =>
  (jwr q139.1 41 x0 91 q139.2).bind fun s140 =>
  (jna s140 1000 256 0).bind fun q141 =>
  (jwr q141.1 41 x0 92 q141.2).bind fun s142 =>
  (jna s142 1000 32 0).bind fun q143 =>
  (jwr q143.1 41 x0 93 q143.2).bind fun s144 =>
  (jna s144 1000 32 0).bind fun q145 =>
  (jwr q145.1 41 x0 94 q145.2).bind fun s146 =>
  (jna s146 1000 24 0).bind fun q147 =>
  (jwr q147.1 41 x0 95 q147.2).bind fun s148 =>
  (jna s148 1000 1800 0).bind fun q149 =>
  (jwr q149.1 41 x0 96 q149.2).bind fun s150 =>
  (jna s150 1000 1200 0).bind fun q151 =>
  (jwr q151.1 41 x0 97 q151.2).bind fun s152 =>
  (jna s152 1000 12288 0).bind fun q153 =>
  (jwr q153.1 41 x0 98 q153.2).bind fun s154 =>
  (jwr s154 41 x0 100 (-1)).bind fun s155 =>
  (jwr s155 41 x0 101 (-1)).bind fun s156 =>
  (jna s156 1000 600 0).bind fun q157 =>
  (jwr q157.1 41 x0 110 q157.2).bind fun s158 =>
  (jna s158 1000 9600 0).bind fun q159 =>
  (jwr q159.1 41 x0 111 q159.2).bind fun s160 =>
  (jna s160 1000 600 0).bind fun q161 =>
  (jwr q161.1 41 x0 112 q161.2).bind fun s162 =>
  (jna s162 1000 16 0).bind fun q163 =>
  (jwr q163.1 41 x0 117 q163.2).bind fun s164 =>
  (jwr s164 41 x0 118 (-1)).bind fun s165 =>
  some (s165, 0)
noncomputable def m_X37_init : jS → Int → Option (jS × Int) := Classical.choose (⟨dm_X37_init, rfl⟩ : ∃ f, f = dm_X37_init)
theorem em_X37_init : m_X37_init = dm_X37_init := Classical.choose_spec (⟨dm_X37_init, rfl⟩ : ∃ f, f = dm_X37_init)
def du_X37_symbolOfName_21 (s : jS) (x0 x1 : Int) : Option (jS × Int) :=
  (jlt s 1000 (x0 + 148) 150 x1).bind fun v1 =>
  some (s, v1)
noncomputable def u_X37_symbolOfName_21 : jS → Int → Int → Option (jS × Int) := Classical.choose (⟨du_X37_symbolOfName_21, rfl⟩ : ∃ f, f = du_X37_symbolOfName_21)
theorem eu_X37_symbolOfName_21 : u_X37_symbolOfName_21 = du_X37_symbolOfName_21 := Classical.choose_spec (⟨du_X37_symbolOfName_21, rfl⟩ : ∃ f, f = du_X37_symbolOfName_21)
def dm_X37_symbolOfName (s : jS) (x0 x1 : Int) : Option (jS × Int) :=
  (jlt s 1000 (x0 + 148) 150 x1).bind fun v1 =>
  if v1 = (-1) then
    (m_X37_newSymbol s x0 x1).bind fun q2 =>
    (jst q2.1 1000 (x0 + 148) 150 x1 q2.2).bind fun s3 =>
    u_X37_symbolOfName_21 s3 x0 x1
  else
    u_X37_symbolOfName_21 s x0 x1
noncomputable def m_X37_symbolOfName : jS → Int → Int → Option (jS × Int) := Classical.choose (⟨dm_X37_symbolOfName, rfl⟩ : ∃ f, f = dm_X37_symbolOfName)
theorem em_X37_symbolOfName : m_X37_symbolOfName = dm_X37_symbolOfName := Classical.choose_spec (⟨dm_X37_symbolOfName, rfl⟩ : ∃ f, f = dm_X37_symbolOfName)
def dm_X37_isName (s : jS) (x0 x1 : Int) : Option (jS × Int) :=
  (m_X37_isSort s x0 x1 0).bind fun q1 =>
  if q1.2 = 0 then
    some (q1.1, Wz 0)
  else
    (m_X39_operand q1.1 (x0 + 8) (W32 ((jf q1.1 41 x0 45) + x1)) 4).bind fun q2 =>
    if q2.2 = 1 then
      (m_X39_operand q2.1 (x0 + 8) (W32 ((jf q2.1 41 x0 45) + x1)) 3).bind fun q3 =>
      (m_X39_item q3.1 (x0 + 8) q3.2 0).bind fun q4 =>
      if q4.2 = 1 then
        some (q4.1, Wz 1)
      else
        some (q4.1, Wz 0)
    else
      some (q2.1, Wz 0)
noncomputable def m_X37_isName : jS → Int → Int → Option (jS × Int) := Classical.choose (⟨dm_X37_isName, rfl⟩ : ∃ f, f = dm_X37_isName)
theorem em_X37_isName : m_X37_isName = dm_X37_isName := Classical.choose_spec (⟨dm_X37_isName, rfl⟩ : ∃ f, f = dm_X37_isName)
def du_X37_push_109 (s : jS) (x0 x3 x5 : Int) : Option (jS × Int) :=
  (jst s 1000 (x0 + 164) 64 x3 x5).bind fun s1 =>
  some (s1, Wz 1)
noncomputable def u_X37_push_109 : jS → Int → Int → Int → Option (jS × Int) := Classical.choose (⟨du_X37_push_109, rfl⟩ : ∃ f, f = du_X37_push_109)
theorem eu_X37_push_109 : u_X37_push_109 = du_X37_push_109 := Classical.choose_spec (⟨du_X37_push_109, rfl⟩ : ∃ f, f = du_X37_push_109)
def du_X37_push_67 (s : jS) (x0 x1 x3 y0 : Int) : Option (jS × Int) :=
  if y0 = (-1) then
    some (s, Wz 0)
  else
    if x1 = 1 then
      (jlt s 1000 (x0 + 144) 100 y0).bind fun v1 =>
      if v1 = 4 then
        (jlt s 1000 (x0 + 145) 100 y0).bind fun v2 =>
        (jst s 1000 (x0 + 163) 64 x3 v2).bind fun s3 =>
        some (s3, Wz 1)
      else
        u_X37_push_109 s x0 x3 y0
    else
      u_X37_push_109 s x0 x3 y0
noncomputable def u_X37_push_67 : jS → Int → Int → Int → Int → Option (jS × Int) := Classical.choose (⟨du_X37_push_67, rfl⟩ : ∃ f, f = du_X37_push_67)
theorem eu_X37_push_67 : u_X37_push_67 = du_X37_push_67 := Classical.choose_spec (⟨du_X37_push_67, rfl⟩ : ∃ f, f = du_X37_push_67)
def du_X37_push_14 (s : jS) (x0 x1 x2 x3 x4 y0 y1 y2 : Int) : Option (jS × Int) :=
  (jst s 1000 y2 64 y1 y0).bind fun s1 =>
  (jst s1 1000 (x0 + 164) 64 x3 (-1)).bind fun s2 =>
  (jst s2 1000 (x0 + 165) 64 x3 (-1)).bind fun s3 =>
  if x1 = 0 then
    some (s3, Wz 1)
  else
    if x1 = 1 then
      (m_X37_symbolOfName s3 x0 x2).bind fun q4 =>
      u_X37_push_67 q4.1 x0 x1 x3 q4.2
    else
      if x1 = 2 then
        (m_X37_localSymbol s3 x0 x2 x4).bind fun q5 =>
        u_X37_push_67 q5.1 x0 x1 x3 q5.2
      else
        (m_X37_symbolHere s3 x0).bind fun q6 =>
        u_X37_push_67 q6.1 x0 x1 x3 q6.2
noncomputable def u_X37_push_14 : jS → Int → Int → Int → Int → Int → Int → Int → Int → Option (jS × Int) := Classical.choose (⟨du_X37_push_14, rfl⟩ : ∃ f, f = du_X37_push_14)
theorem eu_X37_push_14 : u_X37_push_14 = du_X37_push_14 := Classical.choose_spec (⟨du_X37_push_14, rfl⟩ : ∃ f, f = du_X37_push_14)
def dm_X37_push (s : jS) (x0 x1 x2 x3 x4 : Int) : Option (jS × Int) :=
  if x1 = 0 then
    u_X37_push_14 s x0 x1 x2 x3 x4 x2 x3 (x0 + 163)
  else
    u_X37_push_14 s x0 x1 x2 x3 x4 0 x3 (x0 + 163)
noncomputable def m_X37_push : jS → Int → Int → Int → Int → Int → Option (jS × Int) := Classical.choose (⟨dm_X37_push, rfl⟩ : ∃ f, f = dm_X37_push)
theorem em_X37_push : m_X37_push = dm_X37_push := Classical.choose_spec (⟨dm_X37_push, rfl⟩ : ∃ f, f = dm_X37_push)
def du_X37_option_82 (s : jS) (x0 x1 : Int) : Option (jS × Int) :=
  if (L_cmp x1 7501411) = 0 then
    (jzb 1).bind fun v1 =>
    jls (jp s 41 x0 35 v1) fun s2 =>
    some (s2, Wz 1)
  else
    if (L_cmp x1 474316174947) = 0 then
      (jzb 0).bind fun v3 =>
      jls (jp s 41 x0 35 v3) fun s4 =>
      some (s4, Wz 1)
    else
      if (L_cmp x1 491327873400) = 0 then
        (jzb 1).bind fun v5 =>
        jls (jp s 41 x0 36 v5) fun s6 =>
        some (s6, Wz 1)
      else
        if (L_cmp x1 31084784556728696) = 0 then
          (jzb 0).bind fun v7 =>
          jls (jp s 41 x0 36 v7) fun s8 =>
          some (s8, Wz 1)
        else
          if (L_cmp x1 1886745448) = 0 then
            if (jf s 41 x0 37) = 8 then
              (m_X37_fail s x0 17).bind fun q9 =>
              some (q9.1, Wz q9.2)
            else
              (jst s 1002 (x0 + 161) 8 (jf s 41 x0 37) (Wz (jf s 41 x0 35))).bind fun s10 =>
              (jst s10 1002 (x0 + 162) 8 (jf s10 41 x0 37) (Wz (jf s10 41 x0 36))).bind fun s11 =>
              jls (jp s11 41 x0 37 (W32 ((jf s11 41 x0 37) + 1))) fun s12 =>
              some (s12, Wz 1)
          else
            if (L_cmp x1 7368560) = 0 then
              if (jf s 41 x0 37) = 0 then
                (m_X37_fail s x0 17).bind fun q13 =>
                some (q13.1, Wz q13.2)
              else
                jls (jp s 41 x0 37 (W32 ((jf s 41 x0 37) - 1))) fun s14 =>
                (jlt s14 1002 (x0 + 161) 8 (jf s14 41 x0 37)).bind fun v15 =>
                (jzb v15).bind fun v16 =>
                jls (jp s14 41 x0 35 v16) fun s17 =>
                (jlt s17 1002 (x0 + 162) 8 (jf s17 41 x0 37)).bind fun v18 =>
                (jzb v18).bind fun v19 =>
                jls (jp s17 41 x0 36 v19) fun s20 =>
                some (s20, Wz 1)
            else
              (m_X37_fail s x0 12).bind fun q21 =>
              some (q21.1, Wz q21.2)
noncomputable def u_X37_option_82 : jS → Int → Int → Option (jS × Int) := Classical.choose (⟨du_X37_option_82, rfl⟩ : ∃ f, f = du_X37_option_82)
theorem eu_X37_option_82 : u_X37_option_82 = du_X37_option_82 := Classical.choose_spec (⟨du_X37_option_82, rfl⟩ : ∃ f, f = du_X37_option_82)
def du_X37_option_75 (s : jS) (x0 x3 x4 y0 : Int) : Option ((jS × List Int) ⊕ (jS × Int)) :=
  some (.inl (s, [x0, y0, x3, W32 (x4 + 1)]))
noncomputable def u_X37_option_75 : jS → Int → Int → Int → Int → Option ((jS × List Int) ⊕ (jS × Int)) := Classical.choose (⟨du_X37_option_75, rfl⟩ : ∃ f, f = du_X37_option_75)
theorem eu_X37_option_75 : u_X37_option_75 = du_X37_option_75 := Classical.choose_spec (⟨du_X37_option_75, rfl⟩ : ∃ f, f = du_X37_option_75)
def b_X37_option_34 (s : jS) (x0 x1 x3 x4 : Int) : Option ((jS × List Int) ⊕ (jS × Int)) :=
  (m_X39_name s (x0 + 8) x3 x4).bind fun q1 =>
  if q1.2 = (-1) then
    jinr (u_X37_option_82 q1.1 x0 x1)
  else
    if x4 < 8 then
      (m_X39_name q1.1 (x0 + 8) x3 x4).bind fun q2 =>
      u_X37_option_75 q2.1 x0 x3 x4 (L_or (L_shl x1 8) q2.2)
    else
      u_X37_option_75 q1.1 x0 x3 x4 0
def du_X37_option_34 (s : jS) (x0 x1 x3 x4 : Int) : Option (jS × Int) := jlpW (jc4 b_X37_option_34) [x0, x1, x3, x4] s
noncomputable def u_X37_option_34 : jS → Int → Int → Int → Int → Option (jS × Int) := Classical.choose (⟨du_X37_option_34, rfl⟩ : ∃ f, f = du_X37_option_34)
theorem eu_X37_option_34 : u_X37_option_34 = du_X37_option_34 := Classical.choose_spec (⟨du_X37_option_34, rfl⟩ : ∃ f, f = du_X37_option_34)
def du_X37_option_16 (s : jS) (x0 : Int) : Option (jS × Int) :=
  (m_X37_fail s x0 12).bind fun q1 =>
  some (q1.1, Wz q1.2)
noncomputable def u_X37_option_16 : jS → Int → Option (jS × Int) := Classical.choose (⟨du_X37_option_16, rfl⟩ : ∃ f, f = du_X37_option_16)
theorem eu_X37_option_16 : u_X37_option_16 = du_X37_option_16 := Classical.choose_spec (⟨du_X37_option_16, rfl⟩ : ∃ f, f = du_X37_option_16)
def dm_X37_option (s : jS) (x0 : Int) : Option (jS × Int) :=
  if (jf s 41 x0 46) = 1 then
    (m_X37_isName s x0 0).bind fun q1 =>
    if q1.2 = 0 then
      u_X37_option_16 q1.1 x0
    else
      (m_X37_nameAt q1.1 x0 0).bind fun q2 =>
      u_X37_option_34 q2.1 x0 0 q2.2 0
  else
    u_X37_option_16 s x0
noncomputable def m_X37_option : jS → Int → Option (jS × Int) := Classical.choose (⟨dm_X37_option, rfl⟩ : ∃ f, f = dm_X37_option)
theorem em_X37_option : m_X37_option = dm_X37_option := Classical.choose_spec (⟨dm_X37_option, rfl⟩ : ∃ f, f = dm_X37_option)
def du_X37_fits_255 (s : jS) (x0 : Int) : Option (jS × Int) :=
  (m_X37_are s x0 2 1 2 0).bind fun q1 =>
  if q1.2 = 0 then
    some (q1.1, Wz 0)
  else
    (m_X37_registerOf q1.1 x0 (W32 ((jf q1.1 41 x0 45) + 1))).bind fun q2 =>
    if q2.2 = 2 then
      some (q2.1, Wz 1)
    else
      some (q2.1, Wz 0)
noncomputable def u_X37_fits_255 : jS → Int → Option (jS × Int) := Classical.choose (⟨du_X37_fits_255, rfl⟩ : ∃ f, f = du_X37_fits_255)
theorem eu_X37_fits_255 : u_X37_fits_255 = du_X37_fits_255 := Classical.choose_spec (⟨du_X37_fits_255, rfl⟩ : ∃ f, f = du_X37_fits_255)
def du_X37_fits_219 (s : jS) (x0 : Int) : Option (jS × Int) :=
  (m_X37_are s x0 2 1 0 0).bind fun q1 =>
  some (q1.1, Wz q1.2)
noncomputable def u_X37_fits_219 : jS → Int → Option (jS × Int) := Classical.choose (⟨du_X37_fits_219, rfl⟩ : ∃ f, f = du_X37_fits_219)
theorem eu_X37_fits_219 : u_X37_fits_219 = du_X37_fits_219 := Classical.choose_spec (⟨du_X37_fits_219, rfl⟩ : ∃ f, f = du_X37_fits_219)
def du_X37_fits_144 (s : jS) (x0 x1 : Int) : Option (jS × Int) :=
  if (jf s 41 x0 46) = 2 then
    (m_X37_isSort s x0 0 1).bind fun q1 =>
    if q1.2 = 0 then
      some (q1.1, Wz 0)
    else
      (m_X37_isMarkedSort q1.1 x0 1 2 x1).bind fun q2 =>
      if q2.2 = 0 then
        some (q2.1, Wz 0)
      else
        some (q2.1, Wz 1)
  else
    some (s, Wz 0)
noncomputable def u_X37_fits_144 : jS → Int → Int → Option (jS × Int) := Classical.choose (⟨du_X37_fits_144, rfl⟩ : ∃ f, f = du_X37_fits_144)
theorem eu_X37_fits_144 : u_X37_fits_144 = du_X37_fits_144 := Classical.choose_spec (⟨du_X37_fits_144, rfl⟩ : ∃ f, f = du_X37_fits_144)
def dm_X37_fits (s : jS) (x0 x1 x2 : Int) : Option (jS × Int) :=
  if x2 = 0 then
    if (jf s 41 x0 46) = 0 then
      some (s, Wz 1)
    else
      some (s, Wz 0)
  else
  if x2 = 1 then
    (m_X37_are s x0 3 1 1 1).bind fun q1 =>
    some (q1.1, Wz q1.2)
  else
  if x2 = 2 then
    if (jf s 41 x0 46) = 3 then
      (m_X37_isSort s x0 0 1).bind fun q2 =>
      if q2.2 = 0 then
        some (q2.1, Wz 0)
      else
        (m_X37_isSort q2.1 x0 1 1).bind fun q3 =>
        if q3.2 = 0 then
          some (q3.1, Wz 0)
        else
          (m_X37_isMarkedSort q3.1 x0 2 0 x1).bind fun q4 =>
          if q4.2 = 0 then
            some (q4.1, Wz 0)
          else
            some (q4.1, Wz 1)
    else
      some (s, Wz 0)
  else
  if x2 = 3 then
    u_X37_fits_144 s x0 x1
  else
  if x2 = 4 then
    u_X37_fits_144 s x0 x1
  else
  if x2 = 5 then
    (m_X37_are s x0 3 1 1 0).bind fun q5 =>
    some (q5.1, Wz q5.2)
  else
  if x2 = 6 then
    if (jf s 41 x0 46) = 2 then
      (m_X37_isSort s x0 0 1).bind fun q6 =>
      if q6.2 = 0 then
        some (q6.1, Wz 0)
      else
        (m_X37_isMarkedSort q6.1 x0 1 0 x1).bind fun q7 =>
        if q7.2 = 0 then
          some (q7.1, Wz 0)
        else
          some (q7.1, Wz 1)
    else
      some (s, Wz 0)
  else
  if x2 = 7 then
    u_X37_fits_219 s x0
  else
  if x2 = 8 then
    (m_X37_are s x0 1 0 0 0).bind fun q8 =>
    some (q8.1, Wz q8.2)
  else
  if x2 = 9 then
    u_X37_fits_219 s x0
  else
  if x2 = 10 then
    (m_X37_are s x0 2 1 1 0).bind fun q9 =>
    some (q9.1, Wz q9.2)
  else
  if x2 = 11 then
    (m_X37_are s x0 1 1 0 0).bind fun q10 =>
    some (q10.1, Wz q10.2)
  else
  if x2 = 12 then
    u_X37_fits_219 s x0
  else
  if x2 = 13 then
    u_X37_fits_255 s x0
  else
  if x2 = 14 then
    u_X37_fits_255 s x0
  else
  if x2 = 15 then
    if (jf s 41 x0 46) = 3 then
      (m_X37_isSort s x0 0 1).bind fun q11 =>
      if q11.2 = 0 then
        some (q11.1, Wz 0)
      else
        (m_X37_isStack q11.1 x0 1).bind fun q12 =>
        if q12.2 = 0 then
          some (q12.1, Wz 0)
        else
          (m_X37_isSort q12.1 x0 2 0).bind fun q13 =>
          if q13.2 = 0 then
            some (q13.1, Wz 0)
          else
            some (q13.1, Wz 1)
    else
      some (s, Wz 0)
  else
  if (jf s 41 x0 46) = 2 then
    (m_X37_isStack s x0 0).bind fun q14 =>
    if q14.2 = 0 then
      some (q14.1, Wz 0)
    else
      (m_X37_isSort q14.1 x0 1 0).bind fun q15 =>
      if q15.2 = 0 then
        some (q15.1, Wz 0)
      else
        some (q15.1, Wz 1)
  else
    some (s, Wz 0)
noncomputable def m_X37_fits : jS → Int → Int → Int → Option (jS × Int) := Classical.choose (⟨dm_X37_fits, rfl⟩ : ∃ f, f = dm_X37_fits)
theorem em_X37_fits : m_X37_fits = dm_X37_fits := Classical.choose_spec (⟨dm_X37_fits, rfl⟩ : ∃ f, f = dm_X37_fits)
def du_X38_word_69 (s : jS) (x0 x1 y0 y1 : Int) : Option (jS × Int) :=
  jls (jp s 42 y1 0 y0) fun s1 =>
  if (jf s1 42 x0 0) = 0 then
    (m_X38_put s1 x0 x1).bind fun v2 =>
    some (s1, v2)
  else
    some (s1, 0)
noncomputable def u_X38_word_69 : jS → Int → Int → Int → Int → Option (jS × Int) := Classical.choose (⟨du_X38_word_69, rfl⟩ : ∃ f, f = du_X38_word_69)
theorem eu_X38_word_69 : u_X38_word_69 = du_X38_word_69 := Classical.choose_spec (⟨du_X38_word_69, rfl⟩ : ∃ f, f = du_X38_word_69)
def du_X38_word_13 (s : jS) (x0 x1 x2 x3 x4 x5 y0 y1 : Int) : Option (jS × Int) :=
  jls (jp s 42 y1 0 y0) fun s1 =>
  if (jf s1 42 x0 0) = 0 then
    (jst s1 1000 (x0 + 2) 4 0 x2).bind fun s2 =>
    (jst s2 1000 (x0 + 2) 4 1 x3).bind fun s3 =>
    (jst s3 1000 (x0 + 2) 4 2 x4).bind fun s4 =>
    (jst s4 1000 (x0 + 2) 4 3 x5).bind fun s5 =>
    (m_X38_areGood s5 x0 x1).bind fun v6 =>
    if v6 = 0 then
      u_X38_word_69 s5 x0 x1 2 x0
    else
      u_X38_word_69 s5 x0 x1 0 x0
  else
    some (s1, 0)
noncomputable def u_X38_word_13 : jS → Int → Int → Int → Int → Int → Int → Int → Int → Option (jS × Int) := Classical.choose (⟨du_X38_word_13, rfl⟩ : ∃ f, f = du_X38_word_13)
theorem eu_X38_word_13 : u_X38_word_13 = du_X38_word_13 := Classical.choose_spec (⟨du_X38_word_13, rfl⟩ : ∃ f, f = du_X38_word_13)
def dm_X38_word (s : jS) (x0 x1 x2 x3 x4 x5 : Int) : Option (jS × Int) :=
  (m_X38_isKind s x1).bind fun v1 =>
  if v1 = 0 then
    u_X38_word_13 s x0 x1 x2 x3 x4 x5 1 x0
  else
    u_X38_word_13 s x0 x1 x2 x3 x4 x5 0 x0
noncomputable def m_X38_word : jS → Int → Int → Int → Int → Int → Int → Option (jS × Int) := Classical.choose (⟨dm_X38_word, rfl⟩ : ∃ f, f = dm_X38_word)
theorem em_X38_word : m_X38_word = dm_X38_word := Classical.choose_spec (⟨dm_X38_word, rfl⟩ : ∃ f, f = dm_X38_word)
def b_X38_find_32 (s : jS) (x0 x1 x3 x4 : Int) : Option ((jS × List Int) ⊕ (jS × Int)) :=
  if x4 < x3 then
    (m_X38_take s x0 x4 x1).bind fun q1 =>
    if q1.2 = 0 then
      some (.inl (q1.1, [x0, x1, x3, W32 (x4 + 1)]))
    else
      jinr (some (q1.1, x4))
  else
    jinr (some (s, (-1)))
def du_X38_find_32 (s : jS) (x0 x1 x3 x4 : Int) : Option (jS × Int) := jlpW (jc4 b_X38_find_32) [x0, x1, x3, x4] s
noncomputable def u_X38_find_32 : jS → Int → Int → Int → Int → Option (jS × Int) := Classical.choose (⟨du_X38_find_32, rfl⟩ : ∃ f, f = du_X38_find_32)
theorem eu_X38_find_32 : u_X38_find_32 = du_X38_find_32 := Classical.choose_spec (⟨du_X38_find_32, rfl⟩ : ∃ f, f = du_X38_find_32)
def du_X38_find_28 (s : jS) (x0 x1 x2 y0 : Int) : Option (jS × Int) :=
  u_X38_find_32 s x0 x1 y0 x2
noncomputable def u_X38_find_28 : jS → Int → Int → Int → Int → Option (jS × Int) := Classical.choose (⟨du_X38_find_28, rfl⟩ : ∃ f, f = du_X38_find_28)
theorem eu_X38_find_28 : u_X38_find_28 = du_X38_find_28 := Classical.choose_spec (⟨du_X38_find_28, rfl⟩ : ∃ f, f = du_X38_find_28)
def du_X38_find_13 (s : jS) (x0 x1 y0 : Int) : Option (jS × Int) :=
  (m_X38_isLong s x1).bind fun v1 =>
  if v1 = 0 then
    u_X38_find_28 s x0 x1 y0 75
  else
    u_X38_find_28 s x0 x1 y0 48
noncomputable def u_X38_find_13 : jS → Int → Int → Int → Option (jS × Int) := Classical.choose (⟨du_X38_find_13, rfl⟩ : ∃ f, f = du_X38_find_13)
theorem eu_X38_find_13 : u_X38_find_13 = du_X38_find_13 := Classical.choose_spec (⟨du_X38_find_13, rfl⟩ : ∃ f, f = du_X38_find_13)
def dm_X38_find (s : jS) (x0 x1 : Int) : Option (jS × Int) :=
  (m_X38_isLong s x1).bind fun v1 =>
  if v1 = 0 then
    u_X38_find_13 s x0 x1 48
  else
    u_X38_find_13 s x0 x1 0
noncomputable def m_X38_find : jS → Int → Int → Option (jS × Int) := Classical.choose (⟨dm_X38_find, rfl⟩ : ∃ f, f = dm_X38_find)
theorem em_X38_find : m_X38_find = dm_X38_find := Classical.choose_spec (⟨dm_X38_find, rfl⟩ : ∃ f, f = dm_X38_find)
def dm_X38_kind (s : jS) (x0 x1 : Int) : Option (jS × Int) :=
  jls (jp s 42 x0 0 0) fun s1 =>
  (m_X38_find s1 x0 x1).bind fun q2 =>
  some (q2.1, q2.2)
noncomputable def m_X38_kind : jS → Int → Int → Option (jS × Int) := Classical.choose (⟨dm_X38_kind, rfl⟩ : ∃ f, f = dm_X38_kind)
theorem em_X38_kind : m_X38_kind = dm_X38_kind := Classical.choose_spec (⟨dm_X38_kind, rfl⟩ : ∃ f, f = dm_X38_kind)
def du_X38_part_35 (s : jS) (x0 x2 y0 y1 : Int) : Option (jS × Int) :=
  jls (jp s 42 y1 0 y0) fun s1 =>
  if (jf s1 42 x0 0) = 0 then
    (jlt s1 1000 (x0 + 2) 4 x2).bind fun v2 =>
    some (s1, v2)
  else
    some (s1, 0)
noncomputable def u_X38_part_35 : jS → Int → Int → Int → Int → Option (jS × Int) := Classical.choose (⟨du_X38_part_35, rfl⟩ : ∃ f, f = du_X38_part_35)
theorem eu_X38_part_35 : u_X38_part_35 = du_X38_part_35 := Classical.choose_spec (⟨du_X38_part_35, rfl⟩ : ∃ f, f = du_X38_part_35)
def du_X38_part_34 (s : jS) (x0 x2 y0 : Int) : Option (jS × Int) :=
  u_X38_part_35 s x0 x2 1 y0
noncomputable def u_X38_part_34 : jS → Int → Int → Int → Option (jS × Int) := Classical.choose (⟨du_X38_part_34, rfl⟩ : ∃ f, f = du_X38_part_34)
theorem eu_X38_part_34 : u_X38_part_34 = du_X38_part_34 := Classical.choose_spec (⟨du_X38_part_34, rfl⟩ : ∃ f, f = du_X38_part_34)
def dm_X38_part (s : jS) (x0 x1 x2 : Int) : Option (jS × Int) :=
  (m_X38_find s x0 x1).bind fun q1 =>
  if q1.2 = (-1) then
    u_X38_part_34 q1.1 x0 x2 x0
  else
    if x2 < 0 then
      u_X38_part_34 q1.1 x0 x2 x0
    else
      if x2 < 4 then
        (m_X38_has q1.1 x0 q1.2 x2).bind fun v2 =>
        if v2 = 0 then
          u_X38_part_34 q1.1 x0 x2 x0
        else
          u_X38_part_35 q1.1 x0 x2 0 x0
      else
        u_X38_part_34 q1.1 x0 x2 x0
noncomputable def m_X38_part : jS → Int → Int → Int → Option (jS × Int) := Classical.choose (⟨dm_X38_part, rfl⟩ : ∃ f, f = dm_X38_part)
theorem em_X38_part : m_X38_part = dm_X38_part := Classical.choose_spec (⟨dm_X38_part, rfl⟩ : ∃ f, f = dm_X38_part)
def du_X38_fit_38 (s : jS) (x0 x2 x4 y0 y1 : Int) : Option (jS × Int) :=
  jls (jp s 42 y1 0 y0) fun s1 =>
  if (jf s1 42 x0 0) = 0 then
    (jst s1 1000 (x0 + 2) 4 3 (L2i x2)).bind fun s2 =>
    (m_X38_put s2 x0 x4).bind fun v3 =>
    some (s2, v3)
  else
    some (s1, 0)
noncomputable def u_X38_fit_38 : jS → Int → Int → Int → Int → Int → Option (jS × Int) := Classical.choose (⟨du_X38_fit_38, rfl⟩ : ∃ f, f = du_X38_fit_38)
theorem eu_X38_fit_38 : u_X38_fit_38 = du_X38_fit_38 := Classical.choose_spec (⟨du_X38_fit_38, rfl⟩ : ∃ f, f = du_X38_fit_38)
def du_X38_fit_37 (s : jS) (x0 x2 x4 y0 : Int) : Option (jS × Int) :=
  u_X38_fit_38 s x0 x2 x4 1 y0
noncomputable def u_X38_fit_37 : jS → Int → Int → Int → Int → Option (jS × Int) := Classical.choose (⟨du_X38_fit_37, rfl⟩ : ∃ f, f = du_X38_fit_37)
theorem eu_X38_fit_37 : u_X38_fit_37 = du_X38_fit_37 := Classical.choose_spec (⟨du_X38_fit_37, rfl⟩ : ∃ f, f = du_X38_fit_37)
def dm_X38_fit (s : jS) (x0 x1 x2 : Int) : Option (jS × Int) :=
  (m_X38_find s x0 x1).bind fun q1 =>
  if q1.2 = (-1) then
    u_X38_fit_37 q1.1 x0 x2 q1.2 x0
  else
    (m_X38_has q1.1 x0 q1.2 3).bind fun v2 =>
    if v2 = 0 then
      u_X38_fit_37 q1.1 x0 x2 q1.2 x0
    else
      (m_X38_isImmediate q1.1 q1.2 x2).bind fun v3 =>
      if v3 = 0 then
        u_X38_fit_37 q1.1 x0 x2 q1.2 x0
      else
        u_X38_fit_38 q1.1 x0 x2 q1.2 0 x0
noncomputable def m_X38_fit : jS → Int → Int → Int → Option (jS × Int) := Classical.choose (⟨dm_X38_fit, rfl⟩ : ∃ f, f = dm_X38_fit)
theorem em_X38_fit : m_X38_fit = dm_X38_fit := Classical.choose_spec (⟨dm_X38_fit, rfl⟩ : ∃ f, f = dm_X38_fit)
def du_X38_tell_97 (s : jS) (x0 y0 y1 : Int) : Option (jS × Int) :=
  (m_X38_sayHexadecimal s y1 y0).bind fun q1 =>
  some (q1.1, jf q1.1 42 x0 4)
noncomputable def u_X38_tell_97 : jS → Int → Int → Int → Option (jS × Int) := Classical.choose (⟨du_X38_tell_97, rfl⟩ : ∃ f, f = du_X38_tell_97)
theorem eu_X38_tell_97 : u_X38_tell_97 = du_X38_tell_97 := Classical.choose_spec (⟨du_X38_tell_97, rfl⟩ : ∃ f, f = du_X38_tell_97)
def du_X38_tell_71 (s : jS) (x0 x1 y0 y1 : Int) : Option (jS × Int) :=
  (m_X38_sayName s y1 y0).bind fun q1 =>
  (m_X38_say q1.1 x0 32).bind fun q2 =>
  (m_X38_isLong q2.1 x1).bind fun v3 =>
  if v3 = 0 then
    u_X38_tell_97 q2.1 x0 (I_and x1 65535) x0
  else
    u_X38_tell_97 q2.1 x0 x1 x0
noncomputable def u_X38_tell_71 : jS → Int → Int → Int → Int → Option (jS × Int) := Classical.choose (⟨du_X38_tell_71, rfl⟩ : ∃ f, f = du_X38_tell_71)
theorem eu_X38_tell_71 : u_X38_tell_71 = du_X38_tell_71 := Classical.choose_spec (⟨du_X38_tell_71, rfl⟩ : ∃ f, f = du_X38_tell_71)
def dm_X38_tell (s : jS) (x0 x1 x2 : Int) : Option (jS × Int) :=
  jls (jp s 42 x0 0 0) fun s1 =>
  jls (jp s1 42 x0 4 0) fun s2 =>
  (jzb 0).bind fun v3 =>
  jls (jp s2 42 x0 5 v3) fun s4 =>
  (m_X38_find s4 x0 x1).bind fun q5 =>
  if q5.2 = (-1) then
    (m_X38_say q5.1 x0 46).bind fun q6 =>
    (m_X38_isLong q6.1 x1).bind fun v7 =>
    if v7 = 0 then
      u_X38_tell_71 q6.1 x0 x1 514086 x0
    else
      u_X38_tell_71 q6.1 x0 x1 1496724 x0
  else
    (m_X38_nameOf q5.1 q5.2).bind fun v8 =>
    (m_X38_sayName q5.1 x0 v8).bind fun q9 =>
    (m_X38_patternOf q9.1 q5.2).bind fun v10 =>
    (m_X38_operands q9.1 x0 v10 x2).bind fun q11 =>
    some (q11.1, jf q11.1 42 x0 4)
noncomputable def m_X38_tell : jS → Int → Int → Int → Option (jS × Int) := Classical.choose (⟨dm_X38_tell, rfl⟩ : ∃ f, f = dm_X38_tell)
theorem em_X38_tell : m_X38_tell = dm_X38_tell := Classical.choose_spec (⟨dm_X38_tell, rfl⟩ : ∃ f, f = dm_X38_tell)
def du_X39_next_154 (s : jS) (x0 : Int) : Option (jS × Int) :=
  jls (jp s 43 x0 15 0) fun s1 =>
  some (s1, 0)
noncomputable def u_X39_next_154 : jS → Int → Option (jS × Int) := Classical.choose (⟨du_X39_next_154, rfl⟩ : ∃ f, f = du_X39_next_154)
theorem eu_X39_next_154 : u_X39_next_154 = du_X39_next_154 := Classical.choose_spec (⟨du_X39_next_154, rfl⟩ : ∃ f, f = du_X39_next_154)
def du_X39_next_125 (s : jS) (x0 x1 : Int) : Option (jS × Int) :=
  jls (jp s 43 x0 17 x1) fun s1 =>
  jls (jp s1 43 x0 18 x1) fun s2 =>
  if x1 = (jf s2 43 x0 3) then
    u_X39_next_154 s2 x0
  else
    (jlt s2 1000 (x0 + 2) 3000 x1).bind fun v3 =>
    if v3 = 10 then
      u_X39_next_154 s2 x0
    else
      (jlt s2 1000 (x0 + 2) 3000 x1).bind fun v4 =>
      (m_X39_isLetter s2 v4).bind fun v5 =>
      if v5 = 0 then
        (m_X39_isDigit s2 v4).bind fun v6 =>
        if v6 = 0 then
          if v4 = 39 then
            (m_X39_character s2 x0).bind fun q7 =>
            some (q7.1, 0)
          else
            if v4 = 34 then
              (m_X39_stringWord s2 x0).bind fun q8 =>
              some (q8.1, 0)
            else
              (m_X39_signWord s2 x0 v4).bind fun q9 =>
              some (q9.1, 0)
        else
          (m_X39_numberWord s2 x0).bind fun q10 =>
          some (q10.1, 0)
      else
        (m_X39_nameWord s2 x0).bind fun q11 =>
        some (q11.1, 0)
noncomputable def u_X39_next_125 : jS → Int → Int → Option (jS × Int) := Classical.choose (⟨du_X39_next_125, rfl⟩ : ∃ f, f = du_X39_next_125)
theorem eu_X39_next_125 : u_X39_next_125 = du_X39_next_125 := Classical.choose_spec (⟨du_X39_next_125, rfl⟩ : ∃ f, f = du_X39_next_125)
def du_X39_next_112 (s : jS) (x0 x1 : Int) : Option (jS × Int) :=
  (m_X39_bad s x0 1 x1).bind fun q1 =>
  some (q1.1, 0)
noncomputable def u_X39_next_112 : jS → Int → Int → Option (jS × Int) := Classical.choose (⟨du_X39_next_112, rfl⟩ : ∃ f, f = du_X39_next_112)
theorem eu_X39_next_112 : u_X39_next_112 = du_X39_next_112 := Classical.choose_spec (⟨du_X39_next_112, rfl⟩ : ∃ f, f = du_X39_next_112)
def du_X39_next_119 (s : jS) (x0 x1 : Int) : Option ((jS × List Int) ⊕ (jS × Int)) :=
  some (.inl (s, [x0, W32 (x1 + 1)]))
noncomputable def u_X39_next_119 : jS → Int → Int → Option ((jS × List Int) ⊕ (jS × Int)) := Classical.choose (⟨du_X39_next_119, rfl⟩ : ∃ f, f = du_X39_next_119)
theorem eu_X39_next_119 : u_X39_next_119 = du_X39_next_119 := Classical.choose_spec (⟨du_X39_next_119, rfl⟩ : ∃ f, f = du_X39_next_119)
def du_X39_next_101 (s : jS) (x0 x1 : Int) : Option ((jS × List Int) ⊕ (jS × Int)) :=
  (jlt s 1000 (x0 + 2) 3000 x1).bind fun v1 =>
  if v1 = 9 then
    u_X39_next_119 s x0 x1
  else
    jinr (u_X39_next_112 s x0 x1)
noncomputable def u_X39_next_101 : jS → Int → Int → Option ((jS × List Int) ⊕ (jS × Int)) := Classical.choose (⟨du_X39_next_101, rfl⟩ : ∃ f, f = du_X39_next_101)
theorem eu_X39_next_101 : u_X39_next_101 = du_X39_next_101 := Classical.choose_spec (⟨du_X39_next_101, rfl⟩ : ∃ f, f = du_X39_next_101)
def b_X39_next_60 (s : jS) (x0 x1 : Int) : Option ((jS × List Int) ⊕ (jS × Int)) :=
  if x1 < (jf s 43 x0 3) then
    (jlt s 1000 (x0 + 2) 3000 x1).bind fun v1 =>
    if v1 = 10 then
      jinr (u_X39_next_125 s x0 x1)
    else
      (jlt s 1000 (x0 + 2) 3000 x1).bind fun v2 =>
      if v2 < 32 then
        u_X39_next_101 s x0 x1
      else
        (jlt s 1000 (x0 + 2) 3000 x1).bind fun v3 =>
        if 126 < v3 then
          u_X39_next_101 s x0 x1
        else
          u_X39_next_119 s x0 x1
  else
    jinr (u_X39_next_125 s x0 x1)
def du_X39_next_60 (s : jS) (x0 x1 : Int) : Option (jS × Int) := jlpW (jc2 b_X39_next_60) [x0, x1] s
noncomputable def u_X39_next_60 : jS → Int → Int → Option (jS × Int) := Classical.choose (⟨du_X39_next_60, rfl⟩ : ∃ f, f = du_X39_next_60)
theorem eu_X39_next_60 : u_X39_next_60 = du_X39_next_60 := Classical.choose_spec (⟨du_X39_next_60, rfl⟩ : ∃ f, f = du_X39_next_60)
def du_X39_next_41 (s : jS) (x0 x1 : Int) : Option (jS × Int) :=
  if x1 < (jf s 43 x0 3) then
    (jlt s 1000 (x0 + 2) 3000 x1).bind fun v1 =>
    if v1 = 35 then
      u_X39_next_60 s x0 x1
    else
      u_X39_next_125 s x0 x1
  else
    u_X39_next_125 s x0 x1
noncomputable def u_X39_next_41 : jS → Int → Int → Option (jS × Int) := Classical.choose (⟨du_X39_next_41, rfl⟩ : ∃ f, f = du_X39_next_41)
theorem eu_X39_next_41 : u_X39_next_41 = du_X39_next_41 := Classical.choose_spec (⟨du_X39_next_41, rfl⟩ : ∃ f, f = du_X39_next_41)
def du_X39_next_35 (s : jS) (x0 x1 : Int) : Option ((jS × List Int) ⊕ (jS × Int)) :=
  some (.inl (s, [x0, W32 (x1 + 1)]))
noncomputable def u_X39_next_35 : jS → Int → Int → Option ((jS × List Int) ⊕ (jS × Int)) := Classical.choose (⟨du_X39_next_35, rfl⟩ : ∃ f, f = du_X39_next_35)
theorem eu_X39_next_35 : u_X39_next_35 = du_X39_next_35 := Classical.choose_spec (⟨du_X39_next_35, rfl⟩ : ∃ f, f = du_X39_next_35)
def b_X39_next_5 (s : jS) (x0 x1 : Int) : Option ((jS × List Int) ⊕ (jS × Int)) :=
  if x1 < (jf s 43 x0 3) then
    (jlt s 1000 (x0 + 2) 3000 x1).bind fun v1 =>
    if v1 = 32 then
      u_X39_next_35 s x0 x1
    else
      (jlt s 1000 (x0 + 2) 3000 x1).bind fun v2 =>
      if v2 = 9 then
        u_X39_next_35 s x0 x1
      else
        jinr (u_X39_next_41 s x0 x1)
  else
    jinr (u_X39_next_41 s x0 x1)
def du_X39_next_5 (s : jS) (x0 x1 : Int) : Option (jS × Int) := jlpW (jc2 b_X39_next_5) [x0, x1] s
noncomputable def u_X39_next_5 : jS → Int → Int → Option (jS × Int) := Classical.choose (⟨du_X39_next_5, rfl⟩ : ∃ f, f = du_X39_next_5)
theorem eu_X39_next_5 : u_X39_next_5 = du_X39_next_5 := Classical.choose_spec (⟨du_X39_next_5, rfl⟩ : ∃ f, f = du_X39_next_5)
def dm_X39_next (s : jS) (x0 : Int) : Option (jS × Int) :=
  u_X39_next_5 s x0 (jf s 43 x0 18)
noncomputable def m_X39_next : jS → Int → Option (jS × Int) := Classical.choose (⟨dm_X39_next, rfl⟩ : ∃ f, f = dm_X39_next)
theorem em_X39_next : m_X39_next = dm_X39_next := Classical.choose_spec (⟨dm_X39_next, rfl⟩ : ∃ f, f = dm_X39_next)
def du_X39_isBase_49 (s : jS) (x0 x1 x2 x3 x4 y0 : Int) : Option (jS × Int) :=
  jls (jp s 43 x0 15 x1) fun s1 =>
  jls (jp s1 43 x0 16 x2) fun s2 =>
  jls (jp s2 43 x0 17 x3) fun s3 =>
  jls (jp s3 43 x0 18 x4) fun s4 =>
  some (s4, Wz y0)
noncomputable def u_X39_isBase_49 : jS → Int → Int → Int → Int → Int → Int → Option (jS × Int) := Classical.choose (⟨du_X39_isBase_49, rfl⟩ : ∃ f, f = du_X39_isBase_49)
theorem eu_X39_isBase_49 : u_X39_isBase_49 = du_X39_isBase_49 := Classical.choose_spec (⟨du_X39_isBase_49, rfl⟩ : ∃ f, f = du_X39_isBase_49)
def dm_X39_isBase (s : jS) (x0 : Int) : Option (jS × Int) :=
  (m_X39_isSign s x0 40).bind fun v1 =>
  if v1 = 0 then
    some (s, Wz 0)
  else
    (m_X39_next s x0).bind fun q2 =>
    (m_X39_register q2.1 x0).bind fun v3 =>
    if v3 = (-1) then
      u_X39_isBase_49 q2.1 x0 (jf s 43 x0 15) (jf s 43 x0 16) (jf s 43 x0 17) (jf s 43 x0 18) 0
    else
      u_X39_isBase_49 q2.1 x0 (jf s 43 x0 15) (jf s 43 x0 16) (jf s 43 x0 17) (jf s 43 x0 18) 1
noncomputable def m_X39_isBase : jS → Int → Option (jS × Int) := Classical.choose (⟨dm_X39_isBase, rfl⟩ : ∃ f, f = dm_X39_isBase)
theorem em_X39_isBase : m_X39_isBase = dm_X39_isBase := Classical.choose_spec (⟨dm_X39_isBase, rfl⟩ : ∃ f, f = dm_X39_isBase)
def dm_X39_closes (s : jS) (x0 : Int) : Option (jS × Int) :=
  (m_X39_isSign s x0 41).bind fun v1 =>
  if v1 = 0 then
    (m_X39_fail s x0 5).bind fun q2 =>
    some (q2.1, Wz q2.2)
  else
    (m_X39_next s x0).bind fun q3 =>
    some (q3.1, Wz 1)
noncomputable def m_X39_closes : jS → Int → Option (jS × Int) := Classical.choose (⟨dm_X39_closes, rfl⟩ : ∃ f, f = dm_X39_closes)
theorem em_X39_closes : m_X39_closes = dm_X39_closes := Classical.choose_spec (⟨dm_X39_closes, rfl⟩ : ∃ f, f = dm_X39_closes)
def du_X39_wanted_335 (s : jS) (x0 x3 y0 y1 : Int) : Option (jS × Int) :=
  (m_X39_emit s y1 y0 x3).bind fun q1 =>
  (m_X39_ahead q1.1 x0).bind fun q2 =>
  (m_X39_next q2.1 x0).bind fun q3 =>
  some (q3.1, 1)
noncomputable def u_X39_wanted_335 : jS → Int → Int → Int → Int → Option (jS × Int) := Classical.choose (⟨du_X39_wanted_335, rfl⟩ : ∃ f, f = du_X39_wanted_335)
theorem eu_X39_wanted_335 : u_X39_wanted_335 = du_X39_wanted_335 := Classical.choose_spec (⟨du_X39_wanted_335, rfl⟩ : ∃ f, f = du_X39_wanted_335)
def du_X39_wanted_297 (s : jS) (x0 x3 : Int) : Option (jS × Int) :=
  if (jf s 43 x0 15) = 2 then
    u_X39_wanted_335 s x0 x3 0 x0
  else
    if (jf s 43 x0 15) = 1 then
      u_X39_wanted_335 s x0 x3 1 x0
    else
      if (jf s 43 x0 15) = 3 then
        u_X39_wanted_335 s x0 x3 2 x0
      else
        u_X39_wanted_335 s x0 x3 3 x0
noncomputable def u_X39_wanted_297 : jS → Int → Int → Option (jS × Int) := Classical.choose (⟨du_X39_wanted_297, rfl⟩ : ∃ f, f = du_X39_wanted_297)
theorem eu_X39_wanted_297 : u_X39_wanted_297 = du_X39_wanted_297 := Classical.choose_spec (⟨du_X39_wanted_297, rfl⟩ : ∃ f, f = du_X39_wanted_297)
def du_X39_wanted_274 (s : jS) (x0 y0 : Int) : Option (jS × Int) :=
  if (jf s 43 x0 15) = 1 then
    if y0 = (-1) then
      (m_X39_fail s x0 8).bind fun q1 =>
      some (q1.1, 0)
    else
      u_X39_wanted_297 s x0 y0
  else
    u_X39_wanted_297 s x0 y0
noncomputable def u_X39_wanted_274 : jS → Int → Int → Option (jS × Int) := Classical.choose (⟨du_X39_wanted_274, rfl⟩ : ∃ f, f = du_X39_wanted_274)
theorem eu_X39_wanted_274 : u_X39_wanted_274 = du_X39_wanted_274 := Classical.choose_spec (⟨du_X39_wanted_274, rfl⟩ : ∃ f, f = du_X39_wanted_274)
def du_X39_wanted_215 (s : jS) (x0 y0 y1 y2 : Int) : Option (jS × Int) :=
  (jst s 1000 y2 2100 y1 y0).bind fun s1 =>
  jls (jp s1 43 x0 23 (W32 ((jf s1 43 x0 23) + 1))) fun s2 =>
  jls (jp s2 43 x0 26 (W32 ((jf s2 43 x0 26) + 1))) fun s3 =>
  (m_X39_next s3 x0).bind fun q4 =>
  some (q4.1, 2)
noncomputable def u_X39_wanted_215 : jS → Int → Int → Int → Int → Option (jS × Int) := Classical.choose (⟨du_X39_wanted_215, rfl⟩ : ∃ f, f = du_X39_wanted_215)
theorem eu_X39_wanted_215 : u_X39_wanted_215 = du_X39_wanted_215 := Classical.choose_spec (⟨du_X39_wanted_215, rfl⟩ : ∃ f, f = du_X39_wanted_215)
def du_X39_wanted_105 (s : jS) (x0 x1 : Int) : Option (jS × Int) :=
  if 20 < (jf s 43 x0 26) then
    (m_X39_fail s x0 7).bind fun q1 =>
    some (q1.1, 0)
  else
    (m_X39_isSign s x0 40).bind fun v2 =>
    if v2 = 0 then
      (m_X39_tally s x0).bind fun q3 =>
      if q3.2 = 0 then
        some (q3.1, 0)
      else
        if x1 = 0 then
          if (jf q3.1 43 x0 15) = 1 then
            (m_X39_number q3.1 x0).bind fun q4 =>
            u_X39_wanted_274 q4.1 x0 q4.2
          else
            if (jf q3.1 43 x0 15) = 7 then
              u_X39_wanted_274 q3.1 x0 0
            else
              u_X39_wanted_274 q3.1 x0 (jf q3.1 43 x0 16)
        else
          if (jf q3.1 43 x0 16) = 45 then
            u_X39_wanted_215 q3.1 x0 10 (jf q3.1 43 x0 23) (x0 + 10)
          else
            u_X39_wanted_215 q3.1 x0 11 (jf q3.1 43 x0 23) (x0 + 10)
    else
      (jst s 1000 (x0 + 10) 2100 (jf s 43 x0 23) 1).bind fun s5 =>
      jls (jp s5 43 x0 23 (W32 ((jf s5 43 x0 23) + 1))) fun s6 =>
      jls (jp s6 43 x0 27 (W32 ((jf s6 43 x0 27) + 1))) fun s7 =>
      jls (jp s7 43 x0 26 (W32 ((jf s7 43 x0 26) + 1))) fun s8 =>
      (m_X39_next s8 x0).bind fun q9 =>
      some (q9.1, 2)
noncomputable def u_X39_wanted_105 : jS → Int → Int → Option (jS × Int) := Classical.choose (⟨du_X39_wanted_105, rfl⟩ : ∃ f, f = du_X39_wanted_105)
theorem eu_X39_wanted_105 : u_X39_wanted_105 = du_X39_wanted_105 := Classical.choose_spec (⟨du_X39_wanted_105, rfl⟩ : ∃ f, f = du_X39_wanted_105)
def du_X39_wanted_62 (s : jS) (x0 x1 y0 : Int) : Option (jS × Int) :=
  (m_X39_register s x0).bind fun v1 =>
  if v1 = (-1) then
    if x1 = 0 then
      if y0 = 0 then
        (m_X39_isSign s x0 40).bind fun v2 =>
        if v2 = 0 then
          (m_X39_fail s x0 5).bind fun q3 =>
          some (q3.1, 0)
        else
          u_X39_wanted_105 s x0 x1
      else
        u_X39_wanted_105 s x0 x1
    else
      u_X39_wanted_105 s x0 x1
  else
    (m_X39_fail s x0 6).bind fun q4 =>
    some (q4.1, 0)
noncomputable def u_X39_wanted_62 : jS → Int → Int → Int → Option (jS × Int) := Classical.choose (⟨du_X39_wanted_62, rfl⟩ : ∃ f, f = du_X39_wanted_62)
theorem eu_X39_wanted_62 : u_X39_wanted_62 = du_X39_wanted_62 := Classical.choose_spec (⟨du_X39_wanted_62, rfl⟩ : ∃ f, f = du_X39_wanted_62)
def du_X39_wanted_57 (s : jS) (x0 x1 : Int) : Option (jS × Int) :=
  u_X39_wanted_62 s x0 x1 1
noncomputable def u_X39_wanted_57 : jS → Int → Int → Option (jS × Int) := Classical.choose (⟨du_X39_wanted_57, rfl⟩ : ∃ f, f = du_X39_wanted_57)
theorem eu_X39_wanted_57 : u_X39_wanted_57 = du_X39_wanted_57 := Classical.choose_spec (⟨du_X39_wanted_57, rfl⟩ : ∃ f, f = du_X39_wanted_57)
def du_X39_wanted_23 (s : jS) (x0 y0 : Int) : Option (jS × Int) :=
  if (jf s 43 x0 15) = 2 then
    u_X39_wanted_57 s x0 y0
  else
    if (jf s 43 x0 15) = 3 then
      u_X39_wanted_57 s x0 y0
    else
      if (jf s 43 x0 15) = 7 then
        u_X39_wanted_57 s x0 y0
      else
        if (jf s 43 x0 15) = 1 then
          u_X39_wanted_57 s x0 y0
        else
          u_X39_wanted_62 s x0 y0 0
noncomputable def u_X39_wanted_23 : jS → Int → Int → Option (jS × Int) := Classical.choose (⟨du_X39_wanted_23, rfl⟩ : ∃ f, f = du_X39_wanted_23)
theorem eu_X39_wanted_23 : u_X39_wanted_23 = du_X39_wanted_23 := Classical.choose_spec (⟨du_X39_wanted_23, rfl⟩ : ∃ f, f = du_X39_wanted_23)
def du_X39_wanted_18 (s : jS) (x0 : Int) : Option (jS × Int) :=
  u_X39_wanted_23 s x0 1
noncomputable def u_X39_wanted_18 : jS → Int → Option (jS × Int) := Classical.choose (⟨du_X39_wanted_18, rfl⟩ : ∃ f, f = du_X39_wanted_18)
theorem eu_X39_wanted_18 : u_X39_wanted_18 = du_X39_wanted_18 := Classical.choose_spec (⟨du_X39_wanted_18, rfl⟩ : ∃ f, f = du_X39_wanted_18)
def dm_X39_wanted (s : jS) (x0 : Int) : Option (jS × Int) :=
  (m_X39_isSign s x0 45).bind fun v1 =>
  if v1 = 0 then
    (m_X39_isSign s x0 126).bind fun v2 =>
    if v2 = 0 then
      u_X39_wanted_23 s x0 0
    else
      u_X39_wanted_18 s x0
  else
    u_X39_wanted_18 s x0
noncomputable def m_X39_wanted : jS → Int → Option (jS × Int) := Classical.choose (⟨dm_X39_wanted, rfl⟩ : ∃ f, f = dm_X39_wanted)
theorem em_X39_wanted : m_X39_wanted = dm_X39_wanted := Classical.choose_spec (⟨dm_X39_wanted, rfl⟩ : ∃ f, f = dm_X39_wanted)
def du_X40_allFaults_202 (s : jS) (x0 x1 : Int) : Option (jS × Int) :=
  if x1 = 0 then
    (m_X40_startFaults s x0).bind fun q1 =>
    some (q1.1, q1.2)
  else
    some (s, x1)
noncomputable def u_X40_allFaults_202 : jS → Int → Int → Option (jS × Int) := Classical.choose (⟨du_X40_allFaults_202, rfl⟩ : ∃ f, f = du_X40_allFaults_202)
theorem eu_X40_allFaults_202 : u_X40_allFaults_202 = du_X40_allFaults_202 := Classical.choose_spec (⟨du_X40_allFaults_202, rfl⟩ : ∃ f, f = du_X40_allFaults_202)
def du_X40_allFaults_196 (s : jS) (x0 x1 x2 : Int) : Option ((jS × List Int) ⊕ (jS × Int)) :=
  some (.inl (s, [x0, x1, W32 (x2 + 1)]))
noncomputable def u_X40_allFaults_196 : jS → Int → Int → Int → Option ((jS × List Int) ⊕ (jS × Int)) := Classical.choose (⟨du_X40_allFaults_196, rfl⟩ : ∃ f, f = du_X40_allFaults_196)
theorem eu_X40_allFaults_196 : u_X40_allFaults_196 = du_X40_allFaults_196 := Classical.choose_spec (⟨du_X40_allFaults_196, rfl⟩ : ∃ f, f = du_X40_allFaults_196)
def b_X40_allFaults_161 (s : jS) (x0 x1 x2 x3 x4 : Int) : Option ((jS × List Int) ⊕ ((jS × List Int) ⊕ (jS × Int))) :=
  if x4 < x3 then
    if x1 = 0 then
      (m_X40_from s x0 (W32 (5 + x2))).bind fun v1 =>
      (m_X40_relocationFault s x0 x2 (W32 (v1 + (W32 (12 * x4))))).bind fun q2 =>
      some (.inl (q2.1, [x0, q2.2, x2, x3, W32 (x4 + 1)]))
    else
      jinr (u_X40_allFaults_196 s x0 x1 x2)
  else
    jinr (u_X40_allFaults_196 s x0 x1 x2)
def du_X40_allFaults_161 (s : jS) (x0 x1 x2 x3 x4 : Int) : Option ((jS × List Int) ⊕ (jS × Int)) := jlpW (jc5 b_X40_allFaults_161) [x0, x1, x2, x3, x4] s
noncomputable def u_X40_allFaults_161 : jS → Int → Int → Int → Int → Int → Option ((jS × List Int) ⊕ (jS × Int)) := Classical.choose (⟨du_X40_allFaults_161, rfl⟩ : ∃ f, f = du_X40_allFaults_161)
theorem eu_X40_allFaults_161 : u_X40_allFaults_161 = du_X40_allFaults_161 := Classical.choose_spec (⟨du_X40_allFaults_161, rfl⟩ : ∃ f, f = du_X40_allFaults_161)
def b_X40_allFaults_136 (s : jS) (x0 x1 x2 : Int) : Option ((jS × List Int) ⊕ (jS × Int)) :=
  if x2 < 3 then
    if x1 = 0 then
      (m_X40_bytesOf s x0 (W32 (5 + x2))).bind fun v1 =>
      (jdv 12 (L_div v1 12)).bind fun v2 =>
      jlet (L2i v2) fun v3 =>
      u_X40_allFaults_161 s x0 x1 x2 v3 0
    else
      jinr (u_X40_allFaults_202 s x0 x1)
  else
    jinr (u_X40_allFaults_202 s x0 x1)
def du_X40_allFaults_136 (s : jS) (x0 x1 x2 : Int) : Option (jS × Int) := jlpW (jc3 b_X40_allFaults_136) [x0, x1, x2] s
noncomputable def u_X40_allFaults_136 : jS → Int → Int → Int → Option (jS × Int) := Classical.choose (⟨du_X40_allFaults_136, rfl⟩ : ∃ f, f = du_X40_allFaults_136)
theorem eu_X40_allFaults_136 : u_X40_allFaults_136 = du_X40_allFaults_136 := Classical.choose_spec (⟨du_X40_allFaults_136, rfl⟩ : ∃ f, f = du_X40_allFaults_136)
def du_X40_allFaults_133 (s : jS) (x0 y0 : Int) : Option (jS × Int) :=
  u_X40_allFaults_136 s x0 y0 0
noncomputable def u_X40_allFaults_133 : jS → Int → Int → Option (jS × Int) := Classical.choose (⟨du_X40_allFaults_133, rfl⟩ : ∃ f, f = du_X40_allFaults_133)
theorem eu_X40_allFaults_133 : u_X40_allFaults_133 = du_X40_allFaults_133 := Classical.choose_spec (⟨du_X40_allFaults_133, rfl⟩ : ∃ f, f = du_X40_allFaults_133)
def du_X40_allFaults_121 (s : jS) (x0 x1 : Int) : Option (jS × Int) :=
  if x1 = 0 then
    (m_X40_infoFault s x0).bind fun q1 =>
    u_X40_allFaults_133 q1.1 x0 q1.2
  else
    u_X40_allFaults_133 s x0 x1
noncomputable def u_X40_allFaults_121 : jS → Int → Int → Option (jS × Int) := Classical.choose (⟨du_X40_allFaults_121, rfl⟩ : ∃ f, f = du_X40_allFaults_121)
theorem eu_X40_allFaults_121 : u_X40_allFaults_121 = du_X40_allFaults_121 := Classical.choose_spec (⟨du_X40_allFaults_121, rfl⟩ : ∃ f, f = du_X40_allFaults_121)
def b_X40_allFaults_97 (s : jS) (x0 x1 x2 : Int) : Option ((jS × List Int) ⊕ (jS × Int)) :=
  (m_X40_symbolsIn s x0).bind fun v1 =>
  if x2 < v1 then
    if x1 = 0 then
      (m_X40_symbolFault s x0 x2).bind fun q2 =>
      some (.inl (q2.1, [x0, q2.2, W32 (x2 + 1)]))
    else
      jinr (u_X40_allFaults_121 s x0 x1)
  else
    jinr (u_X40_allFaults_121 s x0 x1)
def du_X40_allFaults_97 (s : jS) (x0 x1 x2 : Int) : Option (jS × Int) := jlpW (jc3 b_X40_allFaults_97) [x0, x1, x2] s
noncomputable def u_X40_allFaults_97 : jS → Int → Int → Int → Option (jS × Int) := Classical.choose (⟨du_X40_allFaults_97, rfl⟩ : ∃ f, f = du_X40_allFaults_97)
theorem eu_X40_allFaults_97 : u_X40_allFaults_97 = du_X40_allFaults_97 := Classical.choose_spec (⟨du_X40_allFaults_97, rfl⟩ : ∃ f, f = du_X40_allFaults_97)
def du_X40_allFaults_88 (s : jS) (x0 y0 : Int) : Option (jS × Int) :=
  if y0 = 0 then
    u_X40_allFaults_97 s x0 y0 0
  else
    some (s, y0)
noncomputable def u_X40_allFaults_88 : jS → Int → Int → Option (jS × Int) := Classical.choose (⟨du_X40_allFaults_88, rfl⟩ : ∃ f, f = du_X40_allFaults_88)
theorem eu_X40_allFaults_88 : u_X40_allFaults_88 = du_X40_allFaults_88 := Classical.choose_spec (⟨du_X40_allFaults_88, rfl⟩ : ∃ f, f = du_X40_allFaults_88)
def du_X40_allFaults_76 (s : jS) (x0 x1 : Int) : Option (jS × Int) :=
  if x1 = 0 then
    (m_X40_sizeFaults s x0).bind fun q1 =>
    u_X40_allFaults_88 q1.1 x0 q1.2
  else
    u_X40_allFaults_88 s x0 x1
noncomputable def u_X40_allFaults_76 : jS → Int → Int → Option (jS × Int) := Classical.choose (⟨du_X40_allFaults_76, rfl⟩ : ∃ f, f = du_X40_allFaults_76)
theorem eu_X40_allFaults_76 : u_X40_allFaults_76 = du_X40_allFaults_76 := Classical.choose_spec (⟨du_X40_allFaults_76, rfl⟩ : ∃ f, f = du_X40_allFaults_76)
def b_X40_allFaults_52 (s : jS) (x0 x1 x2 : Int) : Option ((jS × List Int) ⊕ (jS × Int)) :=
  if x2 < (jf s 44 x0 40) then
    if x1 = 0 then
      (m_X40_ruleFault s x0 x2).bind fun q1 =>
      some (.inl (q1.1, [x0, q1.2, W32 (x2 + 1)]))
    else
      jinr (u_X40_allFaults_76 s x0 x1)
  else
    jinr (u_X40_allFaults_76 s x0 x1)
def du_X40_allFaults_52 (s : jS) (x0 x1 x2 : Int) : Option (jS × Int) := jlpW (jc3 b_X40_allFaults_52) [x0, x1, x2] s
noncomputable def u_X40_allFaults_52 : jS → Int → Int → Int → Option (jS × Int) := Classical.choose (⟨du_X40_allFaults_52, rfl⟩ : ∃ f, f = du_X40_allFaults_52)
theorem eu_X40_allFaults_52 : u_X40_allFaults_52 = du_X40_allFaults_52 := Classical.choose_spec (⟨du_X40_allFaults_52, rfl⟩ : ∃ f, f = du_X40_allFaults_52)
def du_X40_allFaults_49 (s : jS) (x0 y0 : Int) : Option (jS × Int) :=
  u_X40_allFaults_52 s x0 y0 1
noncomputable def u_X40_allFaults_49 : jS → Int → Int → Option (jS × Int) := Classical.choose (⟨du_X40_allFaults_49, rfl⟩ : ∃ f, f = du_X40_allFaults_49)
theorem eu_X40_allFaults_49 : u_X40_allFaults_49 = du_X40_allFaults_49 := Classical.choose_spec (⟨du_X40_allFaults_49, rfl⟩ : ∃ f, f = du_X40_allFaults_49)
def du_X40_allFaults_37 (s : jS) (x0 x1 : Int) : Option (jS × Int) :=
  if x1 = 0 then
    (m_X40_nameFaults s x0).bind fun q1 =>
    u_X40_allFaults_49 q1.1 x0 q1.2
  else
    u_X40_allFaults_49 s x0 x1
noncomputable def u_X40_allFaults_37 : jS → Int → Int → Option (jS × Int) := Classical.choose (⟨du_X40_allFaults_37, rfl⟩ : ∃ f, f = du_X40_allFaults_37)
theorem eu_X40_allFaults_37 : u_X40_allFaults_37 = du_X40_allFaults_37 := Classical.choose_spec (⟨du_X40_allFaults_37, rfl⟩ : ∃ f, f = du_X40_allFaults_37)
def b_X40_allFaults_13 (s : jS) (x0 x1 x2 : Int) : Option ((jS × List Int) ⊕ (jS × Int)) :=
  if x2 < (jf s 44 x0 40) then
    if x1 = 0 then
      (m_X40_entryFault s x0 x2).bind fun q1 =>
      some (.inl (q1.1, [x0, q1.2, W32 (x2 + 1)]))
    else
      jinr (u_X40_allFaults_37 s x0 x1)
  else
    jinr (u_X40_allFaults_37 s x0 x1)
def du_X40_allFaults_13 (s : jS) (x0 x1 x2 : Int) : Option (jS × Int) := jlpW (jc3 b_X40_allFaults_13) [x0, x1, x2] s
noncomputable def u_X40_allFaults_13 : jS → Int → Int → Int → Option (jS × Int) := Classical.choose (⟨du_X40_allFaults_13, rfl⟩ : ∃ f, f = du_X40_allFaults_13)
theorem eu_X40_allFaults_13 : u_X40_allFaults_13 = du_X40_allFaults_13 := Classical.choose_spec (⟨du_X40_allFaults_13, rfl⟩ : ∃ f, f = du_X40_allFaults_13)
def dm_X40_allFaults (s : jS) (x0 : Int) : Option (jS × Int) :=
  (m_X40_head s x0).bind fun q1 =>
  if q1.2 = 0 then
    u_X40_allFaults_13 q1.1 x0 q1.2 0
  else
    some (q1.1, q1.2)
noncomputable def m_X40_allFaults : jS → Int → Option (jS × Int) := Classical.choose (⟨dm_X40_allFaults, rfl⟩ : ∃ f, f = dm_X40_allFaults)
theorem em_X40_allFaults : m_X40_allFaults = dm_X40_allFaults := Classical.choose_spec (⟨dm_X40_allFaults, rfl⟩ : ∃ f, f = dm_X40_allFaults)
end
