/-! the functions: printed by gen_meth.py -/
set_option maxRecDepth 100000
noncomputable section
def dm_X37_fail_2 (s : jS) (x0 x1 x2 : Int) : Option (jS × Int) :=
  if (jf s 41 x0 42) = 0 then
    jls (jp s 41 x0 42 x1) fun s1 =>
    jls (jp s1 41 x0 43 x2) fun s2 =>
    some (s2, Wz 0)
  else
    some (s, Wz 0)
noncomputable def m_X37_fail_2 : jS → Int → Int → Int → Option (jS × Int) := Classical.choose (⟨dm_X37_fail_2, rfl⟩ : ∃ f, f = dm_X37_fail_2)
theorem em_X37_fail_2 : m_X37_fail_2 = dm_X37_fail_2 := Classical.choose_spec (⟨dm_X37_fail_2, rfl⟩ : ∃ f, f = dm_X37_fail_2)
def dm_X37_define (s : jS) (x0 x1 x2 x3 : Int) : Option (jS × Int) :=
  (jst s 1000 (x0 + 144) 100 x1 x2).bind fun s1 =>
  (jst s1 1000 (x0 + 145) 100 x1 x3).bind fun s2 =>
  some (s2, 0)
noncomputable def m_X37_define : jS → Int → Int → Int → Int → Option (jS × Int) := Classical.choose (⟨dm_X37_define, rfl⟩ : ∃ f, f = dm_X37_define)
theorem em_X37_define : m_X37_define = dm_X37_define := Classical.choose_spec (⟨dm_X37_define, rfl⟩ : ∃ f, f = dm_X37_define)
def dm_X37_isInstruction (s : jS) (x0 x1 : Int) : Option (Int) :=
  if x1 < 100 then
    some (Wz 1)
  else
    if x1 < 200 then
      some (Wz 0)
    else
      some (Wz 1)
noncomputable def m_X37_isInstruction : jS → Int → Int → Option (Int) := Classical.choose (⟨dm_X37_isInstruction, rfl⟩ : ∃ f, f = dm_X37_isInstruction)
theorem em_X37_isInstruction : m_X37_isInstruction = dm_X37_isInstruction := Classical.choose_spec (⟨dm_X37_isInstruction, rfl⟩ : ∃ f, f = dm_X37_isInstruction)
def dm_X37_negate (s : jS) (x0 x1 : Int) : Option (jS × Int) :=
  (jlt s 1000 (x0 + 164) 64 x1).bind fun v1 =>
  (jlt s 1000 (x0 + 163) 64 x1).bind fun v2 =>
  (jst s 1000 (x0 + 163) 64 x1 (W32 (-v2))).bind fun s3 =>
  (jlt s3 1000 (x0 + 165) 64 x1).bind fun v4 =>
  (jst s3 1000 (x0 + 164) 64 x1 v4).bind fun s5 =>
  (jst s5 1000 (x0 + 165) 64 x1 v1).bind fun s6 =>
  some (s6, 0)
noncomputable def m_X37_negate : jS → Int → Int → Option (jS × Int) := Classical.choose (⟨dm_X37_negate, rfl⟩ : ∃ f, f = dm_X37_negate)
theorem em_X37_negate : m_X37_negate = dm_X37_negate := Classical.choose_spec (⟨dm_X37_negate, rfl⟩ : ∃ f, f = dm_X37_negate)
def dm_X37_isNumber (s : jS) (x0 x1 : Int) : Option (Int) :=
  (jlt s 1000 (x0 + 164) 64 x1).bind fun v1 =>
  if v1 = (-1) then
    (jlt s 1000 (x0 + 165) 64 x1).bind fun v2 =>
    if v2 = (-1) then
      some (Wz 1)
    else
      some (Wz 0)
  else
    some (Wz 0)
noncomputable def m_X37_isNumber : jS → Int → Int → Option (Int) := Classical.choose (⟨dm_X37_isNumber, rfl⟩ : ∃ f, f = dm_X37_isNumber)
theorem em_X37_isNumber : m_X37_isNumber = dm_X37_isNumber := Classical.choose_spec (⟨dm_X37_isNumber, rfl⟩ : ∃ f, f = dm_X37_isNumber)
def du_X37_sum_128 (s : jS) (x0 x1 y0 y1 y2 : Int) : Option (jS × Int) :=
  (jst s 1000 y2 64 y1 y0).bind fun s1 =>
  (jlt s1 1000 (x0 + 164) 64 x1).bind fun v2 =>
  if v2 = (-1) then
    some (s1, Wz 1)
  else
    (jlt s1 1000 (x0 + 164) 64 x1).bind fun v3 =>
    (jlt s1 1000 (x0 + 165) 64 x1).bind fun v4 =>
    if v3 = v4 then
      (jst s1 1000 (x0 + 164) 64 x1 (-1)).bind fun s5 =>
      (jst s5 1000 (x0 + 165) 64 x1 (-1)).bind fun s6 =>
      some (s6, Wz 1)
    else
      some (s1, Wz 1)
noncomputable def u_X37_sum_128 : jS → Int → Int → Int → Int → Int → Option (jS × Int) := Classical.choose (⟨du_X37_sum_128, rfl⟩ : ∃ f, f = du_X37_sum_128)
theorem eu_X37_sum_128 : u_X37_sum_128 = du_X37_sum_128 := Classical.choose_spec (⟨du_X37_sum_128, rfl⟩ : ∃ f, f = du_X37_sum_128)
def du_X37_sum_95 (s : jS) (x0 x1 y0 y1 y2 : Int) : Option (jS × Int) :=
  (jst s 1000 y2 64 y1 y0).bind fun s1 =>
  (jlt s1 1000 (x0 + 165) 64 x1).bind fun v2 =>
  if v2 = (-1) then
    (jlt s1 1000 (x0 + 165) 64 (W32 (x1 + 1))).bind fun v3 =>
    u_X37_sum_128 s1 x0 x1 v3 x1 (x0 + 165)
  else
    (jlt s1 1000 (x0 + 165) 64 x1).bind fun v4 =>
    u_X37_sum_128 s1 x0 x1 v4 x1 (x0 + 165)
noncomputable def u_X37_sum_95 : jS → Int → Int → Int → Int → Int → Option (jS × Int) := Classical.choose (⟨du_X37_sum_95, rfl⟩ : ∃ f, f = du_X37_sum_95)
theorem eu_X37_sum_95 : u_X37_sum_95 = du_X37_sum_95 := Classical.choose_spec (⟨du_X37_sum_95, rfl⟩ : ∃ f, f = du_X37_sum_95)
def du_X37_sum_46 (s : jS) (x0 x1 : Int) : Option (jS × Int) :=
  (jlt s 1000 (x0 + 163) 64 x1).bind fun v1 =>
  (jlt s 1000 (x0 + 163) 64 (W32 (x1 + 1))).bind fun v2 =>
  (jst s 1000 (x0 + 163) 64 x1 (W32 (v1 + v2))).bind fun s3 =>
  (jlt s3 1000 (x0 + 164) 64 x1).bind fun v4 =>
  if v4 = (-1) then
    (jlt s3 1000 (x0 + 164) 64 (W32 (x1 + 1))).bind fun v5 =>
    u_X37_sum_95 s3 x0 x1 v5 x1 (x0 + 164)
  else
    (jlt s3 1000 (x0 + 164) 64 x1).bind fun v6 =>
    u_X37_sum_95 s3 x0 x1 v6 x1 (x0 + 164)
noncomputable def u_X37_sum_46 : jS → Int → Int → Option (jS × Int) := Classical.choose (⟨du_X37_sum_46, rfl⟩ : ∃ f, f = du_X37_sum_46)
theorem eu_X37_sum_46 : u_X37_sum_46 = du_X37_sum_46 := Classical.choose_spec (⟨du_X37_sum_46, rfl⟩ : ∃ f, f = du_X37_sum_46)
def du_X37_sum_22 (s : jS) (x0 x1 : Int) : Option (jS × Int) :=
  (jlt s 1000 (x0 + 165) 64 x1).bind fun v1 =>
  if v1 = (-1) then
    u_X37_sum_46 s x0 x1
  else
    (jlt s 1000 (x0 + 165) 64 (W32 (x1 + 1))).bind fun v2 =>
    if v2 = (-1) then
      u_X37_sum_46 s x0 x1
    else
      some (s, Wz 0)
noncomputable def u_X37_sum_22 : jS → Int → Int → Option (jS × Int) := Classical.choose (⟨du_X37_sum_22, rfl⟩ : ∃ f, f = du_X37_sum_22)
theorem eu_X37_sum_22 : u_X37_sum_22 = du_X37_sum_22 := Classical.choose_spec (⟨du_X37_sum_22, rfl⟩ : ∃ f, f = du_X37_sum_22)
def dm_X37_sum (s : jS) (x0 x1 : Int) : Option (jS × Int) :=
  (jlt s 1000 (x0 + 164) 64 x1).bind fun v1 =>
  if v1 = (-1) then
    u_X37_sum_22 s x0 x1
  else
    (jlt s 1000 (x0 + 164) 64 (W32 (x1 + 1))).bind fun v2 =>
    if v2 = (-1) then
      u_X37_sum_22 s x0 x1
    else
      some (s, Wz 0)
noncomputable def m_X37_sum : jS → Int → Int → Option (jS × Int) := Classical.choose (⟨dm_X37_sum, rfl⟩ : ∃ f, f = dm_X37_sum)
theorem em_X37_sum : m_X37_sum = dm_X37_sum := Classical.choose_spec (⟨dm_X37_sum, rfl⟩ : ∃ f, f = dm_X37_sum)
def dm_X37_isPlain (s : jS) (x0 : Int) : Option (Int) :=
  if (jf s 41 x0 53) = (-1) then
    if (jf s 41 x0 54) = (-1) then
      some (Wz 1)
    else
      some (Wz 0)
  else
    some (Wz 0)
noncomputable def m_X37_isPlain : jS → Int → Option (Int) := Classical.choose (⟨dm_X37_isPlain, rfl⟩ : ∃ f, f = dm_X37_isPlain)
theorem em_X37_isPlain : m_X37_isPlain = dm_X37_isPlain := Classical.choose_spec (⟨dm_X37_isPlain, rfl⟩ : ∃ f, f = dm_X37_isPlain)
def dm_X37_isPlaced (s : jS) (x0 : Int) : Option (Int) :=
  if (jf s 41 x0 53) = (-1) then
    some (Wz 0)
  else
    if (jf s 41 x0 54) = (-1) then
      some (Wz 1)
    else
      some (Wz 0)
noncomputable def m_X37_isPlaced : jS → Int → Option (Int) := Classical.choose (⟨dm_X37_isPlaced, rfl⟩ : ∃ f, f = dm_X37_isPlaced)
theorem em_X37_isPlaced : m_X37_isPlaced = dm_X37_isPlaced := Classical.choose_spec (⟨dm_X37_isPlaced, rfl⟩ : ∃ f, f = dm_X37_isPlaced)
def du_X37_marksOf_36 (s : jS) (y0 : Int) : Option (Int) :=
  if y0 = 0 then
    some 0
  else
    some 20
noncomputable def u_X37_marksOf_36 : jS → Int → Option (Int) := Classical.choose (⟨du_X37_marksOf_36, rfl⟩ : ∃ f, f = du_X37_marksOf_36)
theorem eu_X37_marksOf_36 : u_X37_marksOf_36 = du_X37_marksOf_36 := Classical.choose_spec (⟨du_X37_marksOf_36, rfl⟩ : ∃ f, f = du_X37_marksOf_36)
def du_X37_marksOf_35 (s : jS) : Option (Int) :=
  u_X37_marksOf_36 s 0
noncomputable def u_X37_marksOf_35 : jS → Option (Int) := Classical.choose (⟨du_X37_marksOf_35, rfl⟩ : ∃ f, f = du_X37_marksOf_35)
theorem eu_X37_marksOf_35 : u_X37_marksOf_35 = du_X37_marksOf_35 := Classical.choose_spec (⟨du_X37_marksOf_35, rfl⟩ : ∃ f, f = du_X37_marksOf_35)
def du_X37_marksOf_31 (s : jS) : Option (Int) :=
  u_X37_marksOf_36 s 1
noncomputable def u_X37_marksOf_31 : jS → Option (Int) := Classical.choose (⟨du_X37_marksOf_31, rfl⟩ : ∃ f, f = du_X37_marksOf_31)
theorem eu_X37_marksOf_31 : u_X37_marksOf_31 = du_X37_marksOf_31 := Classical.choose_spec (⟨du_X37_marksOf_31, rfl⟩ : ∃ f, f = du_X37_marksOf_31)
def dm_X37_marksOf (s : jS) (x0 : Int) : Option (Int) :=
  if x0 = 0 then
    some 2
  else
    if x0 = 1 then
      some 8
    else
      if x0 = 3 then
        u_X37_marksOf_31 s 
      else
        if x0 < 10 then
          u_X37_marksOf_35 s 
        else
          if 23 < x0 then
            u_X37_marksOf_35 s 
          else
            u_X37_marksOf_31 s 
noncomputable def m_X37_marksOf : jS → Int → Option (Int) := Classical.choose (⟨dm_X37_marksOf, rfl⟩ : ∃ f, f = dm_X37_marksOf)
theorem em_X37_marksOf : m_X37_marksOf = dm_X37_marksOf := Classical.choose_spec (⟨dm_X37_marksOf, rfl⟩ : ∃ f, f = dm_X37_marksOf)
def dm_X37_relocated (s : jS) (x0 x1 : Int) : Option (jS × Int) :=
  jls (jp s 41 x0 59 x1) fun s1 =>
  jls (jp s1 41 x0 60 (jf s1 41 x0 53)) fun s2 =>
  jls (jp s2 41 x0 61 (jf s2 41 x0 52)) fun s3 =>
  (jst s3 1000 (x0 + 169) 4 3 0).bind fun s4 =>
  some (s4, Wz 1)
noncomputable def m_X37_relocated : jS → Int → Int → Option (jS × Int) := Classical.choose (⟨dm_X37_relocated, rfl⟩ : ∃ f, f = dm_X37_relocated)
theorem em_X37_relocated : m_X37_relocated = dm_X37_relocated := Classical.choose_spec (⟨dm_X37_relocated, rfl⟩ : ∃ f, f = dm_X37_relocated)
def dm_X37_highOf (s : jS) (x0 : Int) : Option (Int) :=
  some (I_and (I_shr (W32 (x0 + 2048)) 12) 1048575)
noncomputable def m_X37_highOf : jS → Int → Option (Int) := Classical.choose (⟨dm_X37_highOf, rfl⟩ : ∃ f, f = dm_X37_highOf)
theorem em_X37_highOf : m_X37_highOf = dm_X37_highOf := Classical.choose_spec (⟨dm_X37_highOf, rfl⟩ : ∃ f, f = dm_X37_highOf)
def dm_X37_lowOf (s : jS) (x0 : Int) : Option (Int) :=
  some (I_shr (I_shl x0 20) 20)
noncomputable def m_X37_lowOf : jS → Int → Option (Int) := Classical.choose (⟨dm_X37_lowOf, rfl⟩ : ∃ f, f = dm_X37_lowOf)
theorem em_X37_lowOf : m_X37_lowOf = dm_X37_lowOf := Classical.choose_spec (⟨dm_X37_lowOf, rfl⟩ : ∃ f, f = dm_X37_lowOf)
def dm_X37_fault (s : jS) (x0 x1 : Int) : Option (jS × Int) :=
  jls (jp s 41 x0 4 0) fun s1 =>
  if x1 = 0 then
    some (s1, jf s1 41 x0 40)
  else
    if x1 = 1 then
      some (s1, jf s1 41 x0 41)
    else
      some (s1, (-1))
noncomputable def m_X37_fault : jS → Int → Int → Option (jS × Int) := Classical.choose (⟨dm_X37_fault, rfl⟩ : ∃ f, f = dm_X37_fault)
theorem em_X37_fault : m_X37_fault = dm_X37_fault := Classical.choose_spec (⟨dm_X37_fault, rfl⟩ : ∃ f, f = dm_X37_fault)
def dm_X37_isIn (s : jS) (x0 x1 : Int) : Option (Int) :=
  if (I_and (I_shr (jf s 41 x0 107) x1) 1) = 1 then
    some (Wz 1)
  else
    some (Wz 0)
noncomputable def m_X37_isIn : jS → Int → Int → Option (Int) := Classical.choose (⟨dm_X37_isIn, rfl⟩ : ∃ f, f = dm_X37_isIn)
theorem em_X37_isIn : m_X37_isIn = dm_X37_isIn := Classical.choose_spec (⟨dm_X37_isIn, rfl⟩ : ∃ f, f = dm_X37_isIn)
def dm_X37_refuse (s : jS) (x0 x1 x2 x3 : Int) : Option (jS × Int) :=
  if (jf s 41 x0 99) = 0 then
    jls (jp s 41 x0 99 x1) fun s1 =>
    jls (jp s1 41 x0 100 x2) fun s2 =>
    jls (jp s2 41 x0 101 x3) fun s3 =>
    some (s3, Wz 0)
  else
    some (s, Wz 0)
noncomputable def m_X37_refuse : jS → Int → Int → Int → Int → Option (jS × Int) := Classical.choose (⟨dm_X37_refuse, rfl⟩ : ∃ f, f = dm_X37_refuse)
theorem em_X37_refuse : m_X37_refuse = dm_X37_refuse := Classical.choose_spec (⟨dm_X37_refuse, rfl⟩ : ∃ f, f = dm_X37_refuse)
def du_X37_areNamesAlike_71 (s : jS) (x0 x1 x2 x4 y0 : Int) : Option (List Int ⊕ (Int)) :=
  some (.inl [x0, x1, x2, y0, W32 (x4 + 1)])
noncomputable def u_X37_areNamesAlike_71 : jS → Int → Int → Int → Int → Int → Option (List Int ⊕ (Int)) := Classical.choose (⟨du_X37_areNamesAlike_71, rfl⟩ : ∃ f, f = du_X37_areNamesAlike_71)
theorem eu_X37_areNamesAlike_71 : u_X37_areNamesAlike_71 = du_X37_areNamesAlike_71 := Classical.choose_spec (⟨du_X37_areNamesAlike_71, rfl⟩ : ∃ f, f = du_X37_areNamesAlike_71)
def b_X37_areNamesAlike_24 (s : jS) (x0 x1 x2 x3 x4 : Int) : Option (List Int ⊕ (Int)) :=
  (jlt s 1000 (x0 + 181) 600 x1).bind fun v1 =>
  if x4 < v1 then
    if x3 = 0 then
      jinr (some (Wz x3))
    else
      (jlt s 1000 (x0 + 182) 9600 (W32 ((W32 (16 * x1)) + x4))).bind fun v2 =>
      (jlt s 1000 (x0 + 182) 9600 (W32 ((W32 (16 * x2)) + x4))).bind fun v3 =>
      if v2 = v3 then
        u_X37_areNamesAlike_71 s x0 x1 x2 x4 1
      else
        u_X37_areNamesAlike_71 s x0 x1 x2 x4 0
  else
    jinr (some (Wz x3))
def du_X37_areNamesAlike_24 (s : jS) (x0 x1 x2 x3 x4 : Int) : Option (Int) := jlpR (jc5 b_X37_areNamesAlike_24) [x0, x1, x2, x3, x4] s
noncomputable def u_X37_areNamesAlike_24 : jS → Int → Int → Int → Int → Int → Option (Int) := Classical.choose (⟨du_X37_areNamesAlike_24, rfl⟩ : ∃ f, f = du_X37_areNamesAlike_24)
theorem eu_X37_areNamesAlike_24 : u_X37_areNamesAlike_24 = du_X37_areNamesAlike_24 := Classical.choose_spec (⟨du_X37_areNamesAlike_24, rfl⟩ : ∃ f, f = du_X37_areNamesAlike_24)
def du_X37_areNamesAlike_20 (s : jS) (x0 x1 x2 y0 : Int) : Option (Int) :=
  u_X37_areNamesAlike_24 s x0 x1 x2 y0 0
noncomputable def u_X37_areNamesAlike_20 : jS → Int → Int → Int → Int → Option (Int) := Classical.choose (⟨du_X37_areNamesAlike_20, rfl⟩ : ∃ f, f = du_X37_areNamesAlike_20)
theorem eu_X37_areNamesAlike_20 : u_X37_areNamesAlike_20 = du_X37_areNamesAlike_20 := Classical.choose_spec (⟨du_X37_areNamesAlike_20, rfl⟩ : ∃ f, f = du_X37_areNamesAlike_20)
def dm_X37_areNamesAlike (s : jS) (x0 x1 x2 : Int) : Option (Int) :=
  (jlt s 1000 (x0 + 181) 600 x1).bind fun v1 =>
  (jlt s 1000 (x0 + 181) 600 x2).bind fun v2 =>
  if v1 = v2 then
    u_X37_areNamesAlike_20 s x0 x1 x2 1
  else
    u_X37_areNamesAlike_20 s x0 x1 x2 0
noncomputable def m_X37_areNamesAlike : jS → Int → Int → Int → Option (Int) := Classical.choose (⟨dm_X37_areNamesAlike, rfl⟩ : ∃ f, f = dm_X37_areNamesAlike)
theorem em_X37_areNamesAlike : m_X37_areNamesAlike = dm_X37_areNamesAlike := Classical.choose_spec (⟨dm_X37_areNamesAlike, rfl⟩ : ∃ f, f = dm_X37_areNamesAlike)
def dm_X37_isDefinition (s : jS) (x0 x1 : Int) : Option (Int) :=
  (jlt s 1000 (x0 + 177) 600 x1).bind fun v1 =>
  if v1 < 0 then
    some (Wz 0)
  else
    (jlt s 1000 (x0 + 177) 600 x1).bind fun v2 =>
    if 4 < v2 then
      some (Wz 0)
    else
      some (Wz 1)
noncomputable def m_X37_isDefinition : jS → Int → Int → Option (Int) := Classical.choose (⟨dm_X37_isDefinition, rfl⟩ : ∃ f, f = dm_X37_isDefinition)
theorem em_X37_isDefinition : m_X37_isDefinition = dm_X37_isDefinition := Classical.choose_spec (⟨dm_X37_isDefinition, rfl⟩ : ∃ f, f = dm_X37_isDefinition)
def du_X37_defineBy_103 (s : jS) (x0 x1 x2 x3 : Int) : Option (jS × Int) :=
  if x3 = 1 then
    (jlt s 1000 (x0 + 191) 600 x2).bind fun v1 =>
    if v1 = 0 then
      (jlt s 1000 (x0 + 180) 600 x1).bind fun v2 =>
      if v2 = 2 then
        (m_X37_isDefinition s x0 x1).bind fun v3 =>
        if v3 = 0 then
          some (s, 0)
        else
          (jst s 1000 (x0 + 191) 600 x2 1).bind fun s4 =>
          (jst s4 1000 (x0 + 192) 600 x2 x1).bind fun s5 =>
          some (s5, 0)
      else
        some (s, 0)
    else
      some (s, 0)
  else
    some (s, 0)
noncomputable def u_X37_defineBy_103 : jS → Int → Int → Int → Int → Option (jS × Int) := Classical.choose (⟨du_X37_defineBy_103, rfl⟩ : ∃ f, f = du_X37_defineBy_103)
theorem eu_X37_defineBy_103 : u_X37_defineBy_103 = du_X37_defineBy_103 := Classical.choose_spec (⟨du_X37_defineBy_103, rfl⟩ : ∃ f, f = du_X37_defineBy_103)
def du_X37_defineBy_102 (s : jS) (x0 x1 x2 x3 y0 y1 y2 : Int) : Option (jS × Int) :=
  (jst s 1000 y2 600 y1 y0).bind fun s1 =>
  u_X37_defineBy_103 s1 x0 x1 x2 x3
noncomputable def u_X37_defineBy_102 : jS → Int → Int → Int → Int → Int → Int → Int → Option (jS × Int) := Classical.choose (⟨du_X37_defineBy_102, rfl⟩ : ∃ f, f = du_X37_defineBy_102)
theorem eu_X37_defineBy_102 : u_X37_defineBy_102 = du_X37_defineBy_102 := Classical.choose_spec (⟨du_X37_defineBy_102, rfl⟩ : ∃ f, f = du_X37_defineBy_102)
def du_X37_defineBy_66 (s : jS) (x0 x1 x2 x3 y0 y1 y2 : Int) : Option (jS × Int) :=
  (jst s 1000 y2 600 y1 y0).bind fun s1 =>
  (jlt s1 1000 (x0 + 178) 600 x1).bind fun v2 =>
  (jlt s1 1000 (x0 + 194) 600 x2).bind fun v3 =>
  if v3 < v2 then
    (jlt s1 1000 (x0 + 178) 600 x1).bind fun v4 =>
    u_X37_defineBy_102 s1 x0 x1 x2 x3 v4 x2 (x0 + 194)
  else
    (jlt s1 1000 (x0 + 194) 600 x2).bind fun v5 =>
    u_X37_defineBy_102 s1 x0 x1 x2 x3 v5 x2 (x0 + 194)
noncomputable def u_X37_defineBy_66 : jS → Int → Int → Int → Int → Int → Int → Int → Option (jS × Int) := Classical.choose (⟨du_X37_defineBy_66, rfl⟩ : ∃ f, f = du_X37_defineBy_66)
theorem eu_X37_defineBy_66 : u_X37_defineBy_66 = du_X37_defineBy_66 := Classical.choose_spec (⟨du_X37_defineBy_66, rfl⟩ : ∃ f, f = du_X37_defineBy_66)
def dm_X37_defineBy (s : jS) (x0 x1 x2 x3 : Int) : Option (jS × Int) :=
  if x3 = 0 then
    (jlt s 1000 (x0 + 177) 600 x1).bind fun v1 =>
    if v1 = 5 then
      (jlt s 1000 (x0 + 191) 600 x2).bind fun v2 =>
      if v2 = 1 then
        u_X37_defineBy_103 s x0 x1 x2 x3
      else
        (jst s 1000 (x0 + 191) 600 x2 2).bind fun s3 =>
        (jlt s3 1000 (x0 + 179) 600 x1).bind fun v4 =>
        (jlt s3 1000 (x0 + 193) 600 x2).bind fun v5 =>
        if v5 < v4 then
          (jlt s3 1000 (x0 + 179) 600 x1).bind fun v6 =>
          u_X37_defineBy_66 s3 x0 x1 x2 x3 v6 x2 (x0 + 193)
        else
          (jlt s3 1000 (x0 + 193) 600 x2).bind fun v7 =>
          u_X37_defineBy_66 s3 x0 x1 x2 x3 v7 x2 (x0 + 193)
    else
      u_X37_defineBy_103 s x0 x1 x2 x3
  else
    u_X37_defineBy_103 s x0 x1 x2 x3
noncomputable def m_X37_defineBy : jS → Int → Int → Int → Int → Option (jS × Int) := Classical.choose (⟨dm_X37_defineBy, rfl⟩ : ∃ f, f = dm_X37_defineBy)
theorem em_X37_defineBy : m_X37_defineBy = dm_X37_defineBy := Classical.choose_spec (⟨dm_X37_defineBy, rfl⟩ : ∃ f, f = dm_X37_defineBy)
def du_X37_isNamed_55 (s : jS) (x0 x1 x2 x4 : Int) : Option (Int) :=
  (jlt s 1000 (x0 + 181) 600 x1).bind fun v1 =>
  if v1 < 9 then
    if (L_cmp x4 x2) = 0 then
      some (Wz 1)
    else
      some (Wz 0)
  else
    some (Wz 0)
noncomputable def u_X37_isNamed_55 : jS → Int → Int → Int → Int → Option (Int) := Classical.choose (⟨du_X37_isNamed_55, rfl⟩ : ∃ f, f = du_X37_isNamed_55)
theorem eu_X37_isNamed_55 : u_X37_isNamed_55 = du_X37_isNamed_55 := Classical.choose_spec (⟨du_X37_isNamed_55, rfl⟩ : ∃ f, f = du_X37_isNamed_55)
def du_X37_isNamed_47 (s : jS) (x0 x1 x2 x6 y0 : Int) : Option (List Int ⊕ (Int)) :=
  some (.inl [x0, x1, x2, y0, W32 (x6 + 1)])
noncomputable def u_X37_isNamed_47 : jS → Int → Int → Int → Int → Int → Option (List Int ⊕ (Int)) := Classical.choose (⟨du_X37_isNamed_47, rfl⟩ : ∃ f, f = du_X37_isNamed_47)
theorem eu_X37_isNamed_47 : u_X37_isNamed_47 = du_X37_isNamed_47 := Classical.choose_spec (⟨du_X37_isNamed_47, rfl⟩ : ∃ f, f = du_X37_isNamed_47)
def b_X37_isNamed_6 (s : jS) (x0 x1 x2 x4 x6 : Int) : Option (List Int ⊕ (Int)) :=
  (jlt s 1000 (x0 + 181) 600 x1).bind fun v1 =>
  if x6 < v1 then
    if x6 < 8 then
      (jlt s 1000 (x0 + 182) 9600 (W32 ((W32 (16 * x1)) + x6))).bind fun v2 =>
      u_X37_isNamed_47 s x0 x1 x2 x6 (L_or (L_shl x4 8) v2)
    else
      u_X37_isNamed_47 s x0 x1 x2 x6 0
  else
    jinr (u_X37_isNamed_55 s x0 x1 x2 x4)
def du_X37_isNamed_6 (s : jS) (x0 x1 x2 x4 x6 : Int) : Option (Int) := jlpR (jc5 b_X37_isNamed_6) [x0, x1, x2, x4, x6] s
noncomputable def u_X37_isNamed_6 : jS → Int → Int → Int → Int → Int → Option (Int) := Classical.choose (⟨du_X37_isNamed_6, rfl⟩ : ∃ f, f = du_X37_isNamed_6)
theorem eu_X37_isNamed_6 : u_X37_isNamed_6 = du_X37_isNamed_6 := Classical.choose_spec (⟨du_X37_isNamed_6, rfl⟩ : ∃ f, f = du_X37_isNamed_6)
def dm_X37_isNamed (s : jS) (x0 x1 x2 : Int) : Option (Int) :=
  u_X37_isNamed_6 s x0 x1 x2 0 0
noncomputable def m_X37_isNamed : jS → Int → Int → Int → Option (Int) := Classical.choose (⟨dm_X37_isNamed, rfl⟩ : ∃ f, f = dm_X37_isNamed)
theorem em_X37_isNamed : m_X37_isNamed = dm_X37_isNamed := Classical.choose_spec (⟨dm_X37_isNamed, rfl⟩ : ∃ f, f = dm_X37_isNamed)
def du_X37_startSymbol_36 (s : jS) (x0 x1 : Int) : Option (Int) :=
  (jlt s 1000 (x0 + 192) 600 x1).bind fun v1 =>
  some v1
noncomputable def u_X37_startSymbol_36 : jS → Int → Int → Option (Int) := Classical.choose (⟨du_X37_startSymbol_36, rfl⟩ : ∃ f, f = du_X37_startSymbol_36)
theorem eu_X37_startSymbol_36 : u_X37_startSymbol_36 = du_X37_startSymbol_36 := Classical.choose_spec (⟨du_X37_startSymbol_36, rfl⟩ : ∃ f, f = du_X37_startSymbol_36)
def du_X37_startSymbol_43 (s : jS) (x0 x1 : Int) : Option (List Int ⊕ (Int)) :=
  some (.inl [x0, W32 (x1 + 1)])
noncomputable def u_X37_startSymbol_43 : jS → Int → Int → Option (List Int ⊕ (Int)) := Classical.choose (⟨du_X37_startSymbol_43, rfl⟩ : ∃ f, f = du_X37_startSymbol_43)
theorem eu_X37_startSymbol_43 : u_X37_startSymbol_43 = du_X37_startSymbol_43 := Classical.choose_spec (⟨du_X37_startSymbol_43, rfl⟩ : ∃ f, f = du_X37_startSymbol_43)
def b_X37_startSymbol_2 (s : jS) (x0 x1 : Int) : Option (List Int ⊕ (Int)) :=
  if x1 < (jf s 41 x0 81) then
    (jlt s 1000 (x0 + 190) 600 x1).bind fun v1 =>
    (m_X37_isNamed s x0 v1 104949478421108).bind fun v2 =>
    if v2 = 0 then
      u_X37_startSymbol_43 s x0 x1
    else
      (jlt s 1000 (x0 + 191) 600 x1).bind fun v3 =>
      if v3 = 1 then
        jinr (u_X37_startSymbol_36 s x0 x1)
      else
        u_X37_startSymbol_43 s x0 x1
  else
    jinr (some (-1))
def du_X37_startSymbol_2 (s : jS) (x0 x1 : Int) : Option (Int) := jlpR (jc2 b_X37_startSymbol_2) [x0, x1] s
noncomputable def u_X37_startSymbol_2 : jS → Int → Int → Option (Int) := Classical.choose (⟨du_X37_startSymbol_2, rfl⟩ : ∃ f, f = du_X37_startSymbol_2)
theorem eu_X37_startSymbol_2 : u_X37_startSymbol_2 = du_X37_startSymbol_2 := Classical.choose_spec (⟨du_X37_startSymbol_2, rfl⟩ : ∃ f, f = du_X37_startSymbol_2)
def dm_X37_startSymbol (s : jS) (x0 : Int) : Option (Int) :=
  u_X37_startSymbol_2 s x0 0
noncomputable def m_X37_startSymbol : jS → Int → Option (Int) := Classical.choose (⟨dm_X37_startSymbol, rfl⟩ : ∃ f, f = dm_X37_startSymbol)
theorem em_X37_startSymbol : m_X37_startSymbol = dm_X37_startSymbol := Classical.choose_spec (⟨dm_X37_startSymbol, rfl⟩ : ∃ f, f = dm_X37_startSymbol)
def b_X37_logOf_2 (s : jS) (x0 x1 : Int) : Option (List Int ⊕ (Int)) :=
  if (I_shl 1 x1) < x0 then
    some (.inl [x0, W32 (x1 + 1)])
  else
    jinr (some x1)
def du_X37_logOf_2 (s : jS) (x0 x1 : Int) : Option (Int) := jlpR (jc2 b_X37_logOf_2) [x0, x1] s
noncomputable def u_X37_logOf_2 : jS → Int → Int → Option (Int) := Classical.choose (⟨du_X37_logOf_2, rfl⟩ : ∃ f, f = du_X37_logOf_2)
theorem eu_X37_logOf_2 : u_X37_logOf_2 = du_X37_logOf_2 := Classical.choose_spec (⟨du_X37_logOf_2, rfl⟩ : ∃ f, f = du_X37_logOf_2)
def dm_X37_logOf (s : jS) (x0 : Int) : Option (Int) :=
  u_X37_logOf_2 s x0 0
noncomputable def m_X37_logOf : jS → Int → Option (Int) := Classical.choose (⟨dm_X37_logOf, rfl⟩ : ∃ f, f = dm_X37_logOf)
theorem em_X37_logOf : m_X37_logOf = dm_X37_logOf := Classical.choose_spec (⟨dm_X37_logOf, rfl⟩ : ∃ f, f = dm_X37_logOf)
def du_X37_hasLoose_56 (s : jS) (x0 x1 x2 x3 : Int) : Option (List Int ⊕ (Int)) :=
  some (.inl [x0, x1, x2, W32 (x3 + 1)])
noncomputable def u_X37_hasLoose_56 : jS → Int → Int → Int → Int → Option (List Int ⊕ (Int)) := Classical.choose (⟨du_X37_hasLoose_56, rfl⟩ : ∃ f, f = du_X37_hasLoose_56)
theorem eu_X37_hasLoose_56 : u_X37_hasLoose_56 = du_X37_hasLoose_56 := Classical.choose_spec (⟨du_X37_hasLoose_56, rfl⟩ : ∃ f, f = du_X37_hasLoose_56)
def b_X37_hasLoose_2 (s : jS) (x0 x1 x2 x3 : Int) : Option (List Int ⊕ (Int)) :=
  (jlt s 1000 (x0 + 183) 6 x1).bind fun v1 =>
  if x3 < v1 then
    jlet (W32 ((W32 (300 * x1)) + x3)) fun v2 =>
    (jlt s 1000 (x0 + 186) 1800 v2).bind fun v3 =>
    if v3 = 51 then
      (jlt s 1000 (x0 + 184) 1800 v2).bind fun v4 =>
      if v4 = 0 then
        (jlt s 1000 (x0 + 185) 1800 v2).bind fun v5 =>
        if v5 = x2 then
          jinr (some (Wz 1))
        else
          u_X37_hasLoose_56 s x0 x1 x2 x3
      else
        u_X37_hasLoose_56 s x0 x1 x2 x3
    else
      u_X37_hasLoose_56 s x0 x1 x2 x3
  else
    jinr (some (Wz 0))
def du_X37_hasLoose_2 (s : jS) (x0 x1 x2 x3 : Int) : Option (Int) := jlpR (jc4 b_X37_hasLoose_2) [x0, x1, x2, x3] s
noncomputable def u_X37_hasLoose_2 : jS → Int → Int → Int → Int → Option (Int) := Classical.choose (⟨du_X37_hasLoose_2, rfl⟩ : ∃ f, f = du_X37_hasLoose_2)
theorem eu_X37_hasLoose_2 : u_X37_hasLoose_2 = du_X37_hasLoose_2 := Classical.choose_spec (⟨du_X37_hasLoose_2, rfl⟩ : ∃ f, f = du_X37_hasLoose_2)
def dm_X37_hasLoose (s : jS) (x0 x1 x2 : Int) : Option (Int) :=
  u_X37_hasLoose_2 s x0 x1 x2 0
noncomputable def m_X37_hasLoose : jS → Int → Int → Int → Option (Int) := Classical.choose (⟨dm_X37_hasLoose, rfl⟩ : ∃ f, f = dm_X37_hasLoose)
theorem em_X37_hasLoose : m_X37_hasLoose = dm_X37_hasLoose := Classical.choose_spec (⟨dm_X37_hasLoose, rfl⟩ : ∃ f, f = dm_X37_hasLoose)
def dm_X37_added (s : jS) (x0 x1 x2 x3 x4 x5 : Int) : Option (jS × Int) :=
  if x1 = (-1) then
    (m_X37_refuse s x0 6 (-1) (-1)).bind fun q1 =>
    some (q1.1, Wz q1.2)
  else
    (jst s 1000 (x0 + 197) 256 x1 x3).bind fun s2 =>
    (jst s2 1000 (x0 + 198) 256 x1 x4).bind fun s3 =>
    (jst s3 1000 (x0 + 199) 256 x1 x5).bind fun s4 =>
    (jlt s4 1000 (x0 + 201) 32 x2).bind fun v5 =>
    (jst s4 1000 (x0 + 201) 32 x2 (W32 (v5 + 1))).bind fun s6 =>
    if x5 = (-1) then
      some (s6, Wz 1)
    else
      (jst s6 1000 (x0 + 203) 1800 x5 x1).bind fun s7 =>
      some (s7, Wz 1)
noncomputable def m_X37_added : jS → Int → Int → Int → Int → Int → Int → Option (jS × Int) := Classical.choose (⟨dm_X37_added, rfl⟩ : ∃ f, f = dm_X37_added)
theorem em_X37_added : m_X37_added = dm_X37_added := Classical.choose_spec (⟨dm_X37_added, rfl⟩ : ∃ f, f = dm_X37_added)
def dm_X37_widthOf (s : jS) (x0 x1 : Int) : Option (Int) :=
  (jlt s 1000 (x0 + 186) 1800 x1).bind fun v1 =>
  if v1 = 43 then
    (jlt s 1000 (x0 + 188) 1800 x1).bind fun v2 =>
    some v2
  else
    (jlt s 1000 (x0 + 186) 1800 x1).bind fun v3 =>
    if v3 = 19 then
      some 8
    else
      some 4
noncomputable def m_X37_widthOf : jS → Int → Int → Option (Int) := Classical.choose (⟨dm_X37_widthOf, rfl⟩ : ∃ f, f = dm_X37_widthOf)
theorem em_X37_widthOf : m_X37_widthOf = dm_X37_widthOf := Classical.choose_spec (⟨dm_X37_widthOf, rfl⟩ : ∃ f, f = dm_X37_widthOf)
def dm_X37_unitWord (s : jS) (x0 x1 x2 : Int) : Option (Int) :=
  jlet (W32 ((W32 (6144 * x1)) + x2)) fun v1 =>
  (jlt s 1000 (x0 + 170) 36864 v1).bind fun v2 =>
  (jlt s 1000 (x0 + 170) 36864 (W32 (v1 + 1))).bind fun v3 =>
  jlet (I_or v2 (I_shl v3 8)) fun v4 =>
  (jlt s 1000 (x0 + 171) 24 (W32 (4 * x1))).bind fun v5 =>
  if v5 < (W32 (x2 + 4)) then
    some v4
  else
    (jlt s 1000 (x0 + 170) 36864 (W32 (v1 + 2))).bind fun v6 =>
    (jlt s 1000 (x0 + 170) 36864 (W32 (v1 + 3))).bind fun v7 =>
    some (I_or (I_or v4 (I_shl v6 16)) (I_shl v7 24))
noncomputable def m_X37_unitWord : jS → Int → Int → Int → Option (Int) := Classical.choose (⟨dm_X37_unitWord, rfl⟩ : ∃ f, f = dm_X37_unitWord)
theorem em_X37_unitWord : m_X37_unitWord = dm_X37_unitWord := Classical.choose_spec (⟨dm_X37_unitWord, rfl⟩ : ∃ f, f = dm_X37_unitWord)
def du_X37_pieceAt_74 (s : jS) (x0 x2 x3 x4 : Int) : Option (List Int ⊕ (Int)) :=
  some (.inl [x0, x2, x3, W32 (x4 + 1)])
noncomputable def u_X37_pieceAt_74 : jS → Int → Int → Int → Int → Option (List Int ⊕ (Int)) := Classical.choose (⟨du_X37_pieceAt_74, rfl⟩ : ∃ f, f = du_X37_pieceAt_74)
theorem eu_X37_pieceAt_74 : u_X37_pieceAt_74 = du_X37_pieceAt_74 := Classical.choose_spec (⟨du_X37_pieceAt_74, rfl⟩ : ∃ f, f = du_X37_pieceAt_74)
def b_X37_pieceAt_24 (s : jS) (x0 x2 x3 x4 : Int) : Option (List Int ⊕ (Int)) :=
  if x3 < x4 then
    jinr (some x3)
  else
    (jlt s 1000 (x0 + 197) 256 x4).bind fun v1 =>
    if x2 = v1 then
      jinr (some x4)
    else
      (jlt s 1000 (x0 + 197) 256 x4).bind fun v2 =>
      if v2 < x2 then
        (jlt s 1000 (x0 + 197) 256 x4).bind fun v3 =>
        (jlt s 1000 (x0 + 198) 256 x4).bind fun v4 =>
        if x2 < (W32 (v3 + v4)) then
          jinr (some x4)
        else
          u_X37_pieceAt_74 s x0 x2 x3 x4
      else
        u_X37_pieceAt_74 s x0 x2 x3 x4
def du_X37_pieceAt_24 (s : jS) (x0 x2 x3 x4 : Int) : Option (Int) := jlpR (jc4 b_X37_pieceAt_24) [x0, x2, x3, x4] s
noncomputable def u_X37_pieceAt_24 : jS → Int → Int → Int → Int → Option (Int) := Classical.choose (⟨du_X37_pieceAt_24, rfl⟩ : ∃ f, f = du_X37_pieceAt_24)
theorem eu_X37_pieceAt_24 : u_X37_pieceAt_24 = du_X37_pieceAt_24 := Classical.choose_spec (⟨du_X37_pieceAt_24, rfl⟩ : ∃ f, f = du_X37_pieceAt_24)
def dm_X37_pieceAt (s : jS) (x0 x1 x2 : Int) : Option (Int) :=
  (jlt s 1000 (x0 + 200) 32 x1).bind fun v1 =>
  (jlt s 1000 (x0 + 201) 32 x1).bind fun v2 =>
  jlet (W32 ((W32 (v1 + v2)) - 1)) fun v3 =>
  (jlt s 1000 (x0 + 200) 32 x1).bind fun v4 =>
  u_X37_pieceAt_24 s x0 x2 v3 v4
noncomputable def m_X37_pieceAt : jS → Int → Int → Int → Option (Int) := Classical.choose (⟨dm_X37_pieceAt, rfl⟩ : ∃ f, f = dm_X37_pieceAt)
theorem em_X37_pieceAt : m_X37_pieceAt = dm_X37_pieceAt := Classical.choose_spec (⟨dm_X37_pieceAt, rfl⟩ : ∃ f, f = dm_X37_pieceAt)
def dm_X37_byteSpot (s : jS) (x0 x1 x2 : Int) : Option (Int) :=
  (jlt s 1000 ((x0 + 93) + 2) 4 x1).bind fun v1 =>
  some (W32 ((W32 ((W32 (4096 * x1)) + x2)) - v1))
noncomputable def m_X37_byteSpot : jS → Int → Int → Int → Option (Int) := Classical.choose (⟨dm_X37_byteSpot, rfl⟩ : ∃ f, f = dm_X37_byteSpot)
theorem em_X37_byteSpot : m_X37_byteSpot = dm_X37_byteSpot := Classical.choose_spec (⟨dm_X37_byteSpot, rfl⟩ : ∃ f, f = dm_X37_byteSpot)
def dm_X37_needed (s : jS) (x0 x1 : Int) : Option (Int) :=
  (jlt s 1000 (x0 + 186) 1800 x1).bind fun v1 =>
  if v1 = 19 then
    some 8
  else
  if v1 = 20 then
    some 4
  else
  if v1 = 21 then
    some 4
  else
  if v1 = 22 then
    some 4
  else
  if v1 = 23 then
    some 4
  else
  if v1 = 24 then
    some 4
  else
  if v1 = 25 then
    some 4
  else
  if v1 = 26 then
    some 4
  else
  if v1 = 27 then
    some 4
  else
  if v1 = 28 then
    some 4
  else
  if v1 = 29 then
    some 4
  else
  if v1 = 30 then
    some 4
  else
  if v1 = 31 then
    some 4
  else
  if v1 = 32 then
    some 4
  else
  if v1 = 33 then
    some 1
  else
  if v1 = 34 then
    some 2
  else
  if v1 = 35 then
    some 4
  else
  if v1 = 36 then
    some 4
  else
  if v1 = 37 then
    some 1
  else
  if v1 = 38 then
    some 2
  else
  if v1 = 39 then
    some 4
  else
  if v1 = 40 then
    some 4
  else
  if v1 = 41 then
    some 4
  else
  if v1 = 42 then
    some 4
  else
  if v1 = 43 then
    (jlt s 1000 (x0 + 188) 1800 x1).bind fun v2 =>
    some v2
  else
  if v1 = 44 then
    some 2
  else
  if v1 = 45 then
    some 2
  else
  some 4
noncomputable def m_X37_needed : jS → Int → Int → Option (Int) := Classical.choose (⟨dm_X37_needed, rfl⟩ : ∃ f, f = dm_X37_needed)
theorem em_X37_needed : m_X37_needed = dm_X37_needed := Classical.choose_spec (⟨dm_X37_needed, rfl⟩ : ∃ f, f = dm_X37_needed)
def dm_X37_wrong (s : jS) (x0 x1 x2 : Int) : Option (jS × Int) :=
  (m_X37_refuse s x0 x1 (jf s 41 x0 113) (W32 (x2 - (W32 (300 * (jf s 41 x0 113)))))).bind fun q1 =>
  some (q1.1, Wz q1.2)
noncomputable def m_X37_wrong : jS → Int → Int → Int → Option (jS × Int) := Classical.choose (⟨dm_X37_wrong, rfl⟩ : ∃ f, f = dm_X37_wrong)
theorem em_X37_wrong : m_X37_wrong = dm_X37_wrong := Classical.choose_spec (⟨dm_X37_wrong, rfl⟩ : ∃ f, f = dm_X37_wrong)
def du_X37_nops_65 (s : jS) (x0 x1 x2 y0 y1 y2 : Int) : Option ((jS × List Int) ⊕ (jS × Int)) :=
  (jst s 1000 y2 12288 y1 y0).bind fun s1 =>
  some (.inl (s1, [x0, x1, W32 (x2 + 1)]))
noncomputable def u_X37_nops_65 : jS → Int → Int → Int → Int → Int → Int → Option ((jS × List Int) ⊕ (jS × Int)) := Classical.choose (⟨du_X37_nops_65, rfl⟩ : ∃ f, f = du_X37_nops_65)
theorem eu_X37_nops_65 : u_X37_nops_65 = du_X37_nops_65 := Classical.choose_spec (⟨du_X37_nops_65, rfl⟩ : ∃ f, f = du_X37_nops_65)
def du_X37_nops_21 (s : jS) (x0 x1 x2 y0 : Int) : Option ((jS × List Int) ⊕ (jS × Int)) :=
  if y0 = 0 then
    (jdv 4 (I_div x1 4)).bind fun v1 =>
    if x2 = (W32 (v1 * 4)) then
      u_X37_nops_65 s x0 x1 x2 1 (W32 ((jf s 41 x0 115) + x2)) (x0 + 205)
    else
      u_X37_nops_65 s x0 x1 x2 0 (W32 ((jf s 41 x0 115) + x2)) (x0 + 205)
  else
    (jdv 4 (I_rem x2 4)).bind fun v2 =>
    if v2 = 0 then
      u_X37_nops_65 s x0 x1 x2 19 (W32 ((jf s 41 x0 115) + x2)) (x0 + 205)
    else
      u_X37_nops_65 s x0 x1 x2 0 (W32 ((jf s 41 x0 115) + x2)) (x0 + 205)
noncomputable def u_X37_nops_21 : jS → Int → Int → Int → Int → Option ((jS × List Int) ⊕ (jS × Int)) := Classical.choose (⟨du_X37_nops_21, rfl⟩ : ∃ f, f = du_X37_nops_21)
theorem eu_X37_nops_21 : u_X37_nops_21 = du_X37_nops_21 := Classical.choose_spec (⟨du_X37_nops_21, rfl⟩ : ∃ f, f = du_X37_nops_21)
def b_X37_nops_2 (s : jS) (x0 x1 x2 : Int) : Option ((jS × List Int) ⊕ (jS × Int)) :=
  if x2 < x1 then
    (jdv 4 (I_div x1 4)).bind fun v1 =>
    if x2 < (W32 (v1 * 4)) then
      u_X37_nops_21 s x0 x1 x2 1
    else
      u_X37_nops_21 s x0 x1 x2 0
  else
    jinr (some (s, 0))
def du_X37_nops_2 (s : jS) (x0 x1 x2 : Int) : Option (jS × Int) := jlpW (jc3 b_X37_nops_2) [x0, x1, x2] s
noncomputable def u_X37_nops_2 : jS → Int → Int → Int → Option (jS × Int) := Classical.choose (⟨du_X37_nops_2, rfl⟩ : ∃ f, f = du_X37_nops_2)
theorem eu_X37_nops_2 : u_X37_nops_2 = du_X37_nops_2 := Classical.choose_spec (⟨du_X37_nops_2, rfl⟩ : ∃ f, f = du_X37_nops_2)
def dm_X37_nops (s : jS) (x0 x1 : Int) : Option (jS × Int) :=
  u_X37_nops_2 s x0 x1 0
noncomputable def m_X37_nops : jS → Int → Int → Option (jS × Int) := Classical.choose (⟨dm_X37_nops, rfl⟩ : ∃ f, f = dm_X37_nops)
theorem em_X37_nops : m_X37_nops = dm_X37_nops := Classical.choose_spec (⟨dm_X37_nops, rfl⟩ : ∃ f, f = dm_X37_nops)
def du_X37_upperFor_149 (s : jS) (x0 x2 x3 : Int) : Option (List Int ⊕ (Int)) :=
  some (.inl [x0, x2, W32 (x3 + 1)])
noncomputable def u_X37_upperFor_149 : jS → Int → Int → Int → Option (List Int ⊕ (Int)) := Classical.choose (⟨du_X37_upperFor_149, rfl⟩ : ∃ f, f = du_X37_upperFor_149)
theorem eu_X37_upperFor_149 : u_X37_upperFor_149 = du_X37_upperFor_149 := Classical.choose_spec (⟨du_X37_upperFor_149, rfl⟩ : ∃ f, f = du_X37_upperFor_149)
def b_X37_upperFor_83 (s : jS) (x0 x2 x3 : Int) : Option (List Int ⊕ (Int)) :=
  (jlt s 1000 (x0 + 183) 6 (jf s 41 x0 113)).bind fun v1 =>
  if x3 < v1 then
    jlet (W32 ((W32 (300 * (jf s 41 x0 113))) + x3)) fun v2 =>
    (jlt s 1000 (x0 + 186) 1800 v2).bind fun v3 =>
    if v3 = 23 then
      (jlt s 1000 (x0 + 184) 1800 v2).bind fun v4 =>
      if v4 = 0 then
        (jlt s 1000 (x0 + 185) 1800 v2).bind fun v5 =>
        (jlt s 1000 (x0 + 178) 600 x2).bind fun v6 =>
        if v5 = v6 then
          jinr (some v2)
        else
          u_X37_upperFor_149 s x0 x2 x3
      else
        u_X37_upperFor_149 s x0 x2 x3
    else
      u_X37_upperFor_149 s x0 x2 x3
  else
    jinr (some (-1))
def du_X37_upperFor_83 (s : jS) (x0 x2 x3 : Int) : Option (Int) := jlpR (jc3 b_X37_upperFor_83) [x0, x2, x3] s
noncomputable def u_X37_upperFor_83 : jS → Int → Int → Int → Option (Int) := Classical.choose (⟨du_X37_upperFor_83, rfl⟩ : ∃ f, f = du_X37_upperFor_83)
theorem eu_X37_upperFor_83 : u_X37_upperFor_83 = du_X37_upperFor_83 := Classical.choose_spec (⟨du_X37_upperFor_83, rfl⟩ : ∃ f, f = du_X37_upperFor_83)
def du_X37_upperFor_50 (s : jS) (x0 x1 x2 : Int) : Option (Int) :=
  (jdv 100 (I_div x2 100)).bind fun v1 =>
  if v1 = (jf s 41 x0 113) then
    (jlt s 1000 (x0 + 177) 600 x2).bind fun v2 =>
    if v2 = 0 then
      (jlt s 1000 (x0 + 188) 1800 x1).bind fun v3 =>
      if v3 = 0 then
        u_X37_upperFor_83 s x0 x2 0
      else
        some (-1)
    else
      some (-1)
  else
    some (-1)
noncomputable def u_X37_upperFor_50 : jS → Int → Int → Int → Option (Int) := Classical.choose (⟨du_X37_upperFor_50, rfl⟩ : ∃ f, f = du_X37_upperFor_50)
theorem eu_X37_upperFor_50 : u_X37_upperFor_50 = du_X37_upperFor_50 := Classical.choose_spec (⟨du_X37_upperFor_50, rfl⟩ : ∃ f, f = du_X37_upperFor_50)
def dm_X37_upperFor (s : jS) (x0 x1 : Int) : Option (Int) :=
  (jlt s 1000 (x0 + 187) 1800 x1).bind fun v1 =>
  jlet (W32 ((W32 (100 * (jf s 41 x0 113))) + v1)) fun v2 =>
  (jlt s 1000 (x0 + 180) 600 v2).bind fun v3 =>
  if v3 = 0 then
    u_X37_upperFor_50 s x0 x1 v2
  else
    (jlt s 1000 (x0 + 189) 600 v2).bind fun v4 =>
    (jlt s 1000 (x0 + 191) 600 v4).bind fun v5 =>
    if v5 = 1 then
      (jlt s 1000 (x0 + 192) 600 v4).bind fun v6 =>
      u_X37_upperFor_50 s x0 x1 v6
    else
      some (-1)
noncomputable def m_X37_upperFor : jS → Int → Int → Option (Int) := Classical.choose (⟨dm_X37_upperFor, rfl⟩ : ∃ f, f = dm_X37_upperFor)
theorem em_X37_upperFor : m_X37_upperFor = dm_X37_upperFor := Classical.choose_spec (⟨dm_X37_upperFor, rfl⟩ : ∃ f, f = dm_X37_upperFor)
def dm_X37_address_2 (s : jS) (x0 x1 x2 x3 : Int) : Option (Int) :=
  (jlt s 1000 (x0 + 202) 24 (W32 ((W32 (4 * x1)) + x2))).bind fun v1 =>
  (m_X37_pieceAt s x0 v1 x3).bind fun v2 =>
  (jlt s 1000 (x0 + 199) 256 v2).bind fun v3 =>
  if v3 = (-1) then
    (jlt s 1000 ((x0 + 93) + 20) 256 v2).bind fun v4 =>
    (jlt s 1000 (x0 + 197) 256 v2).bind fun v5 =>
    some (W32 ((W32 (v4 + x3)) - v5))
  else
    (jlt s 1000 (x0 + 197) 256 v2).bind fun v6 =>
    if x3 = v6 then
      (jlt s 1000 ((x0 + 93) + 20) 256 v2).bind fun v7 =>
      some v7
    else
      (jlt s 1000 ((x0 + 93) + 20) 256 v2).bind fun v8 =>
      (jlt s 1000 ((x0 + 93) + 13) 256 v2).bind fun v9 =>
      some (W32 (v8 + v9))
noncomputable def m_X37_address_2 : jS → Int → Int → Int → Int → Option (Int) := Classical.choose (⟨dm_X37_address_2, rfl⟩ : ∃ f, f = dm_X37_address_2)
theorem em_X37_address_2 : m_X37_address_2 = dm_X37_address_2 := Classical.choose_spec (⟨dm_X37_address_2, rfl⟩ : ∃ f, f = dm_X37_address_2)
def b_X37_store_3 (s : jS) (x0 x1 x2 x3 x5 : Int) : Option ((jS × List Int) ⊕ (jS × Int)) :=
  if x5 < x2 then
    (jst s 1000 (x0 + 205) 12288 (W32 (x1 + x5)) (L2i (L_and (L_shr x3 (W32 (8 * x5))) 255))).bind fun s1 =>
    some (.inl (s1, [x0, x1, x2, x3, W32 (x5 + 1)]))
  else
    jinr (some (s, 0))
def du_X37_store_3 (s : jS) (x0 x1 x2 x3 x5 : Int) : Option (jS × Int) := jlpW (jc5 b_X37_store_3) [x0, x1, x2, x3, x5] s
noncomputable def u_X37_store_3 : jS → Int → Int → Int → Int → Int → Option (jS × Int) := Classical.choose (⟨du_X37_store_3, rfl⟩ : ∃ f, f = du_X37_store_3)
theorem eu_X37_store_3 : u_X37_store_3 = du_X37_store_3 := Classical.choose_spec (⟨du_X37_store_3, rfl⟩ : ∃ f, f = du_X37_store_3)
def dm_X37_store (s : jS) (x0 x1 x2 x3 : Int) : Option (jS × Int) :=
  u_X37_store_3 s x0 x1 x2 x3 0
noncomputable def m_X37_store : jS → Int → Int → Int → Int → Option (jS × Int) := Classical.choose (⟨dm_X37_store, rfl⟩ : ∃ f, f = dm_X37_store)
theorem em_X37_store : m_X37_store = dm_X37_store := Classical.choose_spec (⟨dm_X37_store, rfl⟩ : ∃ f, f = dm_X37_store)
def b_X37_loaded_5 (s : jS) (x0 x1 x2 x3 x4 : Int) : Option (List Int ⊕ (Int)) :=
  if x4 < x2 then
    (jlt s 1000 (x0 + 205) 12288 (W32 (x1 + x4))).bind fun v1 =>
    jlet (I_or x3 (I_shl v1 (W32 (8 * x4)))) fun v2 =>
    some (.inl [x0, x1, x2, v2, W32 (x4 + 1)])
  else
    jinr (some x3)
def du_X37_loaded_5 (s : jS) (x0 x1 x2 x3 x4 : Int) : Option (Int) := jlpR (jc5 b_X37_loaded_5) [x0, x1, x2, x3, x4] s
noncomputable def u_X37_loaded_5 : jS → Int → Int → Int → Int → Int → Option (Int) := Classical.choose (⟨du_X37_loaded_5, rfl⟩ : ∃ f, f = du_X37_loaded_5)
theorem eu_X37_loaded_5 : u_X37_loaded_5 = du_X37_loaded_5 := Classical.choose_spec (⟨du_X37_loaded_5, rfl⟩ : ∃ f, f = du_X37_loaded_5)
def dm_X37_loaded (s : jS) (x0 x1 x2 : Int) : Option (Int) :=
  u_X37_loaded_5 s x0 x1 x2 0 0
noncomputable def m_X37_loaded : jS → Int → Int → Int → Option (Int) := Classical.choose (⟨dm_X37_loaded, rfl⟩ : ∃ f, f = dm_X37_loaded)
theorem em_X37_loaded : m_X37_loaded = dm_X37_loaded := Classical.choose_spec (⟨dm_X37_loaded, rfl⟩ : ∃ f, f = dm_X37_loaded)
def dm_X37_lengthAt (s : jS) (x0 x1 : Int) : Option (Int) :=
  if (I_and x1 3) = 3 then
    some 4
  else
    some 2
noncomputable def m_X37_lengthAt : jS → Int → Int → Option (Int) := Classical.choose (⟨dm_X37_lengthAt, rfl⟩ : ∃ f, f = dm_X37_lengthAt)
theorem em_X37_lengthAt : m_X37_lengthAt = dm_X37_lengthAt := Classical.choose_spec (⟨dm_X37_lengthAt, rfl⟩ : ∃ f, f = dm_X37_lengthAt)
def du_X37_wordFor_53 (s : jS) (x0 x2 x3 y0 : Int) : Option (Int) :=
  if y0 = 4 then
    (m_X37_lengthAt s x0 x3).bind fun v1 =>
    if v1 = 4 then
      (m_X37_loaded s x0 (W32 ((jf s 41 x0 115) + x2)) 4).bind fun v2 =>
      some v2
    else
      some x3
  else
    some x3
noncomputable def u_X37_wordFor_53 : jS → Int → Int → Int → Int → Option (Int) := Classical.choose (⟨du_X37_wordFor_53, rfl⟩ : ∃ f, f = du_X37_wordFor_53)
theorem eu_X37_wordFor_53 : u_X37_wordFor_53 = du_X37_wordFor_53 := Classical.choose_spec (⟨du_X37_wordFor_53, rfl⟩ : ∃ f, f = du_X37_wordFor_53)
def dm_X37_wordFor (s : jS) (x0 x1 x2 : Int) : Option (Int) :=
  if (jf s 41 x0 114) = (-1) then
    (m_X37_loaded s x0 (W32 ((jf s 41 x0 115) + x2)) 2).bind fun v1 =>
    (m_X37_needed s x0 x1).bind fun v2 =>
    if (W32 (v2 - x2)) < 4 then
      u_X37_wordFor_53 s x0 x2 v1 2
    else
      u_X37_wordFor_53 s x0 x2 v1 4
  else
    (jlt s 1000 (x0 + 185) 1800 x1).bind fun v3 =>
    (m_X37_unitWord s x0 (jf s 41 x0 113) (W32 (v3 + x2))).bind fun v4 =>
    some v4
noncomputable def m_X37_wordFor : jS → Int → Int → Int → Option (Int) := Classical.choose (⟨dm_X37_wordFor, rfl⟩ : ∃ f, f = dm_X37_wordFor)
theorem em_X37_wordFor : m_X37_wordFor = dm_X37_wordFor := Classical.choose_spec (⟨dm_X37_wordFor, rfl⟩ : ∃ f, f = dm_X37_wordFor)
def dm_X37_isInt (s : jS) (x0 : Int) : Option (Int) :=
  if (L_cmp x0 (-2147483648)) < 0 then
    some (Wz 0)
  else
    if 0 < (L_cmp x0 2147483647) then
      some (Wz 0)
    else
      some (Wz 1)
noncomputable def m_X37_isInt : jS → Int → Option (Int) := Classical.choose (⟨dm_X37_isInt, rfl⟩ : ∃ f, f = dm_X37_isInt)
theorem em_X37_isInt : m_X37_isInt = dm_X37_isInt := Classical.choose_spec (⟨dm_X37_isInt, rfl⟩ : ∃ f, f = dm_X37_isInt)
def dm_X37_high (s : jS) (x0 : Int) : Option (Int) :=
  some (L2i (L_and (L_shr (W64 (x0 + 2048)) 12) 1048575))
noncomputable def m_X37_high : jS → Int → Option (Int) := Classical.choose (⟨dm_X37_high, rfl⟩ : ∃ f, f = dm_X37_high)
theorem em_X37_high : m_X37_high = dm_X37_high := Classical.choose_spec (⟨dm_X37_high, rfl⟩ : ∃ f, f = dm_X37_high)
def dm_X37_low (s : jS) (x0 : Int) : Option (Int) :=
  some (I_shr (I_shl (L2i x0) 20) 20)
noncomputable def m_X37_low : jS → Int → Option (Int) := Classical.choose (⟨dm_X37_low, rfl⟩ : ∃ f, f = dm_X37_low)
theorem em_X37_low : m_X37_low = dm_X37_low := Classical.choose_spec (⟨dm_X37_low, rfl⟩ : ∃ f, f = dm_X37_low)
def du_X37_takes_263 (s : jS) (x1 : Int) : Option (Int) :=
  if x1 = 1 then
    some (Wz 1)
  else
    some (Wz 0)
noncomputable def u_X37_takes_263 : jS → Int → Option (Int) := Classical.choose (⟨du_X37_takes_263, rfl⟩ : ∃ f, f = du_X37_takes_263)
theorem eu_X37_takes_263 : u_X37_takes_263 = du_X37_takes_263 := Classical.choose_spec (⟨du_X37_takes_263, rfl⟩ : ∃ f, f = du_X37_takes_263)
def du_X37_takes_245 (s : jS) (x1 : Int) : Option (Int) :=
  if 14 < x1 then
    if x1 < 18 then
      some (Wz 1)
    else
      some (Wz 0)
  else
    some (Wz 0)
noncomputable def u_X37_takes_245 : jS → Int → Option (Int) := Classical.choose (⟨du_X37_takes_245, rfl⟩ : ∃ f, f = du_X37_takes_245)
theorem eu_X37_takes_245 : u_X37_takes_245 = du_X37_takes_245 := Classical.choose_spec (⟨du_X37_takes_245, rfl⟩ : ∃ f, f = du_X37_takes_245)
def du_X37_takes_227 (s : jS) (x1 : Int) : Option (Int) :=
  if 17 < x1 then
    if x1 < 24 then
      some (Wz 1)
    else
      some (Wz 0)
  else
    some (Wz 0)
noncomputable def u_X37_takes_227 : jS → Int → Option (Int) := Classical.choose (⟨du_X37_takes_227, rfl⟩ : ∃ f, f = du_X37_takes_227)
theorem eu_X37_takes_227 : u_X37_takes_227 = du_X37_takes_227 := Classical.choose_spec (⟨du_X37_takes_227, rfl⟩ : ∃ f, f = du_X37_takes_227)
def du_X37_takes_210 (s : jS) (x1 : Int) : Option (Int) :=
  if x1 = 3 then
    some (Wz 1)
  else
    if 9 < x1 then
      if x1 < 15 then
        some (Wz 1)
      else
        u_X37_takes_227 s x1
    else
      u_X37_takes_227 s x1
noncomputable def u_X37_takes_210 : jS → Int → Option (Int) := Classical.choose (⟨du_X37_takes_210, rfl⟩ : ∃ f, f = du_X37_takes_210)
theorem eu_X37_takes_210 : u_X37_takes_210 = du_X37_takes_210 := Classical.choose_spec (⟨du_X37_takes_210, rfl⟩ : ∃ f, f = du_X37_takes_210)
def dm_X37_takes (s : jS) (x0 x1 : Int) : Option (Int) :=
  if x0 = 16 then
    if 3 < x1 then
      if x1 < 10 then
        some (Wz 1)
      else
        some (Wz 0)
    else
      some (Wz 0)
  else
  if x0 = 17 then
    if x1 = 2 then
      some (Wz 1)
    else
      some (Wz 0)
  else
  if x0 = 18 then
    u_X37_takes_263 s x1
  else
  if x0 = 19 then
    u_X37_takes_263 s x1
  else
  if x0 = 20 then
    u_X37_takes_263 s x1
  else
  if x0 = 21 then
    u_X37_takes_263 s x1
  else
  if x0 = 22 then
    u_X37_takes_263 s x1
  else
  if x0 = 23 then
    u_X37_takes_263 s x1
  else
  if x0 = 24 then
    u_X37_takes_210 s x1
  else
  if x0 = 25 then
    u_X37_takes_245 s x1
  else
  if x0 = 26 then
    if x1 = 0 then
      some (Wz 1)
    else
      some (Wz 0)
  else
  if x0 = 27 then
    u_X37_takes_210 s x1
  else
  if x0 = 28 then
    u_X37_takes_245 s x1
  else
  if x0 = 29 then
    u_X37_takes_263 s x1
  else
  if x0 = 30 then
    u_X37_takes_263 s x1
  else
  if x0 = 31 then
    u_X37_takes_263 s x1
  else
  if x0 = 32 then
    u_X37_takes_263 s x1
  else
  if x0 = 33 then
    u_X37_takes_263 s x1
  else
  if x0 = 34 then
    u_X37_takes_263 s x1
  else
  if x0 = 35 then
    u_X37_takes_263 s x1
  else
  if x0 = 36 then
    u_X37_takes_263 s x1
  else
  if x0 = 37 then
    u_X37_takes_263 s x1
  else
  if x0 = 38 then
    u_X37_takes_263 s x1
  else
  if x0 = 39 then
    u_X37_takes_263 s x1
  else
  if x0 = 40 then
    u_X37_takes_263 s x1
  else
  if x0 = 41 then
    u_X37_takes_263 s x1
  else
  if x0 = 42 then
    u_X37_takes_263 s x1
  else
  if x0 = 43 then
    u_X37_takes_263 s x1
  else
  if x0 = 44 then
    if x1 = 65 then
      some (Wz 1)
    else
      if x1 = 66 then
        some (Wz 1)
      else
        some (Wz 0)
  else
  if x0 = 45 then
    if x1 = 53 then
      some (Wz 1)
    else
      if x1 = 64 then
        some (Wz 1)
      else
        some (Wz 0)
  else
  u_X37_takes_263 s x1
noncomputable def m_X37_takes : jS → Int → Int → Option (Int) := Classical.choose (⟨dm_X37_takes, rfl⟩ : ∃ f, f = dm_X37_takes)
theorem em_X37_takes : m_X37_takes = dm_X37_takes := Classical.choose_spec (⟨dm_X37_takes, rfl⟩ : ∃ f, f = dm_X37_takes)
def dm_X37_isNear (s : jS) (x0 : Int) : Option (Int) :=
  if (L_cmp x0 (-2048)) < 0 then
    some (Wz 0)
  else
    if 0 < (L_cmp x0 2047) then
      some (Wz 0)
    else
      some (Wz 1)
noncomputable def m_X37_isNear : jS → Int → Option (Int) := Classical.choose (⟨dm_X37_isNear, rfl⟩ : ∃ f, f = dm_X37_isNear)
theorem em_X37_isNear : m_X37_isNear = dm_X37_isNear := Classical.choose_spec (⟨dm_X37_isNear, rfl⟩ : ∃ f, f = dm_X37_isNear)
def dm_X37_outputSize (s : jS) (x0 x1 : Int) : Option (Int) :=
  (jlt s 1000 ((x0 + 93) + 3) 4 x1).bind fun v1 =>
  (jlt s 1000 ((x0 + 93) + 2) 4 x1).bind fun v2 =>
  some (W32 (v1 - v2))
noncomputable def m_X37_outputSize : jS → Int → Int → Option (Int) := Classical.choose (⟨dm_X37_outputSize, rfl⟩ : ∃ f, f = dm_X37_outputSize)
theorem em_X37_outputSize : m_X37_outputSize = dm_X37_outputSize := Classical.choose_spec (⟨dm_X37_outputSize, rfl⟩ : ∃ f, f = dm_X37_outputSize)
def dm_X37_linked (s : jS) (x0 x1 : Int) : Option (jS × Int) :=
  jls (jp s 41 x0 4 0) fun s1 =>
  if x1 = 0 then
    some (s1, jf s1 41 x0 99)
  else
  if x1 = 1 then
    some (s1, jf s1 41 x0 100)
  else
  if x1 = 2 then
    some (s1, jf s1 41 x0 101)
  else
  if x1 = 3 then
    some (s1, jf s1 41 x0 102)
  else
  if x1 = 4 then
    some (s1, jf s1 41 x0 103)
  else
  some (s1, (-1))
noncomputable def m_X37_linked : jS → Int → Int → Option (jS × Int) := Classical.choose (⟨dm_X37_linked, rfl⟩ : ∃ f, f = dm_X37_linked)
theorem em_X37_linked : m_X37_linked = dm_X37_linked := Classical.choose_spec (⟨dm_X37_linked, rfl⟩ : ∃ f, f = dm_X37_linked)
def du_X37_where_176 (s : jS) (x0 : Int) : Option (jS × Int) :=
  jls (jp s 41 x0 4 1) fun s1 =>
  some (s1, 0)
noncomputable def u_X37_where_176 : jS → Int → Option (jS × Int) := Classical.choose (⟨du_X37_where_176, rfl⟩ : ∃ f, f = du_X37_where_176)
theorem eu_X37_where_176 : u_X37_where_176 = du_X37_where_176 := Classical.choose_spec (⟨du_X37_where_176, rfl⟩ : ∃ f, f = du_X37_where_176)
def du_X37_where_162 (s : jS) (x0 x6 : Int) : Option (jS × Int) :=
  (jlt s 1000 (x0 + 208) 600 x6).bind fun v1 =>
  some (s, v1)
noncomputable def u_X37_where_162 : jS → Int → Int → Option (jS × Int) := Classical.choose (⟨du_X37_where_162, rfl⟩ : ∃ f, f = du_X37_where_162)
theorem eu_X37_where_162 : u_X37_where_162 = du_X37_where_162 := Classical.choose_spec (⟨du_X37_where_162, rfl⟩ : ∃ f, f = du_X37_where_162)
def du_X37_where_152 (s : jS) (x0 x5 x6 x7 : Int) : Option ((jS × List Int) ⊕ (jS × Int)) :=
  jls (jp s 41 x0 4 0) fun s1 =>
  if x7 = 0 then
    some (.inl (s1, [x0, x5, W32 (x6 + 1)]))
  else
    jinr (u_X37_where_162 s1 x0 x6)
noncomputable def u_X37_where_152 : jS → Int → Int → Int → Int → Option ((jS × List Int) ⊕ (jS × Int)) := Classical.choose (⟨du_X37_where_152, rfl⟩ : ∃ f, f = du_X37_where_152)
theorem eu_X37_where_152 : u_X37_where_152 = du_X37_where_152 := Classical.choose_spec (⟨du_X37_where_152, rfl⟩ : ∃ f, f = du_X37_where_152)
def du_X37_where_144 (s : jS) (x0 x5 x6 x8 y0 : Int) : Option ((jS × List Int) ⊕ ((jS × List Int) ⊕ (jS × Int))) :=
  some (.inl (s, [x0, x5, x6, y0, W32 (x8 + 1)]))
noncomputable def u_X37_where_144 : jS → Int → Int → Int → Int → Int → Option ((jS × List Int) ⊕ ((jS × List Int) ⊕ (jS × Int))) := Classical.choose (⟨du_X37_where_144, rfl⟩ : ∃ f, f = du_X37_where_144)
theorem eu_X37_where_144 : u_X37_where_144 = du_X37_where_144 := Classical.choose_spec (⟨du_X37_where_144, rfl⟩ : ∃ f, f = du_X37_where_144)
def b_X37_where_104 (s : jS) (x0 x5 x6 x7 x8 : Int) : Option ((jS × List Int) ⊕ ((jS × List Int) ⊕ (jS × Int))) :=
  if x8 < x5 then
    if x7 = 0 then
      jinr (u_X37_where_152 s x0 x5 x6 x7)
    else
      (jlt s 1000 (x0 + 207) 9600 (W32 ((W32 (16 * x6)) + x8))).bind fun v1 =>
      (jlt s 1000 (x0 + 209) 16 x8).bind fun v2 =>
      if v1 = v2 then
        u_X37_where_144 s x0 x5 x6 x8 1
      else
        u_X37_where_144 s x0 x5 x6 x8 0
  else
    jinr (u_X37_where_152 s x0 x5 x6 x7)
def du_X37_where_104 (s : jS) (x0 x5 x6 x7 x8 : Int) : Option ((jS × List Int) ⊕ (jS × Int)) := jlpW (jc5 b_X37_where_104) [x0, x5, x6, x7, x8] s
noncomputable def u_X37_where_104 : jS → Int → Int → Int → Int → Int → Option ((jS × List Int) ⊕ (jS × Int)) := Classical.choose (⟨du_X37_where_104, rfl⟩ : ∃ f, f = du_X37_where_104)
theorem eu_X37_where_104 : u_X37_where_104 = du_X37_where_104 := Classical.choose_spec (⟨du_X37_where_104, rfl⟩ : ∃ f, f = du_X37_where_104)
def du_X37_where_99 (s : jS) (x0 x5 x6 y0 : Int) : Option ((jS × List Int) ⊕ (jS × Int)) :=
  u_X37_where_104 s x0 x5 x6 y0 0
noncomputable def u_X37_where_99 : jS → Int → Int → Int → Int → Option ((jS × List Int) ⊕ (jS × Int)) := Classical.choose (⟨du_X37_where_99, rfl⟩ : ∃ f, f = du_X37_where_99)
theorem eu_X37_where_99 : u_X37_where_99 = du_X37_where_99 := Classical.choose_spec (⟨du_X37_where_99, rfl⟩ : ∃ f, f = du_X37_where_99)
def b_X37_where_73 (s : jS) (x0 x5 x6 : Int) : Option ((jS × List Int) ⊕ (jS × Int)) :=
  if x6 < (jf s 41 x0 109) then
    (jlt s 1000 (x0 + 206) 600 x6).bind fun v1 =>
    if v1 = x5 then
      u_X37_where_99 s x0 x5 x6 1
    else
      u_X37_where_99 s x0 x5 x6 0
  else
    jinr (u_X37_where_176 s x0)
def du_X37_where_73 (s : jS) (x0 x5 x6 : Int) : Option (jS × Int) := jlpW (jc3 b_X37_where_73) [x0, x5, x6] s
noncomputable def u_X37_where_73 : jS → Int → Int → Int → Option (jS × Int) := Classical.choose (⟨du_X37_where_73, rfl⟩ : ∃ f, f = du_X37_where_73)
theorem eu_X37_where_73 : u_X37_where_73 = du_X37_where_73 := Classical.choose_spec (⟨du_X37_where_73, rfl⟩ : ∃ f, f = du_X37_where_73)
def du_X37_where_70 (s : jS) (x0 x5 : Int) : Option (jS × Int) :=
  u_X37_where_73 s x0 x5 0
noncomputable def u_X37_where_70 : jS → Int → Int → Option (jS × Int) := Classical.choose (⟨du_X37_where_70, rfl⟩ : ∃ f, f = du_X37_where_70)
theorem eu_X37_where_70 : u_X37_where_70 = du_X37_where_70 := Classical.choose_spec (⟨du_X37_where_70, rfl⟩ : ∃ f, f = du_X37_where_70)
def du_X37_where_64 (s : jS) (x0 x1 x3 x5 x6 : Int) : Option ((jS × List Int) ⊕ (jS × Int)) :=
  some (.inl (s, [x0, x1, x3, x5, W32 (x6 + 1)]))
noncomputable def u_X37_where_64 : jS → Int → Int → Int → Int → Int → Option ((jS × List Int) ⊕ (jS × Int)) := Classical.choose (⟨du_X37_where_64, rfl⟩ : ∃ f, f = du_X37_where_64)
theorem eu_X37_where_64 : u_X37_where_64 = du_X37_where_64 := Classical.choose_spec (⟨du_X37_where_64, rfl⟩ : ∃ f, f = du_X37_where_64)
def du_X37_where_25 (s : jS) (x0 x1 x3 x5 x6 y0 : Int) : Option ((jS × List Int) ⊕ (jS × Int)) :=
  (jdv 8 (I_rem x6 8)).bind fun v1 =>
  jlet (L2i (L_and (L_shr y0 (W32 (56 - (W32 (8 * v1))))) 255)) fun v2 =>
  if v2 = 0 then
    u_X37_where_64 s x0 x1 x3 x5 x6
  else
    (jst s 1000 (x0 + 209) 16 x5 v2).bind fun s3 =>
    u_X37_where_64 s3 x0 x1 x3 (W32 (x5 + 1)) x6
noncomputable def u_X37_where_25 : jS → Int → Int → Int → Int → Int → Int → Option ((jS × List Int) ⊕ (jS × Int)) := Classical.choose (⟨du_X37_where_25, rfl⟩ : ∃ f, f = du_X37_where_25)
theorem eu_X37_where_25 : u_X37_where_25 = du_X37_where_25 := Classical.choose_spec (⟨du_X37_where_25, rfl⟩ : ∃ f, f = du_X37_where_25)
def b_X37_where_6 (s : jS) (x0 x1 x3 x5 x6 : Int) : Option ((jS × List Int) ⊕ (jS × Int)) :=
  if x6 < 16 then
    if x6 < 8 then
      u_X37_where_25 s x0 x1 x3 x5 x6 x1
    else
      u_X37_where_25 s x0 x1 x3 x5 x6 x3
  else
    jinr (u_X37_where_70 s x0 x5)
def du_X37_where_6 (s : jS) (x0 x1 x3 x5 x6 : Int) : Option (jS × Int) := jlpW (jc5 b_X37_where_6) [x0, x1, x3, x5, x6] s
noncomputable def u_X37_where_6 : jS → Int → Int → Int → Int → Int → Option (jS × Int) := Classical.choose (⟨du_X37_where_6, rfl⟩ : ∃ f, f = du_X37_where_6)
theorem eu_X37_where_6 : u_X37_where_6 = du_X37_where_6 := Classical.choose_spec (⟨du_X37_where_6, rfl⟩ : ∃ f, f = du_X37_where_6)
def dm_X37_where (s : jS) (x0 x1 x3 : Int) : Option (jS × Int) :=
  u_X37_where_6 s x0 x1 x3 0 0
noncomputable def m_X37_where : jS → Int → Int → Int → Option (jS × Int) := Classical.choose (⟨dm_X37_where, rfl⟩ : ∃ f, f = dm_X37_where)
theorem em_X37_where : m_X37_where = dm_X37_where := Classical.choose_spec (⟨dm_X37_where, rfl⟩ : ∃ f, f = dm_X37_where)
def dm_X37_place (s : jS) (x0 : Int) : Option (jS × Int) :=
  jls (jp s 41 x0 4 0) fun s1 =>
  some (s1, jf s1 41 x0 118)
noncomputable def m_X37_place : jS → Int → Option (jS × Int) := Classical.choose (⟨dm_X37_place, rfl⟩ : ∃ f, f = dm_X37_place)
theorem em_X37_place : m_X37_place = dm_X37_place := Classical.choose_spec (⟨dm_X37_place, rfl⟩ : ∃ f, f = dm_X37_place)
def b_X38_fix_3 (s : jS) (x0 x1 x2 x3 x4 x5 : Int) : Option ((jS × List Int) ⊕ (jS × Int)) :=
  if x5 < x3 then
    (jst s 1000 (x0 + 1) 2400 (W32 ((W32 ((W32 (32 * x1)) + x2)) + x5)) (I_and (I_shr x4 x5) 1)).bind fun s1 =>
    some (.inl (s1, [x0, x1, x2, x3, x4, W32 (x5 + 1)]))
  else
    jinr (some (s, 0))
def du_X38_fix_3 (s : jS) (x0 x1 x2 x3 x4 x5 : Int) : Option (jS × Int) := jlpW (jc6 b_X38_fix_3) [x0, x1, x2, x3, x4, x5] s
noncomputable def u_X38_fix_3 : jS → Int → Int → Int → Int → Int → Int → Option (jS × Int) := Classical.choose (⟨du_X38_fix_3, rfl⟩ : ∃ f, f = du_X38_fix_3)
theorem eu_X38_fix_3 : u_X38_fix_3 = du_X38_fix_3 := Classical.choose_spec (⟨du_X38_fix_3, rfl⟩ : ∃ f, f = du_X38_fix_3)
def dm_X38_fix (s : jS) (x0 x1 x2 x3 x4 : Int) : Option (jS × Int) :=
  u_X38_fix_3 s x0 x1 x2 x3 x4 0
noncomputable def m_X38_fix : jS → Int → Int → Int → Int → Int → Option (jS × Int) := Classical.choose (⟨dm_X38_fix, rfl⟩ : ∃ f, f = dm_X38_fix)
theorem em_X38_fix : m_X38_fix = dm_X38_fix := Classical.choose_spec (⟨dm_X38_fix, rfl⟩ : ∃ f, f = dm_X38_fix)
def dm_X38_opcodeOf (s : jS) (x0 : Int) : Option (Int) :=
  if x0 = 0 then
    some 55
  else
    if x0 = 1 then
      some 23
    else
      if x0 = 2 then
        some 111
      else
        if x0 = 3 then
          some 103
        else
          if x0 < 10 then
            some 99
          else
            if x0 < 15 then
              some 3
            else
              if x0 < 18 then
                some 35
              else
                if x0 < 27 then
                  some 19
                else
                  some 51
noncomputable def m_X38_opcodeOf : jS → Int → Option (Int) := Classical.choose (⟨dm_X38_opcodeOf, rfl⟩ : ∃ f, f = dm_X38_opcodeOf)
theorem em_X38_opcodeOf : m_X38_opcodeOf = dm_X38_opcodeOf := Classical.choose_spec (⟨dm_X38_opcodeOf, rfl⟩ : ∃ f, f = dm_X38_opcodeOf)
def b_X38_lay_3 (s : jS) (x0 x1 x2 x3 x4 x5 x6 : Int) : Option ((jS × List Int) ⊕ (jS × Int)) :=
  if x6 < x3 then
    jinr (some (s, 0))
  else
    (jst s 1000 (x0 + 1) 2400 (W32 ((W32 (32 * x1)) + x6)) (W32 ((W32 (x4 + x5)) - (W32 (x2 - x6))))).bind fun s1 =>
    some (.inl (s1, [x0, x1, x2, x3, x4, x5, W32 (x6 + (-1))]))
def du_X38_lay_3 (s : jS) (x0 x1 x2 x3 x4 x5 x6 : Int) : Option (jS × Int) := jlpW (jc7 b_X38_lay_3) [x0, x1, x2, x3, x4, x5, x6] s
noncomputable def u_X38_lay_3 : jS → Int → Int → Int → Int → Int → Int → Int → Option (jS × Int) := Classical.choose (⟨du_X38_lay_3, rfl⟩ : ∃ f, f = du_X38_lay_3)
theorem eu_X38_lay_3 : u_X38_lay_3 = du_X38_lay_3 := Classical.choose_spec (⟨du_X38_lay_3, rfl⟩ : ∃ f, f = du_X38_lay_3)
def dm_X38_lay (s : jS) (x0 x1 x2 x3 x4 x5 : Int) : Option (jS × Int) :=
  u_X38_lay_3 s x0 x1 x2 x3 x4 x5 x2
noncomputable def m_X38_lay : jS → Int → Int → Int → Int → Int → Int → Option (jS × Int) := Classical.choose (⟨dm_X38_lay, rfl⟩ : ∃ f, f = dm_X38_lay)
theorem em_X38_lay : m_X38_lay = dm_X38_lay := Classical.choose_spec (⟨dm_X38_lay, rfl⟩ : ∃ f, f = dm_X38_lay)
def dm_X38_thirdOf (s : jS) (x0 : Int) : Option (Int) :=
  if x0 = 5 then
    some 1
  else
  if x0 = 6 then
    some 4
  else
  if x0 = 7 then
    some 5
  else
  if x0 = 8 then
    some 6
  else
  if x0 = 9 then
    some 7
  else
  if x0 = 10 then
    some 0
  else
  if x0 = 11 then
    some 1
  else
  if x0 = 12 then
    some 2
  else
  if x0 = 13 then
    some 4
  else
  if x0 = 14 then
    some 5
  else
  if x0 = 15 then
    some 0
  else
  if x0 = 16 then
    some 1
  else
  if x0 = 17 then
    some 2
  else
  if x0 = 18 then
    some 0
  else
  if x0 = 19 then
    some 2
  else
  if x0 = 20 then
    some 3
  else
  if x0 = 21 then
    some 4
  else
  if x0 = 22 then
    some 6
  else
  if x0 = 23 then
    some 7
  else
  if x0 = 24 then
    some 1
  else
  if x0 = 25 then
    some 5
  else
  if x0 = 26 then
    some 5
  else
  if x0 = 27 then
    some 0
  else
  if x0 = 28 then
    some 0
  else
  if x0 = 29 then
    some 1
  else
  if x0 = 30 then
    some 2
  else
  if x0 = 31 then
    some 3
  else
  if x0 = 32 then
    some 4
  else
  if x0 = 33 then
    some 5
  else
  if x0 = 34 then
    some 5
  else
  if x0 = 35 then
    some 6
  else
  if x0 = 36 then
    some 7
  else
  if x0 = 37 then
    some 0
  else
  if x0 = 38 then
    some 1
  else
  if x0 = 39 then
    some 2
  else
  if x0 = 40 then
    some 3
  else
  if x0 = 41 then
    some 4
  else
  if x0 = 42 then
    some 5
  else
  if x0 = 43 then
    some 6
  else
  if x0 = 44 then
    some 7
  else
  some 0
noncomputable def m_X38_thirdOf : jS → Int → Option (Int) := Classical.choose (⟨dm_X38_thirdOf, rfl⟩ : ∃ f, f = dm_X38_thirdOf)
theorem em_X38_thirdOf : m_X38_thirdOf = dm_X38_thirdOf := Classical.choose_spec (⟨dm_X38_thirdOf, rfl⟩ : ∃ f, f = dm_X38_thirdOf)
def dm_X38_isBranch (s : jS) (x0 : Int) : Option (Int) :=
  if 3 < x0 then
    if x0 < 10 then
      some (Wz 1)
    else
      some (Wz 0)
  else
    some (Wz 0)
noncomputable def m_X38_isBranch : jS → Int → Option (Int) := Classical.choose (⟨dm_X38_isBranch, rfl⟩ : ∃ f, f = dm_X38_isBranch)
theorem em_X38_isBranch : m_X38_isBranch = dm_X38_isBranch := Classical.choose_spec (⟨dm_X38_isBranch, rfl⟩ : ∃ f, f = dm_X38_isBranch)
def dm_X38_isStore (s : jS) (x0 : Int) : Option (Int) :=
  if 14 < x0 then
    if x0 < 18 then
      some (Wz 1)
    else
      some (Wz 0)
  else
    some (Wz 0)
noncomputable def m_X38_isStore : jS → Int → Option (Int) := Classical.choose (⟨dm_X38_isStore, rfl⟩ : ∃ f, f = dm_X38_isStore)
theorem em_X38_isStore : m_X38_isStore = dm_X38_isStore := Classical.choose_spec (⟨dm_X38_isStore, rfl⟩ : ∃ f, f = dm_X38_isStore)
def dm_X38_seventhOf (s : jS) (x0 : Int) : Option (Int) :=
  if x0 = 26 then
    some 32
  else
    if x0 = 28 then
      some 32
    else
      if x0 = 34 then
        some 32
      else
        if 36 < x0 then
          some 1
        else
          some 0
noncomputable def m_X38_seventhOf : jS → Int → Option (Int) := Classical.choose (⟨dm_X38_seventhOf, rfl⟩ : ∃ f, f = dm_X38_seventhOf)
theorem em_X38_seventhOf : m_X38_seventhOf = dm_X38_seventhOf := Classical.choose_spec (⟨dm_X38_seventhOf, rfl⟩ : ∃ f, f = dm_X38_seventhOf)
def dm_X38_isShift (s : jS) (x0 : Int) : Option (Int) :=
  if 23 < x0 then
    if x0 < 27 then
      some (Wz 1)
    else
      some (Wz 0)
  else
    some (Wz 0)
noncomputable def m_X38_isShift : jS → Int → Option (Int) := Classical.choose (⟨dm_X38_isShift, rfl⟩ : ∃ f, f = dm_X38_isShift)
theorem em_X38_isShift : m_X38_isShift = dm_X38_isShift := Classical.choose_spec (⟨dm_X38_isShift, rfl⟩ : ∃ f, f = dm_X38_isShift)
def dm_X38_ends (s : jS) (x0 x1 x2 x3 : Int) : Option (jS × Int) :=
  (m_X38_fix s x0 x1 13 3 x2).bind fun q1 =>
  (m_X38_fix q1.1 x0 x1 0 2 x3).bind fun q2 =>
  some (q2.1, 0)
noncomputable def m_X38_ends : jS → Int → Int → Int → Int → Option (jS × Int) := Classical.choose (⟨dm_X38_ends, rfl⟩ : ∃ f, f = dm_X38_ends)
theorem em_X38_ends : m_X38_ends = dm_X38_ends := Classical.choose_spec (⟨dm_X38_ends, rfl⟩ : ∃ f, f = dm_X38_ends)
def dm_X38_one (s : jS) (x0 x1 x2 x3 : Int) : Option (jS × Int) :=
  (jst s 1000 (x0 + 1) 2400 (W32 ((W32 (32 * x1)) + x2)) (W32 (400 + x3))).bind fun s1 =>
  some (s1, 0)
noncomputable def m_X38_one : jS → Int → Int → Int → Int → Option (jS × Int) := Classical.choose (⟨dm_X38_one, rfl⟩ : ∃ f, f = dm_X38_one)
theorem em_X38_one : m_X38_one = dm_X38_one := Classical.choose_spec (⟨dm_X38_one, rfl⟩ : ∃ f, f = dm_X38_one)
def dm_X38_layJump (s : jS) (x0 x1 x2 : Int) : Option (jS × Int) :=
  (m_X38_ends s x0 x1 x2 1).bind fun q1 =>
  (m_X38_one q1.1 x0 x1 12 11).bind fun q2 =>
  (m_X38_one q2.1 x0 x1 11 4).bind fun q3 =>
  (m_X38_lay q3.1 x0 x1 10 9 400 9).bind fun q4 =>
  (m_X38_one q4.1 x0 x1 8 10).bind fun q5 =>
  (m_X38_one q5.1 x0 x1 7 6).bind fun q6 =>
  (m_X38_one q6.1 x0 x1 6 7).bind fun q7 =>
  (m_X38_lay q7.1 x0 x1 5 3 400 3).bind fun q8 =>
  (m_X38_one q8.1 x0 x1 2 5).bind fun q9 =>
  some (q9.1, 0)
noncomputable def m_X38_layJump : jS → Int → Int → Int → Option (jS × Int) := Classical.choose (⟨dm_X38_layJump, rfl⟩ : ∃ f, f = dm_X38_layJump)
theorem em_X38_layJump : m_X38_layJump = dm_X38_layJump := Classical.choose_spec (⟨dm_X38_layJump, rfl⟩ : ∃ f, f = dm_X38_layJump)
def du_X38_codeOf_28 (s : jS) (x0 : Int) : Option (Int) :=
  if x0 < 48 then
    some 0
  else
    if 57 < x0 then
      some 0
    else
      some (W32 ((W32 (x0 - 48)) + 27))
noncomputable def u_X38_codeOf_28 : jS → Int → Option (Int) := Classical.choose (⟨du_X38_codeOf_28, rfl⟩ : ∃ f, f = du_X38_codeOf_28)
theorem eu_X38_codeOf_28 : u_X38_codeOf_28 = du_X38_codeOf_28 := Classical.choose_spec (⟨du_X38_codeOf_28, rfl⟩ : ∃ f, f = du_X38_codeOf_28)
def dm_X38_codeOf (s : jS) (x0 : Int) : Option (Int) :=
  if x0 = 46 then
    some 37
  else
    if x0 < 97 then
      u_X38_codeOf_28 s x0
    else
      if 122 < x0 then
        u_X38_codeOf_28 s x0
      else
        some (W32 ((W32 (x0 - 97)) + 1))
noncomputable def m_X38_codeOf : jS → Int → Option (Int) := Classical.choose (⟨dm_X38_codeOf, rfl⟩ : ∃ f, f = dm_X38_codeOf)
theorem em_X38_codeOf : m_X38_codeOf = dm_X38_codeOf := Classical.choose_spec (⟨dm_X38_codeOf, rfl⟩ : ∃ f, f = dm_X38_codeOf)
def dm_X38_nameOf (s : jS) (x0 : Int) : Option (Int) :=
  if x0 = 0 then
    some 20049
  else
  if x0 = 1 then
    some 3919043
  else
  if x0 = 2 then
    some 16052
  else
  if x0 = 3 then
    some 642098
  else
  if x0 = 4 then
    some 3417
  else
  if x0 = 5 then
    some 3765
  else
  if x0 = 6 then
    some 3700
  else
  if x0 = 7 then
    some 3485
  else
  if x0 = 8 then
    some 148021
  else
  if x0 = 9 then
    some 139421
  else
  if x0 = 10 then
    some 482
  else
  if x0 = 11 then
    some 488
  else
  if x0 = 12 then
    some 503
  else
  if x0 = 13 then
    some 19301
  else
  if x0 = 14 then
    some 19541
  else
  if x0 = 15 then
    some 762
  else
  if x0 = 16 then
    some 768
  else
  if x0 = 17 then
    some 783
  else
  if x0 = 18 then
    some 70569
  else
  if x0 = 19 then
    some 1236009
  else
  if x0 = 20 then
    some 49440381
  else
  if x0 = 21 then
    some 1560729
  else
  if x0 = 22 then
    some 24729
  else
  if x0 = 23 then
    some 86569
  else
  if x0 = 24 then
    some 1235689
  else
  if x0 = 25 then
    some 1245289
  else
  if x0 = 26 then
    some 1244849
  else
  if x0 = 27 then
    some 1764
  else
  if x0 = 28 then
    some 31242
  else
  if x0 = 29 then
    some 30892
  else
  if x0 = 30 then
    some 30900
  else
  if x0 = 31 then
    some 1236021
  else
  if x0 = 32 then
    some 39018
  else
  if x0 = 33 then
    some 31132
  else
  if x0 = 34 then
    some 31121
  else
  if x0 = 35 then
    some 618
  else
  if x0 = 36 then
    some 2164
  else
  if x0 = 37 then
    some 21652
  else
  if x0 = 38 then
    some 866088
  else
  if x0 = 39 then
    some 1385741581
  else
  if x0 = 40 then
    some 34643541
  else
  if x0 = 41 then
    some 6782
  else
  if x0 = 42 then
    some 271301
  else
  if x0 = 43 then
    some 29013
  else
  if x0 = 44 then
    some 1160541
  else
  if x0 = 45 then
    some 15702525
  else
  if x0 = 46 then
    some 12994092
  else
  if x0 = 47 then
    some 518280051
  else
  if x0 = 48 then
    some 1029095858655054
  else
  if x0 = 49 then
    some 251703
  else
  if x0 = 50 then
    some 251983
  else
  if x0 = 51 then
    some 10071016
  else
  if x0 = 52 then
    some 401990569
  else
  if x0 = 53 then
    some 10064052
  else
  if x0 = 54 then
    some 251689
  else
  if x0 = 55 then
    some 1029095858485576
  else
  if x0 = 56 then
    some 10068049
  else
  if x0 = 57 then
    some 403165289
  else
  if x0 = 58 then
    some 403164849
  else
  if x0 = 59 then
    some 402006569
  else
  if x0 = 60 then
    some 10079242
  else
  if x0 = 61 then
    some 10087018
  else
  if x0 = 62 then
    some 251818
  else
  if x0 = 63 then
    some 10050164
  else
  if x0 = 64 then
    some 6290
  else
  if x0 = 65 then
    some 402056706
  else
  if x0 = 66 then
    some 402070626
  else
  if x0 = 67 then
    some 403155689
  else
  if x0 = 68 then
    some 402725576
  else
  if x0 = 69 then
    some 251618
  else
  if x0 = 70 then
    some 251742
  else
  if x0 = 71 then
    some 643590280051
  else
  if x0 = 72 then
    some 402562098
  else
  if x0 = 73 then
    some 10049764
  else
  some 403173576
noncomputable def m_X38_nameOf : jS → Int → Option (Int) := Classical.choose (⟨dm_X38_nameOf, rfl⟩ : ∃ f, f = dm_X38_nameOf)
theorem em_X38_nameOf : m_X38_nameOf = dm_X38_nameOf := Classical.choose_spec (⟨dm_X38_nameOf, rfl⟩ : ∃ f, f = dm_X38_nameOf)
def dm_X38_isKind (s : jS) (x0 : Int) : Option (Int) :=
  if x0 < 0 then
    some (Wz 0)
  else
    if x0 < 75 then
      some (Wz 1)
    else
      some (Wz 0)
noncomputable def m_X38_isKind : jS → Int → Option (Int) := Classical.choose (⟨dm_X38_isKind, rfl⟩ : ∃ f, f = dm_X38_isKind)
theorem em_X38_isKind : m_X38_isKind = dm_X38_isKind := Classical.choose_spec (⟨dm_X38_isKind, rfl⟩ : ∃ f, f = dm_X38_isKind)
def dm_X38_bitsOf (s : jS) (x0 : Int) : Option (Int) :=
  if x0 < 48 then
    some 32
  else
    some 16
noncomputable def m_X38_bitsOf : jS → Int → Option (Int) := Classical.choose (⟨dm_X38_bitsOf, rfl⟩ : ∃ f, f = dm_X38_bitsOf)
theorem em_X38_bitsOf : m_X38_bitsOf = dm_X38_bitsOf := Classical.choose_spec (⟨dm_X38_bitsOf, rfl⟩ : ∃ f, f = dm_X38_bitsOf)
def b_X38_isShortPart_5 (s : jS) (x0 x1 x2 x3 : Int) : Option (List Int ⊕ (Int)) :=
  (m_X38_bitsOf s x1).bind fun v1 =>
  if x3 < (W32 ((W32 (32 * x1)) + v1)) then
    (jlt s 1000 (x0 + 1) 2400 x3).bind fun v2 =>
    (jdv 100 (I_div v2 100)).bind fun v3 =>
    if (W32 (v3 - 5)) = x2 then
      jinr (some (Wz 1))
    else
      some (.inl [x0, x1, x2, W32 (x3 + 1)])
  else
    jinr (some (Wz 0))
def du_X38_isShortPart_5 (s : jS) (x0 x1 x2 x3 : Int) : Option (Int) := jlpR (jc4 b_X38_isShortPart_5) [x0, x1, x2, x3] s
noncomputable def u_X38_isShortPart_5 : jS → Int → Int → Int → Int → Option (Int) := Classical.choose (⟨du_X38_isShortPart_5, rfl⟩ : ∃ f, f = du_X38_isShortPart_5)
theorem eu_X38_isShortPart_5 : u_X38_isShortPart_5 = du_X38_isShortPart_5 := Classical.choose_spec (⟨du_X38_isShortPart_5, rfl⟩ : ∃ f, f = du_X38_isShortPart_5)
def dm_X38_isShortPart (s : jS) (x0 x1 x2 : Int) : Option (Int) :=
  jlet (W32 (32 * x1)) fun v1 =>
  u_X38_isShortPart_5 s x0 x1 x2 v1
noncomputable def m_X38_isShortPart : jS → Int → Int → Int → Option (Int) := Classical.choose (⟨dm_X38_isShortPart, rfl⟩ : ∃ f, f = dm_X38_isShortPart)
theorem em_X38_isShortPart : m_X38_isShortPart = dm_X38_isShortPart := Classical.choose_spec (⟨dm_X38_isShortPart, rfl⟩ : ∃ f, f = dm_X38_isShortPart)
def dm_X38_isStep (s : jS) (x0 x2 x4 x6 : Int) : Option (Int) :=
  if (L_cmp x0 x2) < 0 then
    some (Wz 0)
  else
    if 0 < (L_cmp x0 x4) then
      some (Wz 0)
    else
      (jdv x6 (L_rem x0 x6)).bind fun v1 =>
      if (L_cmp v1 0) = 0 then
        some (Wz 1)
      else
        some (Wz 0)
noncomputable def m_X38_isStep : jS → Int → Int → Int → Int → Option (Int) := Classical.choose (⟨dm_X38_isStep, rfl⟩ : ∃ f, f = dm_X38_isStep)
theorem em_X38_isStep : m_X38_isStep = dm_X38_isStep := Classical.choose_spec (⟨dm_X38_isStep, rfl⟩ : ∃ f, f = dm_X38_isStep)
def du_X38_put_90 (s : jS) (x0 x1 x2 x3 y0 : Int) : Option (List Int ⊕ (Int)) :=
  jlet (I_or x2 (I_shl y0 x3)) fun v1 =>
  some (.inl [x0, x1, v1, W32 (x3 + 1)])
noncomputable def u_X38_put_90 : jS → Int → Int → Int → Int → Int → Option (List Int ⊕ (Int)) := Classical.choose (⟨du_X38_put_90, rfl⟩ : ∃ f, f = du_X38_put_90)
theorem eu_X38_put_90 : u_X38_put_90 = du_X38_put_90 := Classical.choose_spec (⟨du_X38_put_90, rfl⟩ : ∃ f, f = du_X38_put_90)
def b_X38_put_4 (s : jS) (x0 x1 x2 x3 : Int) : Option (List Int ⊕ (Int)) :=
  (m_X38_bitsOf s x1).bind fun v1 =>
  if x3 < v1 then
    (jlt s 1000 (x0 + 1) 2400 (W32 ((W32 (32 * x1)) + x3))).bind fun v2 =>
    if v2 < 2 then
      u_X38_put_90 s x0 x1 x2 x3 v2
    else
      if v2 < 500 then
        (jdv 100 (I_div v2 100)).bind fun v3 =>
        (jlt s 1000 (x0 + 2) 4 (W32 (v3 - 1))).bind fun v4 =>
        (jdv 100 (I_rem v2 100)).bind fun v5 =>
        u_X38_put_90 s x0 x1 x2 x3 (I_and (I_shr v4 v5) 1)
      else
        (jdv 100 (I_div v2 100)).bind fun v6 =>
        (jlt s 1000 (x0 + 2) 4 (W32 (v6 - 5))).bind fun v7 =>
        (jdv 100 (I_rem v2 100)).bind fun v8 =>
        jlet (I_and (I_shr (W32 (v7 - 8)) v8) 1) fun v9 =>
        u_X38_put_90 s x0 x1 x2 x3 v9
  else
    jinr (some x2)
def du_X38_put_4 (s : jS) (x0 x1 x2 x3 : Int) : Option (Int) := jlpR (jc4 b_X38_put_4) [x0, x1, x2, x3] s
noncomputable def u_X38_put_4 : jS → Int → Int → Int → Int → Option (Int) := Classical.choose (⟨du_X38_put_4, rfl⟩ : ∃ f, f = du_X38_put_4)
theorem eu_X38_put_4 : u_X38_put_4 = du_X38_put_4 := Classical.choose_spec (⟨du_X38_put_4, rfl⟩ : ∃ f, f = du_X38_put_4)
def dm_X38_put (s : jS) (x0 x1 : Int) : Option (Int) :=
  u_X38_put_4 s x0 x1 0 0
noncomputable def m_X38_put : jS → Int → Int → Option (Int) := Classical.choose (⟨dm_X38_put, rfl⟩ : ∃ f, f = dm_X38_put)
theorem em_X38_put : m_X38_put = dm_X38_put := Classical.choose_spec (⟨dm_X38_put, rfl⟩ : ∃ f, f = dm_X38_put)
def dm_X38_isLong (s : jS) (x0 : Int) : Option (Int) :=
  if (I_and x0 3) = 3 then
    some (Wz 1)
  else
    some (Wz 0)
noncomputable def m_X38_isLong : jS → Int → Option (Int) := Classical.choose (⟨dm_X38_isLong, rfl⟩ : ∃ f, f = dm_X38_isLong)
theorem em_X38_isLong : m_X38_isLong = dm_X38_isLong := Classical.choose_spec (⟨dm_X38_isLong, rfl⟩ : ∃ f, f = dm_X38_isLong)
def dm_X38_signOf (s : jS) (x0 : Int) : Option (Int) :=
  if x0 < 2 then
    some (-1)
  else
    (m_X38_isShift s x0).bind fun v1 =>
    if v1 = 0 then
      if x0 = 2 then
        some 20
      else
        if x0 < 48 then
          (m_X38_isBranch s x0).bind fun v2 =>
          if v2 = 0 then
            some 11
          else
            some 12
        else
          if x0 = 52 then
            some 5
          else
          if x0 = 53 then
            some 11
          else
          if x0 = 54 then
            some 5
          else
          if x0 = 55 then
            some 9
          else
          if x0 = 56 then
            some 5
          else
          if x0 = 57 then
            some (-1)
          else
          if x0 = 58 then
            some (-1)
          else
          if x0 = 59 then
            some 5
          else
          if x0 = 60 then
            some (-1)
          else
          if x0 = 61 then
            some (-1)
          else
          if x0 = 62 then
            some (-1)
          else
          if x0 = 63 then
            some (-1)
          else
          if x0 = 64 then
            some 11
          else
          if x0 = 65 then
            some 8
          else
          if x0 = 66 then
            some 8
          else
          some (-1)
    else
      some (-1)
noncomputable def m_X38_signOf : jS → Int → Option (Int) := Classical.choose (⟨dm_X38_signOf, rfl⟩ : ∃ f, f = dm_X38_signOf)
theorem em_X38_signOf : m_X38_signOf = dm_X38_signOf := Classical.choose_spec (⟨dm_X38_signOf, rfl⟩ : ∃ f, f = dm_X38_signOf)
def dm_X38_longKind (s : jS) (x0 : Int) : Option (Int) :=
  if x0 = 48 then
    some 18
  else
  if x0 = 49 then
    some 12
  else
  if x0 = 50 then
    some 17
  else
  if x0 = 51 then
    some 18
  else
  if x0 = 52 then
    some 18
  else
  if x0 = 53 then
    some 2
  else
  if x0 = 54 then
    some 18
  else
  if x0 = 55 then
    some 18
  else
  if x0 = 56 then
    some 0
  else
  if x0 = 57 then
    some 25
  else
  if x0 = 58 then
    some 26
  else
  if x0 = 59 then
    some 23
  else
  if x0 = 60 then
    some 28
  else
  if x0 = 61 then
    some 32
  else
  if x0 = 62 then
    some 35
  else
  if x0 = 63 then
    some 36
  else
  if x0 = 64 then
    some 2
  else
  if x0 = 65 then
    some 4
  else
  if x0 = 66 then
    some 5
  else
  if x0 = 67 then
    some 24
  else
  if x0 = 68 then
    some 12
  else
  if x0 = 69 then
    some 3
  else
  if x0 = 70 then
    some 27
  else
  if x0 = 71 then
    some 47
  else
  if x0 = 72 then
    some 3
  else
  if x0 = 73 then
    some 27
  else
  if x0 = 74 then
    some 17
  else
  some 27
noncomputable def m_X38_longKind : jS → Int → Option (Int) := Classical.choose (⟨dm_X38_longKind, rfl⟩ : ∃ f, f = dm_X38_longKind)
theorem em_X38_longKind : m_X38_longKind = dm_X38_longKind := Classical.choose_spec (⟨dm_X38_longKind, rfl⟩ : ∃ f, f = dm_X38_longKind)
def du_X38_stretch_241 (s : jS) (x0 x1 : Int) : Option (jS × Int) :=
  (m_X38_longKind s x1).bind fun v1 =>
  (m_X38_put s x0 v1).bind fun v2 =>
  some (s, v2)
noncomputable def u_X38_stretch_241 : jS → Int → Int → Option (jS × Int) := Classical.choose (⟨du_X38_stretch_241, rfl⟩ : ∃ f, f = du_X38_stretch_241)
theorem eu_X38_stretch_241 : u_X38_stretch_241 = du_X38_stretch_241 := Classical.choose_spec (⟨du_X38_stretch_241, rfl⟩ : ∃ f, f = du_X38_stretch_241)
def du_X38_stretch_234 (s : jS) (x0 x1 : Int) : Option (jS × Int) :=
  (jst s 1000 (x0 + 2) 4 3 0).bind fun s1 =>
  u_X38_stretch_241 s1 x0 x1
noncomputable def u_X38_stretch_234 : jS → Int → Int → Option (jS × Int) := Classical.choose (⟨du_X38_stretch_234, rfl⟩ : ∃ f, f = du_X38_stretch_234)
theorem eu_X38_stretch_234 : u_X38_stretch_234 = du_X38_stretch_234 := Classical.choose_spec (⟨du_X38_stretch_234, rfl⟩ : ∃ f, f = du_X38_stretch_234)
def du_X38_stretch_216 (s : jS) (x0 x1 : Int) : Option (jS × Int) :=
  if x1 = 51 then
    u_X38_stretch_234 s x0 x1
  else
    if x1 = 69 then
      u_X38_stretch_234 s x0 x1
    else
      if x1 = 72 then
        u_X38_stretch_234 s x0 x1
      else
        u_X38_stretch_241 s x0 x1
noncomputable def u_X38_stretch_216 : jS → Int → Int → Option (jS × Int) := Classical.choose (⟨du_X38_stretch_216, rfl⟩ : ∃ f, f = du_X38_stretch_216)
theorem eu_X38_stretch_216 : u_X38_stretch_216 = du_X38_stretch_216 := Classical.choose_spec (⟨du_X38_stretch_216, rfl⟩ : ∃ f, f = du_X38_stretch_216)
def du_X38_stretch_209 (s : jS) (x0 x1 : Int) : Option (jS × Int) :=
  (jst s 1000 (x0 + 2) 4 2 0).bind fun s1 =>
  u_X38_stretch_216 s1 x0 x1
noncomputable def u_X38_stretch_209 : jS → Int → Int → Option (jS × Int) := Classical.choose (⟨du_X38_stretch_209, rfl⟩ : ∃ f, f = du_X38_stretch_209)
theorem eu_X38_stretch_209 : u_X38_stretch_209 = du_X38_stretch_209 := Classical.choose_spec (⟨du_X38_stretch_209, rfl⟩ : ∃ f, f = du_X38_stretch_209)
def du_X38_stretch_197 (s : jS) (x0 x1 : Int) : Option (jS × Int) :=
  if x1 = 65 then
    u_X38_stretch_209 s x0 x1
  else
    if x1 = 66 then
      u_X38_stretch_209 s x0 x1
    else
      u_X38_stretch_216 s x0 x1
noncomputable def u_X38_stretch_197 : jS → Int → Int → Option (jS × Int) := Classical.choose (⟨du_X38_stretch_197, rfl⟩ : ∃ f, f = du_X38_stretch_197)
theorem eu_X38_stretch_197 : u_X38_stretch_197 = du_X38_stretch_197 := Classical.choose_spec (⟨du_X38_stretch_197, rfl⟩ : ∃ f, f = du_X38_stretch_197)
def du_X38_stretch_184 (s : jS) (x0 x1 : Int) : Option (jS × Int) :=
  if x1 = 55 then
    (jst s 1000 (x0 + 2) 4 0 2).bind fun s1 =>
    u_X38_stretch_197 s1 x0 x1
  else
    u_X38_stretch_197 s x0 x1
noncomputable def u_X38_stretch_184 : jS → Int → Int → Option (jS × Int) := Classical.choose (⟨du_X38_stretch_184, rfl⟩ : ∃ f, f = du_X38_stretch_184)
theorem eu_X38_stretch_184 : u_X38_stretch_184 = du_X38_stretch_184 := Classical.choose_spec (⟨du_X38_stretch_184, rfl⟩ : ∃ f, f = du_X38_stretch_184)
def du_X38_stretch_177 (s : jS) (x0 x1 : Int) : Option (jS × Int) :=
  (jst s 1000 (x0 + 2) 4 0 1).bind fun s1 =>
  u_X38_stretch_184 s1 x0 x1
noncomputable def u_X38_stretch_177 : jS → Int → Int → Option (jS × Int) := Classical.choose (⟨du_X38_stretch_177, rfl⟩ : ∃ f, f = du_X38_stretch_177)
theorem eu_X38_stretch_177 : u_X38_stretch_177 = du_X38_stretch_177 := Classical.choose_spec (⟨du_X38_stretch_177, rfl⟩ : ∃ f, f = du_X38_stretch_177)
def du_X38_stretch_165 (s : jS) (x0 x1 : Int) : Option (jS × Int) :=
  if x1 = 53 then
    u_X38_stretch_177 s x0 x1
  else
    if x1 = 72 then
      u_X38_stretch_177 s x0 x1
    else
      u_X38_stretch_184 s x0 x1
noncomputable def u_X38_stretch_165 : jS → Int → Int → Option (jS × Int) := Classical.choose (⟨du_X38_stretch_165, rfl⟩ : ∃ f, f = du_X38_stretch_165)
theorem eu_X38_stretch_165 : u_X38_stretch_165 = du_X38_stretch_165 := Classical.choose_spec (⟨du_X38_stretch_165, rfl⟩ : ∃ f, f = du_X38_stretch_165)
def du_X38_stretch_158 (s : jS) (x0 x1 : Int) : Option (jS × Int) :=
  (jst s 1000 (x0 + 2) 4 0 0).bind fun s1 =>
  u_X38_stretch_165 s1 x0 x1
noncomputable def u_X38_stretch_158 : jS → Int → Int → Option (jS × Int) := Classical.choose (⟨du_X38_stretch_158, rfl⟩ : ∃ f, f = du_X38_stretch_158)
theorem eu_X38_stretch_158 : u_X38_stretch_158 = du_X38_stretch_158 := Classical.choose_spec (⟨du_X38_stretch_158, rfl⟩ : ∃ f, f = du_X38_stretch_158)
def du_X38_stretch_140 (s : jS) (x0 x1 : Int) : Option (jS × Int) :=
  if x1 = 51 then
    u_X38_stretch_158 s x0 x1
  else
    if x1 = 64 then
      u_X38_stretch_158 s x0 x1
    else
      if x1 = 69 then
        u_X38_stretch_158 s x0 x1
      else
        u_X38_stretch_165 s x0 x1
noncomputable def u_X38_stretch_140 : jS → Int → Int → Option (jS × Int) := Classical.choose (⟨du_X38_stretch_140, rfl⟩ : ∃ f, f = du_X38_stretch_140)
theorem eu_X38_stretch_140 : u_X38_stretch_140 = du_X38_stretch_140 := Classical.choose_spec (⟨du_X38_stretch_140, rfl⟩ : ∃ f, f = du_X38_stretch_140)
def du_X38_stretch_133 (s : jS) (x0 x1 : Int) : Option (jS × Int) :=
  (jst s 1000 (x0 + 2) 4 1 0).bind fun s1 =>
  u_X38_stretch_140 s1 x0 x1
noncomputable def u_X38_stretch_133 : jS → Int → Int → Option (jS × Int) := Classical.choose (⟨du_X38_stretch_133, rfl⟩ : ∃ f, f = du_X38_stretch_133)
theorem eu_X38_stretch_133 : u_X38_stretch_133 = du_X38_stretch_133 := Classical.choose_spec (⟨du_X38_stretch_133, rfl⟩ : ∃ f, f = du_X38_stretch_133)
def du_X38_stretch_115 (s : jS) (x0 x1 : Int) : Option (jS × Int) :=
  if x1 = 51 then
    u_X38_stretch_133 s x0 x1
  else
    if x1 = 54 then
      u_X38_stretch_133 s x0 x1
    else
      if x1 = 70 then
        u_X38_stretch_133 s x0 x1
      else
        u_X38_stretch_140 s x0 x1
noncomputable def u_X38_stretch_115 : jS → Int → Int → Option (jS × Int) := Classical.choose (⟨du_X38_stretch_115, rfl⟩ : ∃ f, f = du_X38_stretch_115)
theorem eu_X38_stretch_115 : u_X38_stretch_115 = du_X38_stretch_115 := Classical.choose_spec (⟨du_X38_stretch_115, rfl⟩ : ∃ f, f = du_X38_stretch_115)
def du_X38_stretch_103 (s : jS) (x0 x1 x4 : Int) : Option (jS × Int) :=
  if x4 = 0 then
    u_X38_stretch_115 s x0 x1
  else
    (jst s 1000 (x0 + 2) 4 1 2).bind fun s1 =>
    u_X38_stretch_115 s1 x0 x1
noncomputable def u_X38_stretch_103 : jS → Int → Int → Int → Option (jS × Int) := Classical.choose (⟨du_X38_stretch_103, rfl⟩ : ∃ f, f = du_X38_stretch_103)
theorem eu_X38_stretch_103 : u_X38_stretch_103 = du_X38_stretch_103 := Classical.choose_spec (⟨du_X38_stretch_103, rfl⟩ : ∃ f, f = du_X38_stretch_103)
def du_X38_stretch_90 (s : jS) (x0 x1 x2 x3 y0 : Int) : Option (jS × Int) :=
  if x3 = 0 then
    u_X38_stretch_103 s x0 x1 y0
  else
    (jst s 1000 (x0 + 2) 4 1 x2).bind fun s1 =>
    u_X38_stretch_103 s1 x0 x1 y0
noncomputable def u_X38_stretch_90 : jS → Int → Int → Int → Int → Int → Option (jS × Int) := Classical.choose (⟨du_X38_stretch_90, rfl⟩ : ∃ f, f = du_X38_stretch_90)
theorem eu_X38_stretch_90 : u_X38_stretch_90 = du_X38_stretch_90 := Classical.choose_spec (⟨du_X38_stretch_90, rfl⟩ : ∃ f, f = du_X38_stretch_90)
def du_X38_stretch_85 (s : jS) (x0 x1 x2 x3 : Int) : Option (jS × Int) :=
  u_X38_stretch_90 s x0 x1 x2 x3 1
noncomputable def u_X38_stretch_85 : jS → Int → Int → Int → Int → Option (jS × Int) := Classical.choose (⟨du_X38_stretch_85, rfl⟩ : ∃ f, f = du_X38_stretch_85)
theorem eu_X38_stretch_85 : u_X38_stretch_85 = du_X38_stretch_85 := Classical.choose_spec (⟨du_X38_stretch_85, rfl⟩ : ∃ f, f = du_X38_stretch_85)
def du_X38_stretch_60 (s : jS) (x0 x1 x2 y0 : Int) : Option (jS × Int) :=
  if x1 = 48 then
    u_X38_stretch_85 s x0 x1 x2 y0
  else
    if x1 = 55 then
      u_X38_stretch_85 s x0 x1 x2 y0
    else
      if x1 = 68 then
        u_X38_stretch_85 s x0 x1 x2 y0
      else
        if x1 = 74 then
          u_X38_stretch_85 s x0 x1 x2 y0
        else
          u_X38_stretch_90 s x0 x1 x2 y0 0
noncomputable def u_X38_stretch_60 : jS → Int → Int → Int → Int → Option (jS × Int) := Classical.choose (⟨du_X38_stretch_60, rfl⟩ : ∃ f, f = du_X38_stretch_60)
theorem eu_X38_stretch_60 : u_X38_stretch_60 = du_X38_stretch_60 := Classical.choose_spec (⟨du_X38_stretch_60, rfl⟩ : ∃ f, f = du_X38_stretch_60)
def du_X38_stretch_55 (s : jS) (x0 x1 x2 : Int) : Option (jS × Int) :=
  u_X38_stretch_60 s x0 x1 x2 1
noncomputable def u_X38_stretch_55 : jS → Int → Int → Int → Option (jS × Int) := Classical.choose (⟨du_X38_stretch_55, rfl⟩ : ∃ f, f = du_X38_stretch_55)
theorem eu_X38_stretch_55 : u_X38_stretch_55 = du_X38_stretch_55 := Classical.choose_spec (⟨du_X38_stretch_55, rfl⟩ : ∃ f, f = du_X38_stretch_55)
def du_X38_stretch_43 (s : jS) (x0 x1 x2 : Int) : Option (jS × Int) :=
  if x1 = 67 then
    u_X38_stretch_55 s x0 x1 x2
  else
    if x1 = 73 then
      u_X38_stretch_55 s x0 x1 x2
    else
      u_X38_stretch_60 s x0 x1 x2 0
noncomputable def u_X38_stretch_43 : jS → Int → Int → Int → Option (jS × Int) := Classical.choose (⟨du_X38_stretch_43, rfl⟩ : ∃ f, f = du_X38_stretch_43)
theorem eu_X38_stretch_43 : u_X38_stretch_43 = du_X38_stretch_43 := Classical.choose_spec (⟨du_X38_stretch_43, rfl⟩ : ∃ f, f = du_X38_stretch_43)
def dm_X38_stretch (s : jS) (x0 x1 : Int) : Option (jS × Int) :=
  (jlt s 1000 (x0 + 2) 4 0).bind fun v1 =>
  if x1 = 52 then
    u_X38_stretch_55 s x0 x1 v1
  else
    if x1 = 57 then
      u_X38_stretch_55 s x0 x1 v1
    else
      if x1 = 58 then
        u_X38_stretch_55 s x0 x1 v1
      else
        if x1 = 59 then
          u_X38_stretch_55 s x0 x1 v1
        else
          if 59 < x1 then
            if x1 < 64 then
              u_X38_stretch_55 s x0 x1 v1
            else
              u_X38_stretch_43 s x0 x1 v1
          else
            u_X38_stretch_43 s x0 x1 v1
noncomputable def m_X38_stretch : jS → Int → Int → Option (jS × Int) := Classical.choose (⟨dm_X38_stretch, rfl⟩ : ∃ f, f = dm_X38_stretch)
theorem em_X38_stretch : m_X38_stretch = dm_X38_stretch := Classical.choose_spec (⟨dm_X38_stretch, rfl⟩ : ∃ f, f = dm_X38_stretch)
def du_X38_patternOf_39 (s : jS) (x0 : Int) : Option (Int) :=
  if x0 = 49 then
    some 3
  else
    (m_X38_isBranch s x0).bind fun v1 =>
    if v1 = 0 then
      (m_X38_isStore s x0).bind fun v2 =>
      if v2 = 0 then
        if x0 = 50 then
          some 4
        else
          if x0 < 27 then
            some 2
          else
            if x0 < 45 then
              some 1
            else
              if x0 < 48 then
                some 0
              else
                if x0 = 51 then
                  some 0
                else
                  if x0 = 71 then
                    some 0
                  else
                    if x0 = 48 then
                      some 15
                    else
                    if x0 = 49 then
                      some 12
                    else
                    if x0 = 50 then
                      some 12
                    else
                    if x0 = 51 then
                      some 12
                    else
                    if x0 = 52 then
                      some 12
                    else
                    if x0 = 53 then
                      some 8
                    else
                    if x0 = 54 then
                      some 12
                    else
                    if x0 = 55 then
                      some 16
                    else
                    if x0 = 56 then
                      some 12
                    else
                    if x0 = 57 then
                      some 12
                    else
                    if x0 = 58 then
                      some 12
                    else
                    if x0 = 59 then
                      some 12
                    else
                    if x0 = 60 then
                      some 10
                    else
                    if x0 = 61 then
                      some 10
                    else
                    if x0 = 62 then
                      some 10
                    else
                    if x0 = 63 then
                      some 10
                    else
                    if x0 = 64 then
                      some 8
                    else
                    if x0 = 65 then
                      some 9
                    else
                    if x0 = 66 then
                      some 9
                    else
                    if x0 = 67 then
                      some 12
                    else
                    if x0 = 68 then
                      some 13
                    else
                    if x0 = 69 then
                      some 11
                    else
                    if x0 = 70 then
                      some 10
                    else
                    if x0 = 71 then
                      some 12
                    else
                    if x0 = 72 then
                      some 11
                    else
                    if x0 = 73 then
                      some 10
                    else
                    if x0 = 74 then
                      some 14
                    else
                    some 12
      else
        some 4
    else
      some 5
noncomputable def u_X38_patternOf_39 : jS → Int → Option (Int) := Classical.choose (⟨du_X38_patternOf_39, rfl⟩ : ∃ f, f = du_X38_patternOf_39)
theorem eu_X38_patternOf_39 : u_X38_patternOf_39 = du_X38_patternOf_39 := Classical.choose_spec (⟨du_X38_patternOf_39, rfl⟩ : ∃ f, f = du_X38_patternOf_39)
def dm_X38_patternOf (s : jS) (x0 : Int) : Option (Int) :=
  if x0 < 2 then
    some 6
  else
    if x0 = 56 then
      some 6
    else
      if x0 = 2 then
        some 7
      else
        if x0 = 3 then
          some 3
        else
          if 9 < x0 then
            if x0 < 15 then
              some 3
            else
              u_X38_patternOf_39 s x0
          else
            u_X38_patternOf_39 s x0
noncomputable def m_X38_patternOf : jS → Int → Option (Int) := Classical.choose (⟨dm_X38_patternOf, rfl⟩ : ∃ f, f = dm_X38_patternOf)
theorem em_X38_patternOf : m_X38_patternOf = dm_X38_patternOf := Classical.choose_spec (⟨dm_X38_patternOf, rfl⟩ : ∃ f, f = dm_X38_patternOf)
def b_X38_lettersOf_4 (s : jS) (x2 x3 : Int) : Option (List Int ⊕ (Int)) :=
  if 0 < (L_cmp x3 0) then
    (jdv 40 (L_div x3 40)).bind fun v1 =>
    some (.inl [W32 (x2 + 1), v1])
  else
    jinr (some x2)
def du_X38_lettersOf_4 (s : jS) (x2 x3 : Int) : Option (Int) := jlpR (jc2 b_X38_lettersOf_4) [x2, x3] s
noncomputable def u_X38_lettersOf_4 : jS → Int → Int → Option (Int) := Classical.choose (⟨du_X38_lettersOf_4, rfl⟩ : ∃ f, f = du_X38_lettersOf_4)
theorem eu_X38_lettersOf_4 : u_X38_lettersOf_4 = du_X38_lettersOf_4 := Classical.choose_spec (⟨du_X38_lettersOf_4, rfl⟩ : ∃ f, f = du_X38_lettersOf_4)
def dm_X38_lettersOf (s : jS) (x0 : Int) : Option (Int) :=
  u_X38_lettersOf_4 s 0 x0
noncomputable def m_X38_lettersOf : jS → Int → Option (Int) := Classical.choose (⟨dm_X38_lettersOf, rfl⟩ : ∃ f, f = dm_X38_lettersOf)
theorem em_X38_lettersOf : m_X38_lettersOf = dm_X38_lettersOf := Classical.choose_spec (⟨dm_X38_lettersOf, rfl⟩ : ∃ f, f = dm_X38_lettersOf)
def dm_X38_thrown (s : jS) (x0 : Int) : Option (Int) :=
  some (jf s 42 x0 0)
noncomputable def m_X38_thrown : jS → Int → Option (Int) := Classical.choose (⟨dm_X38_thrown, rfl⟩ : ∃ f, f = dm_X38_thrown)
theorem em_X38_thrown : m_X38_thrown = dm_X38_thrown := Classical.choose_spec (⟨dm_X38_thrown, rfl⟩ : ∃ f, f = dm_X38_thrown)
def dm_X38_say (s : jS) (x0 x1 : Int) : Option (jS × Int) :=
  (jst s 1000 (x0 + 3) 80 (jf s 42 x0 4) x1).bind fun s1 =>
  jls (jp s1 42 x0 4 (W32 ((jf s1 42 x0 4) + 1))) fun s2 =>
  some (s2, 0)
noncomputable def m_X38_say : jS → Int → Int → Option (jS × Int) := Classical.choose (⟨dm_X38_say, rfl⟩ : ∃ f, f = dm_X38_say)
theorem em_X38_say : m_X38_say = dm_X38_say := Classical.choose_spec (⟨dm_X38_say, rfl⟩ : ∃ f, f = dm_X38_say)
def du_X38_ahead_13 (s : jS) (x0 : Int) : Option (jS × Int) :=
  (m_X38_say s x0 32).bind fun q1 =>
  (jzb 1).bind fun v2 =>
  jls (jp q1.1 42 x0 5 v2) fun s3 =>
  some (s3, 0)
noncomputable def u_X38_ahead_13 : jS → Int → Option (jS × Int) := Classical.choose (⟨du_X38_ahead_13, rfl⟩ : ∃ f, f = du_X38_ahead_13)
theorem eu_X38_ahead_13 : u_X38_ahead_13 = du_X38_ahead_13 := Classical.choose_spec (⟨du_X38_ahead_13, rfl⟩ : ∃ f, f = du_X38_ahead_13)
def dm_X38_ahead (s : jS) (x0 : Int) : Option (jS × Int) :=
  if (jf s 42 x0 5) = 0 then
    u_X38_ahead_13 s x0
  else
    (m_X38_say s x0 44).bind fun q1 =>
    u_X38_ahead_13 q1.1 x0
noncomputable def m_X38_ahead : jS → Int → Option (jS × Int) := Classical.choose (⟨dm_X38_ahead, rfl⟩ : ∃ f, f = dm_X38_ahead)
theorem em_X38_ahead : m_X38_ahead = dm_X38_ahead := Classical.choose_spec (⟨dm_X38_ahead, rfl⟩ : ∃ f, f = dm_X38_ahead)
def dm_X38_registerOf (s : jS) (x0 : Int) : Option (Int) :=
  if x0 = 0 then
    some 1672735
  else
  if x0 = 1 then
    some 721
  else
  if x0 = 2 then
    some 776
  else
  if x0 = 3 then
    some 296
  else
  if x0 = 4 then
    some 816
  else
  if x0 = 5 then
    some 827
  else
  if x0 = 6 then
    some 828
  else
  if x0 = 7 then
    some 829
  else
  if x0 = 8 then
    some 787
  else
  if x0 = 9 then
    some 788
  else
  if x0 = 10 then
    some 67
  else
  if x0 = 11 then
    some 68
  else
  if x0 = 12 then
    some 69
  else
  if x0 = 13 then
    some 70
  else
  if x0 = 14 then
    some 71
  else
  if x0 = 15 then
    some 72
  else
  if x0 = 16 then
    some 73
  else
  if x0 = 17 then
    some 74
  else
  if x0 = 18 then
    some 789
  else
  if x0 = 19 then
    some 790
  else
  if x0 = 20 then
    some 791
  else
  if x0 = 21 then
    some 792
  else
  if x0 = 22 then
    some 793
  else
  if x0 = 23 then
    some 794
  else
  if x0 = 24 then
    some 795
  else
  if x0 = 25 then
    some 796
  else
  if x0 = 26 then
    some 31547
  else
  if x0 = 27 then
    some 31548
  else
  if x0 = 28 then
    some 830
  else
  if x0 = 29 then
    some 831
  else
  if x0 = 30 then
    some 832
  else
  some 833
noncomputable def m_X38_registerOf : jS → Int → Option (Int) := Classical.choose (⟨dm_X38_registerOf, rfl⟩ : ∃ f, f = dm_X38_registerOf)
theorem em_X38_registerOf : m_X38_registerOf = dm_X38_registerOf := Classical.choose_spec (⟨dm_X38_registerOf, rfl⟩ : ∃ f, f = dm_X38_registerOf)
def b_X38_sayDecimal_48 (s : jS) (x0 x2 x4 : Int) : Option ((jS × List Int) ⊕ (jS × Int)) :=
  if 0 < (L_cmp x4 0) then
    (jdv x4 (L_div x2 x4)).bind fun v1 =>
    (jdv 10 (L_rem v1 10)).bind fun v2 =>
    (m_X38_say s x0 (W32 (48 + (L2i v2)))).bind fun q3 =>
    (jdv 10 (L_div x4 10)).bind fun v4 =>
    some (.inl (q3.1, [x0, x2, v4]))
  else
    jinr (some (s, 0))
def du_X38_sayDecimal_48 (s : jS) (x0 x2 x4 : Int) : Option (jS × Int) := jlpW (jc3 b_X38_sayDecimal_48) [x0, x2, x4] s
noncomputable def u_X38_sayDecimal_48 : jS → Int → Int → Int → Option (jS × Int) := Classical.choose (⟨du_X38_sayDecimal_48, rfl⟩ : ∃ f, f = du_X38_sayDecimal_48)
theorem eu_X38_sayDecimal_48 : u_X38_sayDecimal_48 = du_X38_sayDecimal_48 := Classical.choose_spec (⟨du_X38_sayDecimal_48, rfl⟩ : ∃ f, f = du_X38_sayDecimal_48)
def b_X38_sayDecimal_26 (s : jS) (x0 x2 x4 : Int) : Option ((jS × List Int) ⊕ (jS × Int)) :=
  (jdv x4 (L_div x2 x4)).bind fun v1 =>
  if 0 < (L_cmp v1 9) then
    jlet (W64 (10 * x4)) fun v2 =>
    some (.inl (s, [x0, x2, v2]))
  else
    jinr (u_X38_sayDecimal_48 s x0 x2 x4)
def du_X38_sayDecimal_26 (s : jS) (x0 x2 x4 : Int) : Option (jS × Int) := jlpW (jc3 b_X38_sayDecimal_26) [x0, x2, x4] s
noncomputable def u_X38_sayDecimal_26 : jS → Int → Int → Int → Option (jS × Int) := Classical.choose (⟨du_X38_sayDecimal_26, rfl⟩ : ∃ f, f = du_X38_sayDecimal_26)
theorem eu_X38_sayDecimal_26 : u_X38_sayDecimal_26 = du_X38_sayDecimal_26 := Classical.choose_spec (⟨du_X38_sayDecimal_26, rfl⟩ : ∃ f, f = du_X38_sayDecimal_26)
def du_X38_sayDecimal_22 (s : jS) (x0 y0 : Int) : Option (jS × Int) :=
  u_X38_sayDecimal_26 s x0 y0 1
noncomputable def u_X38_sayDecimal_22 : jS → Int → Int → Option (jS × Int) := Classical.choose (⟨du_X38_sayDecimal_22, rfl⟩ : ∃ f, f = du_X38_sayDecimal_22)
theorem eu_X38_sayDecimal_22 : u_X38_sayDecimal_22 = du_X38_sayDecimal_22 := Classical.choose_spec (⟨du_X38_sayDecimal_22, rfl⟩ : ∃ f, f = du_X38_sayDecimal_22)
def du_X38_sayDecimal_10 (s : jS) (x0 x1 : Int) : Option (jS × Int) :=
  if x1 < 0 then
    u_X38_sayDecimal_22 s x0 (W64 (-x1))
  else
    u_X38_sayDecimal_22 s x0 x1
noncomputable def u_X38_sayDecimal_10 : jS → Int → Int → Option (jS × Int) := Classical.choose (⟨du_X38_sayDecimal_10, rfl⟩ : ∃ f, f = du_X38_sayDecimal_10)
theorem eu_X38_sayDecimal_10 : u_X38_sayDecimal_10 = du_X38_sayDecimal_10 := Classical.choose_spec (⟨du_X38_sayDecimal_10, rfl⟩ : ∃ f, f = du_X38_sayDecimal_10)
def dm_X38_sayDecimal (s : jS) (x0 x1 : Int) : Option (jS × Int) :=
  if x1 < 0 then
    (m_X38_say s x0 45).bind fun q1 =>
    u_X38_sayDecimal_10 q1.1 x0 x1
  else
    u_X38_sayDecimal_10 s x0 x1
noncomputable def m_X38_sayDecimal : jS → Int → Int → Option (jS × Int) := Classical.choose (⟨dm_X38_sayDecimal, rfl⟩ : ∃ f, f = dm_X38_sayDecimal)
theorem em_X38_sayDecimal : m_X38_sayDecimal = dm_X38_sayDecimal := Classical.choose_spec (⟨dm_X38_sayDecimal, rfl⟩ : ∃ f, f = dm_X38_sayDecimal)
def dm_X38_number (s : jS) (x0 : Int) : Option (jS × Int) :=
  (m_X38_ahead s x0).bind fun q1 =>
  (jlt q1.1 1000 (x0 + 2) 4 3).bind fun v2 =>
  (m_X38_sayDecimal q1.1 x0 v2).bind fun q3 =>
  some (q3.1, 0)
noncomputable def m_X38_number : jS → Int → Option (jS × Int) := Classical.choose (⟨dm_X38_number, rfl⟩ : ∃ f, f = dm_X38_number)
theorem em_X38_number : m_X38_number = dm_X38_number := Classical.choose_spec (⟨dm_X38_number, rfl⟩ : ∃ f, f = dm_X38_number)
def du_X38_sayHexadecimal_79 (s : jS) (x0 x1 x2 x3 : Int) : Option ((jS × List Int) ⊕ (jS × Int)) :=
  some (.inl (s, [x0, x1, x2, W32 (x3 + (-4))]))
noncomputable def u_X38_sayHexadecimal_79 : jS → Int → Int → Int → Int → Option ((jS × List Int) ⊕ (jS × Int)) := Classical.choose (⟨du_X38_sayHexadecimal_79, rfl⟩ : ∃ f, f = du_X38_sayHexadecimal_79)
theorem eu_X38_sayHexadecimal_79 : u_X38_sayHexadecimal_79 = du_X38_sayHexadecimal_79 := Classical.choose_spec (⟨du_X38_sayHexadecimal_79, rfl⟩ : ∃ f, f = du_X38_sayHexadecimal_79)
def du_X38_sayHexadecimal_76 (s : jS) (x0 x1 x2 x3 y0 y1 : Int) : Option ((jS × List Int) ⊕ (jS × Int)) :=
  (m_X38_say s y1 y0).bind fun q1 =>
  u_X38_sayHexadecimal_79 q1.1 x0 x1 x2 x3
noncomputable def u_X38_sayHexadecimal_76 : jS → Int → Int → Int → Int → Int → Int → Option ((jS × List Int) ⊕ (jS × Int)) := Classical.choose (⟨du_X38_sayHexadecimal_76, rfl⟩ : ∃ f, f = du_X38_sayHexadecimal_76)
theorem eu_X38_sayHexadecimal_76 : u_X38_sayHexadecimal_76 = du_X38_sayHexadecimal_76 := Classical.choose_spec (⟨du_X38_sayHexadecimal_76, rfl⟩ : ∃ f, f = du_X38_sayHexadecimal_76)
def du_X38_sayHexadecimal_47 (s : jS) (x0 x1 x3 x4 y0 : Int) : Option ((jS × List Int) ⊕ (jS × Int)) :=
  if y0 = 0 then
    u_X38_sayHexadecimal_79 s x0 x1 y0 x3
  else
    if x4 < 10 then
      u_X38_sayHexadecimal_76 s x0 x1 y0 x3 (W32 (48 + x4)) x0
    else
      u_X38_sayHexadecimal_76 s x0 x1 y0 x3 (W32 ((W32 (97 + x4)) - 10)) x0
noncomputable def u_X38_sayHexadecimal_47 : jS → Int → Int → Int → Int → Int → Option ((jS × List Int) ⊕ (jS × Int)) := Classical.choose (⟨du_X38_sayHexadecimal_47, rfl⟩ : ∃ f, f = du_X38_sayHexadecimal_47)
theorem eu_X38_sayHexadecimal_47 : u_X38_sayHexadecimal_47 = du_X38_sayHexadecimal_47 := Classical.choose_spec (⟨du_X38_sayHexadecimal_47, rfl⟩ : ∃ f, f = du_X38_sayHexadecimal_47)
def du_X38_sayHexadecimal_42 (s : jS) (x0 x1 x3 x4 : Int) : Option ((jS × List Int) ⊕ (jS × Int)) :=
  u_X38_sayHexadecimal_47 s x0 x1 x3 x4 1
noncomputable def u_X38_sayHexadecimal_42 : jS → Int → Int → Int → Int → Option ((jS × List Int) ⊕ (jS × Int)) := Classical.choose (⟨du_X38_sayHexadecimal_42, rfl⟩ : ∃ f, f = du_X38_sayHexadecimal_42)
theorem eu_X38_sayHexadecimal_42 : u_X38_sayHexadecimal_42 = du_X38_sayHexadecimal_42 := Classical.choose_spec (⟨du_X38_sayHexadecimal_42, rfl⟩ : ∃ f, f = du_X38_sayHexadecimal_42)
def b_X38_sayHexadecimal_17 (s : jS) (x0 x1 x2 x3 : Int) : Option ((jS × List Int) ⊕ (jS × Int)) :=
  if x3 < 0 then
    jinr (some (s, 0))
  else
    jlet (I_and (I_ushr x1 x3) 15) fun v1 =>
    if x2 = 0 then
      if 0 < v1 then
        u_X38_sayHexadecimal_42 s x0 x1 x3 v1
      else
        if x3 = 0 then
          u_X38_sayHexadecimal_42 s x0 x1 x3 v1
        else
          u_X38_sayHexadecimal_47 s x0 x1 x3 v1 0
    else
      u_X38_sayHexadecimal_42 s x0 x1 x3 v1
def du_X38_sayHexadecimal_17 (s : jS) (x0 x1 x2 x3 : Int) : Option (jS × Int) := jlpW (jc4 b_X38_sayHexadecimal_17) [x0, x1, x2, x3] s
noncomputable def u_X38_sayHexadecimal_17 : jS → Int → Int → Int → Int → Option (jS × Int) := Classical.choose (⟨du_X38_sayHexadecimal_17, rfl⟩ : ∃ f, f = du_X38_sayHexadecimal_17)
theorem eu_X38_sayHexadecimal_17 : u_X38_sayHexadecimal_17 = du_X38_sayHexadecimal_17 := Classical.choose_spec (⟨du_X38_sayHexadecimal_17, rfl⟩ : ∃ f, f = du_X38_sayHexadecimal_17)
def dm_X38_sayHexadecimal (s : jS) (x0 x1 : Int) : Option (jS × Int) :=
  (m_X38_say s x0 48).bind fun q1 =>
  (m_X38_say q1.1 x0 120).bind fun q2 =>
  u_X38_sayHexadecimal_17 q2.1 x0 x1 0 28
noncomputable def m_X38_sayHexadecimal : jS → Int → Int → Option (jS × Int) := Classical.choose (⟨dm_X38_sayHexadecimal, rfl⟩ : ∃ f, f = dm_X38_sayHexadecimal)
theorem em_X38_sayHexadecimal : m_X38_sayHexadecimal = dm_X38_sayHexadecimal := Classical.choose_spec (⟨dm_X38_sayHexadecimal, rfl⟩ : ∃ f, f = dm_X38_sayHexadecimal)
def dm_X38_letter (s : jS) (x0 x1 : Int) : Option (jS × Int) :=
  jls (jp s 42 x0 0 0) fun s1 =>
  if x1 < 0 then
    some (s1, (-1))
  else
    if x1 < (jf s1 42 x0 4) then
      (jlt s1 1000 (x0 + 3) 80 x1).bind fun v2 =>
      some (s1, v2)
    else
      some (s1, (-1))
noncomputable def m_X38_letter : jS → Int → Int → Option (jS × Int) := Classical.choose (⟨dm_X38_letter, rfl⟩ : ∃ f, f = dm_X38_letter)
theorem em_X38_letter : m_X38_letter = dm_X38_letter := Classical.choose_spec (⟨dm_X38_letter, rfl⟩ : ∃ f, f = dm_X38_letter)
def dm_X39_init (s : jS) (x0 : Int) : Option (jS × Int) :=
  jck0 x0 <|
  (jna s 1000 20 0).bind fun q1 =>
  (jwr q1.1 43 x0 1 q1.2).bind fun s2 =>
  (jna s2 1000 3000 0).bind fun q3 =>
  (jwr q3.1 43 x0 2 q3.2).bind fun s4 =>
  (jna s4 1000 8 0).bind fun q5 =>
  (jwr q5.1 43 x0 4 q5.2).bind fun s6 =>
  (jna s6 1000 4800 0).bind fun q7 =>
  (jwr q7.1 43 x0 5 q7.2).bind fun s8 =>
  (jna s8 1000 11200 0).bind fun q9 =>
  (jwr q9.1 43 x0 6 q9.2).bind fun s10 =>
  (jna s10 1000 8000 0).bind fun q11 =>
  (jwr q11.1 43 x0 7 q11.2).bind fun s12 =>
  (jna s12 1000 4800 0).bind fun q13 =>
  (jwr q13.1 43 x0 8 q13.2).bind fun s14 =>
  (jna s14 1000 300 0).bind fun q15 =>
  (jwr q15.1 43 x0 9 q15.2).bind fun s16 =>
  (jna s16 1000 6000 0).bind fun q17 =>
  (jwr q17.1 43 x0 10 q17.2).bind fun s18 =>
  (jwr s18 43 x0 14 (-1)).bind fun s19 =>
  (jna s19 1000 2100 0).bind fun q20 =>
  (jwr q20.1 43 x0 22 q20.2).bind fun s21 =>
  (jna s21 1000 24000 0).bind fun q22 =>
  (jwr q22.1 43 x0 28 q22.2).bind fun s23 =>
  (jna s23 1000 2001 0).bind fun q24 =>
  (jwr q24.1 43 x0 30 q24.2).bind fun s25 =>
  (jna s25 1000 8100 0).bind fun q26 =>
  (jwr q26.1 43 x0 31 q26.2).bind fun s27 =>
  (jna s27 1000 2001 0).bind fun q28 =>
  (jwr q28.1 43 x0 32 q28.2).bind fun s29 =>
  (jna s29 1000 3001 0).bind fun q30 =>
  (jwr q30.1 43 x0 33 q30.2).bind fun s31 =>
  (jna s31 1000 1600 0).bind fun q32 =>
  (jwr q32.1 43 x0 34 q32.2).bind fun s33 =>
  some (s33, 0)
noncomputable def m_X39_init : jS → Int → Option (jS × Int) := Classical.choose (⟨dm_X39_init, rfl⟩ : ∃ f, f = dm_X39_init)
theorem em_X39_init : m_X39_init = dm_X39_init := Classical.choose_spec (⟨dm_X39_init, rfl⟩ : ∃ f, f = dm_X39_init)
def b_X39_wait_2 (s : jS) (x0 x1 x2 x3 : Int) : Option ((jS × List Int) ⊕ (jS × Int)) :=
  if x3 < 4 then
    (jst s 1000 (x0 + 1) 20 (W32 (x1 + x3)) (I_and (I_shr x2 (W32 (24 - (W32 (8 * x3))))) 255)).bind fun s1 =>
    some (.inl (s1, [x0, x1, x2, W32 (x3 + 1)]))
  else
    jinr (some (s, 0))
def du_X39_wait_2 (s : jS) (x0 x1 x2 x3 : Int) : Option (jS × Int) := jlpW (jc4 b_X39_wait_2) [x0, x1, x2, x3] s
noncomputable def u_X39_wait_2 : jS → Int → Int → Int → Int → Option (jS × Int) := Classical.choose (⟨du_X39_wait_2, rfl⟩ : ∃ f, f = du_X39_wait_2)
theorem eu_X39_wait_2 : u_X39_wait_2 = du_X39_wait_2 := Classical.choose_spec (⟨du_X39_wait_2, rfl⟩ : ∃ f, f = du_X39_wait_2)
def dm_X39_wait (s : jS) (x0 x1 x2 : Int) : Option (jS × Int) :=
  u_X39_wait_2 s x0 x1 x2 0
noncomputable def m_X39_wait : jS → Int → Int → Int → Option (jS × Int) := Classical.choose (⟨dm_X39_wait, rfl⟩ : ∃ f, f = dm_X39_wait)
theorem em_X39_wait : m_X39_wait = dm_X39_wait := Classical.choose_spec (⟨dm_X39_wait, rfl⟩ : ∃ f, f = dm_X39_wait)
def du_X39_end_80 (s : jS) (x0 x1 : Int) : Option (jS × Int) :=
  jls (jp s 43 x0 3 (W32 ((jf s 43 x0 3) + x1))) fun s1 =>
  some (s1, jf s1 43 x0 3)
noncomputable def u_X39_end_80 : jS → Int → Int → Option (jS × Int) := Classical.choose (⟨du_X39_end_80, rfl⟩ : ∃ f, f = du_X39_end_80)
theorem eu_X39_end_80 : u_X39_end_80 = du_X39_end_80 := Classical.choose_spec (⟨du_X39_end_80, rfl⟩ : ∃ f, f = du_X39_end_80)
def b_X39_end_61 (s : jS) (x0 x1 x2 : Int) : Option ((jS × List Int) ⊕ (jS × Int)) :=
  if x2 < 20 then
    (jst s 1000 (x0 + 1) 20 x2 0).bind fun s1 =>
    some (.inl (s1, [x0, x1, W32 (x2 + 1)]))
  else
    jinr (u_X39_end_80 s x0 x1)
def du_X39_end_61 (s : jS) (x0 x1 x2 : Int) : Option (jS × Int) := jlpW (jc3 b_X39_end_61) [x0, x1, x2] s
noncomputable def u_X39_end_61 : jS → Int → Int → Int → Option (jS × Int) := Classical.choose (⟨du_X39_end_61, rfl⟩ : ∃ f, f = du_X39_end_61)
theorem eu_X39_end_61 : u_X39_end_61 = du_X39_end_61 := Classical.choose_spec (⟨du_X39_end_61, rfl⟩ : ∃ f, f = du_X39_end_61)
def du_X39_end_59 (s : jS) (x0 x1 : Int) : Option (jS × Int) :=
  u_X39_end_61 s x0 x1 0
noncomputable def u_X39_end_59 : jS → Int → Int → Option (jS × Int) := Classical.choose (⟨du_X39_end_59, rfl⟩ : ∃ f, f = du_X39_end_59)
theorem eu_X39_end_59 : u_X39_end_59 = du_X39_end_59 := Classical.choose_spec (⟨du_X39_end_59, rfl⟩ : ∃ f, f = du_X39_end_59)
def b_X39_end_31 (s : jS) (x0 x1 x2 : Int) : Option ((jS × List Int) ⊕ (jS × Int)) :=
  if x2 < x1 then
    (jlt s 1000 (x0 + 1) 20 x2).bind fun v1 =>
    (jst s 1000 (x0 + 2) 3000 (W32 ((jf s 43 x0 3) + x2)) v1).bind fun s2 =>
    some (.inl (s2, [x0, x1, W32 (x2 + 1)]))
  else
    jinr (u_X39_end_59 s x0 x1)
def du_X39_end_31 (s : jS) (x0 x1 x2 : Int) : Option (jS × Int) := jlpW (jc3 b_X39_end_31) [x0, x1, x2] s
noncomputable def u_X39_end_31 : jS → Int → Int → Int → Option (jS × Int) := Classical.choose (⟨du_X39_end_31, rfl⟩ : ∃ f, f = du_X39_end_31)
theorem eu_X39_end_31 : u_X39_end_31 = du_X39_end_31 := Classical.choose_spec (⟨du_X39_end_31, rfl⟩ : ∃ f, f = du_X39_end_31)
def dm_X39_end (s : jS) (x0 x1 : Int) : Option (jS × Int) :=
  jls (jp s 43 x0 0 0) fun s1 =>
  if x1 < 0 then
    some (s1, (-1))
  else
    if 20 < x1 then
      some (s1, (-1))
    else
      if 3000 < (W32 ((jf s1 43 x0 3) + x1)) then
        some (s1, (-1))
      else
        u_X39_end_31 s1 x0 x1 0
noncomputable def m_X39_end : jS → Int → Int → Option (jS × Int) := Classical.choose (⟨dm_X39_end, rfl⟩ : ∃ f, f = dm_X39_end)
theorem em_X39_end : m_X39_end = dm_X39_end := Classical.choose_spec (⟨dm_X39_end, rfl⟩ : ∃ f, f = dm_X39_end)
def dm_X39_bad (s : jS) (x0 x1 x2 : Int) : Option (jS × Int) :=
  jls (jp s 43 x0 15 6) fun s1 =>
  jls (jp s1 43 x0 16 x1) fun s2 =>
  jls (jp s2 43 x0 17 x2) fun s3 =>
  some (s3, 0)
noncomputable def m_X39_bad : jS → Int → Int → Int → Option (jS × Int) := Classical.choose (⟨dm_X39_bad, rfl⟩ : ∃ f, f = dm_X39_bad)
theorem em_X39_bad : m_X39_bad = dm_X39_bad := Classical.choose_spec (⟨dm_X39_bad, rfl⟩ : ∃ f, f = dm_X39_bad)
def du_X39_isLetter_24 (s : jS) (x0 : Int) : Option (Int) :=
  if x0 = 95 then
    some (Wz 1)
  else
    if x0 = 46 then
      some (Wz 1)
    else
      some (Wz 0)
noncomputable def u_X39_isLetter_24 : jS → Int → Option (Int) := Classical.choose (⟨du_X39_isLetter_24, rfl⟩ : ∃ f, f = du_X39_isLetter_24)
theorem eu_X39_isLetter_24 : u_X39_isLetter_24 = du_X39_isLetter_24 := Classical.choose_spec (⟨du_X39_isLetter_24, rfl⟩ : ∃ f, f = du_X39_isLetter_24)
def du_X39_isLetter_12 (s : jS) (x0 : Int) : Option (Int) :=
  if x0 < 65 then
    u_X39_isLetter_24 s x0
  else
    if 90 < x0 then
      u_X39_isLetter_24 s x0
    else
      some (Wz 1)
noncomputable def u_X39_isLetter_12 : jS → Int → Option (Int) := Classical.choose (⟨du_X39_isLetter_12, rfl⟩ : ∃ f, f = du_X39_isLetter_12)
theorem eu_X39_isLetter_12 : u_X39_isLetter_12 = du_X39_isLetter_12 := Classical.choose_spec (⟨du_X39_isLetter_12, rfl⟩ : ∃ f, f = du_X39_isLetter_12)
def dm_X39_isLetter (s : jS) (x0 : Int) : Option (Int) :=
  if x0 < 97 then
    u_X39_isLetter_12 s x0
  else
    if 122 < x0 then
      u_X39_isLetter_12 s x0
    else
      some (Wz 1)
noncomputable def m_X39_isLetter : jS → Int → Option (Int) := Classical.choose (⟨dm_X39_isLetter, rfl⟩ : ∃ f, f = dm_X39_isLetter)
theorem em_X39_isLetter : m_X39_isLetter = dm_X39_isLetter := Classical.choose_spec (⟨dm_X39_isLetter, rfl⟩ : ∃ f, f = dm_X39_isLetter)
def dm_X39_isDigit (s : jS) (x0 : Int) : Option (Int) :=
  if x0 < 48 then
    some (Wz 0)
  else
    if 57 < x0 then
      some (Wz 0)
    else
      some (Wz 1)
noncomputable def m_X39_isDigit : jS → Int → Option (Int) := Classical.choose (⟨dm_X39_isDigit, rfl⟩ : ∃ f, f = dm_X39_isDigit)
theorem em_X39_isDigit : m_X39_isDigit = dm_X39_isDigit := Classical.choose_spec (⟨dm_X39_isDigit, rfl⟩ : ∃ f, f = dm_X39_isDigit)
def dm_X39_at (s : jS) (x0 x1 : Int) : Option (Int) :=
  if x1 < (jf s 43 x0 3) then
    (jlt s 1000 (x0 + 2) 3000 x1).bind fun v1 =>
    some v1
  else
    some 10
noncomputable def m_X39_at : jS → Int → Int → Option (Int) := Classical.choose (⟨dm_X39_at, rfl⟩ : ∃ f, f = dm_X39_at)
theorem em_X39_at : m_X39_at = dm_X39_at := Classical.choose_spec (⟨dm_X39_at, rfl⟩ : ∃ f, f = dm_X39_at)
def du_X39_digitOf_31 (s : jS) (x0 : Int) : Option (Int) :=
  if x0 < 65 then
    some 99
  else
    if 70 < x0 then
      some 99
    else
      some (W32 (x0 - 55))
noncomputable def u_X39_digitOf_31 : jS → Int → Option (Int) := Classical.choose (⟨du_X39_digitOf_31, rfl⟩ : ∃ f, f = du_X39_digitOf_31)
theorem eu_X39_digitOf_31 : u_X39_digitOf_31 = du_X39_digitOf_31 := Classical.choose_spec (⟨du_X39_digitOf_31, rfl⟩ : ∃ f, f = du_X39_digitOf_31)
def dm_X39_digitOf (s : jS) (x0 : Int) : Option (Int) :=
  (m_X39_isDigit s x0).bind fun v1 =>
  if v1 = 0 then
    if x0 < 97 then
      u_X39_digitOf_31 s x0
    else
      if 102 < x0 then
        u_X39_digitOf_31 s x0
      else
        some (W32 (x0 - 87))
  else
    some (W32 (x0 - 48))
noncomputable def m_X39_digitOf : jS → Int → Option (Int) := Classical.choose (⟨dm_X39_digitOf, rfl⟩ : ∃ f, f = dm_X39_digitOf)
theorem em_X39_digitOf : m_X39_digitOf = dm_X39_digitOf := Classical.choose_spec (⟨dm_X39_digitOf, rfl⟩ : ∃ f, f = dm_X39_digitOf)
def dm_X39_inside (s : jS) (x0 x1 x2 : Int) : Option (jS × Int) :=
  (m_X39_at s x0 x1).bind fun v1 =>
  jls (jp s 43 x0 18 (W32 (x1 + 1))) fun s2 =>
  if x1 < (jf s2 43 x0 3) then
    if v1 = 92 then
      (m_X39_at s2 x0 (W32 (x1 + 1))).bind fun v3 =>
      jls (jp s2 43 x0 18 (W32 (x1 + 2))) fun s4 =>
      if (W32 (x1 + 1)) < (jf s4 43 x0 3) then
        if v3 = 110 then
          some (s4, 10)
        else
          if v3 = 116 then
            some (s4, 9)
          else
            if v3 = 48 then
              some (s4, 0)
            else
              if v3 = 92 then
                some (s4, v3)
              else
                if v3 = 39 then
                  some (s4, v3)
                else
                  if v3 = 34 then
                    some (s4, v3)
                  else
                    some (s4, (-1))
      else
        some (s4, (-1))
    else
      if v1 < 32 then
        some (s2, (-1))
      else
        if v1 < 127 then
          if v1 = x2 then
            some (s2, (-1))
          else
            some (s2, v1)
        else
          some (s2, (-1))
  else
    some (s2, (-1))
noncomputable def m_X39_inside : jS → Int → Int → Int → Option (jS × Int) := Classical.choose (⟨dm_X39_inside, rfl⟩ : ∃ f, f = dm_X39_inside)
theorem em_X39_inside : m_X39_inside = dm_X39_inside := Classical.choose_spec (⟨dm_X39_inside, rfl⟩ : ∃ f, f = dm_X39_inside)
def du_X39_stringWord_87 (s : jS) (x0 x2 : Int) : Option (jS × Int) :=
  jls (jp s 43 x0 18 (W32 (x2 + 1))) fun s1 =>
  some (s1, 0)
noncomputable def u_X39_stringWord_87 : jS → Int → Int → Option (jS × Int) := Classical.choose (⟨du_X39_stringWord_87, rfl⟩ : ∃ f, f = du_X39_stringWord_87)
theorem eu_X39_stringWord_87 : u_X39_stringWord_87 = du_X39_stringWord_87 := Classical.choose_spec (⟨du_X39_stringWord_87, rfl⟩ : ∃ f, f = du_X39_stringWord_87)
def du_X39_stringWord_59 (s : jS) (x0 x1 x3 : Int) : Option ((jS × List Int) ⊕ (jS × Int)) :=
  (jst s 1000 (x0 + 15) 3001 (jf s 43 x0 11) x3).bind fun s1 =>
  jls (jp s1 43 x0 11 (W32 ((jf s1 43 x0 11) + 1))) fun s2 =>
  some (.inl (s2, [x0, x1, jf s2 43 x0 18]))
noncomputable def u_X39_stringWord_59 : jS → Int → Int → Int → Option ((jS × List Int) ⊕ (jS × Int)) := Classical.choose (⟨du_X39_stringWord_59, rfl⟩ : ∃ f, f = du_X39_stringWord_59)
theorem eu_X39_stringWord_59 : u_X39_stringWord_59 = du_X39_stringWord_59 := Classical.choose_spec (⟨du_X39_stringWord_59, rfl⟩ : ∃ f, f = du_X39_stringWord_59)
def b_X39_stringWord_22 (s : jS) (x0 x1 x2 : Int) : Option ((jS × List Int) ⊕ (jS × Int)) :=
  if (jf s 43 x0 15) = 4 then
    (m_X39_at s x0 x2).bind fun v1 =>
    if v1 = 34 then
      jinr (u_X39_stringWord_87 s x0 x2)
    else
      (m_X39_inside s x0 x2 34).bind fun q2 =>
      if q2.2 = (-1) then
        (m_X39_bad q2.1 x0 4 x1).bind fun q3 =>
        u_X39_stringWord_59 q3.1 x0 x1 q2.2
      else
        u_X39_stringWord_59 q2.1 x0 x1 q2.2
  else
    jinr (u_X39_stringWord_87 s x0 x2)
def du_X39_stringWord_22 (s : jS) (x0 x1 x2 : Int) : Option (jS × Int) := jlpW (jc3 b_X39_stringWord_22) [x0, x1, x2] s
noncomputable def u_X39_stringWord_22 : jS → Int → Int → Int → Option (jS × Int) := Classical.choose (⟨du_X39_stringWord_22, rfl⟩ : ∃ f, f = du_X39_stringWord_22)
theorem eu_X39_stringWord_22 : u_X39_stringWord_22 = du_X39_stringWord_22 := Classical.choose_spec (⟨du_X39_stringWord_22, rfl⟩ : ∃ f, f = du_X39_stringWord_22)
def dm_X39_stringWord (s : jS) (x0 : Int) : Option (jS × Int) :=
  jlet (W32 ((jf s 43 x0 17) + 1)) fun v1 =>
  jls (jp s 43 x0 15 4) fun s2 =>
  jls (jp s2 43 x0 11 0) fun s3 =>
  u_X39_stringWord_22 s3 x0 (jf s 43 x0 17) v1
noncomputable def m_X39_stringWord : jS → Int → Option (jS × Int) := Classical.choose (⟨dm_X39_stringWord, rfl⟩ : ∃ f, f = dm_X39_stringWord)
theorem em_X39_stringWord : m_X39_stringWord = dm_X39_stringWord := Classical.choose_spec (⟨dm_X39_stringWord, rfl⟩ : ∃ f, f = dm_X39_stringWord)
def du_X39_signWord_181 (s : jS) (x0 y0 : Int) : Option (jS × Int) :=
  if y0 = 0 then
    (m_X39_bad s x0 1 (jf s 43 x0 17)).bind fun q1 =>
    some (q1.1, 0)
  else
    some (s, 0)
noncomputable def u_X39_signWord_181 : jS → Int → Int → Option (jS × Int) := Classical.choose (⟨du_X39_signWord_181, rfl⟩ : ∃ f, f = du_X39_signWord_181)
theorem eu_X39_signWord_181 : u_X39_signWord_181 = du_X39_signWord_181 := Classical.choose_spec (⟨du_X39_signWord_181, rfl⟩ : ∃ f, f = du_X39_signWord_181)
def du_X39_signWord_176 (s : jS) (x0 : Int) : Option (jS × Int) :=
  u_X39_signWord_181 s x0 1
noncomputable def u_X39_signWord_176 : jS → Int → Option (jS × Int) := Classical.choose (⟨du_X39_signWord_176, rfl⟩ : ∃ f, f = du_X39_signWord_176)
theorem eu_X39_signWord_176 : u_X39_signWord_176 = du_X39_signWord_176 := Classical.choose_spec (⟨du_X39_signWord_176, rfl⟩ : ∃ f, f = du_X39_signWord_176)
def du_X39_signWord_84 (s : jS) (x0 y0 y1 : Int) : Option (jS × Int) :=
  jls (jp s 43 y1 16 y0) fun s1 =>
  jls (jp s1 43 x0 18 (W32 ((jf s1 43 x0 17) + 2))) fun s2 =>
  some (s2, 0)
noncomputable def u_X39_signWord_84 : jS → Int → Int → Int → Option (jS × Int) := Classical.choose (⟨du_X39_signWord_84, rfl⟩ : ∃ f, f = du_X39_signWord_84)
theorem eu_X39_signWord_84 : u_X39_signWord_84 = du_X39_signWord_84 := Classical.choose_spec (⟨du_X39_signWord_84, rfl⟩ : ∃ f, f = du_X39_signWord_84)
def du_X39_signWord_55 (s : jS) (x0 x1 : Int) : Option (jS × Int) :=
  if (jf s 43 x0 15) = 6 then
    u_X39_signWord_84 s x0 1 x0
  else
    if x1 = 60 then
      u_X39_signWord_84 s x0 300 x0
    else
      u_X39_signWord_84 s x0 301 x0
noncomputable def u_X39_signWord_55 : jS → Int → Int → Option (jS × Int) := Classical.choose (⟨du_X39_signWord_55, rfl⟩ : ∃ f, f = du_X39_signWord_55)
theorem eu_X39_signWord_55 : u_X39_signWord_55 = du_X39_signWord_55 := Classical.choose_spec (⟨du_X39_signWord_55, rfl⟩ : ∃ f, f = du_X39_signWord_55)
def du_X39_signWord_32 (s : jS) (x0 x1 : Int) : Option (jS × Int) :=
  (m_X39_at s x0 (W32 ((jf s 43 x0 17) + 1))).bind fun v1 =>
  if v1 = x1 then
    u_X39_signWord_55 s x0 x1
  else
    (m_X39_bad s x0 1 (jf s 43 x0 17)).bind fun q2 =>
    u_X39_signWord_55 q2.1 x0 x1
noncomputable def u_X39_signWord_32 : jS → Int → Int → Option (jS × Int) := Classical.choose (⟨du_X39_signWord_32, rfl⟩ : ∃ f, f = du_X39_signWord_32)
theorem eu_X39_signWord_32 : u_X39_signWord_32 = du_X39_signWord_32 := Classical.choose_spec (⟨du_X39_signWord_32, rfl⟩ : ∃ f, f = du_X39_signWord_32)
def dm_X39_signWord (s : jS) (x0 x1 : Int) : Option (jS × Int) :=
  jls (jp s 43 x0 15 5) fun s1 =>
  jls (jp s1 43 x0 16 x1) fun s2 =>
  jls (jp s2 43 x0 18 (W32 ((jf s2 43 x0 17) + 1))) fun s3 =>
  if x1 = 60 then
    u_X39_signWord_32 s3 x0 x1
  else
    if x1 = 62 then
      u_X39_signWord_32 s3 x0 x1
    else
      if x1 = 44 then
        u_X39_signWord_176 s3 x0
      else
        if x1 = 40 then
          u_X39_signWord_176 s3 x0
        else
          if x1 = 41 then
            u_X39_signWord_176 s3 x0
          else
            if x1 = 58 then
              u_X39_signWord_176 s3 x0
            else
              if x1 = 43 then
                u_X39_signWord_176 s3 x0
              else
                if x1 = 45 then
                  u_X39_signWord_176 s3 x0
                else
                  if x1 = 42 then
                    u_X39_signWord_176 s3 x0
                  else
                    if x1 = 47 then
                      u_X39_signWord_176 s3 x0
                    else
                      if x1 = 37 then
                        u_X39_signWord_176 s3 x0
                      else
                        if x1 = 38 then
                          u_X39_signWord_176 s3 x0
                        else
                          if x1 = 124 then
                            u_X39_signWord_176 s3 x0
                          else
                            if x1 = 94 then
                              u_X39_signWord_176 s3 x0
                            else
                              if x1 = 126 then
                                u_X39_signWord_176 s3 x0
                              else
                                u_X39_signWord_181 s3 x0 0
noncomputable def m_X39_signWord : jS → Int → Int → Option (jS × Int) := Classical.choose (⟨dm_X39_signWord, rfl⟩ : ∃ f, f = dm_X39_signWord)
theorem em_X39_signWord : m_X39_signWord = dm_X39_signWord := Classical.choose_spec (⟨dm_X39_signWord, rfl⟩ : ∃ f, f = dm_X39_signWord)
def du_X39_fail_27 (s : jS) (x0 y0 y1 : Int) : Option (jS × Int) :=
  jls (jp s 43 y1 20 y0) fun s1 =>
  jls (jp s1 43 x0 21 (jf s1 43 x0 17)) fun s2 =>
  some (s2, Wz 0)
noncomputable def u_X39_fail_27 : jS → Int → Int → Int → Option (jS × Int) := Classical.choose (⟨du_X39_fail_27, rfl⟩ : ∃ f, f = du_X39_fail_27)
theorem eu_X39_fail_27 : u_X39_fail_27 = du_X39_fail_27 := Classical.choose_spec (⟨du_X39_fail_27, rfl⟩ : ∃ f, f = du_X39_fail_27)
def dm_X39_fail (s : jS) (x0 x1 : Int) : Option (jS × Int) :=
  if (jf s 43 x0 20) = 0 then
    if (jf s 43 x0 15) = 6 then
      u_X39_fail_27 s x0 (jf s 43 x0 16) x0
    else
      u_X39_fail_27 s x0 x1 x0
  else
    some (s, Wz 0)
noncomputable def m_X39_fail : jS → Int → Int → Option (jS × Int) := Classical.choose (⟨dm_X39_fail, rfl⟩ : ∃ f, f = dm_X39_fail)
theorem em_X39_fail : m_X39_fail = dm_X39_fail := Classical.choose_spec (⟨dm_X39_fail, rfl⟩ : ∃ f, f = dm_X39_fail)
def dm_X39_byteOf (s : jS) (x0 x1 : Int) : Option (Int) :=
  if (W32 ((jf s 43 x0 17) + x1)) < (jf s 43 x0 18) then
    (jlt s 1000 (x0 + 2) 3000 (W32 ((jf s 43 x0 17) + x1))).bind fun v1 =>
    some v1
  else
    some 0
noncomputable def m_X39_byteOf : jS → Int → Int → Option (Int) := Classical.choose (⟨dm_X39_byteOf, rfl⟩ : ∃ f, f = dm_X39_byteOf)
theorem em_X39_byteOf : m_X39_byteOf = dm_X39_byteOf := Classical.choose_spec (⟨dm_X39_byteOf, rfl⟩ : ∃ f, f = dm_X39_byteOf)
def b_X39_isName_28 (s : jS) (x0 x1 x2 x3 : Int) : Option (List Int ⊕ (Int)) :=
  if x3 < (W32 ((jf s 43 x0 18) - (jf s 43 x0 17))) then
    (jlt s 1000 (x0 + 7) 4800 (W32 ((W32 ((W32 (2400 * x2)) + (W32 (16 * x1)))) + x3))).bind fun v1 =>
    (jlt s 1000 (x0 + 2) 3000 (W32 ((jf s 43 x0 17) + x3))).bind fun v2 =>
    if v1 = v2 then
      some (.inl [x0, x1, x2, W32 (x3 + 1)])
    else
      jinr (some (Wz 0))
  else
    jinr (some (Wz 1))
def du_X39_isName_28 (s : jS) (x0 x1 x2 x3 : Int) : Option (Int) := jlpR (jc4 b_X39_isName_28) [x0, x1, x2, x3] s
noncomputable def u_X39_isName_28 : jS → Int → Int → Int → Int → Option (Int) := Classical.choose (⟨du_X39_isName_28, rfl⟩ : ∃ f, f = du_X39_isName_28)
theorem eu_X39_isName_28 : u_X39_isName_28 = du_X39_isName_28 := Classical.choose_spec (⟨du_X39_isName_28, rfl⟩ : ∃ f, f = du_X39_isName_28)
def dm_X39_isName (s : jS) (x0 x1 x2 : Int) : Option (Int) :=
  (jlt s 1000 (x0 + 8) 300 (W32 ((W32 (150 * x2)) + x1))).bind fun v1 =>
  if v1 = (W32 ((jf s 43 x0 18) - (jf s 43 x0 17))) then
    u_X39_isName_28 s x0 x1 x2 0
  else
    some (Wz 0)
noncomputable def m_X39_isName : jS → Int → Int → Int → Option (Int) := Classical.choose (⟨dm_X39_isName, rfl⟩ : ∃ f, f = dm_X39_isName)
theorem em_X39_isName : m_X39_isName = dm_X39_isName := Classical.choose_spec (⟨dm_X39_isName, rfl⟩ : ∃ f, f = dm_X39_isName)
def du_X39_state_17 (s : jS) (x0 : Int) : Option (jS × Int) :=
  (m_X39_fail s x0 8).bind fun q1 =>
  some (q1.1, Wz q1.2)
noncomputable def u_X39_state_17 : jS → Int → Option (jS × Int) := Classical.choose (⟨du_X39_state_17, rfl⟩ : ∃ f, f = du_X39_state_17)
theorem eu_X39_state_17 : u_X39_state_17 = du_X39_state_17 := Classical.choose_spec (⟨du_X39_state_17, rfl⟩ : ∃ f, f = du_X39_state_17)
def dm_X39_state (s : jS) (x0 x1 x2 : Int) : Option (jS × Int) :=
  (jlt s 1000 (x0 + 3) 8 0).bind fun v1 =>
  if v1 = 400 then
    u_X39_state_17 s x0
  else
    if x2 = (-1) then
      u_X39_state_17 s x0
    else
      (jlt s 1000 (x0 + 3) 8 0).bind fun v2 =>
      jlet (W32 (6 * v2)) fun v3 =>
      (jst s 1000 (x0 + 4) 4800 v3 x1).bind fun s4 =>
      (jst s4 1000 (x0 + 4) 4800 (W32 (v3 + 1)) x2).bind fun s5 =>
      (jlt s5 1000 (x0 + 3) 8 1).bind fun v6 =>
      (jst s5 1000 (x0 + 4) 4800 (W32 (v3 + 2)) v6).bind fun s7 =>
      (jst s7 1000 (x0 + 4) 4800 (W32 (v3 + 3)) 0).bind fun s8 =>
      (jst s8 1000 (x0 + 4) 4800 (W32 (v3 + 4)) (jf s8 43 x0 17)).bind fun s9 =>
      (jst s9 1000 (x0 + 4) 4800 (W32 (v3 + 5)) (jf s9 43 x0 19)).bind fun s10 =>
      (jlt s10 1000 (x0 + 3) 8 0).bind fun v11 =>
      (jst s10 1000 (x0 + 3) 8 0 (W32 (v11 + 1))).bind fun s12 =>
      some (s12, Wz 1)
noncomputable def m_X39_state : jS → Int → Int → Int → Option (jS × Int) := Classical.choose (⟨dm_X39_state, rfl⟩ : ∃ f, f = dm_X39_state)
theorem em_X39_state : m_X39_state = dm_X39_state := Classical.choose_spec (⟨dm_X39_state, rfl⟩ : ∃ f, f = dm_X39_state)
def dm_X39_isSign (s : jS) (x0 x1 : Int) : Option (Int) :=
  if (jf s 43 x0 15) = 5 then
    if (jf s 43 x0 16) = x1 then
      some (Wz 1)
    else
      some (Wz 0)
  else
    some (Wz 0)
noncomputable def m_X39_isSign : jS → Int → Int → Option (Int) := Classical.choose (⟨dm_X39_isSign, rfl⟩ : ∃ f, f = dm_X39_isSign)
theorem em_X39_isSign : m_X39_isSign = dm_X39_isSign := Classical.choose_spec (⟨dm_X39_isSign, rfl⟩ : ∃ f, f = dm_X39_isSign)
def du_X39_tally_19 (s : jS) (x0 : Int) : Option (jS × Int) :=
  (m_X39_fail s x0 8).bind fun q1 =>
  some (q1.1, Wz q1.2)
noncomputable def u_X39_tally_19 : jS → Int → Option (jS × Int) := Classical.choose (⟨du_X39_tally_19, rfl⟩ : ∃ f, f = du_X39_tally_19)
theorem eu_X39_tally_19 : u_X39_tally_19 = du_X39_tally_19 := Classical.choose_spec (⟨du_X39_tally_19, rfl⟩ : ∃ f, f = du_X39_tally_19)
def dm_X39_tally (s : jS) (x0 : Int) : Option (jS × Int) :=
  if (jf s 43 x0 24) = 2000 then
    u_X39_tally_19 s x0
  else
    if (jf s 43 x0 25) = 60 then
      u_X39_tally_19 s x0
    else
      jls (jp s 43 x0 24 (W32 ((jf s 43 x0 24) + 1))) fun s1 =>
      jls (jp s1 43 x0 25 (W32 ((jf s1 43 x0 25) + 1))) fun s2 =>
      some (s2, Wz 1)
noncomputable def m_X39_tally : jS → Int → Option (jS × Int) := Classical.choose (⟨dm_X39_tally, rfl⟩ : ∃ f, f = dm_X39_tally)
theorem em_X39_tally : m_X39_tally = dm_X39_tally := Classical.choose_spec (⟨dm_X39_tally, rfl⟩ : ∃ f, f = dm_X39_tally)
def dm_X39_emit (s : jS) (x0 x1 x2 : Int) : Option (jS × Int) :=
  (jlt s 1000 (x0 + 3) 8 2).bind fun v1 =>
  jlet (W32 (2 * v1)) fun v2 =>
  (jst s 1000 (x0 + 6) 8000 v2 x1).bind fun s3 =>
  (jst s3 1000 (x0 + 6) 8000 (W32 (v2 + 1)) x2).bind fun s4 =>
  (jlt s4 1000 (x0 + 3) 8 2).bind fun v5 =>
  (jst s4 1000 (x0 + 3) 8 2 (W32 (v5 + 1))).bind fun s6 =>
  some (s6, 0)
noncomputable def m_X39_emit : jS → Int → Int → Int → Option (jS × Int) := Classical.choose (⟨dm_X39_emit, rfl⟩ : ∃ f, f = dm_X39_emit)
theorem em_X39_emit : m_X39_emit = dm_X39_emit := Classical.choose_spec (⟨dm_X39_emit, rfl⟩ : ∃ f, f = dm_X39_emit)
def du_X39_ahead_39 (s : jS) (x0 : Int) : Option ((jS × List Int) ⊕ (jS × Int)) :=
  jls (jp s 43 x0 23 (W32 ((jf s 43 x0 23) - 1))) fun s1 =>
  (jlt s1 1000 (x0 + 10) 2100 (jf s1 43 x0 23)).bind fun v2 =>
  (m_X39_emit s1 x0 v2 0).bind fun q3 =>
  jls (jp q3.1 43 x0 26 (W32 ((jf q3.1 43 x0 26) - 1))) fun s4 =>
  some (.inl (s4, [x0]))
noncomputable def u_X39_ahead_39 : jS → Int → Option ((jS × List Int) ⊕ (jS × Int)) := Classical.choose (⟨du_X39_ahead_39, rfl⟩ : ∃ f, f = du_X39_ahead_39)
theorem eu_X39_ahead_39 : u_X39_ahead_39 = du_X39_ahead_39 := Classical.choose_spec (⟨du_X39_ahead_39, rfl⟩ : ∃ f, f = du_X39_ahead_39)
def b_X39_ahead_0 (s : jS) (x0 : Int) : Option ((jS × List Int) ⊕ (jS × Int)) :=
  if 0 < (jf s 43 x0 23) then
    (jlt s 1000 (x0 + 10) 2100 (W32 ((jf s 43 x0 23) - 1))).bind fun v1 =>
    if v1 = 10 then
      u_X39_ahead_39 s x0
    else
      (jlt s 1000 (x0 + 10) 2100 (W32 ((jf s 43 x0 23) - 1))).bind fun v2 =>
      if v2 = 11 then
        u_X39_ahead_39 s x0
      else
        jinr (some (s, 0))
  else
    jinr (some (s, 0))
def du_X39_ahead_0 (s : jS) (x0 : Int) : Option (jS × Int) := jlpW (jc1 b_X39_ahead_0) [x0] s
noncomputable def u_X39_ahead_0 : jS → Int → Option (jS × Int) := Classical.choose (⟨du_X39_ahead_0, rfl⟩ : ∃ f, f = du_X39_ahead_0)
theorem eu_X39_ahead_0 : u_X39_ahead_0 = du_X39_ahead_0 := Classical.choose_spec (⟨du_X39_ahead_0, rfl⟩ : ∃ f, f = du_X39_ahead_0)
def dm_X39_ahead (s : jS) (x0 : Int) : Option (jS × Int) :=
  u_X39_ahead_0 s x0
noncomputable def m_X39_ahead : jS → Int → Option (jS × Int) := Classical.choose (⟨dm_X39_ahead, rfl⟩ : ∃ f, f = dm_X39_ahead)
theorem em_X39_ahead : m_X39_ahead = dm_X39_ahead := Classical.choose_spec (⟨dm_X39_ahead, rfl⟩ : ∃ f, f = dm_X39_ahead)
def dm_X39_operator (s : jS) (x0 : Int) : Option (Int) :=
  if (jf s 43 x0 15) = 5 then
    if (jf s 43 x0 16) = 37 then
      some 16
    else
    if (jf s 43 x0 16) = 38 then
      some 19
    else
    if (jf s 43 x0 16) = 42 then
      some 14
    else
    if (jf s 43 x0 16) = 43 then
      some 12
    else
    if (jf s 43 x0 16) = 45 then
      some 13
    else
    if (jf s 43 x0 16) = 47 then
      some 15
    else
    if (jf s 43 x0 16) = 94 then
      some 20
    else
    if (jf s 43 x0 16) = 124 then
      some 21
    else
    if (jf s 43 x0 16) = 300 then
      some 17
    else
    if (jf s 43 x0 16) = 301 then
      some 18
    else
    some 0
  else
    some 0
noncomputable def m_X39_operator : jS → Int → Option (Int) := Classical.choose (⟨dm_X39_operator, rfl⟩ : ∃ f, f = dm_X39_operator)
theorem em_X39_operator : m_X39_operator = dm_X39_operator := Classical.choose_spec (⟨dm_X39_operator, rfl⟩ : ∃ f, f = dm_X39_operator)
def dm_X39_binds (s : jS) (x0 : Int) : Option (Int) :=
  if x0 = 12 then
    some 5
  else
  if x0 = 13 then
    some 5
  else
  if x0 = 14 then
    some 6
  else
  if x0 = 15 then
    some 6
  else
  if x0 = 16 then
    some 6
  else
  if x0 = 17 then
    some 4
  else
  if x0 = 18 then
    some 4
  else
  if x0 = 19 then
    some 3
  else
  if x0 = 20 then
    some 2
  else
  if x0 = 21 then
    some 1
  else
  some 7
noncomputable def m_X39_binds : jS → Int → Option (Int) := Classical.choose (⟨dm_X39_binds, rfl⟩ : ∃ f, f = dm_X39_binds)
theorem em_X39_binds : m_X39_binds = dm_X39_binds := Classical.choose_spec (⟨dm_X39_binds, rfl⟩ : ∃ f, f = dm_X39_binds)
def b_X39_reduce_0 (s : jS) (x0 x1 : Int) : Option ((jS × List Int) ⊕ (jS × Int)) :=
  if 0 < (jf s 43 x0 23) then
    (jlt s 1000 (x0 + 10) 2100 (W32 ((jf s 43 x0 23) - 1))).bind fun v1 =>
    if 11 < v1 then
      (jlt s 1000 (x0 + 10) 2100 (W32 ((jf s 43 x0 23) - 1))).bind fun v2 =>
      (m_X39_binds s v2).bind fun v3 =>
      if v3 < x1 then
        jinr (some (s, 0))
      else
        jls (jp s 43 x0 23 (W32 ((jf s 43 x0 23) - 1))) fun s4 =>
        (jlt s4 1000 (x0 + 10) 2100 (jf s4 43 x0 23)).bind fun v5 =>
        (m_X39_emit s4 x0 v5 0).bind fun q6 =>
        some (.inl (q6.1, [x0, x1]))
    else
      jinr (some (s, 0))
  else
    jinr (some (s, 0))
def du_X39_reduce_0 (s : jS) (x0 x1 : Int) : Option (jS × Int) := jlpW (jc2 b_X39_reduce_0) [x0, x1] s
noncomputable def u_X39_reduce_0 : jS → Int → Int → Option (jS × Int) := Classical.choose (⟨du_X39_reduce_0, rfl⟩ : ∃ f, f = du_X39_reduce_0)
theorem eu_X39_reduce_0 : u_X39_reduce_0 = du_X39_reduce_0 := Classical.choose_spec (⟨du_X39_reduce_0, rfl⟩ : ∃ f, f = du_X39_reduce_0)
def dm_X39_reduce (s : jS) (x0 x1 : Int) : Option (jS × Int) :=
  u_X39_reduce_0 s x0 x1
noncomputable def m_X39_reduce : jS → Int → Int → Option (jS × Int) := Classical.choose (⟨dm_X39_reduce, rfl⟩ : ∃ f, f = dm_X39_reduce)
theorem em_X39_reduce : m_X39_reduce = dm_X39_reduce := Classical.choose_spec (⟨dm_X39_reduce, rfl⟩ : ∃ f, f = dm_X39_reduce)
def b_X39_keep_215 (s : jS) (x0 x1 : Int) : Option ((jS × List Int) ⊕ (jS × Int)) :=
  if x1 < 800 then
    (jlt s 1000 (x0 + 16) 1600 x1).bind fun v1 =>
    (jst s 1000 (x0 + 16) 1600 (W32 (800 + x1)) v1).bind fun s2 =>
    some (.inl (s2, [x0, W32 (x1 + 1)]))
  else
    jinr (some (s, 0))
def du_X39_keep_215 (s : jS) (x0 x1 : Int) : Option (jS × Int) := jlpW (jc2 b_X39_keep_215) [x0, x1] s
noncomputable def u_X39_keep_215 : jS → Int → Int → Option (jS × Int) := Classical.choose (⟨du_X39_keep_215, rfl⟩ : ∃ f, f = du_X39_keep_215)
theorem eu_X39_keep_215 : u_X39_keep_215 = du_X39_keep_215 := Classical.choose_spec (⟨du_X39_keep_215, rfl⟩ : ∃ f, f = du_X39_keep_215)
def du_X39_keep_213 (s : jS) (x0 : Int) : Option (jS × Int) :=
  u_X39_keep_215 s x0 0
noncomputable def u_X39_keep_213 : jS → Int → Option (jS × Int) := Classical.choose (⟨du_X39_keep_213, rfl⟩ : ∃ f, f = du_X39_keep_213)
theorem eu_X39_keep_213 : u_X39_keep_213 = du_X39_keep_213 := Classical.choose_spec (⟨du_X39_keep_213, rfl⟩ : ∃ f, f = du_X39_keep_213)
def b_X39_keep_184 (s : jS) (x0 x1 : Int) : Option ((jS × List Int) ⊕ (jS × Int)) :=
  if x1 < 3000 then
    (jlt s 1000 (x0 + 9) 6000 x1).bind fun v1 =>
    (jst s 1000 (x0 + 9) 6000 (W32 (3000 + x1)) v1).bind fun s2 =>
    some (.inl (s2, [x0, W32 (x1 + 1)]))
  else
    jinr (u_X39_keep_213 s x0)
def du_X39_keep_184 (s : jS) (x0 x1 : Int) : Option (jS × Int) := jlpW (jc2 b_X39_keep_184) [x0, x1] s
noncomputable def u_X39_keep_184 : jS → Int → Int → Option (jS × Int) := Classical.choose (⟨du_X39_keep_184, rfl⟩ : ∃ f, f = du_X39_keep_184)
theorem eu_X39_keep_184 : u_X39_keep_184 = du_X39_keep_184 := Classical.choose_spec (⟨du_X39_keep_184, rfl⟩ : ∃ f, f = du_X39_keep_184)
def du_X39_keep_182 (s : jS) (x0 : Int) : Option (jS × Int) :=
  u_X39_keep_184 s x0 0
noncomputable def u_X39_keep_182 : jS → Int → Option (jS × Int) := Classical.choose (⟨du_X39_keep_182, rfl⟩ : ∃ f, f = du_X39_keep_182)
theorem eu_X39_keep_182 : u_X39_keep_182 = du_X39_keep_182 := Classical.choose_spec (⟨du_X39_keep_182, rfl⟩ : ∃ f, f = du_X39_keep_182)
def b_X39_keep_153 (s : jS) (x0 x1 : Int) : Option ((jS × List Int) ⊕ (jS × Int)) :=
  if x1 < 150 then
    (jlt s 1000 (x0 + 8) 300 x1).bind fun v1 =>
    (jst s 1000 (x0 + 8) 300 (W32 (150 + x1)) v1).bind fun s2 =>
    some (.inl (s2, [x0, W32 (x1 + 1)]))
  else
    jinr (u_X39_keep_182 s x0)
def du_X39_keep_153 (s : jS) (x0 x1 : Int) : Option (jS × Int) := jlpW (jc2 b_X39_keep_153) [x0, x1] s
noncomputable def u_X39_keep_153 : jS → Int → Int → Option (jS × Int) := Classical.choose (⟨du_X39_keep_153, rfl⟩ : ∃ f, f = du_X39_keep_153)
theorem eu_X39_keep_153 : u_X39_keep_153 = du_X39_keep_153 := Classical.choose_spec (⟨du_X39_keep_153, rfl⟩ : ∃ f, f = du_X39_keep_153)
def du_X39_keep_151 (s : jS) (x0 : Int) : Option (jS × Int) :=
  u_X39_keep_153 s x0 0
noncomputable def u_X39_keep_151 : jS → Int → Option (jS × Int) := Classical.choose (⟨du_X39_keep_151, rfl⟩ : ∃ f, f = du_X39_keep_151)
theorem eu_X39_keep_151 : u_X39_keep_151 = du_X39_keep_151 := Classical.choose_spec (⟨du_X39_keep_151, rfl⟩ : ∃ f, f = du_X39_keep_151)
def b_X39_keep_122 (s : jS) (x0 x1 : Int) : Option ((jS × List Int) ⊕ (jS × Int)) :=
  if x1 < 2400 then
    (jlt s 1000 (x0 + 7) 4800 x1).bind fun v1 =>
    (jst s 1000 (x0 + 7) 4800 (W32 (2400 + x1)) v1).bind fun s2 =>
    some (.inl (s2, [x0, W32 (x1 + 1)]))
  else
    jinr (u_X39_keep_151 s x0)
def du_X39_keep_122 (s : jS) (x0 x1 : Int) : Option (jS × Int) := jlpW (jc2 b_X39_keep_122) [x0, x1] s
noncomputable def u_X39_keep_122 : jS → Int → Int → Option (jS × Int) := Classical.choose (⟨du_X39_keep_122, rfl⟩ : ∃ f, f = du_X39_keep_122)
theorem eu_X39_keep_122 : u_X39_keep_122 = du_X39_keep_122 := Classical.choose_spec (⟨du_X39_keep_122, rfl⟩ : ∃ f, f = du_X39_keep_122)
def du_X39_keep_120 (s : jS) (x0 : Int) : Option (jS × Int) :=
  u_X39_keep_122 s x0 0
noncomputable def u_X39_keep_120 : jS → Int → Option (jS × Int) := Classical.choose (⟨du_X39_keep_120, rfl⟩ : ∃ f, f = du_X39_keep_120)
theorem eu_X39_keep_120 : u_X39_keep_120 = du_X39_keep_120 := Classical.choose_spec (⟨du_X39_keep_120, rfl⟩ : ∃ f, f = du_X39_keep_120)
def b_X39_keep_91 (s : jS) (x0 x1 : Int) : Option ((jS × List Int) ⊕ (jS × Int)) :=
  if x1 < 4000 then
    (jlt s 1000 (x0 + 6) 8000 x1).bind fun v1 =>
    (jst s 1000 (x0 + 6) 8000 (W32 (4000 + x1)) v1).bind fun s2 =>
    some (.inl (s2, [x0, W32 (x1 + 1)]))
  else
    jinr (u_X39_keep_120 s x0)
def du_X39_keep_91 (s : jS) (x0 x1 : Int) : Option (jS × Int) := jlpW (jc2 b_X39_keep_91) [x0, x1] s
noncomputable def u_X39_keep_91 : jS → Int → Int → Option (jS × Int) := Classical.choose (⟨du_X39_keep_91, rfl⟩ : ∃ f, f = du_X39_keep_91)
theorem eu_X39_keep_91 : u_X39_keep_91 = du_X39_keep_91 := Classical.choose_spec (⟨du_X39_keep_91, rfl⟩ : ∃ f, f = du_X39_keep_91)
def du_X39_keep_89 (s : jS) (x0 : Int) : Option (jS × Int) :=
  u_X39_keep_91 s x0 0
noncomputable def u_X39_keep_89 : jS → Int → Option (jS × Int) := Classical.choose (⟨du_X39_keep_89, rfl⟩ : ∃ f, f = du_X39_keep_89)
theorem eu_X39_keep_89 : u_X39_keep_89 = du_X39_keep_89 := Classical.choose_spec (⟨du_X39_keep_89, rfl⟩ : ∃ f, f = du_X39_keep_89)
def b_X39_keep_60 (s : jS) (x0 x1 : Int) : Option ((jS × List Int) ⊕ (jS × Int)) :=
  if x1 < 5600 then
    (jlt s 1000 (x0 + 5) 11200 x1).bind fun v1 =>
    (jst s 1000 (x0 + 5) 11200 (W32 (5600 + x1)) v1).bind fun s2 =>
    some (.inl (s2, [x0, W32 (x1 + 1)]))
  else
    jinr (u_X39_keep_89 s x0)
def du_X39_keep_60 (s : jS) (x0 x1 : Int) : Option (jS × Int) := jlpW (jc2 b_X39_keep_60) [x0, x1] s
noncomputable def u_X39_keep_60 : jS → Int → Int → Option (jS × Int) := Classical.choose (⟨du_X39_keep_60, rfl⟩ : ∃ f, f = du_X39_keep_60)
theorem eu_X39_keep_60 : u_X39_keep_60 = du_X39_keep_60 := Classical.choose_spec (⟨du_X39_keep_60, rfl⟩ : ∃ f, f = du_X39_keep_60)
def du_X39_keep_58 (s : jS) (x0 : Int) : Option (jS × Int) :=
  u_X39_keep_60 s x0 0
noncomputable def u_X39_keep_58 : jS → Int → Option (jS × Int) := Classical.choose (⟨du_X39_keep_58, rfl⟩ : ∃ f, f = du_X39_keep_58)
theorem eu_X39_keep_58 : u_X39_keep_58 = du_X39_keep_58 := Classical.choose_spec (⟨du_X39_keep_58, rfl⟩ : ∃ f, f = du_X39_keep_58)
def b_X39_keep_29 (s : jS) (x0 x1 : Int) : Option ((jS × List Int) ⊕ (jS × Int)) :=
  if x1 < 2400 then
    (jlt s 1000 (x0 + 4) 4800 x1).bind fun v1 =>
    (jst s 1000 (x0 + 4) 4800 (W32 (2400 + x1)) v1).bind fun s2 =>
    some (.inl (s2, [x0, W32 (x1 + 1)]))
  else
    jinr (u_X39_keep_58 s x0)
def du_X39_keep_29 (s : jS) (x0 x1 : Int) : Option (jS × Int) := jlpW (jc2 b_X39_keep_29) [x0, x1] s
noncomputable def u_X39_keep_29 : jS → Int → Int → Option (jS × Int) := Classical.choose (⟨du_X39_keep_29, rfl⟩ : ∃ f, f = du_X39_keep_29)
theorem eu_X39_keep_29 : u_X39_keep_29 = du_X39_keep_29 := Classical.choose_spec (⟨du_X39_keep_29, rfl⟩ : ∃ f, f = du_X39_keep_29)
def du_X39_keep_27 (s : jS) (x0 : Int) : Option (jS × Int) :=
  u_X39_keep_29 s x0 0
noncomputable def u_X39_keep_27 : jS → Int → Option (jS × Int) := Classical.choose (⟨du_X39_keep_27, rfl⟩ : ∃ f, f = du_X39_keep_27)
theorem eu_X39_keep_27 : u_X39_keep_27 = du_X39_keep_27 := Classical.choose_spec (⟨du_X39_keep_27, rfl⟩ : ∃ f, f = du_X39_keep_27)
def b_X39_keep_2 (s : jS) (x0 x1 : Int) : Option ((jS × List Int) ⊕ (jS × Int)) :=
  if x1 < 4 then
    (jlt s 1000 (x0 + 3) 8 x1).bind fun v1 =>
    (jst s 1000 (x0 + 3) 8 (W32 (4 + x1)) v1).bind fun s2 =>
    some (.inl (s2, [x0, W32 (x1 + 1)]))
  else
    jinr (u_X39_keep_27 s x0)
def du_X39_keep_2 (s : jS) (x0 x1 : Int) : Option (jS × Int) := jlpW (jc2 b_X39_keep_2) [x0, x1] s
noncomputable def u_X39_keep_2 : jS → Int → Int → Option (jS × Int) := Classical.choose (⟨du_X39_keep_2, rfl⟩ : ∃ f, f = du_X39_keep_2)
theorem eu_X39_keep_2 : u_X39_keep_2 = du_X39_keep_2 := Classical.choose_spec (⟨du_X39_keep_2, rfl⟩ : ∃ f, f = du_X39_keep_2)
def dm_X39_keep (s : jS) (x0 : Int) : Option (jS × Int) :=
  u_X39_keep_2 s x0 0
noncomputable def m_X39_keep : jS → Int → Option (jS × Int) := Classical.choose (⟨dm_X39_keep, rfl⟩ : ∃ f, f = dm_X39_keep)
theorem em_X39_keep : m_X39_keep = dm_X39_keep := Classical.choose_spec (⟨dm_X39_keep, rfl⟩ : ∃ f, f = dm_X39_keep)
def dm_X39_fault (s : jS) (x0 x1 : Int) : Option (jS × Int) :=
  jls (jp s 43 x0 0 0) fun s1 =>
  if x1 = 0 then
    some (s1, jf s1 43 x0 13)
  else
    if x1 = 1 then
      some (s1, jf s1 43 x0 14)
    else
      some (s1, (-1))
noncomputable def m_X39_fault : jS → Int → Int → Option (jS × Int) := Classical.choose (⟨dm_X39_fault, rfl⟩ : ∃ f, f = dm_X39_fault)
theorem em_X39_fault : m_X39_fault = dm_X39_fault := Classical.choose_spec (⟨dm_X39_fault, rfl⟩ : ∃ f, f = dm_X39_fault)
def dm_X39_count (s : jS) (x0 x1 : Int) : Option (jS × Int) :=
  jls (jp s 43 x0 0 0) fun s1 =>
  if x1 < 0 then
    some (s1, (-1))
  else
    if x1 < 4 then
      (jlt s1 1000 (x0 + 3) 8 (W32 (4 + x1))).bind fun v2 =>
      some (s1, v2)
    else
      some (s1, (-1))
noncomputable def m_X39_count : jS → Int → Int → Option (jS × Int) := Classical.choose (⟨dm_X39_count, rfl⟩ : ∃ f, f = dm_X39_count)
theorem em_X39_count : m_X39_count = dm_X39_count := Classical.choose_spec (⟨dm_X39_count, rfl⟩ : ∃ f, f = dm_X39_count)
def dm_X39_statement (s : jS) (x0 x1 x2 : Int) : Option (jS × Int) :=
  jls (jp s 43 x0 0 0) fun s1 =>
  if x1 < 0 then
    some (s1, (-1))
  else
    (jlt s1 1000 (x0 + 3) 8 4).bind fun v2 =>
    if x1 < v2 then
      if x2 < 0 then
        some (s1, (-1))
      else
        if x2 < 6 then
          (jlt s1 1000 (x0 + 4) 4800 (W32 ((W32 (2400 + (W32 (6 * x1)))) + x2))).bind fun v3 =>
          some (s1, v3)
        else
          some (s1, (-1))
    else
      some (s1, (-1))
noncomputable def m_X39_statement : jS → Int → Int → Int → Option (jS × Int) := Classical.choose (⟨dm_X39_statement, rfl⟩ : ∃ f, f = dm_X39_statement)
theorem em_X39_statement : m_X39_statement = dm_X39_statement := Classical.choose_spec (⟨dm_X39_statement, rfl⟩ : ∃ f, f = dm_X39_statement)
def dm_X39_name (s : jS) (x0 x1 x2 : Int) : Option (jS × Int) :=
  jls (jp s 43 x0 0 0) fun s1 =>
  if x1 < 0 then
    some (s1, (-1))
  else
    (jlt s1 1000 (x0 + 3) 8 7).bind fun v2 =>
    if x1 < v2 then
      if x2 < 0 then
        some (s1, (-1))
      else
        (jlt s1 1000 (x0 + 8) 300 (W32 (150 + x1))).bind fun v3 =>
        if x2 < v3 then
          (jlt s1 1000 (x0 + 7) 4800 (W32 ((W32 (2400 + (W32 (16 * x1)))) + x2))).bind fun v4 =>
          some (s1, v4)
        else
          some (s1, (-1))
    else
      some (s1, (-1))
noncomputable def m_X39_name : jS → Int → Int → Int → Option (jS × Int) := Classical.choose (⟨dm_X39_name, rfl⟩ : ∃ f, f = dm_X39_name)
theorem em_X39_name : m_X39_name = dm_X39_name := Classical.choose_spec (⟨dm_X39_name, rfl⟩ : ∃ f, f = dm_X39_name)
def dm_X39_operand (s : jS) (x0 x1 x2 : Int) : Option (jS × Int) :=
  jls (jp s 43 x0 0 0) fun s1 =>
  if x1 < 0 then
    some (s1, (-1))
  else
    (jlt s1 1000 (x0 + 3) 8 5).bind fun v2 =>
    if x1 < v2 then
      if x2 < 0 then
        some (s1, (-1))
      else
        if x2 < 7 then
          (jlt s1 1000 (x0 + 5) 11200 (W32 ((W32 (5600 + (W32 (7 * x1)))) + x2))).bind fun v3 =>
          some (s1, v3)
        else
          some (s1, (-1))
    else
      some (s1, (-1))
noncomputable def m_X39_operand : jS → Int → Int → Int → Option (jS × Int) := Classical.choose (⟨dm_X39_operand, rfl⟩ : ∃ f, f = dm_X39_operand)
theorem em_X39_operand : m_X39_operand = dm_X39_operand := Classical.choose_spec (⟨dm_X39_operand, rfl⟩ : ∃ f, f = dm_X39_operand)
def dm_X39_item (s : jS) (x0 x1 x2 : Int) : Option (jS × Int) :=
  jls (jp s 43 x0 0 0) fun s1 =>
  if x1 < 0 then
    some (s1, 0)
  else
    (jlt s1 1000 (x0 + 3) 8 6).bind fun v2 =>
    if x1 < v2 then
      if x2 < 0 then
        some (s1, 0)
      else
        if x2 < 2 then
          (jlt s1 1000 (x0 + 6) 8000 (W32 ((W32 (4000 + (W32 (2 * x1)))) + x2))).bind fun v3 =>
          some (s1, v3)
        else
          some (s1, 0)
    else
      some (s1, 0)
noncomputable def m_X39_item : jS → Int → Int → Int → Option (jS × Int) := Classical.choose (⟨dm_X39_item, rfl⟩ : ∃ f, f = dm_X39_item)
theorem em_X39_item : m_X39_item = dm_X39_item := Classical.choose_spec (⟨dm_X39_item, rfl⟩ : ∃ f, f = dm_X39_item)
def dm_X39_worked (s : jS) (x0 x1 x2 : Int) : Option (Int) :=
  if x0 = 12 then
    some (W32 (x1 + x2))
  else
  if x0 = 13 then
    some (W32 (x1 - x2))
  else
  if x0 = 14 then
    some (W32 (x1 * x2))
  else
  if x0 = 15 then
    if x2 = (-1) then
      some (W32 (-x1))
    else
      (jdv x2 (I_div x1 x2)).bind fun v1 =>
      some v1
  else
  if x0 = 16 then
    if x2 = (-1) then
      some 0
    else
      (jdv x2 (I_rem x1 x2)).bind fun v2 =>
      some v2
  else
  if x0 = 17 then
    some (I_shl x1 (I_and x2 31))
  else
  if x0 = 18 then
    some (I_ushr x1 (I_and x2 31))
  else
  if x0 = 19 then
    some (I_and x1 x2)
  else
  if x0 = 20 then
    some (I_xor x1 x2)
  else
  some (I_or x1 x2)
noncomputable def m_X39_worked : jS → Int → Int → Int → Option (Int) := Classical.choose (⟨dm_X39_worked, rfl⟩ : ∃ f, f = dm_X39_worked)
theorem em_X39_worked : m_X39_worked = dm_X39_worked := Classical.choose_spec (⟨dm_X39_worked, rfl⟩ : ∃ f, f = dm_X39_worked)
def dm_X39_string (s : jS) (x0 x1 x2 : Int) : Option (jS × Int) :=
  jls (jp s 43 x0 0 0) fun s1 =>
  if x1 < 0 then
    some (s1, (-1))
  else
    (jlt s1 1000 (x0 + 3) 8 5).bind fun v2 =>
    if x1 < v2 then
      if x2 < 0 then
        some (s1, (-1))
      else
        (jlt s1 1000 (x0 + 5) 11200 (W32 ((W32 (5600 + (W32 (7 * x1)))) + 6))).bind fun v3 =>
        if x2 < v3 then
          (jlt s1 1000 (x0 + 16) 1600 (W32 (800 + x1))).bind fun v4 =>
          (jlt s1 1000 (x0 + 9) 6000 (W32 ((W32 (3000 + v4)) + x2))).bind fun v5 =>
          some (s1, v5)
        else
          some (s1, (-1))
    else
      some (s1, (-1))
noncomputable def m_X39_string : jS → Int → Int → Int → Option (jS × Int) := Classical.choose (⟨dm_X39_string, rfl⟩ : ∃ f, f = dm_X39_string)
theorem em_X39_string : m_X39_string = dm_X39_string := Classical.choose_spec (⟨dm_X39_string, rfl⟩ : ∃ f, f = dm_X39_string)
def dm_X40_letterOf (s : jS) (x0 x1 : Int) : Option (jS × Int) :=
  (jst s 1000 (x0 + 22) 128 (jf s 44 x0 36) x1).bind fun s1 =>
  jls (jp s1 44 x0 36 (W32 ((jf s1 44 x0 36) + 1))) fun s2 =>
  some (s2, 0)
noncomputable def m_X40_letterOf : jS → Int → Int → Option (jS × Int) := Classical.choose (⟨dm_X40_letterOf, rfl⟩ : ∃ f, f = dm_X40_letterOf)
theorem em_X40_letterOf : m_X40_letterOf = dm_X40_letterOf := Classical.choose_spec (⟨dm_X40_letterOf, rfl⟩ : ∃ f, f = dm_X40_letterOf)
def dm_X40_fault (s : jS) (x0 x1 x2 : Int) : Option (jS × Int) :=
  jls (jp s 44 x0 23 x2) fun s1 =>
  some (s1, x1)
noncomputable def m_X40_fault : jS → Int → Int → Int → Option (jS × Int) := Classical.choose (⟨dm_X40_fault, rfl⟩ : ∃ f, f = dm_X40_fault)
theorem em_X40_fault : m_X40_fault = dm_X40_fault := Classical.choose_spec (⟨dm_X40_fault, rfl⟩ : ∃ f, f = dm_X40_fault)
def dm_X40_read2 (s : jS) (x0 x1 : Int) : Option (Int) :=
  (jlt s 1000 (x0 + 21) 8192 x1).bind fun v1 =>
  (jlt s 1000 (x0 + 21) 8192 (W32 (x1 + 1))).bind fun v2 =>
  some (I_or v1 (I_shl v2 8))
noncomputable def m_X40_read2 : jS → Int → Int → Option (Int) := Classical.choose (⟨dm_X40_read2, rfl⟩ : ∃ f, f = dm_X40_read2)
theorem em_X40_read2 : m_X40_read2 = dm_X40_read2 := Classical.choose_spec (⟨dm_X40_read2, rfl⟩ : ∃ f, f = dm_X40_read2)
def dm_X40_read4 (s : jS) (x0 x1 : Int) : Option (Int) :=
  (m_X40_read2 s x0 x1).bind fun v1 =>
  (m_X40_read2 s x0 (W32 (x1 + 2))).bind fun v2 =>
  some (W64 (v1 + (W64 (65536 * v2))))
noncomputable def m_X40_read4 : jS → Int → Int → Option (Int) := Classical.choose (⟨dm_X40_read4, rfl⟩ : ∃ f, f = dm_X40_read4)
theorem em_X40_read4 : m_X40_read4 = dm_X40_read4 := Classical.choose_spec (⟨dm_X40_read4, rfl⟩ : ∃ f, f = dm_X40_read4)
def dm_X40_spotOf (s : jS) (x0 x1 x2 : Int) : Option (Int) :=
  some (W32 ((W32 ((jf s 44 x0 39) + (W32 (40 * x1)))) + (W32 (4 * x2))))
noncomputable def m_X40_spotOf : jS → Int → Int → Int → Option (Int) := Classical.choose (⟨dm_X40_spotOf, rfl⟩ : ∃ f, f = dm_X40_spotOf)
theorem em_X40_spotOf : m_X40_spotOf = dm_X40_spotOf := Classical.choose_spec (⟨dm_X40_spotOf, rfl⟩ : ∃ f, f = dm_X40_spotOf)
def dm_X40_isPower (s : jS) (x0 : Int) : Option (Int) :=
  if x0 = 1 then
    some (Wz 1)
  else
    if x0 = 2 then
      some (Wz 1)
    else
      if x0 = 4 then
        some (Wz 1)
      else
        if x0 = 8 then
          some (Wz 1)
        else
          if x0 = 16 then
            some (Wz 1)
          else
            if x0 = 32 then
              some (Wz 1)
            else
              if x0 = 64 then
                some (Wz 1)
              else
                some (Wz 0)
noncomputable def m_X40_isPower : jS → Int → Option (Int) := Classical.choose (⟨dm_X40_isPower, rfl⟩ : ∃ f, f = dm_X40_isPower)
theorem em_X40_isPower : m_X40_isPower = dm_X40_isPower := Classical.choose_spec (⟨dm_X40_isPower, rfl⟩ : ∃ f, f = dm_X40_isPower)
def dm_X40_meets (s : jS) (x0 x2 x4 x6 : Int) : Option (Int) :=
  if 0 < (L_cmp x2 0) then
    if 0 < (L_cmp x6 0) then
      if (L_cmp x0 (W64 (x4 + x6))) < 0 then
        if (L_cmp x4 (W64 (x0 + x2))) < 0 then
          some (Wz 1)
        else
          some (Wz 0)
      else
        some (Wz 0)
    else
      some (Wz 0)
  else
    some (Wz 0)
noncomputable def m_X40_meets : jS → Int → Int → Int → Int → Option (Int) := Classical.choose (⟨dm_X40_meets, rfl⟩ : ∃ f, f = dm_X40_meets)
theorem em_X40_meets : m_X40_meets = dm_X40_meets := Classical.choose_spec (⟨dm_X40_meets, rfl⟩ : ∃ f, f = dm_X40_meets)
def du_X40_isTitle_48 (s : jS) (x0 x1 x2 x3 : Int) : Option (Int) :=
  (jlt s 1000 (x0 + 23) 11 x1).bind fun v1 =>
  (jlt s 1000 (x0 + 22) 128 (W32 (v1 + x3))).bind fun v2 =>
  if v2 = 0 then
    (jlt s 1000 (x0 + 21) 8192 (W32 (x2 + x3))).bind fun v3 =>
    if v3 = 0 then
      some (Wz 1)
    else
      some (Wz 0)
  else
    some (Wz 0)
noncomputable def u_X40_isTitle_48 : jS → Int → Int → Int → Int → Option (Int) := Classical.choose (⟨du_X40_isTitle_48, rfl⟩ : ∃ f, f = du_X40_isTitle_48)
theorem eu_X40_isTitle_48 : u_X40_isTitle_48 = du_X40_isTitle_48 := Classical.choose_spec (⟨du_X40_isTitle_48, rfl⟩ : ∃ f, f = du_X40_isTitle_48)
def b_X40_isTitle_2 (s : jS) (x0 x1 x2 x3 : Int) : Option (List Int ⊕ (Int)) :=
  (jlt s 1000 (x0 + 23) 11 x1).bind fun v1 =>
  (jlt s 1000 (x0 + 22) 128 (W32 (v1 + x3))).bind fun v2 =>
  if v2 = 0 then
    jinr (u_X40_isTitle_48 s x0 x1 x2 x3)
  else
    (jlt s 1000 (x0 + 21) 8192 (W32 (x2 + x3))).bind fun v3 =>
    (jlt s 1000 (x0 + 23) 11 x1).bind fun v4 =>
    (jlt s 1000 (x0 + 22) 128 (W32 (v4 + x3))).bind fun v5 =>
    if v3 = v5 then
      some (.inl [x0, x1, x2, W32 (x3 + 1)])
    else
      jinr (u_X40_isTitle_48 s x0 x1 x2 x3)
def du_X40_isTitle_2 (s : jS) (x0 x1 x2 x3 : Int) : Option (Int) := jlpR (jc4 b_X40_isTitle_2) [x0, x1, x2, x3] s
noncomputable def u_X40_isTitle_2 : jS → Int → Int → Int → Int → Option (Int) := Classical.choose (⟨du_X40_isTitle_2, rfl⟩ : ∃ f, f = du_X40_isTitle_2)
theorem eu_X40_isTitle_2 : u_X40_isTitle_2 = du_X40_isTitle_2 := Classical.choose_spec (⟨du_X40_isTitle_2, rfl⟩ : ∃ f, f = du_X40_isTitle_2)
def dm_X40_isTitle (s : jS) (x0 x1 x2 : Int) : Option (Int) :=
  u_X40_isTitle_2 s x0 x1 x2 0
noncomputable def m_X40_isTitle : jS → Int → Int → Int → Option (Int) := Classical.choose (⟨dm_X40_isTitle, rfl⟩ : ∃ f, f = dm_X40_isTitle)
theorem em_X40_isTitle : m_X40_isTitle = dm_X40_isTitle := Classical.choose_spec (⟨dm_X40_isTitle, rfl⟩ : ∃ f, f = dm_X40_isTitle)
def du_X40_sortOf_25 (s : jS) (x0 : Int) : Option (Int) :=
  if x0 = 8 then
    some 2
  else
    if 8 < x0 then
      some 3
    else
      some 1
noncomputable def u_X40_sortOf_25 : jS → Int → Option (Int) := Classical.choose (⟨du_X40_sortOf_25, rfl⟩ : ∃ f, f = du_X40_sortOf_25)
theorem eu_X40_sortOf_25 : u_X40_sortOf_25 = du_X40_sortOf_25 := Classical.choose_spec (⟨du_X40_sortOf_25, rfl⟩ : ∃ f, f = du_X40_sortOf_25)
def dm_X40_sortOf (s : jS) (x0 : Int) : Option (Int) :=
  if x0 = 3 then
    some 8
  else
    if x0 < 5 then
      u_X40_sortOf_25 s x0
    else
      if x0 < 8 then
        some 4
      else
        u_X40_sortOf_25 s x0
noncomputable def m_X40_sortOf : jS → Int → Option (Int) := Classical.choose (⟨dm_X40_sortOf, rfl⟩ : ∃ f, f = dm_X40_sortOf)
theorem em_X40_sortOf : m_X40_sortOf = dm_X40_sortOf := Classical.choose_spec (⟨dm_X40_sortOf, rfl⟩ : ∃ f, f = dm_X40_sortOf)
def dm_X40_flagsOf (s : jS) (x0 : Int) : Option (Int) :=
  if x0 = 0 then
    some 6
  else
    if x0 = 1 then
      some 2
    else
      if x0 < 4 then
        some 3
      else
        if x0 < 5 then
          some 0
        else
          if x0 < 8 then
            some 64
          else
            some 0
noncomputable def m_X40_flagsOf : jS → Int → Option (Int) := Classical.choose (⟨dm_X40_flagsOf, rfl⟩ : ∃ f, f = dm_X40_flagsOf)
theorem em_X40_flagsOf : m_X40_flagsOf = dm_X40_flagsOf := Classical.choose_spec (⟨dm_X40_flagsOf, rfl⟩ : ∃ f, f = dm_X40_flagsOf)
def du_X40_eachOf_25 (s : jS) (x0 : Int) : Option (Int) :=
  if x0 = 8 then
    some 16
  else
    some 0
noncomputable def u_X40_eachOf_25 : jS → Int → Option (Int) := Classical.choose (⟨du_X40_eachOf_25, rfl⟩ : ∃ f, f = du_X40_eachOf_25)
theorem eu_X40_eachOf_25 : u_X40_eachOf_25 = du_X40_eachOf_25 := Classical.choose_spec (⟨du_X40_eachOf_25, rfl⟩ : ∃ f, f = du_X40_eachOf_25)
def dm_X40_eachOf (s : jS) (x0 : Int) : Option (Int) :=
  if x0 = 4 then
    some 2
  else
    if x0 < 5 then
      u_X40_eachOf_25 s x0
    else
      if x0 < 8 then
        some 12
      else
        u_X40_eachOf_25 s x0
noncomputable def m_X40_eachOf : jS → Int → Option (Int) := Classical.choose (⟨dm_X40_eachOf, rfl⟩ : ∃ f, f = dm_X40_eachOf)
theorem em_X40_eachOf : m_X40_eachOf = dm_X40_eachOf := Classical.choose_spec (⟨dm_X40_eachOf, rfl⟩ : ∃ f, f = dm_X40_eachOf)
def b_X40_nameLength_2 (s : jS) (x0 x1 x2 : Int) : Option (List Int ⊕ (Int)) :=
  (jlt s 1000 (x0 + 21) 8192 (W32 (x1 + x2))).bind fun v1 =>
  if v1 = 0 then
    jinr (some x2)
  else
    some (.inl [x0, x1, W32 (x2 + 1)])
def du_X40_nameLength_2 (s : jS) (x0 x1 x2 : Int) : Option (Int) := jlpR (jc3 b_X40_nameLength_2) [x0, x1, x2] s
noncomputable def u_X40_nameLength_2 : jS → Int → Int → Int → Option (Int) := Classical.choose (⟨du_X40_nameLength_2, rfl⟩ : ∃ f, f = du_X40_nameLength_2)
theorem eu_X40_nameLength_2 : u_X40_nameLength_2 = du_X40_nameLength_2 := Classical.choose_spec (⟨du_X40_nameLength_2, rfl⟩ : ∃ f, f = du_X40_nameLength_2)
def dm_X40_nameLength (s : jS) (x0 x1 : Int) : Option (Int) :=
  u_X40_nameLength_2 s x0 x1 0
noncomputable def m_X40_nameLength : jS → Int → Int → Option (Int) := Classical.choose (⟨dm_X40_nameLength, rfl⟩ : ∃ f, f = dm_X40_nameLength)
theorem em_X40_nameLength : m_X40_nameLength = dm_X40_nameLength := Classical.choose_spec (⟨dm_X40_nameLength, rfl⟩ : ∃ f, f = dm_X40_nameLength)
def du_X40_isKind_71 (s : jS) (x0 : Int) : Option (Int) :=
  if x0 = 51 then
    some (Wz 1)
  else
    some (Wz 0)
noncomputable def u_X40_isKind_71 : jS → Int → Option (Int) := Classical.choose (⟨du_X40_isKind_71, rfl⟩ : ∃ f, f = du_X40_isKind_71)
theorem eu_X40_isKind_71 : u_X40_isKind_71 = du_X40_isKind_71 := Classical.choose_spec (⟨du_X40_isKind_71, rfl⟩ : ∃ f, f = du_X40_isKind_71)
def du_X40_isKind_59 (s : jS) (x0 : Int) : Option (Int) :=
  if x0 < 43 then
    u_X40_isKind_71 s x0
  else
    if 45 < x0 then
      u_X40_isKind_71 s x0
    else
      some (Wz 1)
noncomputable def u_X40_isKind_59 : jS → Int → Option (Int) := Classical.choose (⟨du_X40_isKind_59, rfl⟩ : ∃ f, f = du_X40_isKind_59)
theorem eu_X40_isKind_59 : u_X40_isKind_59 = du_X40_isKind_59 := Classical.choose_spec (⟨du_X40_isKind_59, rfl⟩ : ∃ f, f = du_X40_isKind_59)
def du_X40_isKind_47 (s : jS) (x0 : Int) : Option (Int) :=
  if x0 < 37 then
    u_X40_isKind_59 s x0
  else
    if 39 < x0 then
      u_X40_isKind_59 s x0
    else
      some (Wz 1)
noncomputable def u_X40_isKind_47 : jS → Int → Option (Int) := Classical.choose (⟨du_X40_isKind_47, rfl⟩ : ∃ f, f = du_X40_isKind_47)
theorem eu_X40_isKind_47 : u_X40_isKind_47 = du_X40_isKind_47 := Classical.choose_spec (⟨du_X40_isKind_47, rfl⟩ : ∃ f, f = du_X40_isKind_47)
def du_X40_isKind_35 (s : jS) (x0 : Int) : Option (Int) :=
  if x0 < 33 then
    u_X40_isKind_47 s x0
  else
    if 35 < x0 then
      u_X40_isKind_47 s x0
    else
      some (Wz 1)
noncomputable def u_X40_isKind_35 : jS → Int → Option (Int) := Classical.choose (⟨du_X40_isKind_35, rfl⟩ : ∃ f, f = du_X40_isKind_35)
theorem eu_X40_isKind_35 : u_X40_isKind_35 = du_X40_isKind_35 := Classical.choose_spec (⟨du_X40_isKind_35, rfl⟩ : ∃ f, f = du_X40_isKind_35)
def dm_X40_isKind (s : jS) (x0 : Int) : Option (Int) :=
  if x0 = 1 then
    some (Wz 1)
  else
    if x0 = 16 then
      some (Wz 1)
    else
      if x0 = 17 then
        some (Wz 1)
      else
        if x0 = 19 then
          some (Wz 1)
        else
          if x0 < 23 then
            u_X40_isKind_35 s x0
          else
            if 28 < x0 then
              u_X40_isKind_35 s x0
            else
              some (Wz 1)
noncomputable def m_X40_isKind : jS → Int → Option (Int) := Classical.choose (⟨dm_X40_isKind, rfl⟩ : ∃ f, f = dm_X40_isKind)
theorem em_X40_isKind : m_X40_isKind = dm_X40_isKind := Classical.choose_spec (⟨dm_X40_isKind, rfl⟩ : ∃ f, f = dm_X40_isKind)
def dm_X40_isAlone (s : jS) (x0 : Int) : Option (Int) :=
  if x0 = 43 then
    some (Wz 1)
  else
    if x0 = 51 then
      some (Wz 1)
    else
      some (Wz 0)
noncomputable def m_X40_isAlone : jS → Int → Option (Int) := Classical.choose (⟨dm_X40_isAlone, rfl⟩ : ∃ f, f = dm_X40_isAlone)
theorem em_X40_isAlone : m_X40_isAlone = dm_X40_isAlone := Classical.choose_spec (⟨dm_X40_isAlone, rfl⟩ : ∃ f, f = dm_X40_isAlone)
def dm_X40_isSkip (s : jS) (x0 : Int) : Option (Int) :=
  if (L_cmp x0 0) < 0 then
    some (Wz 0)
  else
    if 0 < (L_cmp x0 62) then
      some (Wz 0)
    else
      (jdv 2 (L_rem x0 2)).bind fun v1 =>
      if (L_cmp v1 0) = 0 then
        some (Wz 1)
      else
        some (Wz 0)
noncomputable def m_X40_isSkip : jS → Int → Option (Int) := Classical.choose (⟨dm_X40_isSkip, rfl⟩ : ∃ f, f = dm_X40_isSkip)
theorem em_X40_isSkip : m_X40_isSkip = dm_X40_isSkip := Classical.choose_spec (⟨dm_X40_isSkip, rfl⟩ : ∃ f, f = dm_X40_isSkip)
def dm_X40_widthOf (s : jS) (x0 x1 : Int) : Option (Int) :=
  if x0 = 43 then
    some x1
  else
    if x0 = 51 then
      some 0
    else
      if x0 = 33 then
        some 1
      else
        if x0 = 37 then
          some 1
        else
          if x0 = 34 then
            some 2
          else
            if x0 = 38 then
              some 2
            else
              if x0 = 44 then
                some 2
              else
                if x0 = 45 then
                  some 2
                else
                  if x0 = 19 then
                    some 8
                  else
                    some 4
noncomputable def m_X40_widthOf : jS → Int → Int → Option (Int) := Classical.choose (⟨dm_X40_widthOf, rfl⟩ : ∃ f, f = dm_X40_widthOf)
theorem em_X40_widthOf : m_X40_widthOf = dm_X40_widthOf := Classical.choose_spec (⟨dm_X40_widthOf, rfl⟩ : ∃ f, f = dm_X40_widthOf)
def dm_X40_isShort (s : jS) (x0 : Int) : Option (Int) :=
  if (I_and x0 3) = 3 then
    some (Wz 0)
  else
    some (Wz 1)
noncomputable def m_X40_isShort : jS → Int → Option (Int) := Classical.choose (⟨dm_X40_isShort, rfl⟩ : ∃ f, f = dm_X40_isShort)
theorem em_X40_isShort : m_X40_isShort = dm_X40_isShort := Classical.choose_spec (⟨dm_X40_isShort, rfl⟩ : ∃ f, f = dm_X40_isShort)
def dm_X40_takeRelocation (s : jS) (x0 x1 x2 : Int) : Option (jS × Int) :=
  (jlt s 1000 (x0 + 19) 2 1).bind fun v1 =>
  jlet (W32 (300 + v1)) fun v2 =>
  (jst s 1000 (x0 + 14) 600 v2 x1).bind fun s3 =>
  (m_X40_read4 s3 x0 x2).bind fun v4 =>
  (jst s3 1000 (x0 + 15) 600 v2 (L2i v4)).bind fun s5 =>
  (jlt s5 1000 (x0 + 21) 8192 (W32 (x2 + 4))).bind fun v6 =>
  (jst s5 1000 (x0 + 16) 600 v2 v6).bind fun s7 =>
  (m_X40_read4 s7 x0 (W32 (x2 + 4))).bind fun v8 =>
  (jdv 256 (L_div v8 256)).bind fun v9 =>
  (jst s7 1000 (x0 + 17) 600 v2 (W32 ((L2i v9) - 1))).bind fun s10 =>
  (m_X40_read4 s10 x0 (W32 (x2 + 8))).bind fun v11 =>
  (jst s10 1000 (x0 + 18) 600 v2 (L2i v11)).bind fun s12 =>
  (jlt s12 1000 (x0 + 19) 2 1).bind fun v13 =>
  (jst s12 1000 (x0 + 19) 2 1 (W32 (v13 + 1))).bind fun s14 =>
  some (s14, 0)
noncomputable def m_X40_takeRelocation : jS → Int → Int → Int → Option (jS × Int) := Classical.choose (⟨dm_X40_takeRelocation, rfl⟩ : ∃ f, f = dm_X40_takeRelocation)
theorem em_X40_takeRelocation : m_X40_takeRelocation = dm_X40_takeRelocation := Classical.choose_spec (⟨dm_X40_takeRelocation, rfl⟩ : ∃ f, f = dm_X40_takeRelocation)
def dm_X40_section (s : jS) (x0 x1 x2 : Int) : Option (Int) :=
  if x1 < 0 then
    some (-1)
  else
    if 3 < x1 then
      some (-1)
    else
      if x2 = 0 then
        (jlt s 1000 (x0 + 2) 8 (W32 (4 + x1))).bind fun v1 =>
        some v1
      else
        if x2 = 1 then
          (jlt s 1000 (x0 + 3) 8 (W32 (4 + x1))).bind fun v2 =>
          some v2
        else
          some (-1)
noncomputable def m_X40_section : jS → Int → Int → Int → Option (Int) := Classical.choose (⟨dm_X40_section, rfl⟩ : ∃ f, f = dm_X40_section)
theorem em_X40_section : m_X40_section = dm_X40_section := Classical.choose_spec (⟨dm_X40_section, rfl⟩ : ∃ f, f = dm_X40_section)
def dm_X40_startAt (s : jS) (x0 x1 : Int) : Option (Int) :=
  if x1 < 0 then
    some (-1)
  else
    (jlt s 1000 (x0 + 5) 2 1).bind fun v1 =>
    if x1 < v1 then
      (jlt s 1000 (x0 + 4) 2048 (W32 (1024 + x1))).bind fun v2 =>
      some v2
    else
      some (-1)
noncomputable def m_X40_startAt : jS → Int → Int → Option (Int) := Classical.choose (⟨dm_X40_startAt, rfl⟩ : ∃ f, f = dm_X40_startAt)
theorem em_X40_startAt : m_X40_startAt = dm_X40_startAt := Classical.choose_spec (⟨dm_X40_startAt, rfl⟩ : ∃ f, f = dm_X40_startAt)
def dm_X40_symbolAt (s : jS) (x0 x1 x2 : Int) : Option (Int) :=
  if x1 < 0 then
    some (-1)
  else
    (jlt s 1000 (x0 + 13) 2 1).bind fun v1 =>
    if x1 < v1 then
      jlet (W32 (100 + x1)) fun v2 =>
      if x2 = 0 then
        (jlt s 1000 (x0 + 6) 200 v2).bind fun v3 =>
        some v3
      else
      if x2 = 1 then
        (jlt s 1000 (x0 + 7) 200 v2).bind fun v4 =>
        some v4
      else
      if x2 = 2 then
        (jlt s 1000 (x0 + 8) 200 v2).bind fun v5 =>
        some v5
      else
      if x2 = 3 then
        (jlt s 1000 (x0 + 9) 200 v2).bind fun v6 =>
        some v6
      else
      if x2 = 4 then
        (jlt s 1000 (x0 + 10) 200 v2).bind fun v7 =>
        some v7
      else
      if x2 = 5 then
        (jlt s 1000 (x0 + 11) 200 v2).bind fun v8 =>
        some v8
      else
      if x2 < 6 then
        some (-1)
      else
        (jlt s 1000 (x0 + 11) 200 v2).bind fun v9 =>
        if (W32 (x2 - 6)) < v9 then
          (jlt s 1000 (x0 + 12) 3200 (W32 ((W32 ((W32 (16 * v2)) + x2)) - 6))).bind fun v10 =>
          some v10
        else
          some (-1)
    else
      some (-1)
noncomputable def m_X40_symbolAt : jS → Int → Int → Int → Option (Int) := Classical.choose (⟨dm_X40_symbolAt, rfl⟩ : ∃ f, f = dm_X40_symbolAt)
theorem em_X40_symbolAt : m_X40_symbolAt = dm_X40_symbolAt := Classical.choose_spec (⟨dm_X40_symbolAt, rfl⟩ : ∃ f, f = dm_X40_symbolAt)
def dm_X40_relocationAt (s : jS) (x0 x1 x2 : Int) : Option (Int) :=
  if x1 < 0 then
    some (-1)
  else
    (jlt s 1000 (x0 + 19) 2 1).bind fun v1 =>
    if x1 < v1 then
      jlet (W32 (300 + x1)) fun v2 =>
      if x2 = 0 then
        (jlt s 1000 (x0 + 14) 600 v2).bind fun v3 =>
        some v3
      else
        if x2 = 1 then
          (jlt s 1000 (x0 + 15) 600 v2).bind fun v4 =>
          some v4
        else
          if x2 = 2 then
            (jlt s 1000 (x0 + 16) 600 v2).bind fun v5 =>
            some v5
          else
            if x2 = 3 then
              (jlt s 1000 (x0 + 17) 600 v2).bind fun v6 =>
              some v6
            else
              if x2 = 4 then
                (jlt s 1000 (x0 + 18) 600 v2).bind fun v7 =>
                some v7
              else
                some (-1)
    else
      some (-1)
noncomputable def m_X40_relocationAt : jS → Int → Int → Int → Option (Int) := Classical.choose (⟨dm_X40_relocationAt, rfl⟩ : ∃ f, f = dm_X40_relocationAt)
theorem em_X40_relocationAt : m_X40_relocationAt = dm_X40_relocationAt := Classical.choose_spec (⟨dm_X40_relocationAt, rfl⟩ : ∃ f, f = dm_X40_relocationAt)
def du_X40_count_53 (s : jS) (x0 x1 x2 : Int) : Option (Int) :=
  if x1 = 0 then
    (jlt s 1000 (x0 + 5) 2 1).bind fun v1 =>
    some v1
  else
    if x1 = 1 then
      (jlt s 1000 (x0 + 13) 2 1).bind fun v2 =>
      some v2
    else
      if x1 = 2 then
        (jlt s 1000 (x0 + 19) 2 1).bind fun v3 =>
        some v3
      else
        if x1 = 3 then
          some x2
        else
          some (-1)
noncomputable def u_X40_count_53 : jS → Int → Int → Int → Option (Int) := Classical.choose (⟨du_X40_count_53, rfl⟩ : ∃ f, f = du_X40_count_53)
theorem eu_X40_count_53 : u_X40_count_53 = du_X40_count_53 := Classical.choose_spec (⟨du_X40_count_53, rfl⟩ : ∃ f, f = du_X40_count_53)
def du_X40_count_45 (s : jS) (x0 x1 x3 y0 y1 : Int) : Option (List Int ⊕ (Int)) :=
  jlet (W32 (y1 + y0)) fun v1 =>
  some (.inl [x0, x1, v1, W32 (x3 + 1)])
noncomputable def u_X40_count_45 : jS → Int → Int → Int → Int → Int → Option (List Int ⊕ (Int)) := Classical.choose (⟨du_X40_count_45, rfl⟩ : ∃ f, f = du_X40_count_45)
theorem eu_X40_count_45 : u_X40_count_45 = du_X40_count_45 := Classical.choose_spec (⟨du_X40_count_45, rfl⟩ : ∃ f, f = du_X40_count_45)
def b_X40_count_4 (s : jS) (x0 x1 x2 x3 : Int) : Option (List Int ⊕ (Int)) :=
  (jlt s 1000 (x0 + 5) 2 1).bind fun v1 =>
  if x3 < v1 then
    (jlt s 1000 (x0 + 4) 2048 (W32 (1024 + x3))).bind fun v2 =>
    (jlt s 1000 (x0 + 1) 12288 (W32 (6144 + v2))).bind fun v3 =>
    (m_X40_isShort s v3).bind fun v4 =>
    if v4 = 0 then
      u_X40_count_45 s x0 x1 x3 0 x2
    else
      u_X40_count_45 s x0 x1 x3 1 x2
  else
    jinr (u_X40_count_53 s x0 x1 x2)
def du_X40_count_4 (s : jS) (x0 x1 x2 x3 : Int) : Option (Int) := jlpR (jc4 b_X40_count_4) [x0, x1, x2, x3] s
noncomputable def u_X40_count_4 : jS → Int → Int → Int → Int → Option (Int) := Classical.choose (⟨du_X40_count_4, rfl⟩ : ∃ f, f = du_X40_count_4)
theorem eu_X40_count_4 : u_X40_count_4 = du_X40_count_4 := Classical.choose_spec (⟨du_X40_count_4, rfl⟩ : ∃ f, f = du_X40_count_4)
def dm_X40_count (s : jS) (x0 x1 : Int) : Option (Int) :=
  u_X40_count_4 s x0 x1 0 0
noncomputable def m_X40_count : jS → Int → Int → Option (Int) := Classical.choose (⟨dm_X40_count, rfl⟩ : ∃ f, f = dm_X40_count)
theorem em_X40_count : m_X40_count = dm_X40_count := Classical.choose_spec (⟨dm_X40_count, rfl⟩ : ∃ f, f = dm_X40_count)
def dm_X40_place (s : jS) (x0 : Int) : Option (Int) :=
  some (jf s 44 x0 23)
noncomputable def m_X40_place : jS → Int → Option (Int) := Classical.choose (⟨dm_X40_place, rfl⟩ : ∃ f, f = dm_X40_place)
theorem em_X40_place : m_X40_place = dm_X40_place := Classical.choose_spec (⟨dm_X40_place, rfl⟩ : ∃ f, f = dm_X40_place)
def du_X40_clear_27 (s : jS) (x0 : Int) : Option (jS × Int) :=
  (jst s 1000 (x0 + 5) 2 0 0).bind fun s1 =>
  (jst s1 1000 (x0 + 13) 2 0 0).bind fun s2 =>
  (jst s2 1000 (x0 + 19) 2 0 0).bind fun s3 =>
  jls (jp s3 44 x0 20 0) fun s4 =>
  some (s4, 0)
noncomputable def u_X40_clear_27 : jS → Int → Option (jS × Int) := Classical.choose (⟨du_X40_clear_27, rfl⟩ : ∃ f, f = du_X40_clear_27)
theorem eu_X40_clear_27 : u_X40_clear_27 = du_X40_clear_27 := Classical.choose_spec (⟨du_X40_clear_27, rfl⟩ : ∃ f, f = du_X40_clear_27)
def b_X40_clear_2 (s : jS) (x0 x1 : Int) : Option ((jS × List Int) ⊕ (jS × Int)) :=
  if x1 < 4 then
    (jst s 1000 (x0 + 2) 8 x1 0).bind fun s1 =>
    (jst s1 1000 (x0 + 3) 8 x1 1).bind fun s2 =>
    some (.inl (s2, [x0, W32 (x1 + 1)]))
  else
    jinr (u_X40_clear_27 s x0)
def du_X40_clear_2 (s : jS) (x0 x1 : Int) : Option (jS × Int) := jlpW (jc2 b_X40_clear_2) [x0, x1] s
noncomputable def u_X40_clear_2 : jS → Int → Int → Option (jS × Int) := Classical.choose (⟨du_X40_clear_2, rfl⟩ : ∃ f, f = du_X40_clear_2)
theorem eu_X40_clear_2 : u_X40_clear_2 = du_X40_clear_2 := Classical.choose_spec (⟨du_X40_clear_2, rfl⟩ : ∃ f, f = du_X40_clear_2)
def dm_X40_clear (s : jS) (x0 : Int) : Option (jS × Int) :=
  u_X40_clear_2 s x0 0
noncomputable def m_X40_clear : jS → Int → Option (jS × Int) := Classical.choose (⟨dm_X40_clear, rfl⟩ : ∃ f, f = dm_X40_clear)
theorem em_X40_clear : m_X40_clear = dm_X40_clear := Classical.choose_spec (⟨dm_X40_clear, rfl⟩ : ∃ f, f = dm_X40_clear)
def du_X40_start_49 (s : jS) (x0 x1 x2 : Int) : Option (jS × Int) :=
  (jst s 1000 (x0 + 4) 2048 x2 x1).bind fun s1 =>
  (jlt s1 1000 (x0 + 5) 2 0).bind fun v2 =>
  (jst s1 1000 (x0 + 5) 2 0 (W32 (v2 + 1))).bind fun s3 =>
  some (s3, Wz 1)
noncomputable def u_X40_start_49 : jS → Int → Int → Int → Option (jS × Int) := Classical.choose (⟨du_X40_start_49, rfl⟩ : ∃ f, f = du_X40_start_49)
theorem eu_X40_start_49 : u_X40_start_49 = du_X40_start_49 := Classical.choose_spec (⟨du_X40_start_49, rfl⟩ : ∃ f, f = du_X40_start_49)
def dm_X40_start (s : jS) (x0 x1 : Int) : Option (jS × Int) :=
  (jlt s 1000 (x0 + 5) 2 0).bind fun v1 =>
  if x1 < 0 then
    some (s, Wz 0)
  else
    if 2046 < x1 then
      some (s, Wz 0)
    else
      (jdv 2 (I_rem x1 2)).bind fun v2 =>
      if v2 = 0 then
        if v1 = 1024 then
          some (s, Wz 0)
        else
          if 0 < v1 then
            (jlt s 1000 (x0 + 4) 2048 (W32 (v1 - 1))).bind fun v3 =>
            if v3 < x1 then
              u_X40_start_49 s x0 x1 v1
            else
              some (s, Wz 0)
          else
            u_X40_start_49 s x0 x1 v1
      else
        some (s, Wz 0)
noncomputable def m_X40_start : jS → Int → Int → Option (jS × Int) := Classical.choose (⟨dm_X40_start, rfl⟩ : ∃ f, f = dm_X40_start)
theorem em_X40_start : m_X40_start = dm_X40_start := Classical.choose_spec (⟨dm_X40_start, rfl⟩ : ∃ f, f = dm_X40_start)
def dm_X40_letter (s : jS) (x0 x1 : Int) : Option (jS × Int) :=
  if x1 < 33 then
    some (s, Wz 0)
  else
    if 126 < x1 then
      some (s, Wz 0)
    else
      if (jf s 44 x0 20) = 16 then
        some (s, Wz 0)
      else
        (jst s 1000 (x0 + 20) 16 (jf s 44 x0 20) x1).bind fun s1 =>
        jls (jp s1 44 x0 20 (W32 ((jf s1 44 x0 20) + 1))) fun s2 =>
        some (s2, Wz 1)
noncomputable def m_X40_letter : jS → Int → Int → Option (jS × Int) := Classical.choose (⟨dm_X40_letter, rfl⟩ : ∃ f, f = dm_X40_letter)
theorem em_X40_letter : m_X40_letter = dm_X40_letter := Classical.choose_spec (⟨dm_X40_letter, rfl⟩ : ∃ f, f = dm_X40_letter)
def du_X40_isSameName_71 (s : jS) (x0 x1 x2 x4 y0 : Int) : Option (List Int ⊕ (Int)) :=
  some (.inl [x0, x1, x2, y0, W32 (x4 + 1)])
noncomputable def u_X40_isSameName_71 : jS → Int → Int → Int → Int → Int → Option (List Int ⊕ (Int)) := Classical.choose (⟨du_X40_isSameName_71, rfl⟩ : ∃ f, f = du_X40_isSameName_71)
theorem eu_X40_isSameName_71 : u_X40_isSameName_71 = du_X40_isSameName_71 := Classical.choose_spec (⟨du_X40_isSameName_71, rfl⟩ : ∃ f, f = du_X40_isSameName_71)
def b_X40_isSameName_24 (s : jS) (x0 x1 x2 x3 x4 : Int) : Option (List Int ⊕ (Int)) :=
  (jlt s 1000 (x0 + 11) 200 x1).bind fun v1 =>
  if x4 < v1 then
    if x3 = 0 then
      jinr (some (Wz x3))
    else
      (jlt s 1000 (x0 + 12) 3200 (W32 ((W32 (16 * x1)) + x4))).bind fun v2 =>
      (jlt s 1000 (x0 + 12) 3200 (W32 ((W32 (16 * x2)) + x4))).bind fun v3 =>
      if v2 = v3 then
        u_X40_isSameName_71 s x0 x1 x2 x4 1
      else
        u_X40_isSameName_71 s x0 x1 x2 x4 0
  else
    jinr (some (Wz x3))
def du_X40_isSameName_24 (s : jS) (x0 x1 x2 x3 x4 : Int) : Option (Int) := jlpR (jc5 b_X40_isSameName_24) [x0, x1, x2, x3, x4] s
noncomputable def u_X40_isSameName_24 : jS → Int → Int → Int → Int → Int → Option (Int) := Classical.choose (⟨du_X40_isSameName_24, rfl⟩ : ∃ f, f = du_X40_isSameName_24)
theorem eu_X40_isSameName_24 : u_X40_isSameName_24 = du_X40_isSameName_24 := Classical.choose_spec (⟨du_X40_isSameName_24, rfl⟩ : ∃ f, f = du_X40_isSameName_24)
def du_X40_isSameName_20 (s : jS) (x0 x1 x2 y0 : Int) : Option (Int) :=
  u_X40_isSameName_24 s x0 x1 x2 y0 0
noncomputable def u_X40_isSameName_20 : jS → Int → Int → Int → Int → Option (Int) := Classical.choose (⟨du_X40_isSameName_20, rfl⟩ : ∃ f, f = du_X40_isSameName_20)
theorem eu_X40_isSameName_20 : u_X40_isSameName_20 = du_X40_isSameName_20 := Classical.choose_spec (⟨du_X40_isSameName_20, rfl⟩ : ∃ f, f = du_X40_isSameName_20)
def dm_X40_isSameName (s : jS) (x0 x1 x2 : Int) : Option (Int) :=
  (jlt s 1000 (x0 + 11) 200 x1).bind fun v1 =>
  (jlt s 1000 (x0 + 11) 200 x2).bind fun v2 =>
  if v1 = v2 then
    u_X40_isSameName_20 s x0 x1 x2 1
  else
    u_X40_isSameName_20 s x0 x1 x2 0
noncomputable def m_X40_isSameName : jS → Int → Int → Int → Option (Int) := Classical.choose (⟨dm_X40_isSameName, rfl⟩ : ∃ f, f = dm_X40_isSameName)
theorem em_X40_isSameName : m_X40_isSameName = dm_X40_isSameName := Classical.choose_spec (⟨dm_X40_isSameName, rfl⟩ : ∃ f, f = dm_X40_isSameName)
def dm_X40_isSymbol (s : jS) (x0 x1 x2 x3 x4 : Int) : Option (Int) :=
  if x1 = (-1) then
    if x2 = 0 then
      if x3 = 0 then
        if x4 = 0 then
          some (Wz 0)
        else
          some (Wz 1)
      else
        some (Wz 0)
    else
      some (Wz 0)
  else
  if x1 = 4 then
    if x3 < 0 then
      some (Wz 0)
    else
      some (Wz 1)
  else
  if x1 = 5 then
    (m_X40_isPower s x2).bind fun v1 =>
    if v1 = 0 then
      some (Wz 0)
    else
      if x3 < 1 then
        some (Wz 0)
      else
        if 4096 < x3 then
          some (Wz 0)
        else
          if x4 = 1 then
            some (Wz 1)
          else
            some (Wz 0)
  else
  if x2 < 0 then
    some (Wz 0)
  else
    if x3 < 0 then
      some (Wz 0)
    else
      some (Wz 1)
noncomputable def m_X40_isSymbol : jS → Int → Int → Int → Int → Int → Option (Int) := Classical.choose (⟨dm_X40_isSymbol, rfl⟩ : ∃ f, f = dm_X40_isSymbol)
theorem em_X40_isSymbol : m_X40_isSymbol = dm_X40_isSymbol := Classical.choose_spec (⟨dm_X40_isSymbol, rfl⟩ : ∃ f, f = dm_X40_isSymbol)
def b_X40_unfit_108 (s : jS) (x0 x1 : Int) : Option (List Int ⊕ (Int)) :=
  (jlt s 1000 (x0 + 19) 2 0).bind fun v1 =>
  if x1 < v1 then
    (jlt s 1000 (x0 + 15) 600 x1).bind fun v2 =>
    (jlt s 1000 (x0 + 16) 600 x1).bind fun v3 =>
    (jlt s 1000 (x0 + 18) 600 x1).bind fun v4 =>
    (m_X40_widthOf s v3 v4).bind fun v5 =>
    (jlt s 1000 (x0 + 14) 600 x1).bind fun v6 =>
    (jlt s 1000 (x0 + 2) 8 v6).bind fun v7 =>
    if 0 < (L_cmp (W64 (v2 + v5)) v7) then
      jinr (some (-3))
    else
      some (.inl [x0, W32 (x1 + 1)])
  else
    jinr (some 0)
def du_X40_unfit_108 (s : jS) (x0 x1 : Int) : Option (Int) := jlpR (jc2 b_X40_unfit_108) [x0, x1] s
noncomputable def u_X40_unfit_108 : jS → Int → Int → Option (Int) := Classical.choose (⟨du_X40_unfit_108, rfl⟩ : ∃ f, f = du_X40_unfit_108)
theorem eu_X40_unfit_108 : u_X40_unfit_108 = du_X40_unfit_108 := Classical.choose_spec (⟨du_X40_unfit_108, rfl⟩ : ∃ f, f = du_X40_unfit_108)
def du_X40_unfit_106 (s : jS) (x0 : Int) : Option (Int) :=
  u_X40_unfit_108 s x0 0
noncomputable def u_X40_unfit_106 : jS → Int → Option (Int) := Classical.choose (⟨du_X40_unfit_106, rfl⟩ : ∃ f, f = du_X40_unfit_106)
theorem eu_X40_unfit_106 : u_X40_unfit_106 = du_X40_unfit_106 := Classical.choose_spec (⟨du_X40_unfit_106, rfl⟩ : ∃ f, f = du_X40_unfit_106)
def du_X40_unfit_100 (s : jS) (x0 x1 : Int) : Option (List Int ⊕ (Int)) :=
  some (.inl [x0, W32 (x1 + 1)])
noncomputable def u_X40_unfit_100 : jS → Int → Int → Option (List Int ⊕ (Int)) := Classical.choose (⟨du_X40_unfit_100, rfl⟩ : ∃ f, f = du_X40_unfit_100)
theorem eu_X40_unfit_100 : u_X40_unfit_100 = du_X40_unfit_100 := Classical.choose_spec (⟨du_X40_unfit_100, rfl⟩ : ∃ f, f = du_X40_unfit_100)
def b_X40_unfit_37 (s : jS) (x0 x1 : Int) : Option (List Int ⊕ (Int)) :=
  (jlt s 1000 (x0 + 13) 2 0).bind fun v1 =>
  if x1 < v1 then
    (jlt s 1000 (x0 + 6) 200 x1).bind fun v2 =>
    if v2 < 0 then
      u_X40_unfit_100 s x0 x1
    else
      (jlt s 1000 (x0 + 6) 200 x1).bind fun v3 =>
      if v3 < 4 then
        (jlt s 1000 (x0 + 7) 200 x1).bind fun v4 =>
        (jlt s 1000 (x0 + 8) 200 x1).bind fun v5 =>
        (jlt s 1000 (x0 + 6) 200 x1).bind fun v6 =>
        (jlt s 1000 (x0 + 2) 8 v6).bind fun v7 =>
        if 0 < (L_cmp (W64 (v4 + v5)) v7) then
          jinr (some (-2))
        else
          u_X40_unfit_100 s x0 x1
      else
        u_X40_unfit_100 s x0 x1
  else
    jinr (u_X40_unfit_106 s x0)
def du_X40_unfit_37 (s : jS) (x0 x1 : Int) : Option (Int) := jlpR (jc2 b_X40_unfit_37) [x0, x1] s
noncomputable def u_X40_unfit_37 : jS → Int → Int → Option (Int) := Classical.choose (⟨du_X40_unfit_37, rfl⟩ : ∃ f, f = du_X40_unfit_37)
theorem eu_X40_unfit_37 : u_X40_unfit_37 = du_X40_unfit_37 := Classical.choose_spec (⟨du_X40_unfit_37, rfl⟩ : ∃ f, f = du_X40_unfit_37)
def du_X40_unfit_35 (s : jS) (x0 : Int) : Option (Int) :=
  u_X40_unfit_37 s x0 0
noncomputable def u_X40_unfit_35 : jS → Int → Option (Int) := Classical.choose (⟨du_X40_unfit_35, rfl⟩ : ∃ f, f = du_X40_unfit_35)
theorem eu_X40_unfit_35 : u_X40_unfit_35 = du_X40_unfit_35 := Classical.choose_spec (⟨du_X40_unfit_35, rfl⟩ : ∃ f, f = du_X40_unfit_35)
def b_X40_unfit_2 (s : jS) (x0 x1 : Int) : Option (List Int ⊕ (Int)) :=
  (jlt s 1000 (x0 + 5) 2 0).bind fun v1 =>
  if x1 < v1 then
    (jlt s 1000 (x0 + 4) 2048 x1).bind fun v2 =>
    (jlt s 1000 (x0 + 2) 8 0).bind fun v3 =>
    if v2 < v3 then
      some (.inl [x0, W32 (x1 + 1)])
    else
      jinr (some (-1))
  else
    jinr (u_X40_unfit_35 s x0)
def du_X40_unfit_2 (s : jS) (x0 x1 : Int) : Option (Int) := jlpR (jc2 b_X40_unfit_2) [x0, x1] s
noncomputable def u_X40_unfit_2 : jS → Int → Int → Option (Int) := Classical.choose (⟨du_X40_unfit_2, rfl⟩ : ∃ f, f = du_X40_unfit_2)
theorem eu_X40_unfit_2 : u_X40_unfit_2 = du_X40_unfit_2 := Classical.choose_spec (⟨du_X40_unfit_2, rfl⟩ : ∃ f, f = du_X40_unfit_2)
def dm_X40_unfit (s : jS) (x0 : Int) : Option (Int) :=
  u_X40_unfit_2 s x0 0
noncomputable def m_X40_unfit : jS → Int → Option (Int) := Classical.choose (⟨dm_X40_unfit, rfl⟩ : ∃ f, f = dm_X40_unfit)
theorem em_X40_unfit : m_X40_unfit = dm_X40_unfit := Classical.choose_spec (⟨dm_X40_unfit, rfl⟩ : ∃ f, f = dm_X40_unfit)
def dm_X40_roundUp (s : jS) (x0 x1 : Int) : Option (Int) :=
  (jdv x1 (I_div (W32 ((W32 (x0 + x1)) - 1)) x1)).bind fun v1 =>
  some (W32 (v1 * x1))
noncomputable def m_X40_roundUp : jS → Int → Int → Option (Int) := Classical.choose (⟨dm_X40_roundUp, rfl⟩ : ∃ f, f = dm_X40_roundUp)
theorem em_X40_roundUp : m_X40_roundUp = dm_X40_roundUp := Classical.choose_spec (⟨dm_X40_roundUp, rfl⟩ : ∃ f, f = dm_X40_roundUp)
def du_X40_relocationsOf_30 (s : jS) (x0 x1 x3 y0 y1 : Int) : Option (List Int ⊕ (Int)) :=
  jlet (W32 (y1 + y0)) fun v1 =>
  some (.inl [x0, x1, v1, W32 (x3 + 1)])
noncomputable def u_X40_relocationsOf_30 : jS → Int → Int → Int → Int → Int → Option (List Int ⊕ (Int)) := Classical.choose (⟨du_X40_relocationsOf_30, rfl⟩ : ∃ f, f = du_X40_relocationsOf_30)
theorem eu_X40_relocationsOf_30 : u_X40_relocationsOf_30 = du_X40_relocationsOf_30 := Classical.choose_spec (⟨du_X40_relocationsOf_30, rfl⟩ : ∃ f, f = du_X40_relocationsOf_30)
def b_X40_relocationsOf_4 (s : jS) (x0 x1 x2 x3 : Int) : Option (List Int ⊕ (Int)) :=
  (jlt s 1000 (x0 + 19) 2 0).bind fun v1 =>
  if x3 < v1 then
    (jlt s 1000 (x0 + 14) 600 x3).bind fun v2 =>
    if v2 = x1 then
      u_X40_relocationsOf_30 s x0 x1 x3 1 x2
    else
      u_X40_relocationsOf_30 s x0 x1 x3 0 x2
  else
    jinr (some x2)
def du_X40_relocationsOf_4 (s : jS) (x0 x1 x2 x3 : Int) : Option (Int) := jlpR (jc4 b_X40_relocationsOf_4) [x0, x1, x2, x3] s
noncomputable def u_X40_relocationsOf_4 : jS → Int → Int → Int → Int → Option (Int) := Classical.choose (⟨du_X40_relocationsOf_4, rfl⟩ : ∃ f, f = du_X40_relocationsOf_4)
theorem eu_X40_relocationsOf_4 : u_X40_relocationsOf_4 = du_X40_relocationsOf_4 := Classical.choose_spec (⟨du_X40_relocationsOf_4, rfl⟩ : ∃ f, f = du_X40_relocationsOf_4)
def dm_X40_relocationsOf (s : jS) (x0 x1 : Int) : Option (Int) :=
  u_X40_relocationsOf_4 s x0 x1 0 0
noncomputable def m_X40_relocationsOf : jS → Int → Int → Option (Int) := Classical.choose (⟨dm_X40_relocationsOf, rfl⟩ : ∃ f, f = dm_X40_relocationsOf)
theorem em_X40_relocationsOf : m_X40_relocationsOf = dm_X40_relocationsOf := Classical.choose_spec (⟨dm_X40_relocationsOf, rfl⟩ : ∃ f, f = dm_X40_relocationsOf)
def du_X40_order_81 (s : jS) (x0 x1 x3 y0 : Int) : Option ((jS × List Int) ⊕ (jS × Int)) :=
  some (.inl (s, [x0, x1, y0, W32 (x3 + 1)]))
noncomputable def u_X40_order_81 : jS → Int → Int → Int → Int → Option ((jS × List Int) ⊕ (jS × Int)) := Classical.choose (⟨du_X40_order_81, rfl⟩ : ∃ f, f = du_X40_order_81)
theorem eu_X40_order_81 : u_X40_order_81 = du_X40_order_81 := Classical.choose_spec (⟨du_X40_order_81, rfl⟩ : ∃ f, f = du_X40_order_81)
def du_X40_order_72 (s : jS) (x0 x1 x2 x3 : Int) : Option ((jS × List Int) ⊕ (jS × Int)) :=
  if x3 = 0 then
    u_X40_order_81 s x0 x1 x3 x1
  else
    u_X40_order_81 s x0 x1 x3 x2
noncomputable def u_X40_order_72 : jS → Int → Int → Int → Int → Option ((jS × List Int) ⊕ (jS × Int)) := Classical.choose (⟨du_X40_order_72, rfl⟩ : ∃ f, f = du_X40_order_72)
theorem eu_X40_order_72 : u_X40_order_72 = du_X40_order_72 := Classical.choose_spec (⟨du_X40_order_72, rfl⟩ : ∃ f, f = du_X40_order_72)
def du_X40_order_66 (s : jS) (x0 x1 x2 x3 x4 : Int) : Option ((jS × List Int) ⊕ ((jS × List Int) ⊕ (jS × Int))) :=
  some (.inl (s, [x0, x1, x2, x3, W32 (x4 + 1)]))
noncomputable def u_X40_order_66 : jS → Int → Int → Int → Int → Int → Option ((jS × List Int) ⊕ ((jS × List Int) ⊕ (jS × Int))) := Classical.choose (⟨du_X40_order_66, rfl⟩ : ∃ f, f = du_X40_order_66)
theorem eu_X40_order_66 : u_X40_order_66 = du_X40_order_66 := Classical.choose_spec (⟨du_X40_order_66, rfl⟩ : ∃ f, f = du_X40_order_66)
def du_X40_order_49 (s : jS) (x0 x1 x2 x3 x4 y0 y1 : Int) : Option ((jS × List Int) ⊕ ((jS × List Int) ⊕ (jS × Int))) :=
  if y1 = y0 then
    (jst s 1000 (x0 + 30) 100 x4 x1).bind fun s1 =>
    u_X40_order_66 s1 x0 (W32 (x1 + 1)) x2 x3 x4
  else
    u_X40_order_66 s x0 x1 x2 x3 x4
noncomputable def u_X40_order_49 : jS → Int → Int → Int → Int → Int → Int → Int → Option ((jS × List Int) ⊕ ((jS × List Int) ⊕ (jS × Int))) := Classical.choose (⟨du_X40_order_49, rfl⟩ : ∃ f, f = du_X40_order_49)
theorem eu_X40_order_49 : u_X40_order_49 = du_X40_order_49 := Classical.choose_spec (⟨du_X40_order_49, rfl⟩ : ∃ f, f = du_X40_order_49)
def du_X40_order_40 (s : jS) (x0 x1 x2 x3 x4 y0 : Int) : Option ((jS × List Int) ⊕ ((jS × List Int) ⊕ (jS × Int))) :=
  if x3 = 0 then
    u_X40_order_49 s x0 x1 x2 x3 x4 1 y0
  else
    u_X40_order_49 s x0 x1 x2 x3 x4 0 y0
noncomputable def u_X40_order_40 : jS → Int → Int → Int → Int → Int → Int → Option ((jS × List Int) ⊕ ((jS × List Int) ⊕ (jS × Int))) := Classical.choose (⟨du_X40_order_40, rfl⟩ : ∃ f, f = du_X40_order_40)
theorem eu_X40_order_40 : u_X40_order_40 = du_X40_order_40 := Classical.choose_spec (⟨du_X40_order_40, rfl⟩ : ∃ f, f = du_X40_order_40)
def b_X40_order_14 (s : jS) (x0 x1 x2 x3 x4 : Int) : Option ((jS × List Int) ⊕ ((jS × List Int) ⊕ (jS × Int))) :=
  (jlt s 1000 (x0 + 13) 2 0).bind fun v1 =>
  if x4 < v1 then
    (jlt s 1000 (x0 + 9) 200 x4).bind fun v2 =>
    if v2 = 0 then
      u_X40_order_40 s x0 x1 x2 x3 x4 1
    else
      u_X40_order_40 s x0 x1 x2 x3 x4 0
  else
    jinr (u_X40_order_72 s x0 x1 x2 x3)
def du_X40_order_14 (s : jS) (x0 x1 x2 x3 x4 : Int) : Option ((jS × List Int) ⊕ (jS × Int)) := jlpW (jc5 b_X40_order_14) [x0, x1, x2, x3, x4] s
noncomputable def u_X40_order_14 : jS → Int → Int → Int → Int → Int → Option ((jS × List Int) ⊕ (jS × Int)) := Classical.choose (⟨du_X40_order_14, rfl⟩ : ∃ f, f = du_X40_order_14)
theorem eu_X40_order_14 : u_X40_order_14 = du_X40_order_14 := Classical.choose_spec (⟨du_X40_order_14, rfl⟩ : ∃ f, f = du_X40_order_14)
def b_X40_order_6 (s : jS) (x0 x1 x2 x3 : Int) : Option ((jS × List Int) ⊕ (jS × Int)) :=
  if x3 < 2 then
    u_X40_order_14 s x0 x1 x2 x3 0
  else
    jinr (some (s, x2))
def du_X40_order_6 (s : jS) (x0 x1 x2 x3 : Int) : Option (jS × Int) := jlpW (jc4 b_X40_order_6) [x0, x1, x2, x3] s
noncomputable def u_X40_order_6 : jS → Int → Int → Int → Int → Option (jS × Int) := Classical.choose (⟨du_X40_order_6, rfl⟩ : ∃ f, f = du_X40_order_6)
theorem eu_X40_order_6 : u_X40_order_6 = du_X40_order_6 := Classical.choose_spec (⟨du_X40_order_6, rfl⟩ : ∃ f, f = du_X40_order_6)
def dm_X40_order (s : jS) (x0 : Int) : Option (jS × Int) :=
  u_X40_order_6 s x0 0 0 0
noncomputable def m_X40_order : jS → Int → Option (jS × Int) := Classical.choose (⟨dm_X40_order, rfl⟩ : ∃ f, f = dm_X40_order)
theorem em_X40_order : m_X40_order = dm_X40_order := Classical.choose_spec (⟨dm_X40_order, rfl⟩ : ∃ f, f = dm_X40_order)
def dm_X40_begin (s : jS) (x0 : Int) : Option (jS × Int) :=
  (jst s 1000 (x0 + 28) 24 0 0).bind fun s1 =>
  (jst s1 1000 (x0 + 27) 2048 0 0).bind fun s2 =>
  jls (jp s2 44 x0 30 1) fun s3 =>
  some (s3, 0)
noncomputable def m_X40_begin : jS → Int → Option (jS × Int) := Classical.choose (⟨dm_X40_begin, rfl⟩ : ∃ f, f = dm_X40_begin)
theorem em_X40_begin : m_X40_begin = dm_X40_begin := Classical.choose_spec (⟨dm_X40_begin, rfl⟩ : ∃ f, f = dm_X40_begin)
def du_X40_stringFor_125 (s : jS) (x0 x1 : Int) : Option (jS × Int) :=
  (jst s 1000 (x0 + 27) 2048 (W32 (x1 + (jf s 44 x0 32))) 0).bind fun s1 =>
  jls (jp s1 44 x0 30 (W32 ((W32 (x1 + (jf s1 44 x0 32))) + 1))) fun s2 =>
  some (s2, x1)
noncomputable def u_X40_stringFor_125 : jS → Int → Int → Option (jS × Int) := Classical.choose (⟨du_X40_stringFor_125, rfl⟩ : ∃ f, f = du_X40_stringFor_125)
theorem eu_X40_stringFor_125 : u_X40_stringFor_125 = du_X40_stringFor_125 := Classical.choose_spec (⟨du_X40_stringFor_125, rfl⟩ : ∃ f, f = du_X40_stringFor_125)
def b_X40_stringFor_97 (s : jS) (x0 x1 x2 : Int) : Option ((jS × List Int) ⊕ (jS × Int)) :=
  if x2 < (jf s 44 x0 32) then
    (jlt s 1000 (x0 + 28) 24 x2).bind fun v1 =>
    (jst s 1000 (x0 + 27) 2048 (W32 (x1 + x2)) v1).bind fun s2 =>
    some (.inl (s2, [x0, x1, W32 (x2 + 1)]))
  else
    jinr (u_X40_stringFor_125 s x0 x1)
def du_X40_stringFor_97 (s : jS) (x0 x1 x2 : Int) : Option (jS × Int) := jlpW (jc3 b_X40_stringFor_97) [x0, x1, x2] s
noncomputable def u_X40_stringFor_97 : jS → Int → Int → Int → Option (jS × Int) := Classical.choose (⟨du_X40_stringFor_97, rfl⟩ : ∃ f, f = du_X40_stringFor_97)
theorem eu_X40_stringFor_97 : u_X40_stringFor_97 = du_X40_stringFor_97 := Classical.choose_spec (⟨du_X40_stringFor_97, rfl⟩ : ∃ f, f = du_X40_stringFor_97)
def du_X40_stringFor_90 (s : jS) (x0 : Int) : Option (jS × Int) :=
  u_X40_stringFor_97 s x0 (jf s 44 x0 30) 0
noncomputable def u_X40_stringFor_90 : jS → Int → Option (jS × Int) := Classical.choose (⟨du_X40_stringFor_90, rfl⟩ : ∃ f, f = du_X40_stringFor_90)
theorem eu_X40_stringFor_90 : u_X40_stringFor_90 = du_X40_stringFor_90 := Classical.choose_spec (⟨du_X40_stringFor_90, rfl⟩ : ∃ f, f = du_X40_stringFor_90)
def du_X40_stringFor_78 (s : jS) (x0 x1 x2 : Int) : Option ((jS × List Int) ⊕ (jS × Int)) :=
  if x2 = 0 then
    some (.inl (s, [x0, W32 (x1 + 1)]))
  else
    jinr (some (s, x1))
noncomputable def u_X40_stringFor_78 : jS → Int → Int → Int → Option ((jS × List Int) ⊕ (jS × Int)) := Classical.choose (⟨du_X40_stringFor_78, rfl⟩ : ∃ f, f = du_X40_stringFor_78)
theorem eu_X40_stringFor_78 : u_X40_stringFor_78 = du_X40_stringFor_78 := Classical.choose_spec (⟨du_X40_stringFor_78, rfl⟩ : ∃ f, f = du_X40_stringFor_78)
def du_X40_stringFor_71 (s : jS) (x0 x1 x3 y0 : Int) : Option ((jS × List Int) ⊕ ((jS × List Int) ⊕ (jS × Int))) :=
  some (.inl (s, [x0, x1, y0, W32 (x3 + 1)]))
noncomputable def u_X40_stringFor_71 : jS → Int → Int → Int → Int → Option ((jS × List Int) ⊕ ((jS × List Int) ⊕ (jS × Int))) := Classical.choose (⟨du_X40_stringFor_71, rfl⟩ : ∃ f, f = du_X40_stringFor_71)
theorem eu_X40_stringFor_71 : u_X40_stringFor_71 = du_X40_stringFor_71 := Classical.choose_spec (⟨du_X40_stringFor_71, rfl⟩ : ∃ f, f = du_X40_stringFor_71)
def b_X40_stringFor_37 (s : jS) (x0 x1 x2 x3 : Int) : Option ((jS × List Int) ⊕ ((jS × List Int) ⊕ (jS × Int))) :=
  if x3 < (jf s 44 x0 32) then
    if x2 = 0 then
      jinr (u_X40_stringFor_78 s x0 x1 x2)
    else
      (jlt s 1000 (x0 + 27) 2048 (W32 (x1 + x3))).bind fun v1 =>
      (jlt s 1000 (x0 + 28) 24 x3).bind fun v2 =>
      if v1 = v2 then
        u_X40_stringFor_71 s x0 x1 x3 1
      else
        u_X40_stringFor_71 s x0 x1 x3 0
  else
    jinr (u_X40_stringFor_78 s x0 x1 x2)
def du_X40_stringFor_37 (s : jS) (x0 x1 x2 x3 : Int) : Option ((jS × List Int) ⊕ (jS × Int)) := jlpW (jc4 b_X40_stringFor_37) [x0, x1, x2, x3] s
noncomputable def u_X40_stringFor_37 : jS → Int → Int → Int → Int → Option ((jS × List Int) ⊕ (jS × Int)) := Classical.choose (⟨du_X40_stringFor_37, rfl⟩ : ∃ f, f = du_X40_stringFor_37)
theorem eu_X40_stringFor_37 : u_X40_stringFor_37 = du_X40_stringFor_37 := Classical.choose_spec (⟨du_X40_stringFor_37, rfl⟩ : ∃ f, f = du_X40_stringFor_37)
def du_X40_stringFor_34 (s : jS) (x0 x1 y0 : Int) : Option ((jS × List Int) ⊕ (jS × Int)) :=
  u_X40_stringFor_37 s x0 x1 y0 0
noncomputable def u_X40_stringFor_34 : jS → Int → Int → Int → Option ((jS × List Int) ⊕ (jS × Int)) := Classical.choose (⟨du_X40_stringFor_34, rfl⟩ : ∃ f, f = du_X40_stringFor_34)
theorem eu_X40_stringFor_34 : u_X40_stringFor_34 = du_X40_stringFor_34 := Classical.choose_spec (⟨du_X40_stringFor_34, rfl⟩ : ∃ f, f = du_X40_stringFor_34)
def b_X40_stringFor_2 (s : jS) (x0 x1 : Int) : Option ((jS × List Int) ⊕ (jS × Int)) :=
  if (W32 (x1 + (jf s 44 x0 32))) < (jf s 44 x0 30) then
    (jlt s 1000 (x0 + 27) 2048 (W32 (x1 + (jf s 44 x0 32)))).bind fun v1 =>
    if v1 = 0 then
      u_X40_stringFor_34 s x0 x1 1
    else
      u_X40_stringFor_34 s x0 x1 0
  else
    jinr (u_X40_stringFor_90 s x0)
def du_X40_stringFor_2 (s : jS) (x0 x1 : Int) : Option (jS × Int) := jlpW (jc2 b_X40_stringFor_2) [x0, x1] s
noncomputable def u_X40_stringFor_2 : jS → Int → Int → Option (jS × Int) := Classical.choose (⟨du_X40_stringFor_2, rfl⟩ : ∃ f, f = du_X40_stringFor_2)
theorem eu_X40_stringFor_2 : u_X40_stringFor_2 = du_X40_stringFor_2 := Classical.choose_spec (⟨du_X40_stringFor_2, rfl⟩ : ∃ f, f = du_X40_stringFor_2)
def dm_X40_stringFor (s : jS) (x0 : Int) : Option (jS × Int) :=
  u_X40_stringFor_2 s x0 0
noncomputable def m_X40_stringFor : jS → Int → Option (jS × Int) := Classical.choose (⟨dm_X40_stringFor, rfl⟩ : ∃ f, f = dm_X40_stringFor)
theorem em_X40_stringFor : m_X40_stringFor = dm_X40_stringFor := Classical.choose_spec (⟨dm_X40_stringFor, rfl⟩ : ∃ f, f = dm_X40_stringFor)
def b_X40_takeTitle_12 (s : jS) (x0 x2 : Int) : Option ((jS × List Int) ⊕ (jS × Int)) :=
  (jlt s 1000 (x0 + 22) 128 x2).bind fun v1 =>
  if v1 = 0 then
    jinr (some (s, 0))
  else
    (jlt s 1000 (x0 + 22) 128 x2).bind fun v2 =>
    (jst s 1000 (x0 + 28) 24 (jf s 44 x0 32) v2).bind fun s3 =>
    jls (jp s3 44 x0 32 (W32 ((jf s3 44 x0 32) + 1))) fun s4 =>
    some (.inl (s4, [x0, W32 (x2 + 1)]))
def du_X40_takeTitle_12 (s : jS) (x0 x2 : Int) : Option (jS × Int) := jlpW (jc2 b_X40_takeTitle_12) [x0, x2] s
noncomputable def u_X40_takeTitle_12 : jS → Int → Int → Option (jS × Int) := Classical.choose (⟨du_X40_takeTitle_12, rfl⟩ : ∃ f, f = du_X40_takeTitle_12)
theorem eu_X40_takeTitle_12 : u_X40_takeTitle_12 = du_X40_takeTitle_12 := Classical.choose_spec (⟨du_X40_takeTitle_12, rfl⟩ : ∃ f, f = du_X40_takeTitle_12)
def dm_X40_takeTitle (s : jS) (x0 x1 : Int) : Option (jS × Int) :=
  jls (jp s 44 x0 32 0) fun s1 =>
  (jlt s1 1000 (x0 + 23) 11 x1).bind fun v2 =>
  u_X40_takeTitle_12 s1 x0 v2
noncomputable def m_X40_takeTitle : jS → Int → Int → Option (jS × Int) := Classical.choose (⟨dm_X40_takeTitle, rfl⟩ : ∃ f, f = dm_X40_takeTitle)
theorem em_X40_takeTitle : m_X40_takeTitle = dm_X40_takeTitle := Classical.choose_spec (⟨dm_X40_takeTitle, rfl⟩ : ∃ f, f = dm_X40_takeTitle)
def dm_X40_write1 (s : jS) (x0 x1 x2 : Int) : Option (jS × Int) :=
  (jst s 1000 (x0 + 21) 8192 x1 (I_and x2 255)).bind fun s1 =>
  some (s1, 0)
noncomputable def m_X40_write1 : jS → Int → Int → Int → Option (jS × Int) := Classical.choose (⟨dm_X40_write1, rfl⟩ : ∃ f, f = dm_X40_write1)
theorem em_X40_write1 : m_X40_write1 = dm_X40_write1 := Classical.choose_spec (⟨dm_X40_write1, rfl⟩ : ∃ f, f = dm_X40_write1)
def dm_X41_init (s : jS) (x0 : Int) : Option (jS × Int) :=
  jck0 x0 <|
  (jna s 1000 4 0).bind fun q1 =>
  (jsa q1.1 1000 q1.2 0 1).bind fun s2 =>
  (jsa s2 1000 q1.2 1 1).bind fun s3 =>
  (jsa s3 1000 q1.2 2 1).bind fun s4 =>
  (jsa s4 1000 q1.2 3 1).bind fun s5 =>
  (jwr s5 45 x0 1 q1.2).bind fun s6 =>
  (jna s6 1000 4 0).bind fun q7 =>
  (jwr q7.1 45 x0 2 q7.2).bind fun s8 =>
  (jna s8 1000 4 0).bind fun q9 =>
  (jwr q9.1 45 x0 3 q9.2).bind fun s10 =>
  (jna s10 1000 32 0).bind fun q11 =>
  (jwr q11.1 45 x0 5 q11.2).bind fun s12 =>
  (jna s12 1000 32 0).bind fun q13 =>
  (jwr q13.1 45 x0 6 q13.2).bind fun s14 =>
  (jna s14 1002 32 0).bind fun q15 =>
  (jwr q15.1 45 x0 7 q15.2).bind fun s16 =>
  (jna s16 1002 32 0).bind fun q17 =>
  (jwr q17.1 45 x0 8 q17.2).bind fun s18 =>
  (jna s18 1002 32 0).bind fun q19 =>
  (jwr q19.1 45 x0 9 q19.2).bind fun s20 =>
  (jna s20 1000 32 0).bind fun q21 =>
  (jwr q21.1 45 x0 10 q21.2).bind fun s22 =>
  (jna s22 1000 32 0).bind fun q23 =>
  (jwr q23.1 45 x0 11 q23.2).bind fun s24 =>
  (jna s24 1000 256 0).bind fun q25 =>
  (jwr q25.1 45 x0 13 q25.2).bind fun s26 =>
  (jna s26 1000 256 0).bind fun q27 =>
  (jwr q27.1 45 x0 14 q27.2).bind fun s28 =>
  (jna s28 1000 256 0).bind fun q29 =>
  (jwr q29.1 45 x0 15 q29.2).bind fun s30 =>
  (jna s30 1000 256 0).bind fun q31 =>
  (jwr q31.1 45 x0 16 q31.2).bind fun s32 =>
  (jna s32 1000 256 0).bind fun q33 =>
  (jwr q33.1 45 x0 17 q33.2).bind fun s34 =>
  (jna s34 1000 256 0).bind fun q35 =>
  (jwr q35.1 45 x0 18 q35.2).bind fun s36 =>
  (jna s36 1000 256 0).bind fun q37 =>
  (jwr q37.1 45 x0 19 q37.2).bind fun s38 =>
  (jna s38 1002 256 0).bind fun q39 =>
  (jwr q39.1 45 x0 20 q39.2).bind fun s40 =>
  (jna s40 1002 256 0).bind fun q41 =>
  (jwr q41.1 45 x0 21 q41.2).bind fun s42 =>
  (jna s42 1000 256 0).bind fun q43 =>
  (jwr q43.1 45 x0 22 q43.2).bind fun s44 =>
  (jna s44 1000 256 0).bind fun q45 =>
  (jwr q45.1 45 x0 23 q45.2).bind fun s46 =>
  (jna s46 1000 256 0).bind fun q47 =>
  (jwr q47.1 45 x0 24 q47.2).bind fun s48 =>
  (jna s48 1000 64 0).bind fun q49 =>
  (jwr q49.1 45 x0 26 q49.2).bind fun s50 =>
  (jna s50 1000 64 0).bind fun q51 =>
  (jwr q51.1 45 x0 27 q51.2).bind fun s52 =>
  some (s52, 0)
noncomputable def m_X41_init : jS → Int → Option (jS × Int) := Classical.choose (⟨dm_X41_init, rfl⟩ : ∃ f, f = dm_X41_init)
theorem em_X41_init : m_X41_init = dm_X41_init := Classical.choose_spec (⟨dm_X41_init, rfl⟩ : ∃ f, f = dm_X41_init)
def dm_X41_within (s : jS) (x0 x1 x2 : Int) : Option (Int) :=
  if x0 < x1 then
    some (Wz 0)
  else
    if x2 < x0 then
      some (Wz 0)
    else
      some (Wz 1)
noncomputable def m_X41_within : jS → Int → Int → Int → Option (Int) := Classical.choose (⟨dm_X41_within, rfl⟩ : ∃ f, f = dm_X41_within)
theorem em_X41_within : m_X41_within = dm_X41_within := Classical.choose_spec (⟨dm_X41_within, rfl⟩ : ∃ f, f = dm_X41_within)
def dm_X41_align (s : jS) (x0 x1 x2 : Int) : Option (jS × Int) :=
  (m_X41_within s x1 0 3).bind fun v1 =>
  if v1 = 0 then
    some (s, Wz 0)
  else
    (m_X41_within s x2 0 12).bind fun v2 =>
    if v2 = 0 then
      some (s, Wz 0)
    else
      (jst s 1000 (x0 + 1) 4 x1 (I_shl 1 x2)).bind fun s3 =>
      some (s3, Wz 1)
noncomputable def m_X41_align : jS → Int → Int → Int → Option (jS × Int) := Classical.choose (⟨dm_X41_align, rfl⟩ : ∃ f, f = dm_X41_align)
theorem em_X41_align : m_X41_align = dm_X41_align := Classical.choose_spec (⟨dm_X41_align, rfl⟩ : ∃ f, f = dm_X41_align)
def dm_X41_part (s : jS) (x0 x1 x2 : Int) : Option (jS × Int) :=
  if (jf s 45 x0 4) = 32 then
    some (s, (-1))
  else
    (m_X41_within s x1 0 3).bind fun v1 =>
    if v1 = 0 then
      some (s, (-1))
    else
      (m_X41_within s x2 0 12).bind fun v2 =>
      if v2 = 0 then
        some (s, (-1))
      else
        (jst s 1000 (x0 + 4) 32 (jf s 45 x0 4) x1).bind fun s3 =>
        (jst s3 1000 (x0 + 5) 32 (jf s3 45 x0 4) (I_shl 1 x2)).bind fun s4 =>
        jls (jp s4 45 x0 4 (W32 ((jf s4 45 x0 4) + 1))) fun s5 =>
        some (s5, W32 ((jf s5 45 x0 4) - 1))
noncomputable def m_X41_part : jS → Int → Int → Int → Option (jS × Int) := Classical.choose (⟨dm_X41_part, rfl⟩ : ∃ f, f = dm_X41_part)
theorem em_X41_part : m_X41_part = dm_X41_part := Classical.choose_spec (⟨dm_X41_part, rfl⟩ : ∃ f, f = dm_X41_part)
def dm_X41_isPart (s : jS) (x0 x1 : Int) : Option (Int) :=
  (m_X41_within s x1 0 (W32 ((jf s 45 x0 4) - 1))).bind fun v1 =>
  some (Wz v1)
noncomputable def m_X41_isPart : jS → Int → Int → Option (Int) := Classical.choose (⟨dm_X41_isPart, rfl⟩ : ∃ f, f = dm_X41_isPart)
theorem em_X41_isPart : m_X41_isPart = dm_X41_isPart := Classical.choose_spec (⟨dm_X41_isPart, rfl⟩ : ∃ f, f = dm_X41_isPart)
def dm_X41_added (s : jS) (x0 x1 x2 x3 : Int) : Option (jS × Int) :=
  (jst s 1000 (x0 + 11) 256 (jf s 45 x0 12) x2).bind fun s1 =>
  (jst s1 1000 (x0 + 12) 256 (jf s1 45 x0 12) x1).bind fun s2 =>
  (jst s2 1000 (x0 + 13) 256 (jf s2 45 x0 12) x3).bind fun s3 =>
  (jst s3 1000 (x0 + 14) 256 (jf s3 45 x0 12) x3).bind fun s4 =>
  jls (jp s4 45 x0 12 (W32 ((jf s4 45 x0 12) + 1))) fun s5 =>
  some (s5, W32 ((jf s5 45 x0 12) - 1))
noncomputable def m_X41_added : jS → Int → Int → Int → Int → Option (jS × Int) := Classical.choose (⟨dm_X41_added, rfl⟩ : ∃ f, f = dm_X41_added)
theorem em_X41_added : m_X41_added = dm_X41_added := Classical.choose_spec (⟨dm_X41_added, rfl⟩ : ∃ f, f = dm_X41_added)
def dm_X41_fill (s : jS) (x0 x1 x2 x3 : Int) : Option (jS × Int) :=
  if (jf s 45 x0 12) = 256 then
    some (s, (-1))
  else
    (m_X41_isPart s x0 x1).bind fun v1 =>
    if v1 = 0 then
      some (s, (-1))
    else
      (m_X41_within s x2 0 12).bind fun v2 =>
      if v2 = 0 then
        some (s, (-1))
      else
        (m_X41_within s x3 0 4096).bind fun v3 =>
        if v3 = 0 then
          some (s, (-1))
        else
          (jst s 1000 (x0 + 15) 256 (jf s 45 x0 12) x2).bind fun s4 =>
          (m_X41_added s4 x0 x1 4 x3).bind fun q5 =>
          some (q5.1, q5.2)
noncomputable def m_X41_fill : jS → Int → Int → Int → Int → Option (jS × Int) := Classical.choose (⟨dm_X41_fill, rfl⟩ : ∃ f, f = dm_X41_fill)
theorem em_X41_fill : m_X41_fill = dm_X41_fill := Classical.choose_spec (⟨dm_X41_fill, rfl⟩ : ∃ f, f = dm_X41_fill)
def dm_X41_label (s : jS) (x0 : Int) : Option (jS × Int) :=
  if (jf s 45 x0 25) = 64 then
    some (s, (-1))
  else
    (jst s 1000 (x0 + 23) 64 (jf s 45 x0 25) (-1)).bind fun s1 =>
    jls (jp s1 45 x0 25 (W32 ((jf s1 45 x0 25) + 1))) fun s2 =>
    some (s2, W32 ((jf s2 45 x0 25) - 1))
noncomputable def m_X41_label : jS → Int → Option (jS × Int) := Classical.choose (⟨dm_X41_label, rfl⟩ : ∃ f, f = dm_X41_label)
theorem em_X41_label : m_X41_label = dm_X41_label := Classical.choose_spec (⟨dm_X41_label, rfl⟩ : ∃ f, f = dm_X41_label)
def dm_X41_isLabel (s : jS) (x0 x1 : Int) : Option (Int) :=
  (m_X41_within s x1 0 (W32 ((jf s 45 x0 25) - 1))).bind fun v1 =>
  some (Wz v1)
noncomputable def m_X41_isLabel : jS → Int → Int → Option (Int) := Classical.choose (⟨dm_X41_isLabel, rfl⟩ : ∃ f, f = dm_X41_isLabel)
theorem em_X41_isLabel : m_X41_isLabel = dm_X41_isLabel := Classical.choose_spec (⟨dm_X41_isLabel, rfl⟩ : ∃ f, f = dm_X41_isLabel)
def dm_X41_greatest (s : jS) (x0 : Int) : Option (Int) :=
  if x0 = 1 then
    some 8
  else
    some 4
noncomputable def m_X41_greatest : jS → Int → Option (Int) := Classical.choose (⟨dm_X41_greatest, rfl⟩ : ∃ f, f = dm_X41_greatest)
theorem em_X41_greatest : m_X41_greatest = dm_X41_greatest := Classical.choose_spec (⟨dm_X41_greatest, rfl⟩ : ∃ f, f = dm_X41_greatest)
def dm_X41_isPiece (s : jS) (x0 x1 : Int) : Option (Int) :=
  (m_X41_within s x1 0 (W32 ((jf s 45 x0 12) - 1))).bind fun v1 =>
  some (Wz v1)
noncomputable def m_X41_isPiece : jS → Int → Int → Option (Int) := Classical.choose (⟨dm_X41_isPiece, rfl⟩ : ∃ f, f = dm_X41_isPiece)
theorem em_X41_isPiece : m_X41_isPiece = dm_X41_isPiece := Classical.choose_spec (⟨dm_X41_isPiece, rfl⟩ : ∃ f, f = dm_X41_isPiece)
def dm_X41_roundUp (s : jS) (x0 x1 : Int) : Option (Int) :=
  (jdv x1 (I_div (W32 ((W32 (x0 + x1)) - 1)) x1)).bind fun v1 =>
  some (W32 (v1 * x1))
noncomputable def m_X41_roundUp : jS → Int → Int → Option (Int) := Classical.choose (⟨dm_X41_roundUp, rfl⟩ : ∃ f, f = dm_X41_roundUp)
theorem em_X41_roundUp : m_X41_roundUp = dm_X41_roundUp := Classical.choose_spec (⟨dm_X41_roundUp, rfl⟩ : ∃ f, f = dm_X41_roundUp)
def du_X41_lay_139 (s : jS) (x0 x1 x3 : Int) : Option (jS × Int) :=
  (jst s 1000 (x0 + 10) 32 x1 x3).bind fun s1 =>
  some (s1, x3)
noncomputable def u_X41_lay_139 : jS → Int → Int → Int → Option (jS × Int) := Classical.choose (⟨du_X41_lay_139, rfl⟩ : ∃ f, f = du_X41_lay_139)
theorem eu_X41_lay_139 : u_X41_lay_139 = du_X41_lay_139 := Classical.choose_spec (⟨du_X41_lay_139, rfl⟩ : ∃ f, f = du_X41_lay_139)
def du_X41_lay_133 (s : jS) (x0 x1 x3 x4 : Int) : Option ((jS × List Int) ⊕ (jS × Int)) :=
  some (.inl (s, [x0, x1, x3, W32 (x4 + 1)]))
noncomputable def u_X41_lay_133 : jS → Int → Int → Int → Int → Option ((jS × List Int) ⊕ (jS × Int)) := Classical.choose (⟨du_X41_lay_133, rfl⟩ : ∃ f, f = du_X41_lay_133)
theorem eu_X41_lay_133 : u_X41_lay_133 = du_X41_lay_133 := Classical.choose_spec (⟨du_X41_lay_133, rfl⟩ : ∃ f, f = du_X41_lay_133)
def du_X41_lay_123 (s : jS) (x0 x1 x3 x4 : Int) : Option ((jS × List Int) ⊕ (jS × Int)) :=
  (jlt s 1000 (x0 + 13) 256 x4).bind fun v1 =>
  jlet (W32 (x3 + v1)) fun v2 =>
  u_X41_lay_133 s x0 x1 v2 x4
noncomputable def u_X41_lay_123 : jS → Int → Int → Int → Int → Option ((jS × List Int) ⊕ (jS × Int)) := Classical.choose (⟨du_X41_lay_123, rfl⟩ : ∃ f, f = du_X41_lay_123)
theorem eu_X41_lay_123 : u_X41_lay_123 = du_X41_lay_123 := Classical.choose_spec (⟨du_X41_lay_123, rfl⟩ : ∃ f, f = du_X41_lay_123)
def du_X41_lay_122 (s : jS) (x0 x1 x3 x4 y0 y1 y2 : Int) : Option ((jS × List Int) ⊕ (jS × Int)) :=
  (jst s 1000 y2 256 y1 y0).bind fun s1 =>
  u_X41_lay_123 s1 x0 x1 x3 x4
noncomputable def u_X41_lay_122 : jS → Int → Int → Int → Int → Int → Int → Int → Option ((jS × List Int) ⊕ (jS × Int)) := Classical.choose (⟨du_X41_lay_122, rfl⟩ : ∃ f, f = du_X41_lay_122)
theorem eu_X41_lay_122 : u_X41_lay_122 = du_X41_lay_122 := Classical.choose_spec (⟨du_X41_lay_122, rfl⟩ : ∃ f, f = du_X41_lay_122)
def b_X41_lay_12 (s : jS) (x0 x1 x3 x4 : Int) : Option ((jS × List Int) ⊕ (jS × Int)) :=
  if x4 < (jf s 45 x0 12) then
    (jlt s 1000 (x0 + 12) 256 x4).bind fun v1 =>
    if v1 = x1 then
      (jst s 1000 (x0 + 20) 256 x4 x3).bind fun s2 =>
      (jlt s2 1000 (x0 + 11) 256 x4).bind fun v3 =>
      if v3 = 4 then
        (jlt s2 1000 (x0 + 15) 256 x4).bind fun v4 =>
        jlet (I_shl 1 v4) fun v5 =>
        (jdv v5 (I_rem x3 v5)).bind fun v6 =>
        (jdv v5 (I_rem (W32 (v5 - v6)) v5)).bind fun v7 =>
        (jst s2 1000 (x0 + 21) 256 x4 v7).bind fun s8 =>
        (jlt s8 1000 (x0 + 21) 256 x4).bind fun v9 =>
        (jlt s8 1000 (x0 + 14) 256 x4).bind fun v10 =>
        if v9 < v10 then
          (jlt s8 1000 (x0 + 21) 256 x4).bind fun v11 =>
          u_X41_lay_122 s8 x0 x1 x3 x4 v11 x4 (x0 + 13)
        else
          (jlt s8 1000 (x0 + 14) 256 x4).bind fun v12 =>
          u_X41_lay_122 s8 x0 x1 x3 x4 v12 x4 (x0 + 13)
      else
        u_X41_lay_123 s2 x0 x1 x3 x4
    else
      u_X41_lay_133 s x0 x1 x3 x4
  else
    jinr (u_X41_lay_139 s x0 x1 x3)
def du_X41_lay_12 (s : jS) (x0 x1 x3 x4 : Int) : Option (jS × Int) := jlpW (jc4 b_X41_lay_12) [x0, x1, x3, x4] s
noncomputable def u_X41_lay_12 : jS → Int → Int → Int → Int → Option (jS × Int) := Classical.choose (⟨du_X41_lay_12, rfl⟩ : ∃ f, f = du_X41_lay_12)
theorem eu_X41_lay_12 : u_X41_lay_12 = du_X41_lay_12 := Classical.choose_spec (⟨du_X41_lay_12, rfl⟩ : ∃ f, f = du_X41_lay_12)
def dm_X41_lay (s : jS) (x0 x1 x2 : Int) : Option (jS × Int) :=
  (jst s 1000 (x0 + 9) 32 x1 x2).bind fun s1 =>
  u_X41_lay_12 s1 x0 x1 x2 0
noncomputable def m_X41_lay : jS → Int → Int → Int → Option (jS × Int) := Classical.choose (⟨dm_X41_lay, rfl⟩ : ∃ f, f = dm_X41_lay)
theorem em_X41_lay : m_X41_lay = dm_X41_lay := Classical.choose_spec (⟨dm_X41_lay, rfl⟩ : ∃ f, f = dm_X41_lay)
def dm_X41_shrinks (s : jS) (x0 x1 : Int) : Option (Int) :=
  (jlt s 1000 (x0 + 11) 256 x1).bind fun v1 =>
  if v1 < 1 then
    some (Wz 0)
  else
    (jlt s 1000 (x0 + 11) 256 x1).bind fun v2 =>
    if v2 < 4 then
      some (Wz 1)
    else
      some (Wz 0)
noncomputable def m_X41_shrinks : jS → Int → Int → Option (Int) := Classical.choose (⟨dm_X41_shrinks, rfl⟩ : ∃ f, f = dm_X41_shrinks)
theorem em_X41_shrinks : m_X41_shrinks = dm_X41_shrinks := Classical.choose_spec (⟨dm_X41_shrinks, rfl⟩ : ∃ f, f = dm_X41_shrinks)
def dm_X41_isGone (s : jS) (x0 x1 : Int) : Option (Int) :=
  (jlt s 1000 (x0 + 12) 256 x1).bind fun v1 =>
  (jlt s 1002 (x0 + 7) 32 v1).bind fun v2 =>
  some (Wz v2)
noncomputable def m_X41_isGone : jS → Int → Int → Option (Int) := Classical.choose (⟨dm_X41_isGone, rfl⟩ : ∃ f, f = dm_X41_isGone)
theorem em_X41_isGone : m_X41_isGone = dm_X41_isGone := Classical.choose_spec (⟨dm_X41_isGone, rfl⟩ : ∃ f, f = dm_X41_isGone)
def du_X41_valueOf_25 (s : jS) (x0 x1 x2 : Int) : Option (Int) :=
  (jlt s 1000 (x0 + 20) 256 x2).bind fun v1 =>
  (jlt s 1000 (x0 + 24) 64 x1).bind fun v2 =>
  some (W32 (v1 + v2))
noncomputable def u_X41_valueOf_25 : jS → Int → Int → Int → Option (Int) := Classical.choose (⟨du_X41_valueOf_25, rfl⟩ : ∃ f, f = du_X41_valueOf_25)
theorem eu_X41_valueOf_25 : u_X41_valueOf_25 = du_X41_valueOf_25 := Classical.choose_spec (⟨du_X41_valueOf_25, rfl⟩ : ∃ f, f = du_X41_valueOf_25)
def dm_X41_valueOf (s : jS) (x0 x1 : Int) : Option (Int) :=
  (jlt s 1000 (x0 + 23) 64 x1).bind fun v1 =>
  (jlt s 1000 (x0 + 11) 256 v1).bind fun v2 =>
  if v2 = 0 then
    u_X41_valueOf_25 s x0 x1 v1
  else
    (jlt s 1000 (x0 + 24) 64 x1).bind fun v3 =>
    if v3 = 0 then
      u_X41_valueOf_25 s x0 x1 v1
    else
      (jlt s 1000 (x0 + 20) 256 v1).bind fun v4 =>
      (jlt s 1000 (x0 + 13) 256 v1).bind fun v5 =>
      some (W32 (v4 + v5))
noncomputable def m_X41_valueOf : jS → Int → Int → Option (Int) := Classical.choose (⟨dm_X41_valueOf, rfl⟩ : ∃ f, f = dm_X41_valueOf)
theorem em_X41_valueOf : m_X41_valueOf = dm_X41_valueOf := Classical.choose_spec (⟨dm_X41_valueOf, rfl⟩ : ∃ f, f = dm_X41_valueOf)
def dm_X41_isNear (s : jS) (x0 : Int) : Option (Int) :=
  if (L_cmp x0 (-2048)) < 0 then
    some (Wz 0)
  else
    if 0 < (L_cmp x0 2047) then
      some (Wz 0)
    else
      some (Wz 1)
noncomputable def m_X41_isNear : jS → Int → Option (Int) := Classical.choose (⟨dm_X41_isNear, rfl⟩ : ∃ f, f = dm_X41_isNear)
theorem em_X41_isNear : m_X41_isNear = dm_X41_isNear := Classical.choose_spec (⟨dm_X41_isNear, rfl⟩ : ∃ f, f = dm_X41_isNear)
def du_X41_saved_49 (s : jS) (x0 x2 y0 y1 : Int) : Option (List Int ⊕ (Int)) :=
  jlet (W32 (y1 + y0)) fun v1 =>
  some (.inl [x0, v1, W32 (x2 + 1)])
noncomputable def u_X41_saved_49 : jS → Int → Int → Int → Int → Option (List Int ⊕ (Int)) := Classical.choose (⟨du_X41_saved_49, rfl⟩ : ∃ f, f = du_X41_saved_49)
theorem eu_X41_saved_49 : u_X41_saved_49 = du_X41_saved_49 := Classical.choose_spec (⟨du_X41_saved_49, rfl⟩ : ∃ f, f = du_X41_saved_49)
def du_X41_saved_48 (s : jS) (x0 x2 y0 : Int) : Option (List Int ⊕ (Int)) :=
  u_X41_saved_49 s x0 x2 0 y0
noncomputable def u_X41_saved_48 : jS → Int → Int → Int → Option (List Int ⊕ (Int)) := Classical.choose (⟨du_X41_saved_48, rfl⟩ : ∃ f, f = du_X41_saved_48)
theorem eu_X41_saved_48 : u_X41_saved_48 = du_X41_saved_48 := Classical.choose_spec (⟨du_X41_saved_48, rfl⟩ : ∃ f, f = du_X41_saved_48)
def b_X41_saved_4 (s : jS) (x0 x1 x2 : Int) : Option (List Int ⊕ (Int)) :=
  if x2 < (jf s 45 x0 12) then
    (m_X41_shrinks s x0 x2).bind fun v1 =>
    if v1 = 0 then
      u_X41_saved_48 s x0 x2 x1
    else
      (m_X41_isGone s x0 x2).bind fun v2 =>
      if v2 = 0 then
        (jlt s 1000 (x0 + 11) 256 x2).bind fun v3 =>
        (m_X41_greatest s v3).bind fun v4 =>
        (jlt s 1000 (x0 + 13) 256 x2).bind fun v5 =>
        u_X41_saved_49 s x0 x2 (W32 (v4 - v5)) x1
      else
        u_X41_saved_48 s x0 x2 x1
  else
    jinr (some x1)
def du_X41_saved_4 (s : jS) (x0 x1 x2 : Int) : Option (Int) := jlpR (jc3 b_X41_saved_4) [x0, x1, x2] s
noncomputable def u_X41_saved_4 : jS → Int → Int → Int → Option (Int) := Classical.choose (⟨du_X41_saved_4, rfl⟩ : ∃ f, f = du_X41_saved_4)
theorem eu_X41_saved_4 : u_X41_saved_4 = du_X41_saved_4 := Classical.choose_spec (⟨du_X41_saved_4, rfl⟩ : ∃ f, f = du_X41_saved_4)
def dm_X41_saved (s : jS) (x0 : Int) : Option (Int) :=
  u_X41_saved_4 s x0 0 0
noncomputable def m_X41_saved : jS → Int → Option (Int) := Classical.choose (⟨dm_X41_saved, rfl⟩ : ∃ f, f = dm_X41_saved)
theorem em_X41_saved : m_X41_saved = dm_X41_saved := Classical.choose_spec (⟨dm_X41_saved, rfl⟩ : ∃ f, f = dm_X41_saved)
def dm_X42_init (s : jS) (x0 : Int) : Option (jS × Int) :=
  jck0 x0 <|
  (jna s 1002 6 0).bind fun q1 =>
  (jwr q1.1 46 x0 0 q1.2).bind fun s2 =>
  (jna s2 1000 6 0).bind fun q3 =>
  (jwr q3.1 46 x0 1 q3.2).bind fun s4 =>
  (jna s4 1000 6 0).bind fun q5 =>
  (jwr q5.1 46 x0 2 q5.2).bind fun s6 =>
  (jna s6 1000 6 0).bind fun q7 =>
  (jwr q7.1 46 x0 3 q7.2).bind fun s8 =>
  (jna s8 1000 24576 0).bind fun q9 =>
  (jwr q9.1 46 x0 4 q9.2).bind fun s10 =>
  (jna s10 1002 4096 0).bind fun q11 =>
  (jwr q11.1 46 x0 5 q11.2).bind fun s12 =>
  (jna s12 1000 2 0).bind fun q13 =>
  (jwr q13.1 46 x0 6 q13.2).bind fun s14 =>
  (jna s14 1000 2 0).bind fun q15 =>
  (jsa q15.1 1000 q15.2 0 1).bind fun s16 =>
  (jsa s16 1000 q15.2 1 1).bind fun s17 =>
  (jwr s17 46 x0 7 q15.2).bind fun s18 =>
  (jna s18 1000 16384 0).bind fun q19 =>
  (jwr q19.1 46 x0 8 q19.2).bind fun s20 =>
  (jwr s20 46 x0 10 (-1)).bind fun s21 =>
  (jna s21 1000 4 0).bind fun q22 =>
  (jwr q22.1 46 x0 13 q22.2).bind fun s23 =>
  (jna s23 1000 4 0).bind fun q24 =>
  (jwr q24.1 46 x0 14 q24.2).bind fun s25 =>
  some (s25, 0)
noncomputable def m_X42_init : jS → Int → Option (jS × Int) := Classical.choose (⟨dm_X42_init, rfl⟩ : ∃ f, f = dm_X42_init)
theorem em_X42_init : m_X42_init = dm_X42_init := Classical.choose_spec (⟨dm_X42_init, rfl⟩ : ∃ f, f = dm_X42_init)
def du_X42_clear_49 (s : jS) (x0 : Int) : Option (jS × Int) :=
  (jst s 1000 (x0 + 7) 2 0 0).bind fun s1 =>
  (jst s1 1000 (x0 + 8) 2 0 1).bind fun s2 =>
  some (s2, 0)
noncomputable def u_X42_clear_49 : jS → Int → Option (jS × Int) := Classical.choose (⟨du_X42_clear_49, rfl⟩ : ∃ f, f = du_X42_clear_49)
theorem eu_X42_clear_49 : u_X42_clear_49 = du_X42_clear_49 := Classical.choose_spec (⟨du_X42_clear_49, rfl⟩ : ∃ f, f = du_X42_clear_49)
def b_X42_clear_29 (s : jS) (x0 x1 : Int) : Option ((jS × List Int) ⊕ (jS × Int)) :=
  if x1 < 2048 then
    (jst s 1002 (x0 + 6) 4096 x1 (Wz 0)).bind fun s1 =>
    some (.inl (s1, [x0, W32 (x1 + 1)]))
  else
    jinr (u_X42_clear_49 s x0)
def du_X42_clear_29 (s : jS) (x0 x1 : Int) : Option (jS × Int) := jlpW (jc2 b_X42_clear_29) [x0, x1] s
noncomputable def u_X42_clear_29 : jS → Int → Int → Option (jS × Int) := Classical.choose (⟨du_X42_clear_29, rfl⟩ : ∃ f, f = du_X42_clear_29)
theorem eu_X42_clear_29 : u_X42_clear_29 = du_X42_clear_29 := Classical.choose_spec (⟨du_X42_clear_29, rfl⟩ : ∃ f, f = du_X42_clear_29)
def du_X42_clear_27 (s : jS) (x0 : Int) : Option (jS × Int) :=
  u_X42_clear_29 s x0 0
noncomputable def u_X42_clear_27 : jS → Int → Option (jS × Int) := Classical.choose (⟨du_X42_clear_27, rfl⟩ : ∃ f, f = du_X42_clear_27)
theorem eu_X42_clear_27 : u_X42_clear_27 = du_X42_clear_27 := Classical.choose_spec (⟨du_X42_clear_27, rfl⟩ : ∃ f, f = du_X42_clear_27)
def b_X42_clear_2 (s : jS) (x0 x1 : Int) : Option ((jS × List Int) ⊕ (jS × Int)) :=
  if x1 < 3 then
    (jst s 1002 (x0 + 1) 6 x1 (Wz 0)).bind fun s1 =>
    (jst s1 1000 (x0 + 4) 6 x1 0).bind fun s2 =>
    some (.inl (s2, [x0, W32 (x1 + 1)]))
  else
    jinr (u_X42_clear_27 s x0)
def du_X42_clear_2 (s : jS) (x0 x1 : Int) : Option (jS × Int) := jlpW (jc2 b_X42_clear_2) [x0, x1] s
noncomputable def u_X42_clear_2 : jS → Int → Int → Option (jS × Int) := Classical.choose (⟨du_X42_clear_2, rfl⟩ : ∃ f, f = du_X42_clear_2)
theorem eu_X42_clear_2 : u_X42_clear_2 = du_X42_clear_2 := Classical.choose_spec (⟨du_X42_clear_2, rfl⟩ : ∃ f, f = du_X42_clear_2)
def dm_X42_clear (s : jS) (x0 : Int) : Option (jS × Int) :=
  u_X42_clear_2 s x0 0
noncomputable def m_X42_clear : jS → Int → Option (jS × Int) := Classical.choose (⟨dm_X42_clear, rfl⟩ : ∃ f, f = dm_X42_clear)
theorem em_X42_clear : m_X42_clear = dm_X42_clear := Classical.choose_spec (⟨dm_X42_clear, rfl⟩ : ∃ f, f = dm_X42_clear)
def dm_X42_page (s : jS) (x0 x1 : Int) : Option (jS × Int) :=
  if x1 < 0 then
    some (s, Wz 0)
  else
    if 12 < x1 then
      some (s, Wz 0)
    else
      (jst s 1000 (x0 + 8) 2 0 (I_shl 1 x1)).bind fun s1 =>
      some (s1, Wz 1)
noncomputable def m_X42_page : jS → Int → Int → Option (jS × Int) := Classical.choose (⟨dm_X42_page, rfl⟩ : ∃ f, f = dm_X42_page)
theorem em_X42_page : m_X42_page = dm_X42_page := Classical.choose_spec (⟨dm_X42_page, rfl⟩ : ∃ f, f = dm_X42_page)
def dm_X42_entry (s : jS) (x0 x1 : Int) : Option (jS × Int) :=
  (jst s 1000 (x0 + 7) 2 0 x1).bind fun s1 =>
  some (s1, 0)
noncomputable def m_X42_entry : jS → Int → Int → Option (jS × Int) := Classical.choose (⟨dm_X42_entry, rfl⟩ : ∃ f, f = dm_X42_entry)
theorem em_X42_entry : m_X42_entry = dm_X42_entry := Classical.choose_spec (⟨dm_X42_entry, rfl⟩ : ∃ f, f = dm_X42_entry)
def dm_X42_isSegment (s : jS) (x0 : Int) : Option (Int) :=
  if x0 < 0 then
    some (Wz 0)
  else
    if x0 < 3 then
      some (Wz 1)
    else
      some (Wz 0)
noncomputable def m_X42_isSegment : jS → Int → Option (Int) := Classical.choose (⟨dm_X42_isSegment, rfl⟩ : ∃ f, f = dm_X42_isSegment)
theorem em_X42_isSegment : m_X42_isSegment = dm_X42_isSegment := Classical.choose_spec (⟨dm_X42_isSegment, rfl⟩ : ∃ f, f = dm_X42_isSegment)
def dm_X42_endOf (s : jS) (x0 x1 : Int) : Option (Int) :=
  (jlt s 1000 (x0 + 2) 6 x1).bind fun v1 =>
  (jlt s 1000 (x0 + 4) 6 x1).bind fun v2 =>
  (jlt s 1000 (x0 + 3) 6 x1).bind fun v3 =>
  some (W32 ((W32 (v1 + v2)) + v3))
noncomputable def m_X42_endOf : jS → Int → Int → Option (Int) := Classical.choose (⟨dm_X42_endOf, rfl⟩ : ∃ f, f = dm_X42_endOf)
theorem em_X42_endOf : m_X42_endOf = dm_X42_endOf := Classical.choose_spec (⟨dm_X42_endOf, rfl⟩ : ∃ f, f = dm_X42_endOf)
def dm_X42_meets (s : jS) (x0 x1 x2 : Int) : Option (Int) :=
  (jlt s 1002 (x0 + 1) 6 x1).bind fun v1 =>
  if v1 = 0 then
    some (Wz 0)
  else
    (jlt s 1002 (x0 + 1) 6 x2).bind fun v2 =>
    if v2 = 0 then
      some (Wz 0)
    else
      (jlt s 1000 (x0 + 2) 6 x1).bind fun v3 =>
      (m_X42_endOf s x0 x2).bind fun v4 =>
      if v3 < v4 then
        (jlt s 1000 (x0 + 2) 6 x2).bind fun v5 =>
        (m_X42_endOf s x0 x1).bind fun v6 =>
        if v5 < v6 then
          (m_X42_endOf s x0 x1).bind fun v7 =>
          (jlt s 1000 (x0 + 2) 6 x1).bind fun v8 =>
          if v8 < v7 then
            (m_X42_endOf s x0 x2).bind fun v9 =>
            (jlt s 1000 (x0 + 2) 6 x2).bind fun v10 =>
            if v10 < v9 then
              some (Wz 1)
            else
              some (Wz 0)
          else
            some (Wz 0)
        else
          some (Wz 0)
      else
        some (Wz 0)
noncomputable def m_X42_meets : jS → Int → Int → Int → Option (Int) := Classical.choose (⟨dm_X42_meets, rfl⟩ : ∃ f, f = dm_X42_meets)
theorem em_X42_meets : m_X42_meets = dm_X42_meets := Classical.choose_spec (⟨dm_X42_meets, rfl⟩ : ∃ f, f = dm_X42_meets)
def dm_X42_isShort (s : jS) (x0 : Int) : Option (Int) :=
  if (I_and x0 3) = 3 then
    some (Wz 0)
  else
    some (Wz 1)
noncomputable def m_X42_isShort : jS → Int → Option (Int) := Classical.choose (⟨dm_X42_isShort, rfl⟩ : ∃ f, f = dm_X42_isShort)
theorem em_X42_isShort : m_X42_isShort = dm_X42_isShort := Classical.choose_spec (⟨dm_X42_isShort, rfl⟩ : ∃ f, f = dm_X42_isShort)
def dm_X42_isMarkAt (s : jS) (x0 x1 x2 : Int) : Option (Int) :=
  (jlt s 1000 (x0 + 2) 6 (W32 (3 * x1))).bind fun v1 =>
  jlet (W32 (x2 - v1)) fun v2 =>
  (jlt s 1002 (x0 + 1) 6 (W32 (3 * x1))).bind fun v3 =>
  if v3 = 0 then
    some (Wz 0)
  else
    (jlt s 1000 (x0 + 2) 6 (W32 (3 * x1))).bind fun v4 =>
    if x2 < v4 then
      some (Wz 0)
    else
      if v2 < 4096 then
        (jdv 2 (I_rem v2 2)).bind fun v5 =>
        if v5 = 0 then
          (jdv 2 (I_div v2 2)).bind fun v6 =>
          (jlt s 1002 (x0 + 6) 4096 (W32 ((W32 (2048 * x1)) + v6))).bind fun v7 =>
          if v7 = 0 then
            some (Wz 0)
          else
            some (Wz 1)
        else
          some (Wz 0)
      else
        some (Wz 0)
noncomputable def m_X42_isMarkAt : jS → Int → Int → Int → Option (Int) := Classical.choose (⟨dm_X42_isMarkAt, rfl⟩ : ∃ f, f = dm_X42_isMarkAt)
theorem em_X42_isMarkAt : m_X42_isMarkAt = dm_X42_isMarkAt := Classical.choose_spec (⟨dm_X42_isMarkAt, rfl⟩ : ∃ f, f = dm_X42_isMarkAt)
def dm_X42_upTo4 (s : jS) (x0 : Int) : Option (Int) :=
  (jdv 4 (I_div (W32 (x0 + 3)) 4)).bind fun v1 =>
  some (W32 (v1 * 4))
noncomputable def m_X42_upTo4 : jS → Int → Option (Int) := Classical.choose (⟨dm_X42_upTo4, rfl⟩ : ∃ f, f = dm_X42_upTo4)
theorem em_X42_upTo4 : m_X42_upTo4 = dm_X42_upTo4 := Classical.choose_spec (⟨dm_X42_upTo4, rfl⟩ : ∃ f, f = dm_X42_upTo4)
def dm_X42_markBytes (s : jS) (x0 x1 : Int) : Option (Int) :=
  (jlt s 1002 (x0 + 1) 6 (W32 (3 * x1))).bind fun v1 =>
  if v1 = 0 then
    some 0
  else
    (jlt s 1000 (x0 + 4) 6 (W32 (3 * x1))).bind fun v2 =>
    (jdv 16 (I_div (W32 (v2 + 15)) 16)).bind fun v3 =>
    some v3
noncomputable def m_X42_markBytes : jS → Int → Int → Option (Int) := Classical.choose (⟨dm_X42_markBytes, rfl⟩ : ∃ f, f = dm_X42_markBytes)
theorem em_X42_markBytes : m_X42_markBytes = dm_X42_markBytes := Classical.choose_spec (⟨dm_X42_markBytes, rfl⟩ : ∃ f, f = dm_X42_markBytes)
def dm_X42_write2 (s : jS) (x0 x1 x2 : Int) : Option (jS × Int) :=
  (jst s 1000 (x0 + 9) 16384 x1 (I_and x2 255)).bind fun s1 =>
  (jst s1 1000 (x0 + 9) 16384 (W32 (x1 + 1)) (I_and (I_shr x2 8) 255)).bind fun s2 =>
  some (s2, 0)
noncomputable def m_X42_write2 : jS → Int → Int → Int → Option (jS × Int) := Classical.choose (⟨dm_X42_write2, rfl⟩ : ∃ f, f = dm_X42_write2)
theorem em_X42_write2 : m_X42_write2 = dm_X42_write2 := Classical.choose_spec (⟨dm_X42_write2, rfl⟩ : ∃ f, f = dm_X42_write2)
def dm_X42_rightsOf (s : jS) (x0 : Int) : Option (Int) :=
  if x0 = 0 then
    some 5
  else
    if x0 = 1 then
      some 4
    else
      some 6
noncomputable def m_X42_rightsOf : jS → Int → Option (Int) := Classical.choose (⟨dm_X42_rightsOf, rfl⟩ : ∃ f, f = dm_X42_rightsOf)
theorem em_X42_rightsOf : m_X42_rightsOf = dm_X42_rightsOf := Classical.choose_spec (⟨dm_X42_rightsOf, rfl⟩ : ∃ f, f = dm_X42_rightsOf)
def du_X42_addByte_45 (s : jS) (x0 x1 x2 : Int) : Option ((jS × List Int) ⊕ (jS × Int)) :=
  some (.inl (s, [x0, x1, W32 (x2 + 1)]))
noncomputable def u_X42_addByte_45 : jS → Int → Int → Int → Option ((jS × List Int) ⊕ (jS × Int)) := Classical.choose (⟨du_X42_addByte_45, rfl⟩ : ∃ f, f = du_X42_addByte_45)
theorem eu_X42_addByte_45 : u_X42_addByte_45 = du_X42_addByte_45 := Classical.choose_spec (⟨du_X42_addByte_45, rfl⟩ : ∃ f, f = du_X42_addByte_45)
def b_X42_addByte_2 (s : jS) (x0 x1 x2 : Int) : Option ((jS × List Int) ⊕ (jS × Int)) :=
  if x2 < 8 then
    jlet (I_and (I_xor (jf s 46 x0 15) (I_shr x1 x2)) 1) fun v1 =>
    jls (jp s 46 x0 15 (I_ushr (jf s 46 x0 15) 1)) fun s2 =>
    if v1 = 1 then
      jls (jp s2 46 x0 15 (I_xor (jf s2 46 x0 15) (-306674912))) fun s3 =>
      u_X42_addByte_45 s3 x0 x1 x2
    else
      u_X42_addByte_45 s2 x0 x1 x2
  else
    jinr (some (s, 0))
def du_X42_addByte_2 (s : jS) (x0 x1 x2 : Int) : Option (jS × Int) := jlpW (jc3 b_X42_addByte_2) [x0, x1, x2] s
noncomputable def u_X42_addByte_2 : jS → Int → Int → Int → Option (jS × Int) := Classical.choose (⟨du_X42_addByte_2, rfl⟩ : ∃ f, f = du_X42_addByte_2)
theorem eu_X42_addByte_2 : u_X42_addByte_2 = du_X42_addByte_2 := Classical.choose_spec (⟨du_X42_addByte_2, rfl⟩ : ∃ f, f = du_X42_addByte_2)
def dm_X42_addByte (s : jS) (x0 x1 : Int) : Option (jS × Int) :=
  u_X42_addByte_2 s x0 x1 0
noncomputable def m_X42_addByte : jS → Int → Int → Option (jS × Int) := Classical.choose (⟨dm_X42_addByte, rfl⟩ : ∃ f, f = dm_X42_addByte)
theorem em_X42_addByte : m_X42_addByte = dm_X42_addByte := Classical.choose_spec (⟨dm_X42_addByte, rfl⟩ : ∃ f, f = dm_X42_addByte)
def du_X42_markByte_42 (s : jS) (x0 x1 x2 x4 y0 y1 : Int) : Option (List Int ⊕ (Int)) :=
  jlet (W32 (y1 + y0)) fun v1 =>
  some (.inl [x0, x1, x2, v1, W32 (x4 + 1)])
noncomputable def u_X42_markByte_42 : jS → Int → Int → Int → Int → Int → Int → Option (List Int ⊕ (Int)) := Classical.choose (⟨du_X42_markByte_42, rfl⟩ : ∃ f, f = du_X42_markByte_42)
theorem eu_X42_markByte_42 : u_X42_markByte_42 = du_X42_markByte_42 := Classical.choose_spec (⟨du_X42_markByte_42, rfl⟩ : ∃ f, f = du_X42_markByte_42)
def b_X42_markByte_5 (s : jS) (x0 x1 x2 x3 x4 : Int) : Option (List Int ⊕ (Int)) :=
  if x4 < 8 then
    (jlt s 1002 (x0 + 6) 4096 (W32 ((W32 ((W32 (2048 * x1)) + (W32 (8 * x2)))) + x4))).bind fun v1 =>
    if v1 = 0 then
      u_X42_markByte_42 s x0 x1 x2 x4 0 x3
    else
      u_X42_markByte_42 s x0 x1 x2 x4 (I_shl 1 x4) x3
  else
    jinr (some x3)
def du_X42_markByte_5 (s : jS) (x0 x1 x2 x3 x4 : Int) : Option (Int) := jlpR (jc5 b_X42_markByte_5) [x0, x1, x2, x3, x4] s
noncomputable def u_X42_markByte_5 : jS → Int → Int → Int → Int → Int → Option (Int) := Classical.choose (⟨du_X42_markByte_5, rfl⟩ : ∃ f, f = du_X42_markByte_5)
theorem eu_X42_markByte_5 : u_X42_markByte_5 = du_X42_markByte_5 := Classical.choose_spec (⟨du_X42_markByte_5, rfl⟩ : ∃ f, f = du_X42_markByte_5)
def dm_X42_markByte (s : jS) (x0 x1 x2 : Int) : Option (Int) :=
  u_X42_markByte_5 s x0 x1 x2 0 0
noncomputable def m_X42_markByte : jS → Int → Int → Int → Option (Int) := Classical.choose (⟨dm_X42_markByte, rfl⟩ : ∃ f, f = dm_X42_markByte)
theorem em_X42_markByte : m_X42_markByte = dm_X42_markByte := Classical.choose_spec (⟨dm_X42_markByte, rfl⟩ : ∃ f, f = dm_X42_markByte)
def dm_X42_fault (s : jS) (x0 x1 x2 : Int) : Option (jS × Int) :=
  jls (jp s 46 x0 10 x2) fun s1 =>
  some (s1, x1)
noncomputable def m_X42_fault : jS → Int → Int → Int → Option (jS × Int) := Classical.choose (⟨dm_X42_fault, rfl⟩ : ∃ f, f = dm_X42_fault)
theorem em_X42_fault : m_X42_fault = dm_X42_fault := Classical.choose_spec (⟨dm_X42_fault, rfl⟩ : ∃ f, f = dm_X42_fault)
def dm_X42_read2 (s : jS) (x0 x1 : Int) : Option (Int) :=
  (jlt s 1000 (x0 + 9) 16384 x1).bind fun v1 =>
  (jlt s 1000 (x0 + 9) 16384 (W32 (x1 + 1))).bind fun v2 =>
  some (W32 (v1 + (W32 (256 * v2))))
noncomputable def m_X42_read2 : jS → Int → Int → Option (Int) := Classical.choose (⟨dm_X42_read2, rfl⟩ : ∃ f, f = dm_X42_read2)
theorem em_X42_read2 : m_X42_read2 = dm_X42_read2 := Classical.choose_spec (⟨dm_X42_read2, rfl⟩ : ∃ f, f = dm_X42_read2)
def dm_X42_read4 (s : jS) (x0 x1 : Int) : Option (Int) :=
  (m_X42_read2 s x0 x1).bind fun v1 =>
  (m_X42_read2 s x0 (W32 (x1 + 2))).bind fun v2 =>
  some (W64 (v1 + (W64 (65536 * v2))))
noncomputable def m_X42_read4 : jS → Int → Int → Option (Int) := Classical.choose (⟨dm_X42_read4, rfl⟩ : ∃ f, f = dm_X42_read4)
theorem em_X42_read4 : m_X42_read4 = dm_X42_read4 := Classical.choose_spec (⟨dm_X42_read4, rfl⟩ : ∃ f, f = dm_X42_read4)
def dm_X42_spot (s : jS) (x0 x1 x2 : Int) : Option (Int) :=
  some (W32 ((W32 ((jf s 46 x0 11) + (W32 (32 * x1)))) + (W32 (4 * x2))))
noncomputable def m_X42_spot : jS → Int → Int → Int → Option (Int) := Classical.choose (⟨dm_X42_spot, rfl⟩ : ∃ f, f = dm_X42_spot)
theorem em_X42_spot : m_X42_spot = dm_X42_spot := Classical.choose_spec (⟨dm_X42_spot, rfl⟩ : ∃ f, f = dm_X42_spot)
def du_X42_isPower_27 (s : jS) (x0 x3 y0 : Int) : Option (List Int ⊕ (Int)) :=
  jlet (W64 (2 * x3)) fun v1 =>
  some (.inl [x0, y0, v1])
noncomputable def u_X42_isPower_27 : jS → Int → Int → Int → Option (List Int ⊕ (Int)) := Classical.choose (⟨du_X42_isPower_27, rfl⟩ : ∃ f, f = du_X42_isPower_27)
theorem eu_X42_isPower_27 : u_X42_isPower_27 = du_X42_isPower_27 := Classical.choose_spec (⟨du_X42_isPower_27, rfl⟩ : ∃ f, f = du_X42_isPower_27)
def du_X42_isPower_22 (s : jS) (x0 x3 : Int) : Option (List Int ⊕ (Int)) :=
  u_X42_isPower_27 s x0 x3 1
noncomputable def u_X42_isPower_22 : jS → Int → Int → Option (List Int ⊕ (Int)) := Classical.choose (⟨du_X42_isPower_22, rfl⟩ : ∃ f, f = du_X42_isPower_22)
theorem eu_X42_isPower_22 : u_X42_isPower_22 = du_X42_isPower_22 := Classical.choose_spec (⟨du_X42_isPower_22, rfl⟩ : ∃ f, f = du_X42_isPower_22)
def b_X42_isPower_4 (s : jS) (x0 x2 x3 : Int) : Option (List Int ⊕ (Int)) :=
  if 0 < (L_cmp x3 4096) then
    jinr (some (Wz x2))
  else
    if x2 = 0 then
      if (L_cmp x0 x3) = 0 then
        u_X42_isPower_22 s x0 x3
      else
        u_X42_isPower_27 s x0 x3 0
    else
      u_X42_isPower_22 s x0 x3
def du_X42_isPower_4 (s : jS) (x0 x2 x3 : Int) : Option (Int) := jlpR (jc3 b_X42_isPower_4) [x0, x2, x3] s
noncomputable def u_X42_isPower_4 : jS → Int → Int → Int → Option (Int) := Classical.choose (⟨du_X42_isPower_4, rfl⟩ : ∃ f, f = du_X42_isPower_4)
theorem eu_X42_isPower_4 : u_X42_isPower_4 = du_X42_isPower_4 := Classical.choose_spec (⟨du_X42_isPower_4, rfl⟩ : ∃ f, f = du_X42_isPower_4)
def dm_X42_isPower (s : jS) (x0 : Int) : Option (Int) :=
  u_X42_isPower_4 s x0 0 1
noncomputable def m_X42_isPower : jS → Int → Option (Int) := Classical.choose (⟨dm_X42_isPower, rfl⟩ : ∃ f, f = dm_X42_isPower)
theorem em_X42_isPower : m_X42_isPower = dm_X42_isPower := Classical.choose_spec (⟨dm_X42_isPower, rfl⟩ : ∃ f, f = dm_X42_isPower)
def dm_X42_nameByte (s : jS) (x0 : Int) : Option (Int) :=
  if x0 = 0 then
    some 77
  else
    if x0 = 1 then
      some 97
    else
      if x0 = 2 then
        some 114
      else
        if x0 = 3 then
          some 107
        else
          if x0 = 4 then
            some 115
          else
            some 0
noncomputable def m_X42_nameByte : jS → Int → Option (Int) := Classical.choose (⟨dm_X42_nameByte, rfl⟩ : ∃ f, f = dm_X42_nameByte)
theorem em_X42_nameByte : m_X42_nameByte = dm_X42_nameByte := Classical.choose_spec (⟨dm_X42_nameByte, rfl⟩ : ∃ f, f = dm_X42_nameByte)
def dm_X42_place (s : jS) (x0 : Int) : Option (Int) :=
  some (jf s 46 x0 10)
noncomputable def m_X42_place : jS → Int → Option (Int) := Classical.choose (⟨dm_X42_place, rfl⟩ : ∃ f, f = dm_X42_place)
theorem em_X42_place : m_X42_place = dm_X42_place := Classical.choose_spec (⟨dm_X42_place, rfl⟩ : ∃ f, f = dm_X42_place)
def du_X42_marksIn_32 (s : jS) (x0 x1 x3 y0 y1 : Int) : Option (List Int ⊕ (Int)) :=
  jlet (W32 (y1 + y0)) fun v1 =>
  some (.inl [x0, x1, v1, W32 (x3 + 1)])
noncomputable def u_X42_marksIn_32 : jS → Int → Int → Int → Int → Int → Option (List Int ⊕ (Int)) := Classical.choose (⟨du_X42_marksIn_32, rfl⟩ : ∃ f, f = du_X42_marksIn_32)
theorem eu_X42_marksIn_32 : u_X42_marksIn_32 = du_X42_marksIn_32 := Classical.choose_spec (⟨du_X42_marksIn_32, rfl⟩ : ∃ f, f = du_X42_marksIn_32)
def b_X42_marksIn_4 (s : jS) (x0 x1 x2 x3 : Int) : Option (List Int ⊕ (Int)) :=
  if x3 < 2048 then
    (jlt s 1002 (x0 + 6) 4096 (W32 ((W32 (2048 * x1)) + x3))).bind fun v1 =>
    if v1 = 0 then
      u_X42_marksIn_32 s x0 x1 x3 0 x2
    else
      u_X42_marksIn_32 s x0 x1 x3 1 x2
  else
    jinr (some x2)
def du_X42_marksIn_4 (s : jS) (x0 x1 x2 x3 : Int) : Option (Int) := jlpR (jc4 b_X42_marksIn_4) [x0, x1, x2, x3] s
noncomputable def u_X42_marksIn_4 : jS → Int → Int → Int → Int → Option (Int) := Classical.choose (⟨du_X42_marksIn_4, rfl⟩ : ∃ f, f = du_X42_marksIn_4)
theorem eu_X42_marksIn_4 : u_X42_marksIn_4 = du_X42_marksIn_4 := Classical.choose_spec (⟨du_X42_marksIn_4, rfl⟩ : ∃ f, f = du_X42_marksIn_4)
def dm_X42_marksIn (s : jS) (x0 x1 : Int) : Option (Int) :=
  u_X42_marksIn_4 s x0 x1 0 0
noncomputable def m_X42_marksIn : jS → Int → Int → Option (Int) := Classical.choose (⟨dm_X42_marksIn, rfl⟩ : ∃ f, f = dm_X42_marksIn)
theorem em_X42_marksIn : m_X42_marksIn = dm_X42_marksIn := Classical.choose_spec (⟨dm_X42_marksIn, rfl⟩ : ∃ f, f = dm_X42_marksIn)
def dm_X42_about (s : jS) (x0 x1 x2 : Int) : Option (Int) :=
  (m_X42_isSegment s x1).bind fun v1 =>
  if v1 = 0 then
    some (-1)
  else
    if x2 < 0 then
      some (-1)
    else
      if 3 < x2 then
        some (-1)
      else
        if x2 = 0 then
          (jlt s 1002 (x0 + 1) 6 (W32 (3 + x1))).bind fun v2 =>
          if v2 = 0 then
            some 0
          else
            some 1
        else
          (jlt s 1002 (x0 + 1) 6 (W32 (3 + x1))).bind fun v3 =>
          if v3 = 0 then
            some (-1)
          else
            if x2 = 1 then
              (jlt s 1000 (x0 + 2) 6 (W32 (3 + x1))).bind fun v4 =>
              some v4
            else
              if x2 = 2 then
                (jlt s 1000 (x0 + 4) 6 (W32 (3 + x1))).bind fun v5 =>
                some v5
              else
                (jlt s 1000 (x0 + 3) 6 (W32 (3 + x1))).bind fun v6 =>
                some v6
noncomputable def m_X42_about : jS → Int → Int → Int → Option (Int) := Classical.choose (⟨dm_X42_about, rfl⟩ : ∃ f, f = dm_X42_about)
theorem em_X42_about : m_X42_about = dm_X42_about := Classical.choose_spec (⟨dm_X42_about, rfl⟩ : ∃ f, f = dm_X42_about)
def du_X42_segmentAt_38 (s : jS) (x0 x1 x2 : Int) : Option (List Int ⊕ (Int)) :=
  some (.inl [x0, x1, W32 (x2 + 1)])
noncomputable def u_X42_segmentAt_38 : jS → Int → Int → Int → Option (List Int ⊕ (Int)) := Classical.choose (⟨du_X42_segmentAt_38, rfl⟩ : ∃ f, f = du_X42_segmentAt_38)
theorem eu_X42_segmentAt_38 : u_X42_segmentAt_38 = du_X42_segmentAt_38 := Classical.choose_spec (⟨du_X42_segmentAt_38, rfl⟩ : ∃ f, f = du_X42_segmentAt_38)
def b_X42_segmentAt_2 (s : jS) (x0 x1 x2 : Int) : Option (List Int ⊕ (Int)) :=
  if x2 < 6 then
    (jlt s 1002 (x0 + 1) 6 x2).bind fun v1 =>
    if v1 = 0 then
      u_X42_segmentAt_38 s x0 x1 x2
    else
      (jlt s 1000 (x0 + 2) 6 x2).bind fun v2 =>
      if x1 < v2 then
        u_X42_segmentAt_38 s x0 x1 x2
      else
        (m_X42_endOf s x0 x2).bind fun v3 =>
        if x1 < v3 then
          jinr (some x2)
        else
          u_X42_segmentAt_38 s x0 x1 x2
  else
    jinr (some (-1))
def du_X42_segmentAt_2 (s : jS) (x0 x1 x2 : Int) : Option (Int) := jlpR (jc3 b_X42_segmentAt_2) [x0, x1, x2] s
noncomputable def u_X42_segmentAt_2 : jS → Int → Int → Int → Option (Int) := Classical.choose (⟨du_X42_segmentAt_2, rfl⟩ : ∃ f, f = du_X42_segmentAt_2)
theorem eu_X42_segmentAt_2 : u_X42_segmentAt_2 = du_X42_segmentAt_2 := Classical.choose_spec (⟨du_X42_segmentAt_2, rfl⟩ : ∃ f, f = du_X42_segmentAt_2)
def dm_X42_segmentAt (s : jS) (x0 x1 : Int) : Option (Int) :=
  u_X42_segmentAt_2 s x0 x1 3
noncomputable def m_X42_segmentAt : jS → Int → Int → Option (Int) := Classical.choose (⟨dm_X42_segmentAt, rfl⟩ : ∃ f, f = dm_X42_segmentAt)
theorem em_X42_segmentAt : m_X42_segmentAt = dm_X42_segmentAt := Classical.choose_spec (⟨dm_X42_segmentAt, rfl⟩ : ∃ f, f = dm_X42_segmentAt)
def b_X43_fix_3 (s : jS) (x0 x1 x2 x3 x4 x5 : Int) : Option ((jS × List Int) ⊕ (jS × Int)) :=
  if x5 < x3 then
    (jst s 1000 (x0 + 1) 2400 (W32 ((W32 ((W32 (32 * x1)) + x2)) + x5)) (I_and (I_shr x4 x5) 1)).bind fun s1 =>
    some (.inl (s1, [x0, x1, x2, x3, x4, W32 (x5 + 1)]))
  else
    jinr (some (s, 0))
def du_X43_fix_3 (s : jS) (x0 x1 x2 x3 x4 x5 : Int) : Option (jS × Int) := jlpW (jc6 b_X43_fix_3) [x0, x1, x2, x3, x4, x5] s
noncomputable def u_X43_fix_3 : jS → Int → Int → Int → Int → Int → Int → Option (jS × Int) := Classical.choose (⟨du_X43_fix_3, rfl⟩ : ∃ f, f = du_X43_fix_3)
theorem eu_X43_fix_3 : u_X43_fix_3 = du_X43_fix_3 := Classical.choose_spec (⟨du_X43_fix_3, rfl⟩ : ∃ f, f = du_X43_fix_3)
def dm_X43_fix (s : jS) (x0 x1 x2 x3 x4 : Int) : Option (jS × Int) :=
  u_X43_fix_3 s x0 x1 x2 x3 x4 0
noncomputable def m_X43_fix : jS → Int → Int → Int → Int → Int → Option (jS × Int) := Classical.choose (⟨dm_X43_fix, rfl⟩ : ∃ f, f = dm_X43_fix)
theorem em_X43_fix : m_X43_fix = dm_X43_fix := Classical.choose_spec (⟨dm_X43_fix, rfl⟩ : ∃ f, f = dm_X43_fix)
def dm_X43_opcodeOf (s : jS) (x0 : Int) : Option (Int) :=
  if x0 = 0 then
    some 55
  else
    if x0 = 1 then
      some 23
    else
      if x0 = 2 then
        some 111
      else
        if x0 = 3 then
          some 103
        else
          if x0 < 10 then
            some 99
          else
            if x0 < 15 then
              some 3
            else
              if x0 < 18 then
                some 35
              else
                if x0 < 27 then
                  some 19
                else
                  some 51
noncomputable def m_X43_opcodeOf : jS → Int → Option (Int) := Classical.choose (⟨dm_X43_opcodeOf, rfl⟩ : ∃ f, f = dm_X43_opcodeOf)
theorem em_X43_opcodeOf : m_X43_opcodeOf = dm_X43_opcodeOf := Classical.choose_spec (⟨dm_X43_opcodeOf, rfl⟩ : ∃ f, f = dm_X43_opcodeOf)
def b_X43_lay_3 (s : jS) (x0 x1 x2 x3 x4 x5 x6 : Int) : Option ((jS × List Int) ⊕ (jS × Int)) :=
  if x6 < x3 then
    jinr (some (s, 0))
  else
    (jst s 1000 (x0 + 1) 2400 (W32 ((W32 (32 * x1)) + x6)) (W32 ((W32 (x4 + x5)) - (W32 (x2 - x6))))).bind fun s1 =>
    some (.inl (s1, [x0, x1, x2, x3, x4, x5, W32 (x6 + (-1))]))
def du_X43_lay_3 (s : jS) (x0 x1 x2 x3 x4 x5 x6 : Int) : Option (jS × Int) := jlpW (jc7 b_X43_lay_3) [x0, x1, x2, x3, x4, x5, x6] s
noncomputable def u_X43_lay_3 : jS → Int → Int → Int → Int → Int → Int → Int → Option (jS × Int) := Classical.choose (⟨du_X43_lay_3, rfl⟩ : ∃ f, f = du_X43_lay_3)
theorem eu_X43_lay_3 : u_X43_lay_3 = du_X43_lay_3 := Classical.choose_spec (⟨du_X43_lay_3, rfl⟩ : ∃ f, f = du_X43_lay_3)
def dm_X43_lay (s : jS) (x0 x1 x2 x3 x4 x5 : Int) : Option (jS × Int) :=
  u_X43_lay_3 s x0 x1 x2 x3 x4 x5 x2
noncomputable def m_X43_lay : jS → Int → Int → Int → Int → Int → Int → Option (jS × Int) := Classical.choose (⟨dm_X43_lay, rfl⟩ : ∃ f, f = dm_X43_lay)
theorem em_X43_lay : m_X43_lay = dm_X43_lay := Classical.choose_spec (⟨dm_X43_lay, rfl⟩ : ∃ f, f = dm_X43_lay)
def dm_X43_thirdOf (s : jS) (x0 : Int) : Option (Int) :=
  if x0 = 5 then
    some 1
  else
  if x0 = 6 then
    some 4
  else
  if x0 = 7 then
    some 5
  else
  if x0 = 8 then
    some 6
  else
  if x0 = 9 then
    some 7
  else
  if x0 = 10 then
    some 0
  else
  if x0 = 11 then
    some 1
  else
  if x0 = 12 then
    some 2
  else
  if x0 = 13 then
    some 4
  else
  if x0 = 14 then
    some 5
  else
  if x0 = 15 then
    some 0
  else
  if x0 = 16 then
    some 1
  else
  if x0 = 17 then
    some 2
  else
  if x0 = 18 then
    some 0
  else
  if x0 = 19 then
    some 2
  else
  if x0 = 20 then
    some 3
  else
  if x0 = 21 then
    some 4
  else
  if x0 = 22 then
    some 6
  else
  if x0 = 23 then
    some 7
  else
  if x0 = 24 then
    some 1
  else
  if x0 = 25 then
    some 5
  else
  if x0 = 26 then
    some 5
  else
  if x0 = 27 then
    some 0
  else
  if x0 = 28 then
    some 0
  else
  if x0 = 29 then
    some 1
  else
  if x0 = 30 then
    some 2
  else
  if x0 = 31 then
    some 3
  else
  if x0 = 32 then
    some 4
  else
  if x0 = 33 then
    some 5
  else
  if x0 = 34 then
    some 5
  else
  if x0 = 35 then
    some 6
  else
  if x0 = 36 then
    some 7
  else
  if x0 = 37 then
    some 0
  else
  if x0 = 38 then
    some 1
  else
  if x0 = 39 then
    some 2
  else
  if x0 = 40 then
    some 3
  else
  if x0 = 41 then
    some 4
  else
  if x0 = 42 then
    some 5
  else
  if x0 = 43 then
    some 6
  else
  if x0 = 44 then
    some 7
  else
  some 0
noncomputable def m_X43_thirdOf : jS → Int → Option (Int) := Classical.choose (⟨dm_X43_thirdOf, rfl⟩ : ∃ f, f = dm_X43_thirdOf)
theorem em_X43_thirdOf : m_X43_thirdOf = dm_X43_thirdOf := Classical.choose_spec (⟨dm_X43_thirdOf, rfl⟩ : ∃ f, f = dm_X43_thirdOf)
def dm_X43_isBranch (s : jS) (x0 : Int) : Option (Int) :=
  if 3 < x0 then
    if x0 < 10 then
      some (Wz 1)
    else
      some (Wz 0)
  else
    some (Wz 0)
noncomputable def m_X43_isBranch : jS → Int → Option (Int) := Classical.choose (⟨dm_X43_isBranch, rfl⟩ : ∃ f, f = dm_X43_isBranch)
theorem em_X43_isBranch : m_X43_isBranch = dm_X43_isBranch := Classical.choose_spec (⟨dm_X43_isBranch, rfl⟩ : ∃ f, f = dm_X43_isBranch)
def dm_X43_isStore (s : jS) (x0 : Int) : Option (Int) :=
  if 14 < x0 then
    if x0 < 18 then
      some (Wz 1)
    else
      some (Wz 0)
  else
    some (Wz 0)
noncomputable def m_X43_isStore : jS → Int → Option (Int) := Classical.choose (⟨dm_X43_isStore, rfl⟩ : ∃ f, f = dm_X43_isStore)
theorem em_X43_isStore : m_X43_isStore = dm_X43_isStore := Classical.choose_spec (⟨dm_X43_isStore, rfl⟩ : ∃ f, f = dm_X43_isStore)
def dm_X43_seventhOf (s : jS) (x0 : Int) : Option (Int) :=
  if x0 = 26 then
    some 32
  else
    if x0 = 28 then
      some 32
    else
      if x0 = 34 then
        some 32
      else
        if 36 < x0 then
          some 1
        else
          some 0
noncomputable def m_X43_seventhOf : jS → Int → Option (Int) := Classical.choose (⟨dm_X43_seventhOf, rfl⟩ : ∃ f, f = dm_X43_seventhOf)
theorem em_X43_seventhOf : m_X43_seventhOf = dm_X43_seventhOf := Classical.choose_spec (⟨dm_X43_seventhOf, rfl⟩ : ∃ f, f = dm_X43_seventhOf)
def dm_X43_isShift (s : jS) (x0 : Int) : Option (Int) :=
  if 23 < x0 then
    if x0 < 27 then
      some (Wz 1)
    else
      some (Wz 0)
  else
    some (Wz 0)
noncomputable def m_X43_isShift : jS → Int → Option (Int) := Classical.choose (⟨dm_X43_isShift, rfl⟩ : ∃ f, f = dm_X43_isShift)
theorem em_X43_isShift : m_X43_isShift = dm_X43_isShift := Classical.choose_spec (⟨dm_X43_isShift, rfl⟩ : ∃ f, f = dm_X43_isShift)
def dm_X43_ends (s : jS) (x0 x1 x2 x3 : Int) : Option (jS × Int) :=
  (m_X43_fix s x0 x1 13 3 x2).bind fun q1 =>
  (m_X43_fix q1.1 x0 x1 0 2 x3).bind fun q2 =>
  some (q2.1, 0)
noncomputable def m_X43_ends : jS → Int → Int → Int → Int → Option (jS × Int) := Classical.choose (⟨dm_X43_ends, rfl⟩ : ∃ f, f = dm_X43_ends)
theorem em_X43_ends : m_X43_ends = dm_X43_ends := Classical.choose_spec (⟨dm_X43_ends, rfl⟩ : ∃ f, f = dm_X43_ends)
def dm_X43_one (s : jS) (x0 x1 x2 x3 : Int) : Option (jS × Int) :=
  (jst s 1000 (x0 + 1) 2400 (W32 ((W32 (32 * x1)) + x2)) (W32 (400 + x3))).bind fun s1 =>
  some (s1, 0)
noncomputable def m_X43_one : jS → Int → Int → Int → Int → Option (jS × Int) := Classical.choose (⟨dm_X43_one, rfl⟩ : ∃ f, f = dm_X43_one)
theorem em_X43_one : m_X43_one = dm_X43_one := Classical.choose_spec (⟨dm_X43_one, rfl⟩ : ∃ f, f = dm_X43_one)
def dm_X43_layJump (s : jS) (x0 x1 x2 : Int) : Option (jS × Int) :=
  (m_X43_ends s x0 x1 x2 1).bind fun q1 =>
  (m_X43_one q1.1 x0 x1 12 11).bind fun q2 =>
  (m_X43_one q2.1 x0 x1 11 4).bind fun q3 =>
  (m_X43_lay q3.1 x0 x1 10 9 400 9).bind fun q4 =>
  (m_X43_one q4.1 x0 x1 8 10).bind fun q5 =>
  (m_X43_one q5.1 x0 x1 7 6).bind fun q6 =>
  (m_X43_one q6.1 x0 x1 6 7).bind fun q7 =>
  (m_X43_lay q7.1 x0 x1 5 3 400 3).bind fun q8 =>
  (m_X43_one q8.1 x0 x1 2 5).bind fun q9 =>
  some (q9.1, 0)
noncomputable def m_X43_layJump : jS → Int → Int → Int → Option (jS × Int) := Classical.choose (⟨dm_X43_layJump, rfl⟩ : ∃ f, f = dm_X43_layJump)
theorem em_X43_layJump : m_X43_layJump = dm_X43_layJump := Classical.choose_spec (⟨dm_X43_layJump, rfl⟩ : ∃ f, f = dm_X43_layJump)
def dm_X43_forget (s : jS) (x0 : Int) : Option (jS × Int) :=
  jls (jp s 47 x0 23 0) fun s1 =>
  some (s1, 0)
noncomputable def m_X43_forget : jS → Int → Option (jS × Int) := Classical.choose (⟨dm_X43_forget, rfl⟩ : ∃ f, f = dm_X43_forget)
theorem em_X43_forget : m_X43_forget = dm_X43_forget := Classical.choose_spec (⟨dm_X43_forget, rfl⟩ : ∃ f, f = dm_X43_forget)
def dm_X43_marking (s : jS) (x0 x1 : Int) : Option (jS × Int) :=
  (jzb x1).bind fun v1 =>
  jls (jp s 47 x0 7 v1) fun s2 =>
  (m_X43_forget s2 x0).bind fun q3 =>
  some (q3.1, 0)
noncomputable def m_X43_marking : jS → Int → Int → Option (jS × Int) := Classical.choose (⟨dm_X43_marking, rfl⟩ : ∃ f, f = dm_X43_marking)
theorem em_X43_marking : m_X43_marking = dm_X43_marking := Classical.choose_spec (⟨dm_X43_marking, rfl⟩ : ∃ f, f = dm_X43_marking)
def dm_X43_mark (s : jS) (x0 x1 x2 : Int) : Option (jS × Int) :=
  if x1 < 0 then
    some (s, Wz 0)
  else
    if x1 < 131072 then
      (jdv 2 (I_rem x1 2)).bind fun v1 =>
      if v1 = 0 then
        (jdv 2 (I_div x1 2)).bind fun v2 =>
        (jst s 1002 (x0 + 4) 65536 v2 (Wz x2)).bind fun s3 =>
        (m_X43_forget s3 x0).bind fun q4 =>
        some (q4.1, Wz 1)
      else
        some (s, Wz 0)
    else
      some (s, Wz 0)
noncomputable def m_X43_mark : jS → Int → Int → Int → Option (jS × Int) := Classical.choose (⟨dm_X43_mark, rfl⟩ : ∃ f, f = dm_X43_mark)
theorem em_X43_mark : m_X43_mark = dm_X43_mark := Classical.choose_spec (⟨dm_X43_mark, rfl⟩ : ∃ f, f = dm_X43_mark)
def dm_X43_isEnd (s : jS) (x0 : Int) : Option (Int) :=
  if (jf s 47 x0 17) = 0 then
    some (Wz 0)
  else
    if (jf s 47 x0 17) = 9 then
      some (Wz 0)
    else
      some (Wz 1)
noncomputable def m_X43_isEnd : jS → Int → Option (Int) := Classical.choose (⟨dm_X43_isEnd, rfl⟩ : ∃ f, f = dm_X43_isEnd)
theorem em_X43_isEnd : m_X43_isEnd = dm_X43_isEnd := Classical.choose_spec (⟨dm_X43_isEnd, rfl⟩ : ∃ f, f = dm_X43_isEnd)
def dm_X43_bare (s : jS) (x0 : Int) : Option (Int) :=
  some (L_and x0 4294967295)
noncomputable def m_X43_bare : jS → Int → Option (Int) := Classical.choose (⟨dm_X43_bare, rfl⟩ : ∃ f, f = dm_X43_bare)
theorem em_X43_bare : m_X43_bare = dm_X43_bare := Classical.choose_spec (⟨dm_X43_bare, rfl⟩ : ∃ f, f = dm_X43_bare)
def dm_X43_isMarked (s : jS) (x0 x1 : Int) : Option (Int) :=
  if (L_cmp x1 0) < 0 then
    some (Wz 0)
  else
    if (L_cmp x1 131072) < 0 then
      (jdv 2 (L_rem x1 2)).bind fun v1 =>
      if (L_cmp v1 0) = 0 then
        (jdv 2 (I_div (L2i x1) 2)).bind fun v2 =>
        (jlt s 1002 (x0 + 4) 65536 v2).bind fun v3 =>
        if v3 = 0 then
          some (Wz 0)
        else
          some (Wz 1)
      else
        some (Wz 0)
    else
      some (Wz 0)
noncomputable def m_X43_isMarked : jS → Int → Int → Option (Int) := Classical.choose (⟨dm_X43_isMarked, rfl⟩ : ∃ f, f = dm_X43_isMarked)
theorem em_X43_isMarked : m_X43_isMarked = dm_X43_isMarked := Classical.choose_spec (⟨dm_X43_isMarked, rfl⟩ : ∃ f, f = dm_X43_isMarked)
def du_X43_rightsOf_55 (s : jS) (x0 x3 : Int) : Option (Int) :=
  (jlt s 1000 (x0 + 7) 8 x3).bind fun v1 =>
  some v1
noncomputable def u_X43_rightsOf_55 : jS → Int → Int → Option (Int) := Classical.choose (⟨du_X43_rightsOf_55, rfl⟩ : ∃ f, f = du_X43_rightsOf_55)
theorem eu_X43_rightsOf_55 : u_X43_rightsOf_55 = du_X43_rightsOf_55 := Classical.choose_spec (⟨du_X43_rightsOf_55, rfl⟩ : ∃ f, f = du_X43_rightsOf_55)
def du_X43_rightsOf_62 (s : jS) (x0 x1 x3 : Int) : Option (List Int ⊕ (Int)) :=
  some (.inl [x0, x1, W32 (x3 + 1)])
noncomputable def u_X43_rightsOf_62 : jS → Int → Int → Int → Option (List Int ⊕ (Int)) := Classical.choose (⟨du_X43_rightsOf_62, rfl⟩ : ∃ f, f = du_X43_rightsOf_62)
theorem eu_X43_rightsOf_62 : u_X43_rightsOf_62 = du_X43_rightsOf_62 := Classical.choose_spec (⟨du_X43_rightsOf_62, rfl⟩ : ∃ f, f = du_X43_rightsOf_62)
def b_X43_rightsOf_18 (s : jS) (x0 x1 x3 : Int) : Option (List Int ⊕ (Int)) :=
  if x3 < 8 then
    (jlt s 1000 (x0 + 5) 8 x3).bind fun v1 =>
    if (L_cmp x1 v1) < 0 then
      u_X43_rightsOf_62 s x0 x1 x3
    else
      (jlt s 1000 (x0 + 5) 8 x3).bind fun v2 =>
      (jlt s 1000 (x0 + 6) 8 x3).bind fun v3 =>
      if (L_cmp x1 (W32 (v2 + v3))) < 0 then
        jinr (u_X43_rightsOf_55 s x0 x3)
      else
        u_X43_rightsOf_62 s x0 x1 x3
  else
    jinr (some 0)
def du_X43_rightsOf_18 (s : jS) (x0 x1 x3 : Int) : Option (Int) := jlpR (jc3 b_X43_rightsOf_18) [x0, x1, x3] s
noncomputable def u_X43_rightsOf_18 : jS → Int → Int → Int → Option (Int) := Classical.choose (⟨du_X43_rightsOf_18, rfl⟩ : ∃ f, f = du_X43_rightsOf_18)
theorem eu_X43_rightsOf_18 : u_X43_rightsOf_18 = du_X43_rightsOf_18 := Classical.choose_spec (⟨du_X43_rightsOf_18, rfl⟩ : ∃ f, f = du_X43_rightsOf_18)
def dm_X43_rightsOf (s : jS) (x0 x1 : Int) : Option (Int) :=
  if (L_cmp x1 0) < 0 then
    some 0
  else
    if (L_cmp x1 131072) < 0 then
      u_X43_rightsOf_18 s x0 x1 0
    else
      some 0
noncomputable def m_X43_rightsOf : jS → Int → Int → Option (Int) := Classical.choose (⟨dm_X43_rightsOf, rfl⟩ : ∃ f, f = dm_X43_rightsOf)
theorem em_X43_rightsOf : m_X43_rightsOf = dm_X43_rightsOf := Classical.choose_spec (⟨dm_X43_rightsOf, rfl⟩ : ∃ f, f = dm_X43_rightsOf)
def dm_X43_fail (s : jS) (x0 x1 x2 : Int) : Option (jS × Int) :=
  jls (jp s 47 x0 17 x1) fun s1 =>
  jls (jp s1 47 x0 18 x2) fun s2 =>
  some (s2, x1)
noncomputable def m_X43_fail : jS → Int → Int → Int → Option (jS × Int) := Classical.choose (⟨dm_X43_fail, rfl⟩ : ∃ f, f = dm_X43_fail)
theorem em_X43_fail : m_X43_fail = dm_X43_fail := Classical.choose_spec (⟨dm_X43_fail, rfl⟩ : ∃ f, f = dm_X43_fail)
def b_X43_fetched_5 (s : jS) (x0 x1 x2 x3 x4 : Int) : Option (List Int ⊕ (Int)) :=
  if x4 < x2 then
    (jlt s 1000 (x0 + 3) 131072 (W32 (x1 + x4))).bind fun v1 =>
    jlet (I_or x3 (I_shl v1 (W32 (8 * x4)))) fun v2 =>
    some (.inl [x0, x1, x2, v2, W32 (x4 + 1)])
  else
    jinr (some x3)
def du_X43_fetched_5 (s : jS) (x0 x1 x2 x3 x4 : Int) : Option (Int) := jlpR (jc5 b_X43_fetched_5) [x0, x1, x2, x3, x4] s
noncomputable def u_X43_fetched_5 : jS → Int → Int → Int → Int → Int → Option (Int) := Classical.choose (⟨du_X43_fetched_5, rfl⟩ : ∃ f, f = du_X43_fetched_5)
theorem eu_X43_fetched_5 : u_X43_fetched_5 = du_X43_fetched_5 := Classical.choose_spec (⟨du_X43_fetched_5, rfl⟩ : ∃ f, f = du_X43_fetched_5)
def dm_X43_fetched (s : jS) (x0 x1 x2 : Int) : Option (Int) :=
  u_X43_fetched_5 s x0 x1 x2 0 0
noncomputable def m_X43_fetched : jS → Int → Int → Int → Option (Int) := Classical.choose (⟨dm_X43_fetched, rfl⟩ : ∃ f, f = dm_X43_fetched)
theorem em_X43_fetched : m_X43_fetched = dm_X43_fetched := Classical.choose_spec (⟨dm_X43_fetched, rfl⟩ : ∃ f, f = dm_X43_fetched)
def dm_X43_isLong (s : jS) (x0 : Int) : Option (Int) :=
  if (I_and x0 3) = 3 then
    some (Wz 1)
  else
    some (Wz 0)
noncomputable def m_X43_isLong : jS → Int → Option (Int) := Classical.choose (⟨dm_X43_isLong, rfl⟩ : ∃ f, f = dm_X43_isLong)
theorem em_X43_isLong : m_X43_isLong = dm_X43_isLong := Classical.choose_spec (⟨dm_X43_isLong, rfl⟩ : ∃ f, f = dm_X43_isLong)
def dm_X43_bitsOf (s : jS) (x0 : Int) : Option (Int) :=
  if x0 < 48 then
    some 32
  else
    some 16
noncomputable def m_X43_bitsOf : jS → Int → Option (Int) := Classical.choose (⟨dm_X43_bitsOf, rfl⟩ : ∃ f, f = dm_X43_bitsOf)
theorem em_X43_bitsOf : m_X43_bitsOf = dm_X43_bitsOf := Classical.choose_spec (⟨dm_X43_bitsOf, rfl⟩ : ∃ f, f = dm_X43_bitsOf)
def dm_X43_signOf (s : jS) (x0 : Int) : Option (Int) :=
  if x0 < 2 then
    some (-1)
  else
    (m_X43_isShift s x0).bind fun v1 =>
    if v1 = 0 then
      if x0 = 2 then
        some 20
      else
        if x0 < 48 then
          (m_X43_isBranch s x0).bind fun v2 =>
          if v2 = 0 then
            some 11
          else
            some 12
        else
          if x0 = 52 then
            some 5
          else
          if x0 = 53 then
            some 11
          else
          if x0 = 54 then
            some 5
          else
          if x0 = 55 then
            some 9
          else
          if x0 = 56 then
            some 5
          else
          if x0 = 57 then
            some (-1)
          else
          if x0 = 58 then
            some (-1)
          else
          if x0 = 59 then
            some 5
          else
          if x0 = 60 then
            some (-1)
          else
          if x0 = 61 then
            some (-1)
          else
          if x0 = 62 then
            some (-1)
          else
          if x0 = 63 then
            some (-1)
          else
          if x0 = 64 then
            some 11
          else
          if x0 = 65 then
            some 8
          else
          if x0 = 66 then
            some 8
          else
          some (-1)
    else
      some (-1)
noncomputable def m_X43_signOf : jS → Int → Option (Int) := Classical.choose (⟨dm_X43_signOf, rfl⟩ : ∃ f, f = dm_X43_signOf)
theorem em_X43_signOf : m_X43_signOf = dm_X43_signOf := Classical.choose_spec (⟨dm_X43_signOf, rfl⟩ : ∃ f, f = dm_X43_signOf)
def du_X43_has_62 (s : jS) (x0 x1 x2 x3 : Int) : Option (List Int ⊕ (Int)) :=
  some (.inl [x0, x1, x2, W32 (x3 + 1)])
noncomputable def u_X43_has_62 : jS → Int → Int → Int → Int → Option (List Int ⊕ (Int)) := Classical.choose (⟨du_X43_has_62, rfl⟩ : ∃ f, f = du_X43_has_62)
theorem eu_X43_has_62 : u_X43_has_62 = du_X43_has_62 := Classical.choose_spec (⟨du_X43_has_62, rfl⟩ : ∃ f, f = du_X43_has_62)
def du_X43_has_56 (s : jS) (x0 x1 x2 x3 y0 : Int) : Option (List Int ⊕ (Int)) :=
  if y0 = x2 then
    jinr (some (Wz 1))
  else
    u_X43_has_62 s x0 x1 x2 x3
noncomputable def u_X43_has_56 : jS → Int → Int → Int → Int → Int → Option (List Int ⊕ (Int)) := Classical.choose (⟨du_X43_has_56, rfl⟩ : ∃ f, f = du_X43_has_56)
theorem eu_X43_has_56 : u_X43_has_56 = du_X43_has_56 := Classical.choose_spec (⟨du_X43_has_56, rfl⟩ : ∃ f, f = du_X43_has_56)
def b_X43_has_5 (s : jS) (x0 x1 x2 x3 : Int) : Option (List Int ⊕ (Int)) :=
  (m_X43_bitsOf s x1).bind fun v1 =>
  if x3 < (W32 ((W32 (32 * x1)) + v1)) then
    (jlt s 1000 (x0 + 1) 2400 x3).bind fun v2 =>
    (jdv 100 (I_div v2 100)).bind fun v3 =>
    jlet (W32 (v3 - 1)) fun v4 =>
    (jlt s 1000 (x0 + 1) 2400 x3).bind fun v5 =>
    if 1 < v5 then
      if 3 < v4 then
        u_X43_has_56 s x0 x1 x2 x3 (W32 (v4 - 4))
      else
        u_X43_has_56 s x0 x1 x2 x3 v4
    else
      u_X43_has_62 s x0 x1 x2 x3
  else
    jinr (some (Wz 0))
def du_X43_has_5 (s : jS) (x0 x1 x2 x3 : Int) : Option (Int) := jlpR (jc4 b_X43_has_5) [x0, x1, x2, x3] s
noncomputable def u_X43_has_5 : jS → Int → Int → Int → Int → Option (Int) := Classical.choose (⟨du_X43_has_5, rfl⟩ : ∃ f, f = du_X43_has_5)
theorem eu_X43_has_5 : u_X43_has_5 = du_X43_has_5 := Classical.choose_spec (⟨du_X43_has_5, rfl⟩ : ∃ f, f = du_X43_has_5)
def dm_X43_has (s : jS) (x0 x1 x2 : Int) : Option (Int) :=
  jlet (W32 (32 * x1)) fun v1 =>
  u_X43_has_5 s x0 x1 x2 v1
noncomputable def m_X43_has : jS → Int → Int → Int → Option (Int) := Classical.choose (⟨dm_X43_has, rfl⟩ : ∃ f, f = dm_X43_has)
theorem em_X43_has : m_X43_has = dm_X43_has := Classical.choose_spec (⟨dm_X43_has, rfl⟩ : ∃ f, f = dm_X43_has)
def dm_X43_isStep (s : jS) (x0 x2 x4 x6 : Int) : Option (Int) :=
  if (L_cmp x0 x2) < 0 then
    some (Wz 0)
  else
    if 0 < (L_cmp x0 x4) then
      some (Wz 0)
    else
      (jdv x6 (L_rem x0 x6)).bind fun v1 =>
      if (L_cmp v1 0) = 0 then
        some (Wz 1)
      else
        some (Wz 0)
noncomputable def m_X43_isStep : jS → Int → Int → Int → Int → Option (Int) := Classical.choose (⟨dm_X43_isStep, rfl⟩ : ∃ f, f = dm_X43_isStep)
theorem em_X43_isStep : m_X43_isStep = dm_X43_isStep := Classical.choose_spec (⟨dm_X43_isStep, rfl⟩ : ∃ f, f = dm_X43_isStep)
def dm_X43_longKind (s : jS) (x0 : Int) : Option (Int) :=
  if x0 = 48 then
    some 18
  else
  if x0 = 49 then
    some 12
  else
  if x0 = 50 then
    some 17
  else
  if x0 = 51 then
    some 18
  else
  if x0 = 52 then
    some 18
  else
  if x0 = 53 then
    some 2
  else
  if x0 = 54 then
    some 18
  else
  if x0 = 55 then
    some 18
  else
  if x0 = 56 then
    some 0
  else
  if x0 = 57 then
    some 25
  else
  if x0 = 58 then
    some 26
  else
  if x0 = 59 then
    some 23
  else
  if x0 = 60 then
    some 28
  else
  if x0 = 61 then
    some 32
  else
  if x0 = 62 then
    some 35
  else
  if x0 = 63 then
    some 36
  else
  if x0 = 64 then
    some 2
  else
  if x0 = 65 then
    some 4
  else
  if x0 = 66 then
    some 5
  else
  if x0 = 67 then
    some 24
  else
  if x0 = 68 then
    some 12
  else
  if x0 = 69 then
    some 3
  else
  if x0 = 70 then
    some 27
  else
  if x0 = 71 then
    some 47
  else
  if x0 = 72 then
    some 3
  else
  if x0 = 73 then
    some 27
  else
  if x0 = 74 then
    some 17
  else
  some 27
noncomputable def m_X43_longKind : jS → Int → Option (Int) := Classical.choose (⟨dm_X43_longKind, rfl⟩ : ∃ f, f = dm_X43_longKind)
theorem em_X43_longKind : m_X43_longKind = dm_X43_longKind := Classical.choose_spec (⟨dm_X43_longKind, rfl⟩ : ∃ f, f = dm_X43_longKind)
def du_X43_put_90 (s : jS) (x0 x1 x2 x3 y0 : Int) : Option (List Int ⊕ (Int)) :=
  jlet (I_or x2 (I_shl y0 x3)) fun v1 =>
  some (.inl [x0, x1, v1, W32 (x3 + 1)])
noncomputable def u_X43_put_90 : jS → Int → Int → Int → Int → Int → Option (List Int ⊕ (Int)) := Classical.choose (⟨du_X43_put_90, rfl⟩ : ∃ f, f = du_X43_put_90)
theorem eu_X43_put_90 : u_X43_put_90 = du_X43_put_90 := Classical.choose_spec (⟨du_X43_put_90, rfl⟩ : ∃ f, f = du_X43_put_90)
def b_X43_put_4 (s : jS) (x0 x1 x2 x3 : Int) : Option (List Int ⊕ (Int)) :=
  (m_X43_bitsOf s x1).bind fun v1 =>
  if x3 < v1 then
    (jlt s 1000 (x0 + 1) 2400 (W32 ((W32 (32 * x1)) + x3))).bind fun v2 =>
    if v2 < 2 then
      u_X43_put_90 s x0 x1 x2 x3 v2
    else
      if v2 < 500 then
        (jdv 100 (I_div v2 100)).bind fun v3 =>
        (jlt s 1000 (x0 + 2) 4 (W32 (v3 - 1))).bind fun v4 =>
        (jdv 100 (I_rem v2 100)).bind fun v5 =>
        u_X43_put_90 s x0 x1 x2 x3 (I_and (I_shr v4 v5) 1)
      else
        (jdv 100 (I_div v2 100)).bind fun v6 =>
        (jlt s 1000 (x0 + 2) 4 (W32 (v6 - 5))).bind fun v7 =>
        (jdv 100 (I_rem v2 100)).bind fun v8 =>
        jlet (I_and (I_shr (W32 (v7 - 8)) v8) 1) fun v9 =>
        u_X43_put_90 s x0 x1 x2 x3 v9
  else
    jinr (some x2)
def du_X43_put_4 (s : jS) (x0 x1 x2 x3 : Int) : Option (Int) := jlpR (jc4 b_X43_put_4) [x0, x1, x2, x3] s
noncomputable def u_X43_put_4 : jS → Int → Int → Int → Int → Option (Int) := Classical.choose (⟨du_X43_put_4, rfl⟩ : ∃ f, f = du_X43_put_4)
theorem eu_X43_put_4 : u_X43_put_4 = du_X43_put_4 := Classical.choose_spec (⟨du_X43_put_4, rfl⟩ : ∃ f, f = du_X43_put_4)
def dm_X43_put (s : jS) (x0 x1 : Int) : Option (Int) :=
  u_X43_put_4 s x0 x1 0 0
noncomputable def m_X43_put : jS → Int → Int → Option (Int) := Classical.choose (⟨dm_X43_put, rfl⟩ : ∃ f, f = dm_X43_put)
theorem em_X43_put : m_X43_put = dm_X43_put := Classical.choose_spec (⟨dm_X43_put, rfl⟩ : ∃ f, f = dm_X43_put)
def dm_X43_widthOf (s : jS) (x0 x1 : Int) : Option (Int) :=
  if x1 = 10 then
    some 1
  else
    if x1 = 13 then
      some 1
    else
      if x1 = 15 then
        some 1
      else
        if x1 = 11 then
          some 2
        else
          if x1 = 14 then
            some 2
          else
            if x1 = 16 then
              some 2
            else
              some 4
noncomputable def m_X43_widthOf : jS → Int → Int → Option (Int) := Classical.choose (⟨dm_X43_widthOf, rfl⟩ : ∃ f, f = dm_X43_widthOf)
theorem em_X43_widthOf : m_X43_widthOf = dm_X43_widthOf := Classical.choose_spec (⟨dm_X43_widthOf, rfl⟩ : ∃ f, f = dm_X43_widthOf)
def du_X43_keep_158 (s : jS) (y0 y1 : Int) : Option (jS × Int) :=
  jls (jp s 47 y1 23 y0) fun s1 =>
  some (s1, 0)
noncomputable def u_X43_keep_158 : jS → Int → Int → Option (jS × Int) := Classical.choose (⟨du_X43_keep_158, rfl⟩ : ∃ f, f = du_X43_keep_158)
theorem eu_X43_keep_158 : u_X43_keep_158 = du_X43_keep_158 := Classical.choose_spec (⟨du_X43_keep_158, rfl⟩ : ∃ f, f = du_X43_keep_158)
def dm_X43_keep (s : jS) (x0 : Int) : Option (jS × Int) :=
  jlet (W32 (13 * (jf s 47 x0 24))) fun v1 =>
  (jst s 1000 (x0 + 12) 1300 v1 (jf s 47 x0 11)).bind fun s2 =>
  (jst s2 1000 (x0 + 12) 1300 (W32 (v1 + 1)) (jf s2 47 x0 17)).bind fun s3 =>
  (jst s3 1000 (x0 + 12) 1300 (W32 (v1 + 2)) (jf s3 47 x0 18)).bind fun s4 =>
  (jst s4 1000 (x0 + 12) 1300 (W32 (v1 + 3)) (jf s4 47 x0 19)).bind fun s5 =>
  (jst s5 1000 (x0 + 12) 1300 (W32 (v1 + 4)) (jf s5 47 x0 20)).bind fun s6 =>
  (jst s6 1000 (x0 + 12) 1300 (W32 (v1 + 5)) (jf s6 47 x0 21)).bind fun s7 =>
  (jst s7 1000 (x0 + 12) 1300 (W32 (v1 + 6)) (jf s7 47 x0 16)).bind fun s8 =>
  (jst s8 1000 (x0 + 12) 1300 (W32 (v1 + 7)) (jf s8 47 x0 14)).bind fun s9 =>
  (jst s9 1000 (x0 + 12) 1300 (W32 (v1 + 8)) 0).bind fun s10 =>
  (jst s10 1000 (x0 + 12) 1300 (W32 (v1 + 10)) (-1)).bind fun s11 =>
  (jdv 100 (I_rem (W32 ((jf s11 47 x0 24) + 1)) 100)).bind fun v12 =>
  jls (jp s11 47 x0 24 v12) fun s13 =>
  if (jf s13 47 x0 23) < 100 then
    u_X43_keep_158 s13 (W32 ((jf s13 47 x0 23) + 1)) x0
  else
    u_X43_keep_158 s13 100 x0
noncomputable def m_X43_keep : jS → Int → Option (jS × Int) := Classical.choose (⟨dm_X43_keep, rfl⟩ : ∃ f, f = dm_X43_keep)
theorem em_X43_keep : m_X43_keep = dm_X43_keep := Classical.choose_spec (⟨dm_X43_keep, rfl⟩ : ∃ f, f = dm_X43_keep)
def dm_X43_latest (s : jS) (x0 : Int) : Option (Int) :=
  (jdv 100 (I_rem (W32 ((W32 ((jf s 47 x0 24) + 100)) - 1)) 100)).bind fun v1 =>
  some (W32 (13 * v1))
noncomputable def m_X43_latest : jS → Int → Option (Int) := Classical.choose (⟨dm_X43_latest, rfl⟩ : ∃ f, f = dm_X43_latest)
theorem em_X43_latest : m_X43_latest = dm_X43_latest := Classical.choose_spec (⟨dm_X43_latest, rfl⟩ : ∃ f, f = dm_X43_latest)
def dm_X43_branches (s : jS) (x0 x1 x2 : Int) : Option (Int) :=
  if x0 = 4 then
    if x1 = x2 then
      some (Wz 1)
    else
      some (Wz 0)
  else
  if x0 = 5 then
    if x1 = x2 then
      some (Wz 0)
    else
      some (Wz 1)
  else
  if x0 = 6 then
    if x1 < x2 then
      some (Wz 1)
    else
      some (Wz 0)
  else
  if x0 = 7 then
    if x1 < x2 then
      some (Wz 0)
    else
      some (Wz 1)
  else
  if x0 = 8 then
    (m_X43_bare s x1).bind fun v1 =>
    (m_X43_bare s x2).bind fun v2 =>
    if (L_cmp v1 v2) < 0 then
      some (Wz 1)
    else
      some (Wz 0)
  else
  (m_X43_bare s x1).bind fun v3 =>
  (m_X43_bare s x2).bind fun v4 =>
  if (L_cmp v3 v4) < 0 then
    some (Wz 0)
  else
    some (Wz 1)
noncomputable def m_X43_branches : jS → Int → Int → Int → Option (Int) := Classical.choose (⟨dm_X43_branches, rfl⟩ : ∃ f, f = dm_X43_branches)
theorem em_X43_branches : m_X43_branches = dm_X43_branches := Classical.choose_spec (⟨dm_X43_branches, rfl⟩ : ∃ f, f = dm_X43_branches)
def dm_X43_loaded (s : jS) (x0 x1 : Int) : Option (Int) :=
  (m_X43_widthOf s x0 (jf s 47 x0 26)).bind fun v1 =>
  (m_X43_fetched s x0 x1 v1).bind fun v2 =>
  if (jf s 47 x0 26) = 10 then
    some (I_shr (I_shl v2 24) 24)
  else
    if (jf s 47 x0 26) = 11 then
      some (I_shr (I_shl v2 16) 16)
    else
      some v2
noncomputable def m_X43_loaded : jS → Int → Int → Option (Int) := Classical.choose (⟨dm_X43_loaded, rfl⟩ : ∃ f, f = dm_X43_loaded)
theorem em_X43_loaded : m_X43_loaded = dm_X43_loaded := Classical.choose_spec (⟨dm_X43_loaded, rfl⟩ : ∃ f, f = dm_X43_loaded)
def b_X43_store_47 (s : jS) (x0 x1 x2 x3 x5 : Int) : Option ((jS × List Int) ⊕ (jS × Int)) :=
  if x5 < x2 then
    (jst s 1000 (x0 + 3) 131072 (W32 (x1 + x5)) (I_and (I_shr x3 (W32 (8 * x5))) 255)).bind fun s1 =>
    some (.inl (s1, [x0, x1, x2, x3, W32 (x5 + 1)]))
  else
    jinr (some (s, 0))
def du_X43_store_47 (s : jS) (x0 x1 x2 x3 x5 : Int) : Option (jS × Int) := jlpW (jc5 b_X43_store_47) [x0, x1, x2, x3, x5] s
noncomputable def u_X43_store_47 : jS → Int → Int → Int → Int → Int → Option (jS × Int) := Classical.choose (⟨du_X43_store_47, rfl⟩ : ∃ f, f = du_X43_store_47)
theorem eu_X43_store_47 : u_X43_store_47 = du_X43_store_47 := Classical.choose_spec (⟨du_X43_store_47, rfl⟩ : ∃ f, f = du_X43_store_47)
def dm_X43_store (s : jS) (x0 x1 x2 x3 : Int) : Option (jS × Int) :=
  (m_X43_latest s x0).bind fun v1 =>
  (jst s 1000 (x0 + 12) 1300 (W32 (v1 + 10)) x1).bind fun s2 =>
  (jst s2 1000 (x0 + 12) 1300 (W32 (v1 + 11)) x2).bind fun s3 =>
  (m_X43_fetched s3 x0 x1 x2).bind fun v4 =>
  (jst s3 1000 (x0 + 12) 1300 (W32 (v1 + 12)) v4).bind fun s5 =>
  u_X43_store_47 s5 x0 x1 x2 x3 0
noncomputable def m_X43_store : jS → Int → Int → Int → Int → Option (jS × Int) := Classical.choose (⟨dm_X43_store, rfl⟩ : ∃ f, f = dm_X43_store)
theorem em_X43_store : m_X43_store = dm_X43_store := Classical.choose_spec (⟨dm_X43_store, rfl⟩ : ∃ f, f = dm_X43_store)
def dm_X43_truth (s : jS) (x0 : Int) : Option (Int) :=
  if x0 = 0 then
    some 0
  else
    some 1
noncomputable def m_X43_truth : jS → Int → Option (Int) := Classical.choose (⟨dm_X43_truth, rfl⟩ : ∃ f, f = dm_X43_truth)
theorem em_X43_truth : m_X43_truth = dm_X43_truth := Classical.choose_spec (⟨dm_X43_truth, rfl⟩ : ∃ f, f = dm_X43_truth)
def dm_X43_multiplied (s : jS) (x0 x1 x2 : Int) : Option (Int) :=
  if x0 = 37 then
    some (W32 (x1 * x2))
  else
  if x0 = 38 then
    some (L2i (L_shr (W64 (x1 * x2)) 32))
  else
  if x0 = 39 then
    (m_X43_bare s x2).bind fun v1 =>
    some (L2i (L_shr (W64 (x1 * v1)) 32))
  else
  if x0 = 40 then
    (m_X43_bare s x1).bind fun v2 =>
    (m_X43_bare s x2).bind fun v3 =>
    some (L2i (L_ushr (W64 (v2 * v3)) 32))
  else
  if x0 = 41 then
    if x2 = 0 then
      some (-1)
    else
      if x2 = (-1) then
        some (W32 (-x1))
      else
        (jdv x2 (I_div x1 x2)).bind fun v4 =>
        some v4
  else
  if x0 = 42 then
    if x2 = 0 then
      some (-1)
    else
      (m_X43_bare s x1).bind fun v5 =>
      (m_X43_bare s x2).bind fun v6 =>
      (jdv v6 (L_div v5 v6)).bind fun v7 =>
      some (L2i v7)
  else
  if x0 = 43 then
    if x2 = 0 then
      some x1
    else
      if x2 = (-1) then
        some 0
      else
        (jdv x2 (I_rem x1 x2)).bind fun v8 =>
        some v8
  else
  if x2 = 0 then
    some x1
  else
    (m_X43_bare s x1).bind fun v9 =>
    (m_X43_bare s x2).bind fun v10 =>
    (jdv v10 (L_rem v9 v10)).bind fun v11 =>
    some (L2i v11)
noncomputable def m_X43_multiplied : jS → Int → Int → Int → Option (Int) := Classical.choose (⟨dm_X43_multiplied, rfl⟩ : ∃ f, f = dm_X43_multiplied)
theorem em_X43_multiplied : m_X43_multiplied = dm_X43_multiplied := Classical.choose_spec (⟨dm_X43_multiplied, rfl⟩ : ∃ f, f = dm_X43_multiplied)
def b_X43_haltAt_2 (s : jS) (x0 x1 x2 : Int) : Option (List Int ⊕ (Int)) :=
  if x2 < (jf s 47 x0 9) then
    (jlt s 1000 (x0 + 8) 8 x2).bind fun v1 =>
    if v1 = x1 then
      jinr (some x2)
    else
      some (.inl [x0, x1, W32 (x2 + 1)])
  else
    jinr (some (-1))
def du_X43_haltAt_2 (s : jS) (x0 x1 x2 : Int) : Option (Int) := jlpR (jc3 b_X43_haltAt_2) [x0, x1, x2] s
noncomputable def u_X43_haltAt_2 : jS → Int → Int → Int → Option (Int) := Classical.choose (⟨du_X43_haltAt_2, rfl⟩ : ∃ f, f = du_X43_haltAt_2)
theorem eu_X43_haltAt_2 : u_X43_haltAt_2 = du_X43_haltAt_2 := Classical.choose_spec (⟨du_X43_haltAt_2, rfl⟩ : ∃ f, f = du_X43_haltAt_2)
def dm_X43_haltAt (s : jS) (x0 x1 : Int) : Option (Int) :=
  u_X43_haltAt_2 s x0 x1 0
noncomputable def m_X43_haltAt : jS → Int → Int → Option (Int) := Classical.choose (⟨dm_X43_haltAt, rfl⟩ : ∃ f, f = dm_X43_haltAt)
theorem em_X43_haltAt : m_X43_haltAt = dm_X43_haltAt := Classical.choose_spec (⟨dm_X43_haltAt, rfl⟩ : ∃ f, f = dm_X43_haltAt)
def du_X43_back_222 (s : jS) (x0 x1 x2 : Int) : Option ((jS × List Int) ⊕ (jS × Int)) :=
  (jdv 100 (I_rem (W32 ((W32 ((jf s 47 x0 24) + 100)) - 1)) 100)).bind fun v1 =>
  jls (jp s 47 x0 24 v1) fun s2 =>
  jls (jp s2 47 x0 23 (W32 ((jf s2 47 x0 23) - 1))) fun s3 =>
  some (.inl (s3, [x0, x1, W32 (x2 + 1)]))
noncomputable def u_X43_back_222 : jS → Int → Int → Int → Option ((jS × List Int) ⊕ (jS × Int)) := Classical.choose (⟨du_X43_back_222, rfl⟩ : ∃ f, f = du_X43_back_222)
theorem eu_X43_back_222 : u_X43_back_222 = du_X43_back_222 := Classical.choose_spec (⟨du_X43_back_222, rfl⟩ : ∃ f, f = du_X43_back_222)
def b_X43_back_153 (s : jS) (x0 x1 x2 x3 x4 : Int) : Option ((jS × List Int) ⊕ ((jS × List Int) ⊕ (jS × Int))) :=
  (jlt s 1000 (x0 + 12) 1300 (W32 (x3 + 10))).bind fun v1 =>
  if v1 = (-1) then
    jinr (u_X43_back_222 s x0 x1 x2)
  else
    (jlt s 1000 (x0 + 12) 1300 (W32 (x3 + 11))).bind fun v2 =>
    if x4 < v2 then
      (jlt s 1000 (x0 + 12) 1300 (W32 (x3 + 10))).bind fun v3 =>
      (jlt s 1000 (x0 + 12) 1300 (W32 (x3 + 12))).bind fun v4 =>
      (jst s 1000 (x0 + 3) 131072 (W32 (v3 + x4)) (I_and (I_shr v4 (W32 (8 * x4))) 255)).bind fun s5 =>
      some (.inl (s5, [x0, x1, x2, x3, W32 (x4 + 1)]))
    else
      jinr (u_X43_back_222 s x0 x1 x2)
def du_X43_back_153 (s : jS) (x0 x1 x2 x3 x4 : Int) : Option ((jS × List Int) ⊕ (jS × Int)) := jlpW (jc5 b_X43_back_153) [x0, x1, x2, x3, x4] s
noncomputable def u_X43_back_153 : jS → Int → Int → Int → Int → Int → Option ((jS × List Int) ⊕ (jS × Int)) := Classical.choose (⟨du_X43_back_153, rfl⟩ : ∃ f, f = du_X43_back_153)
theorem eu_X43_back_153 : u_X43_back_153 = du_X43_back_153 := Classical.choose_spec (⟨du_X43_back_153, rfl⟩ : ∃ f, f = du_X43_back_153)
def du_X43_back_150 (s : jS) (x0 x1 x2 x3 : Int) : Option ((jS × List Int) ⊕ (jS × Int)) :=
  u_X43_back_153 s x0 x1 x2 x3 0
noncomputable def u_X43_back_150 : jS → Int → Int → Int → Int → Option ((jS × List Int) ⊕ (jS × Int)) := Classical.choose (⟨du_X43_back_150, rfl⟩ : ∃ f, f = du_X43_back_150)
theorem eu_X43_back_150 : u_X43_back_150 = du_X43_back_150 := Classical.choose_spec (⟨du_X43_back_150, rfl⟩ : ∃ f, f = du_X43_back_150)
def b_X43_back_2 (s : jS) (x0 x1 x2 : Int) : Option ((jS × List Int) ⊕ (jS × Int)) :=
  if x2 < x1 then
    if 0 < (jf s 47 x0 23) then
      (m_X43_latest s x0).bind fun v1 =>
      (jlt s 1000 (x0 + 12) 1300 v1).bind fun v2 =>
      jls (jp s 47 x0 11 v2) fun s3 =>
      (jlt s3 1000 (x0 + 12) 1300 (W32 (v1 + 1))).bind fun v4 =>
      jls (jp s3 47 x0 17 v4) fun s5 =>
      (jlt s5 1000 (x0 + 12) 1300 (W32 (v1 + 2))).bind fun v6 =>
      jls (jp s5 47 x0 18 v6) fun s7 =>
      (jlt s7 1000 (x0 + 12) 1300 (W32 (v1 + 3))).bind fun v8 =>
      jls (jp s7 47 x0 19 v8) fun s9 =>
      (jlt s9 1000 (x0 + 12) 1300 (W32 (v1 + 4))).bind fun v10 =>
      jls (jp s9 47 x0 20 v10) fun s11 =>
      (jlt s11 1000 (x0 + 12) 1300 (W32 (v1 + 5))).bind fun v12 =>
      jls (jp s11 47 x0 21 v12) fun s13 =>
      (jlt s13 1000 (x0 + 12) 1300 (W32 (v1 + 6))).bind fun v14 =>
      jls (jp s13 47 x0 16 v14) fun s15 =>
      (jlt s15 1000 (x0 + 12) 1300 (W32 (v1 + 7))).bind fun v16 =>
      jls (jp s15 47 x0 14 v16) fun s17 =>
      (jlt s17 1000 (x0 + 12) 1300 (W32 (v1 + 8))).bind fun v18 =>
      if 0 < v18 then
        (jlt s17 1000 (x0 + 12) 1300 (W32 (v1 + 8))).bind fun v19 =>
        (jlt s17 1000 (x0 + 12) 1300 (W32 (v1 + 9))).bind fun v20 =>
        (jst s17 1000 (x0 + 9) 32 v19 v20).bind fun s21 =>
        u_X43_back_150 s21 x0 x1 x2 v1
      else
        u_X43_back_150 s17 x0 x1 x2 v1
    else
      jinr (some (s, x2))
  else
    jinr (some (s, x2))
def du_X43_back_2 (s : jS) (x0 x1 x2 : Int) : Option (jS × Int) := jlpW (jc3 b_X43_back_2) [x0, x1, x2] s
noncomputable def u_X43_back_2 : jS → Int → Int → Int → Option (jS × Int) := Classical.choose (⟨du_X43_back_2, rfl⟩ : ∃ f, f = du_X43_back_2)
theorem eu_X43_back_2 : u_X43_back_2 = du_X43_back_2 := Classical.choose_spec (⟨du_X43_back_2, rfl⟩ : ∃ f, f = du_X43_back_2)
def dm_X43_back (s : jS) (x0 x1 : Int) : Option (jS × Int) :=
  u_X43_back_2 s x0 x1 0
noncomputable def m_X43_back : jS → Int → Int → Option (jS × Int) := Classical.choose (⟨dm_X43_back, rfl⟩ : ∃ f, f = dm_X43_back)
theorem em_X43_back : m_X43_back = dm_X43_back := Classical.choose_spec (⟨dm_X43_back, rfl⟩ : ∃ f, f = dm_X43_back)
def du_X43_set_66 (s : jS) (x0 : Int) : Option (jS × Int) :=
  (m_X43_forget s x0).bind fun q1 =>
  some (q1.1, Wz 1)
noncomputable def u_X43_set_66 : jS → Int → Option (jS × Int) := Classical.choose (⟨du_X43_set_66, rfl⟩ : ∃ f, f = du_X43_set_66)
theorem eu_X43_set_66 : u_X43_set_66 = du_X43_set_66 := Classical.choose_spec (⟨du_X43_set_66, rfl⟩ : ∃ f, f = du_X43_set_66)
def du_X43_set_50 (s : jS) (x0 x1 : Int) : Option (jS × Int) :=
  if x1 = 33 then
    jls (jp s 47 x0 17 0) fun s1 =>
    jls (jp s1 47 x0 18 0) fun s2 =>
    u_X43_set_66 s2 x0
  else
    u_X43_set_66 s x0
noncomputable def u_X43_set_50 : jS → Int → Int → Option (jS × Int) := Classical.choose (⟨du_X43_set_50, rfl⟩ : ∃ f, f = du_X43_set_50)
theorem eu_X43_set_50 : u_X43_set_50 = du_X43_set_50 := Classical.choose_spec (⟨du_X43_set_50, rfl⟩ : ∃ f, f = du_X43_set_50)
def du_X43_set_39 (s : jS) (x0 x1 x2 : Int) : Option (jS × Int) :=
  if x1 = 32 then
    jls (jp s 47 x0 11 x2) fun s1 =>
    u_X43_set_50 s1 x0 x1
  else
    u_X43_set_50 s x0 x1
noncomputable def u_X43_set_39 : jS → Int → Int → Int → Option (jS × Int) := Classical.choose (⟨du_X43_set_39, rfl⟩ : ∃ f, f = du_X43_set_39)
theorem eu_X43_set_39 : u_X43_set_39 = du_X43_set_39 := Classical.choose_spec (⟨du_X43_set_39, rfl⟩ : ∃ f, f = du_X43_set_39)
def du_X43_set_26 (s : jS) (x0 x1 x2 : Int) : Option (jS × Int) :=
  if x1 < 32 then
    (jst s 1000 (x0 + 9) 32 x1 x2).bind fun s1 =>
    u_X43_set_39 s1 x0 x1 x2
  else
    u_X43_set_39 s x0 x1 x2
noncomputable def u_X43_set_26 : jS → Int → Int → Int → Option (jS × Int) := Classical.choose (⟨du_X43_set_26, rfl⟩ : ∃ f, f = du_X43_set_26)
theorem eu_X43_set_26 : u_X43_set_26 = du_X43_set_26 := Classical.choose_spec (⟨du_X43_set_26, rfl⟩ : ∃ f, f = du_X43_set_26)
def dm_X43_set (s : jS) (x0 x1 x2 : Int) : Option (jS × Int) :=
  if x1 < 1 then
    some (s, Wz 0)
  else
    if 33 < x1 then
      some (s, Wz 0)
    else
      if x1 = 32 then
        if (I_and x2 1) = 1 then
          some (s, Wz 0)
        else
          u_X43_set_26 s x0 x1 x2
      else
        u_X43_set_26 s x0 x1 x2
noncomputable def m_X43_set : jS → Int → Int → Int → Option (jS × Int) := Classical.choose (⟨dm_X43_set, rfl⟩ : ∃ f, f = dm_X43_set)
theorem em_X43_set : m_X43_set = dm_X43_set := Classical.choose_spec (⟨dm_X43_set, rfl⟩ : ∃ f, f = dm_X43_set)
def dm_X43_get (s : jS) (x0 x1 : Int) : Option (Int) :=
  if x1 = 32 then
    some (jf s 47 x0 11)
  else
    if 0 < x1 then
      if x1 < 32 then
        (jlt s 1000 (x0 + 9) 32 x1).bind fun v1 =>
        some v1
      else
        some 0
    else
      some 0
noncomputable def m_X43_get : jS → Int → Int → Option (Int) := Classical.choose (⟨dm_X43_get, rfl⟩ : ∃ f, f = dm_X43_get)
theorem em_X43_get : m_X43_get = dm_X43_get := Classical.choose_spec (⟨dm_X43_get, rfl⟩ : ∃ f, f = dm_X43_get)
def dm_X43_peek (s : jS) (x0 x1 : Int) : Option (Int) :=
  if x1 < 0 then
    some (-1)
  else
    if x1 < 131072 then
      (jlt s 1000 (x0 + 3) 131072 x1).bind fun v1 =>
      some v1
    else
      some (-1)
noncomputable def m_X43_peek : jS → Int → Int → Option (Int) := Classical.choose (⟨dm_X43_peek, rfl⟩ : ∃ f, f = dm_X43_peek)
theorem em_X43_peek : m_X43_peek = dm_X43_peek := Classical.choose_spec (⟨dm_X43_peek, rfl⟩ : ∃ f, f = dm_X43_peek)
def du_X43_input_74 (s : jS) (x0 : Int) : Option (jS × Int) :=
  (m_X43_forget s x0).bind fun q1 =>
  some (q1.1, Wz 1)
noncomputable def u_X43_input_74 : jS → Int → Option (jS × Int) := Classical.choose (⟨du_X43_input_74, rfl⟩ : ∃ f, f = du_X43_input_74)
theorem eu_X43_input_74 : u_X43_input_74 = du_X43_input_74 := Classical.choose_spec (⟨du_X43_input_74, rfl⟩ : ∃ f, f = du_X43_input_74)
def b_X43_input_28 (s : jS) (x0 x1 x2 x4 : Int) : Option ((jS × List Int) ⊕ (jS × Int)) :=
  if x4 < x1 then
    (jst s 1000 (x0 + 10) 1000 (jf s 47 x0 13) (L2i (L_and (L_shr x2 (W32 (56 - (W32 (8 * x4))))) 255))).bind fun s1 =>
    jls (jp s1 47 x0 13 (W32 ((jf s1 47 x0 13) + 1))) fun s2 =>
    some (.inl (s2, [x0, x1, x2, W32 (x4 + 1)]))
  else
    jinr (u_X43_input_74 s x0)
def du_X43_input_28 (s : jS) (x0 x1 x2 x4 : Int) : Option (jS × Int) := jlpW (jc4 b_X43_input_28) [x0, x1, x2, x4] s
noncomputable def u_X43_input_28 : jS → Int → Int → Int → Int → Option (jS × Int) := Classical.choose (⟨du_X43_input_28, rfl⟩ : ∃ f, f = du_X43_input_28)
theorem eu_X43_input_28 : u_X43_input_28 = du_X43_input_28 := Classical.choose_spec (⟨du_X43_input_28, rfl⟩ : ∃ f, f = du_X43_input_28)
def dm_X43_input (s : jS) (x0 x1 x2 : Int) : Option (jS × Int) :=
  if x1 < 1 then
    some (s, Wz 0)
  else
    if 8 < x1 then
      some (s, Wz 0)
    else
      if 1000 < (W32 ((jf s 47 x0 13) + x1)) then
        some (s, Wz 0)
      else
        u_X43_input_28 s x0 x1 x2 0
noncomputable def m_X43_input : jS → Int → Int → Int → Option (jS × Int) := Classical.choose (⟨dm_X43_input, rfl⟩ : ∃ f, f = dm_X43_input)
theorem em_X43_input : m_X43_input = dm_X43_input := Classical.choose_spec (⟨dm_X43_input, rfl⟩ : ∃ f, f = dm_X43_input)
def du_X43_halt_99 (s : jS) (x0 : Int) : Option (jS × Int) :=
  (m_X43_forget s x0).bind fun q1 =>
  some (q1.1, Wz 1)
noncomputable def u_X43_halt_99 : jS → Int → Option (jS × Int) := Classical.choose (⟨du_X43_halt_99, rfl⟩ : ∃ f, f = du_X43_halt_99)
theorem eu_X43_halt_99 : u_X43_halt_99 = du_X43_halt_99 := Classical.choose_spec (⟨du_X43_halt_99, rfl⟩ : ∃ f, f = du_X43_halt_99)
def du_X43_halt_47 (s : jS) (x0 x1 x2 x3 : Int) : Option (jS × Int) :=
  if x2 = 0 then
    jls (jp s 47 x0 9 (W32 ((jf s 47 x0 9) - 1))) fun s1 =>
    (jlt s1 1000 (x0 + 8) 8 (jf s1 47 x0 9)).bind fun v2 =>
    (jst s1 1000 (x0 + 8) 8 x3 v2).bind fun s3 =>
    u_X43_halt_99 s3 x0
  else
    (jst s 1000 (x0 + 8) 8 (jf s 47 x0 9) x1).bind fun s4 =>
    jls (jp s4 47 x0 9 (W32 ((jf s4 47 x0 9) + 1))) fun s5 =>
    u_X43_halt_99 s5 x0
noncomputable def u_X43_halt_47 : jS → Int → Int → Int → Int → Option (jS × Int) := Classical.choose (⟨du_X43_halt_47, rfl⟩ : ∃ f, f = du_X43_halt_47)
theorem eu_X43_halt_47 : u_X43_halt_47 = du_X43_halt_47 := Classical.choose_spec (⟨du_X43_halt_47, rfl⟩ : ∃ f, f = du_X43_halt_47)
def du_X43_halt_29 (s : jS) (x0 x1 x2 x3 y0 y1 : Int) : Option (jS × Int) :=
  if y1 = y0 then
    some (s, Wz 0)
  else
    if x2 = 0 then
      u_X43_halt_47 s x0 x1 x2 x3
    else
      if (jf s 47 x0 9) = 8 then
        some (s, Wz 0)
      else
        u_X43_halt_47 s x0 x1 x2 x3
noncomputable def u_X43_halt_29 : jS → Int → Int → Int → Int → Int → Int → Option (jS × Int) := Classical.choose (⟨du_X43_halt_29, rfl⟩ : ∃ f, f = du_X43_halt_29)
theorem eu_X43_halt_29 : u_X43_halt_29 = du_X43_halt_29 := Classical.choose_spec (⟨du_X43_halt_29, rfl⟩ : ∃ f, f = du_X43_halt_29)
def dm_X43_halt (s : jS) (x0 x1 x2 : Int) : Option (jS × Int) :=
  if x1 < 0 then
    some (s, Wz 0)
  else
    (jdv 2 (I_rem x1 2)).bind fun v1 =>
    if v1 = 0 then
      (m_X43_haltAt s x0 x1).bind fun v2 =>
      if v2 = (-1) then
        u_X43_halt_29 s x0 x1 x2 v2 0 x2
      else
        u_X43_halt_29 s x0 x1 x2 v2 1 x2
    else
      some (s, Wz 0)
noncomputable def m_X43_halt : jS → Int → Int → Int → Option (jS × Int) := Classical.choose (⟨dm_X43_halt, rfl⟩ : ∃ f, f = dm_X43_halt)
theorem em_X43_halt : m_X43_halt = dm_X43_halt := Classical.choose_spec (⟨dm_X43_halt, rfl⟩ : ∃ f, f = dm_X43_halt)
def dm_X43_state (s : jS) (x0 x1 : Int) : Option (Int) :=
  if x1 = 0 then
    some (jf s 47 x0 17)
  else
  if x1 = 1 then
    some (jf s 47 x0 18)
  else
  if x1 = 2 then
    some (jf s 47 x0 19)
  else
  if x1 = 3 then
    some (jf s 47 x0 20)
  else
  if x1 = 4 then
    some (jf s 47 x0 21)
  else
  if x1 = 5 then
    some (jf s 47 x0 16)
  else
  if x1 = 6 then
    some (W32 ((jf s 47 x0 13) - (jf s 47 x0 14)))
  else
  if x1 = 7 then
    some (jf s 47 x0 23)
  else
  if x1 = 8 then
    some (jf s 47 x0 9)
  else
  some (-1)
noncomputable def m_X43_state : jS → Int → Int → Option (Int) := Classical.choose (⟨dm_X43_state, rfl⟩ : ∃ f, f = dm_X43_state)
theorem em_X43_state : m_X43_state = dm_X43_state := Classical.choose_spec (⟨dm_X43_state, rfl⟩ : ∃ f, f = dm_X43_state)
def dm_X43_output (s : jS) (x0 x1 : Int) : Option (Int) :=
  if x1 < 0 then
    some (-1)
  else
    if x1 < (jf s 47 x0 16) then
      (jlt s 1000 (x0 + 11) 2000 x1).bind fun v1 =>
      some v1
    else
      some (-1)
noncomputable def m_X43_output : jS → Int → Int → Option (Int) := Classical.choose (⟨dm_X43_output, rfl⟩ : ∃ f, f = dm_X43_output)
theorem em_X43_output : m_X43_output = dm_X43_output := Classical.choose_spec (⟨dm_X43_output, rfl⟩ : ∃ f, f = dm_X43_output)
def du_X43_rights_21 (s : jS) (y0 y1 : Int) : Option (Int) :=
  some (W32 (y1 + y0))
noncomputable def u_X43_rights_21 : jS → Int → Int → Option (Int) := Classical.choose (⟨du_X43_rights_21, rfl⟩ : ∃ f, f = du_X43_rights_21)
theorem eu_X43_rights_21 : u_X43_rights_21 = du_X43_rights_21 := Classical.choose_spec (⟨du_X43_rights_21, rfl⟩ : ∃ f, f = du_X43_rights_21)
def dm_X43_rights (s : jS) (x0 x1 : Int) : Option (Int) :=
  (m_X43_rightsOf s x0 x1).bind fun v1 =>
  (m_X43_isMarked s x0 x1).bind fun v2 =>
  if v2 = 0 then
    u_X43_rights_21 s 0 v1
  else
    u_X43_rights_21 s 8 v1
noncomputable def m_X43_rights : jS → Int → Int → Option (Int) := Classical.choose (⟨dm_X43_rights, rfl⟩ : ∃ f, f = dm_X43_rights)
theorem em_X43_rights : m_X43_rights = dm_X43_rights := Classical.choose_spec (⟨dm_X43_rights, rfl⟩ : ∃ f, f = dm_X43_rights)
def dm_X37_end (s : jS) (x0 x1 : Int) : Option (jS × Int) :=
  jls (jp s 41 x0 4 0) fun s1 =>
  (m_X39_end s1 (x0 + 8) x1).bind fun q2 =>
  some (q2.1, q2.2)
noncomputable def m_X37_end : jS → Int → Int → Option (jS × Int) := Classical.choose (⟨dm_X37_end, rfl⟩ : ∃ f, f = dm_X37_end)
theorem em_X37_end : m_X37_end = dm_X37_end := Classical.choose_spec (⟨dm_X37_end, rfl⟩ : ∃ f, f = dm_X37_end)
def du_X37_take_78 (s : jS) (x0 x1 : Int) : Option (jS × Int) :=
  jls (jp s 43 (x0 + 8) 3 0) fun s1 =>
  (jlt s1 1000 (x0 + 2) 6 x1).bind fun v2 =>
  some (s1, v2)
noncomputable def u_X37_take_78 : jS → Int → Int → Option (jS × Int) := Classical.choose (⟨du_X37_take_78, rfl⟩ : ∃ f, f = du_X37_take_78)
theorem eu_X37_take_78 : u_X37_take_78 = du_X37_take_78 := Classical.choose_spec (⟨du_X37_take_78, rfl⟩ : ∃ f, f = du_X37_take_78)
def b_X37_take_40 (s : jS) (x0 x1 x2 : Int) : Option ((jS × List Int) ⊕ (jS × Int)) :=
  if x2 < (jf s 43 (x0 + 8) 3) then
    (jlt s 1000 ((x0 + 8) + 2) 3000 x2).bind fun v1 =>
    (jst s 1000 (x0 + 1) 49152 (W32 ((W32 (8192 * x1)) + x2)) v1).bind fun s2 =>
    some (.inl (s2, [x0, x1, W32 (x2 + 1)]))
  else
    jinr (u_X37_take_78 s x0 x1)
def du_X37_take_40 (s : jS) (x0 x1 x2 : Int) : Option (jS × Int) := jlpW (jc3 b_X37_take_40) [x0, x1, x2] s
noncomputable def u_X37_take_40 : jS → Int → Int → Int → Option (jS × Int) := Classical.choose (⟨du_X37_take_40, rfl⟩ : ∃ f, f = du_X37_take_40)
theorem eu_X37_take_40 : u_X37_take_40 = du_X37_take_40 := Classical.choose_spec (⟨du_X37_take_40, rfl⟩ : ∃ f, f = du_X37_take_40)
def du_X37_take_13 (s : jS) (x0 x1 y0 y1 : Int) : Option (jS × Int) :=
  jls (jp s 41 y1 4 y0) fun s1 =>
  if (jf s1 41 x0 4) = 0 then
    (jst s1 1000 (x0 + 2) 6 x1 (jf s1 43 (x0 + 8) 3)).bind fun s2 =>
    u_X37_take_40 s2 x0 x1 0
  else
    some (s1, 0)
noncomputable def u_X37_take_13 : jS → Int → Int → Int → Int → Option (jS × Int) := Classical.choose (⟨du_X37_take_13, rfl⟩ : ∃ f, f = du_X37_take_13)
theorem eu_X37_take_13 : u_X37_take_13 = du_X37_take_13 := Classical.choose_spec (⟨du_X37_take_13, rfl⟩ : ∃ f, f = du_X37_take_13)
def dm_X37_take (s : jS) (x0 x1 : Int) : Option (jS × Int) :=
  (m_X37_isUnit s x1).bind fun v1 =>
  if v1 = 0 then
    u_X37_take_13 s x0 x1 1 x0
  else
    u_X37_take_13 s x0 x1 0 x0
noncomputable def m_X37_take : jS → Int → Int → Option (jS × Int) := Classical.choose (⟨dm_X37_take, rfl⟩ : ∃ f, f = dm_X37_take)
theorem em_X37_take : m_X37_take = dm_X37_take := Classical.choose_spec (⟨dm_X37_take, rfl⟩ : ∃ f, f = dm_X37_take)
def dm_X37_object (s : jS) (x0 x1 x2 x3 : Int) : Option (jS × Int) :=
  jls (jp s 41 x0 4 0) fun s1 =>
  if x1 = 0 then
    (m_X40_section s1 (x0 + 59) x2 x3).bind fun v2 =>
    some (s1, v2)
  else
  if x1 = 1 then
    if x3 = 0 then
      (m_X40_startAt s1 (x0 + 59) x2).bind fun v3 =>
      some (s1, v3)
    else
      some (s1, (-1))
  else
  if x1 = 2 then
    (m_X40_symbolAt s1 (x0 + 59) x2 x3).bind fun v4 =>
    some (s1, v4)
  else
  if x1 = 3 then
    (m_X40_relocationAt s1 (x0 + 59) x2 x3).bind fun v5 =>
    some (s1, v5)
  else
  if x1 = 4 then
    (m_X40_count s1 (x0 + 59) x3).bind fun v6 =>
    some (s1, v6)
  else
  if x1 = 5 then
    if x3 = 0 then
      (m_X40_place s1 (x0 + 59)).bind fun v7 =>
      some (s1, v7)
    else
      some (s1, (-1))
  else
  some (s1, (-1))
noncomputable def m_X37_object : jS → Int → Int → Int → Int → Option (jS × Int) := Classical.choose (⟨dm_X37_object, rfl⟩ : ∃ f, f = dm_X37_object)
theorem em_X37_object : m_X37_object = dm_X37_object := Classical.choose_spec (⟨dm_X37_object, rfl⟩ : ∃ f, f = dm_X37_object)
def dm_X37_fail (s : jS) (x0 x1 : Int) : Option (jS × Int) :=
  (m_X37_fail_2 s x0 x1 (jf s 41 x0 44)).bind fun q1 =>
  some (q1.1, Wz q1.2)
noncomputable def m_X37_fail : jS → Int → Int → Option (jS × Int) := Classical.choose (⟨dm_X37_fail, rfl⟩ : ∃ f, f = dm_X37_fail)
theorem em_X37_fail : m_X37_fail = dm_X37_fail := Classical.choose_spec (⟨dm_X37_fail, rfl⟩ : ∃ f, f = dm_X37_fail)
def dm_X37_sortOf (s : jS) (x0 x1 : Int) : Option (jS × Int) :=
  (m_X39_operand s (x0 + 8) x1 0).bind fun q1 =>
  some (q1.1, q1.2)
noncomputable def m_X37_sortOf : jS → Int → Int → Option (jS × Int) := Classical.choose (⟨dm_X37_sortOf, rfl⟩ : ∃ f, f = dm_X37_sortOf)
theorem em_X37_sortOf : m_X37_sortOf = dm_X37_sortOf := Classical.choose_spec (⟨dm_X37_sortOf, rfl⟩ : ∃ f, f = dm_X37_sortOf)
def dm_X37_markOf (s : jS) (x0 x1 : Int) : Option (jS × Int) :=
  (m_X39_operand s (x0 + 8) x1 2).bind fun q1 =>
  some (q1.1, q1.2)
noncomputable def m_X37_markOf : jS → Int → Int → Option (jS × Int) := Classical.choose (⟨dm_X37_markOf, rfl⟩ : ∃ f, f = dm_X37_markOf)
theorem em_X37_markOf : m_X37_markOf = dm_X37_markOf := Classical.choose_spec (⟨dm_X37_markOf, rfl⟩ : ∃ f, f = dm_X37_markOf)
def dm_X37_nameAt (s : jS) (x0 x1 : Int) : Option (jS × Int) :=
  (m_X39_operand s (x0 + 8) (W32 ((jf s 41 x0 45) + x1)) 3).bind fun q1 =>
  (m_X39_item q1.1 (x0 + 8) q1.2 1).bind fun q2 =>
  some (q2.1, q2.2)
noncomputable def m_X37_nameAt : jS → Int → Int → Option (jS × Int) := Classical.choose (⟨dm_X37_nameAt, rfl⟩ : ∃ f, f = dm_X37_nameAt)
theorem em_X37_nameAt : m_X37_nameAt = dm_X37_nameAt := Classical.choose_spec (⟨dm_X37_nameAt, rfl⟩ : ∃ f, f = dm_X37_nameAt)
def dm_X37_placeOf (s : jS) (x0 x1 : Int) : Option (jS × Int) :=
  (m_X39_operand s (x0 + 8) x1 5).bind fun q1 =>
  some (q1.1, q1.2)
noncomputable def m_X37_placeOf : jS → Int → Int → Option (jS × Int) := Classical.choose (⟨dm_X37_placeOf, rfl⟩ : ∃ f, f = dm_X37_placeOf)
theorem em_X37_placeOf : m_X37_placeOf = dm_X37_placeOf := Classical.choose_spec (⟨dm_X37_placeOf, rfl⟩ : ∃ f, f = dm_X37_placeOf)
def du_X37_apply_105 (s : jS) (x0 x1 x2 : Int) : Option (jS × Int) :=
  (jlt s 1000 (x0 + 163) 64 (W32 (x2 - 1))).bind fun v1 =>
  (jlt s 1000 (x0 + 163) 64 x2).bind fun v2 =>
  (m_X39_worked s x1 v1 v2).bind fun v3 =>
  (jst s 1000 (x0 + 163) 64 (W32 (x2 - 1)) v3).bind fun s4 =>
  some (s4, Wz 1)
noncomputable def u_X37_apply_105 : jS → Int → Int → Int → Option (jS × Int) := Classical.choose (⟨du_X37_apply_105, rfl⟩ : ∃ f, f = du_X37_apply_105)
theorem eu_X37_apply_105 : u_X37_apply_105 = du_X37_apply_105 := Classical.choose_spec (⟨du_X37_apply_105, rfl⟩ : ∃ f, f = du_X37_apply_105)
def du_X37_apply_94 (s : jS) (x0 x1 x2 : Int) : Option (jS × Int) :=
  (jlt s 1000 (x0 + 163) 64 x2).bind fun v1 =>
  if v1 = 0 then
    some (s, Wz 0)
  else
    u_X37_apply_105 s x0 x1 x2
noncomputable def u_X37_apply_94 : jS → Int → Int → Int → Option (jS × Int) := Classical.choose (⟨du_X37_apply_94, rfl⟩ : ∃ f, f = du_X37_apply_94)
theorem eu_X37_apply_94 : u_X37_apply_94 = du_X37_apply_94 := Classical.choose_spec (⟨du_X37_apply_94, rfl⟩ : ∃ f, f = du_X37_apply_94)
def du_X37_apply_50 (s : jS) (x0 x1 x2 : Int) : Option (jS × Int) :=
  if x1 < 14 then
    (m_X37_sum s x0 (W32 (x2 - 1))).bind fun q1 =>
    some (q1.1, Wz q1.2)
  else
    (m_X37_isNumber s x0 (W32 (x2 - 1))).bind fun v2 =>
    if v2 = 0 then
      some (s, Wz 0)
    else
      (m_X37_isNumber s x0 x2).bind fun v3 =>
      if v3 = 0 then
        some (s, Wz 0)
      else
        if x1 = 15 then
          u_X37_apply_94 s x0 x1 x2
        else
          if x1 = 16 then
            u_X37_apply_94 s x0 x1 x2
          else
            u_X37_apply_105 s x0 x1 x2
noncomputable def u_X37_apply_50 : jS → Int → Int → Int → Option (jS × Int) := Classical.choose (⟨du_X37_apply_50, rfl⟩ : ∃ f, f = du_X37_apply_50)
theorem eu_X37_apply_50 : u_X37_apply_50 = du_X37_apply_50 := Classical.choose_spec (⟨du_X37_apply_50, rfl⟩ : ∃ f, f = du_X37_apply_50)
def dm_X37_apply (s : jS) (x0 x1 x2 : Int) : Option (jS × Int) :=
  if x1 = 10 then
    (m_X37_negate s x0 x2).bind fun q1 =>
    some (q1.1, Wz 1)
  else
    if x1 = 11 then
      (jlt s 1000 (x0 + 163) 64 x2).bind fun v2 =>
      (jst s 1000 (x0 + 163) 64 x2 (I_xor v2 (-1))).bind fun s3 =>
      (m_X37_isNumber s3 x0 x2).bind fun v4 =>
      some (s3, Wz v4)
    else
      if x1 = 13 then
        (m_X37_negate s x0 x2).bind fun q5 =>
        u_X37_apply_50 q5.1 x0 x1 x2
      else
        u_X37_apply_50 s x0 x1 x2
noncomputable def m_X37_apply : jS → Int → Int → Int → Option (jS × Int) := Classical.choose (⟨dm_X37_apply, rfl⟩ : ∃ f, f = dm_X37_apply)
theorem em_X37_apply : m_X37_apply = dm_X37_apply := Classical.choose_spec (⟨dm_X37_apply, rfl⟩ : ∃ f, f = dm_X37_apply)
def du_X37_putByte_72 (s : jS) (x0 : Int) : Option (jS × Int) :=
  (jlt s 1000 (x0 + 153) 4 (jf s 41 x0 34)).bind fun v1 =>
  (jst s 1000 (x0 + 153) 4 (jf s 41 x0 34) (W32 (v1 + 1))).bind fun s2 =>
  some (s2, Wz 1)
noncomputable def u_X37_putByte_72 : jS → Int → Option (jS × Int) := Classical.choose (⟨du_X37_putByte_72, rfl⟩ : ∃ f, f = du_X37_putByte_72)
theorem eu_X37_putByte_72 : u_X37_putByte_72 = du_X37_putByte_72 := Classical.choose_spec (⟨du_X37_putByte_72, rfl⟩ : ∃ f, f = du_X37_putByte_72)
def du_X37_putByte_26 (s : jS) (x0 x1 y0 y1 : Int) : Option (jS × Int) :=
  if y1 = y0 then
    (m_X37_fail s x0 18).bind fun q1 =>
    some (q1.1, Wz q1.2)
  else
    if (jf s 41 x0 34) < 3 then
      (jlt s 1000 (x0 + 153) 4 (jf s 41 x0 34)).bind fun v2 =>
      (jst s 1000 (x0 + 152) 6144 (W32 ((W32 (2048 * (jf s 41 x0 34))) + v2)) (I_and x1 255)).bind fun s3 =>
      u_X37_putByte_72 s3 x0
    else
      u_X37_putByte_72 s x0
noncomputable def u_X37_putByte_26 : jS → Int → Int → Int → Int → Option (jS × Int) := Classical.choose (⟨du_X37_putByte_26, rfl⟩ : ∃ f, f = du_X37_putByte_26)
theorem eu_X37_putByte_26 : u_X37_putByte_26 = du_X37_putByte_26 := Classical.choose_spec (⟨du_X37_putByte_26, rfl⟩ : ∃ f, f = du_X37_putByte_26)
def dm_X37_putByte (s : jS) (x0 x1 : Int) : Option (jS × Int) :=
  (jlt s 1000 (x0 + 153) 4 (jf s 41 x0 34)).bind fun v1 =>
  if (jf s 41 x0 34) = 3 then
    u_X37_putByte_26 s x0 x1 4096 v1
  else
    u_X37_putByte_26 s x0 x1 2048 v1
noncomputable def m_X37_putByte : jS → Int → Int → Option (jS × Int) := Classical.choose (⟨dm_X37_putByte, rfl⟩ : ∃ f, f = dm_X37_putByte)
theorem em_X37_putByte : m_X37_putByte = dm_X37_putByte := Classical.choose_spec (⟨dm_X37_putByte, rfl⟩ : ∃ f, f = dm_X37_putByte)
def dm_X37_move (s : jS) (x0 x1 x2 x3 x4 : Int) : Option (jS × Int) :=
  if (jf s 41 x0 28) = 300 then
    (m_X37_fail s x0 18).bind fun q1 =>
    some (q1.1, Wz q1.2)
  else
    (jst s 1000 (x0 + 156) 300 (jf s 41 x0 28) (jf s 41 x0 34)).bind fun s2 =>
    (jst s2 1000 (x0 + 157) 300 (jf s2 41 x0 28) x1).bind fun s3 =>
    (jst s3 1000 (x0 + 158) 300 (jf s3 41 x0 28) x2).bind fun s4 =>
    (jst s4 1000 (x0 + 159) 300 (jf s4 41 x0 28) x3).bind fun s5 =>
    (jst s5 1000 (x0 + 160) 300 (jf s5 41 x0 28) x4).bind fun s6 =>
    jls (jp s6 41 x0 28 (W32 ((jf s6 41 x0 28) + 1))) fun s7 =>
    some (s7, Wz 1)
noncomputable def m_X37_move : jS → Int → Int → Int → Int → Int → Option (jS × Int) := Classical.choose (⟨dm_X37_move, rfl⟩ : ∃ f, f = dm_X37_move)
theorem em_X37_move : m_X37_move = dm_X37_move := Classical.choose_spec (⟨dm_X37_move, rfl⟩ : ∃ f, f = dm_X37_move)
def dm_X37_begun (s : jS) (x0 : Int) : Option (jS × Int) :=
  if (jf s 41 x0 26) = 1024 then
    (m_X37_fail s x0 18).bind fun q1 =>
    some (q1.1, Wz q1.2)
  else
    (jst s 1000 (x0 + 155) 1024 (jf s 41 x0 26) (jf s 41 x0 47)).bind fun s2 =>
    jls (jp s2 41 x0 26 (W32 ((jf s2 41 x0 26) + 1))) fun s3 =>
    some (s3, Wz 1)
noncomputable def m_X37_begun : jS → Int → Option (jS × Int) := Classical.choose (⟨dm_X37_begun, rfl⟩ : ∃ f, f = dm_X37_begun)
theorem em_X37_begun : m_X37_begun = dm_X37_begun := Classical.choose_spec (⟨dm_X37_begun, rfl⟩ : ∃ f, f = dm_X37_begun)
def du_X37_wordMove_23 (s : jS) (x0 x1 x2 x3 x4 y0 : Int) : Option (jS × Int) :=
  (m_X37_move s x0 x1 x2 x3 x4).bind fun q1 =>
  if q1.2 = 0 then
    some (q1.1, Wz 0)
  else
    if y0 = 0 then
      some (q1.1, Wz 1)
    else
      if (jf q1.1 41 x0 36) = 0 then
        some (q1.1, Wz 1)
      else
        (m_X37_move q1.1 x0 x1 51 (-1) 0).bind fun q2 =>
        if q2.2 = 0 then
          some (q2.1, Wz 0)
        else
          some (q2.1, Wz 1)
noncomputable def u_X37_wordMove_23 : jS → Int → Int → Int → Int → Int → Int → Option (jS × Int) := Classical.choose (⟨du_X37_wordMove_23, rfl⟩ : ∃ f, f = du_X37_wordMove_23)
theorem eu_X37_wordMove_23 : u_X37_wordMove_23 = du_X37_wordMove_23 := Classical.choose_spec (⟨du_X37_wordMove_23, rfl⟩ : ∃ f, f = du_X37_wordMove_23)
def du_X37_wordMove_22 (s : jS) (x0 x1 x2 x3 x4 : Int) : Option (jS × Int) :=
  u_X37_wordMove_23 s x0 x1 x2 x3 x4 0
noncomputable def u_X37_wordMove_22 : jS → Int → Int → Int → Int → Int → Option (jS × Int) := Classical.choose (⟨du_X37_wordMove_22, rfl⟩ : ∃ f, f = du_X37_wordMove_22)
theorem eu_X37_wordMove_22 : u_X37_wordMove_22 = du_X37_wordMove_22 := Classical.choose_spec (⟨du_X37_wordMove_22, rfl⟩ : ∃ f, f = du_X37_wordMove_22)
def du_X37_wordMove_18 (s : jS) (x0 x1 x2 x3 x4 : Int) : Option (jS × Int) :=
  u_X37_wordMove_23 s x0 x1 x2 x3 x4 1
noncomputable def u_X37_wordMove_18 : jS → Int → Int → Int → Int → Int → Option (jS × Int) := Classical.choose (⟨du_X37_wordMove_18, rfl⟩ : ∃ f, f = du_X37_wordMove_18)
theorem eu_X37_wordMove_18 : u_X37_wordMove_18 = du_X37_wordMove_18 := Classical.choose_spec (⟨du_X37_wordMove_18, rfl⟩ : ∃ f, f = du_X37_wordMove_18)
def dm_X37_wordMove (s : jS) (x0 x1 x2 x3 x4 : Int) : Option (jS × Int) :=
  if x2 = 19 then
    u_X37_wordMove_18 s x0 x1 x2 x3 x4
  else
    if x2 < 23 then
      u_X37_wordMove_22 s x0 x1 x2 x3 x4
    else
      if 28 < x2 then
        u_X37_wordMove_22 s x0 x1 x2 x3 x4
      else
        u_X37_wordMove_18 s x0 x1 x2 x3 x4
noncomputable def m_X37_wordMove : jS → Int → Int → Int → Int → Int → Option (jS × Int) := Classical.choose (⟨dm_X37_wordMove, rfl⟩ : ∃ f, f = dm_X37_wordMove)
theorem em_X37_wordMove : m_X37_wordMove = dm_X37_wordMove := Classical.choose_spec (⟨dm_X37_wordMove, rfl⟩ : ∃ f, f = dm_X37_wordMove)
def dm_X37_registerOf (s : jS) (x0 x1 : Int) : Option (jS × Int) :=
  (m_X39_operand s (x0 + 8) x1 1).bind fun q1 =>
  some (q1.1, q1.2)
noncomputable def m_X37_registerOf : jS → Int → Int → Option (jS × Int) := Classical.choose (⟨dm_X37_registerOf, rfl⟩ : ∃ f, f = dm_X37_registerOf)
theorem em_X37_registerOf : m_X37_registerOf = dm_X37_registerOf := Classical.choose_spec (⟨dm_X37_registerOf, rfl⟩ : ∃ f, f = dm_X37_registerOf)
def dm_X37_isMarkedSort (s : jS) (x0 x1 x2 x3 : Int) : Option (jS × Int) :=
  if x1 < (jf s 41 x0 46) then
    (m_X37_sortOf s x0 (W32 ((jf s 41 x0 45) + x1))).bind fun q1 =>
    if q1.2 = x2 then
      (m_X37_markOf q1.1 x0 (W32 ((jf q1.1 41 x0 45) + x1))).bind fun q2 =>
      if q2.2 = 0 then
        some (q2.1, Wz 1)
      else
        (m_X37_marksOf q2.1 x3).bind fun v3 =>
        if (I_and (I_shr v3 q2.2) 1) = 1 then
          some (q2.1, Wz 1)
        else
          some (q2.1, Wz 0)
    else
      some (q1.1, Wz 0)
  else
    some (s, Wz 0)
noncomputable def m_X37_isMarkedSort : jS → Int → Int → Int → Int → Option (jS × Int) := Classical.choose (⟨dm_X37_isMarkedSort, rfl⟩ : ∃ f, f = dm_X37_isMarkedSort)
theorem em_X37_isMarkedSort : m_X37_isMarkedSort = dm_X37_isMarkedSort := Classical.choose_spec (⟨dm_X37_isMarkedSort, rfl⟩ : ∃ f, f = dm_X37_isMarkedSort)
def du_X37_spell_79 (s : jS) (x0 x2 : Int) : Option (jS × Int) :=
  (jdv 10 (I_rem x2 10)).bind fun v1 =>
  (m_X40_letter s (x0 + 25) (W32 (48 + v1))).bind fun q2 =>
  some (q2.1, 0)
noncomputable def u_X37_spell_79 : jS → Int → Int → Option (jS × Int) := Classical.choose (⟨du_X37_spell_79, rfl⟩ : ∃ f, f = du_X37_spell_79)
theorem eu_X37_spell_79 : u_X37_spell_79 = du_X37_spell_79 := Classical.choose_spec (⟨du_X37_spell_79, rfl⟩ : ∃ f, f = du_X37_spell_79)
def b_X37_spell_6 (s : jS) (x0 x1 x2 : Int) : Option ((jS × List Int) ⊕ (jS × Int)) :=
  (m_X39_name s (x0 + 8) x1 x2).bind fun q1 =>
  if q1.2 = (-1) then
    jinr (some (q1.1, 0))
  else
    (m_X39_name q1.1 (x0 + 8) x1 x2).bind fun q2 =>
    (m_X40_letter q2.1 (x0 + 25) q2.2).bind fun q3 =>
    some (.inl (q3.1, [x0, x1, W32 (x2 + 1)]))
def du_X37_spell_6 (s : jS) (x0 x1 x2 : Int) : Option (jS × Int) := jlpW (jc3 b_X37_spell_6) [x0, x1, x2] s
noncomputable def u_X37_spell_6 : jS → Int → Int → Int → Option (jS × Int) := Classical.choose (⟨du_X37_spell_6, rfl⟩ : ∃ f, f = du_X37_spell_6)
theorem eu_X37_spell_6 : u_X37_spell_6 = du_X37_spell_6 := Classical.choose_spec (⟨du_X37_spell_6, rfl⟩ : ∃ f, f = du_X37_spell_6)
def dm_X37_spell (s : jS) (x0 x1 : Int) : Option (jS × Int) :=
  if x1 < 0 then
    jlet (W32 ((-2) - x1)) fun v1 =>
    (m_X40_letter s (x0 + 25) 36).bind fun q2 =>
    if 9 < v1 then
      (jdv 10 (I_div v1 10)).bind fun v3 =>
      (m_X40_letter q2.1 (x0 + 25) (W32 (48 + v3))).bind fun q4 =>
      u_X37_spell_79 q4.1 x0 v1
    else
      u_X37_spell_79 q2.1 x0 v1
  else
    u_X37_spell_6 s x0 x1 0
noncomputable def m_X37_spell : jS → Int → Int → Option (jS × Int) := Classical.choose (⟨dm_X37_spell, rfl⟩ : ∃ f, f = dm_X37_spell)
theorem em_X37_spell : m_X37_spell = dm_X37_spell := Classical.choose_spec (⟨dm_X37_spell, rfl⟩ : ∃ f, f = dm_X37_spell)
def b_X37_keepUnit_344 (s : jS) (x0 x1 x2 : Int) : Option ((jS × List Int) ⊕ (jS × Int)) :=
  (jlt s 1000 (x0 + 183) 6 x1).bind fun v1 =>
  if x2 < v1 then
    jlet (W32 ((W32 (300 * x1)) + x2)) fun v2 =>
    (m_X40_relocationAt s (x0 + 25) x2 0).bind fun v3 =>
    (jst s 1000 (x0 + 184) 1800 v2 v3).bind fun s4 =>
    (m_X40_relocationAt s4 (x0 + 25) x2 1).bind fun v5 =>
    (jst s4 1000 (x0 + 185) 1800 v2 v5).bind fun s6 =>
    (m_X40_relocationAt s6 (x0 + 25) x2 2).bind fun v7 =>
    (jst s6 1000 (x0 + 186) 1800 v2 v7).bind fun s8 =>
    (m_X40_relocationAt s8 (x0 + 25) x2 3).bind fun v9 =>
    (jst s8 1000 (x0 + 187) 1800 v2 v9).bind fun s10 =>
    (m_X40_relocationAt s10 (x0 + 25) x2 4).bind fun v11 =>
    (jst s10 1000 (x0 + 188) 1800 v2 v11).bind fun s12 =>
    some (.inl (s12, [x0, x1, W32 (x2 + 1)]))
  else
    jinr (some (s, 0))
def du_X37_keepUnit_344 (s : jS) (x0 x1 x2 : Int) : Option (jS × Int) := jlpW (jc3 b_X37_keepUnit_344) [x0, x1, x2] s
noncomputable def u_X37_keepUnit_344 : jS → Int → Int → Int → Option (jS × Int) := Classical.choose (⟨du_X37_keepUnit_344, rfl⟩ : ∃ f, f = du_X37_keepUnit_344)
theorem eu_X37_keepUnit_344 : u_X37_keepUnit_344 = du_X37_keepUnit_344 := Classical.choose_spec (⟨du_X37_keepUnit_344, rfl⟩ : ∃ f, f = du_X37_keepUnit_344)
def du_X37_keepUnit_328 (s : jS) (x0 x1 : Int) : Option (jS × Int) :=
  (m_X40_count s (x0 + 25) 2).bind fun v1 =>
  (jst s 1000 (x0 + 183) 6 x1 v1).bind fun s2 =>
  u_X37_keepUnit_344 s2 x0 x1 0
noncomputable def u_X37_keepUnit_328 : jS → Int → Int → Option (jS × Int) := Classical.choose (⟨du_X37_keepUnit_328, rfl⟩ : ∃ f, f = du_X37_keepUnit_328)
theorem eu_X37_keepUnit_328 : u_X37_keepUnit_328 = du_X37_keepUnit_328 := Classical.choose_spec (⟨du_X37_keepUnit_328, rfl⟩ : ∃ f, f = du_X37_keepUnit_328)
def du_X37_keepUnit_322 (s : jS) (x0 x1 x2 : Int) : Option ((jS × List Int) ⊕ (jS × Int)) :=
  some (.inl (s, [x0, x1, W32 (x2 + 1)]))
noncomputable def u_X37_keepUnit_322 : jS → Int → Int → Int → Option ((jS × List Int) ⊕ (jS × Int)) := Classical.choose (⟨du_X37_keepUnit_322, rfl⟩ : ∃ f, f = du_X37_keepUnit_322)
theorem eu_X37_keepUnit_322 : u_X37_keepUnit_322 = du_X37_keepUnit_322 := Classical.choose_spec (⟨du_X37_keepUnit_322, rfl⟩ : ∃ f, f = du_X37_keepUnit_322)
def b_X37_keepUnit_280 (s : jS) (x0 x1 x2 x3 x4 : Int) : Option ((jS × List Int) ⊕ ((jS × List Int) ⊕ (jS × Int))) :=
  (jlt s 1000 (x0 + 181) 600 x3).bind fun v1 =>
  if x4 < v1 then
    (m_X40_symbolAt s (x0 + 25) x2 (W32 (6 + x4))).bind fun v2 =>
    (jst s 1000 (x0 + 182) 9600 (W32 ((W32 (16 * x3)) + x4)) v2).bind fun s3 =>
    some (.inl (s3, [x0, x1, x2, x3, W32 (x4 + 1)]))
  else
    jinr (u_X37_keepUnit_322 s x0 x1 x2)
def du_X37_keepUnit_280 (s : jS) (x0 x1 x2 x3 x4 : Int) : Option ((jS × List Int) ⊕ (jS × Int)) := jlpW (jc5 b_X37_keepUnit_280) [x0, x1, x2, x3, x4] s
noncomputable def u_X37_keepUnit_280 : jS → Int → Int → Int → Int → Int → Option ((jS × List Int) ⊕ (jS × Int)) := Classical.choose (⟨du_X37_keepUnit_280, rfl⟩ : ∃ f, f = du_X37_keepUnit_280)
theorem eu_X37_keepUnit_280 : u_X37_keepUnit_280 = du_X37_keepUnit_280 := Classical.choose_spec (⟨du_X37_keepUnit_280, rfl⟩ : ∃ f, f = du_X37_keepUnit_280)
def b_X37_keepUnit_185 (s : jS) (x0 x1 x2 : Int) : Option ((jS × List Int) ⊕ (jS × Int)) :=
  (jlt s 1000 (x0 + 176) 6 x1).bind fun v1 =>
  if x2 < v1 then
    jlet (W32 ((W32 (100 * x1)) + x2)) fun v2 =>
    (m_X40_symbolAt s (x0 + 25) x2 0).bind fun v3 =>
    (jst s 1000 (x0 + 177) 600 v2 v3).bind fun s4 =>
    (m_X40_symbolAt s4 (x0 + 25) x2 1).bind fun v5 =>
    (jst s4 1000 (x0 + 178) 600 v2 v5).bind fun s6 =>
    (m_X40_symbolAt s6 (x0 + 25) x2 2).bind fun v7 =>
    (jst s6 1000 (x0 + 179) 600 v2 v7).bind fun s8 =>
    (m_X40_symbolAt s8 (x0 + 25) x2 3).bind fun v9 =>
    (jst s8 1000 (x0 + 180) 600 v2 v9).bind fun s10 =>
    (m_X40_symbolAt s10 (x0 + 25) x2 5).bind fun v11 =>
    (jst s10 1000 (x0 + 181) 600 v2 v11).bind fun s12 =>
    u_X37_keepUnit_280 s12 x0 x1 x2 v2 0
  else
    jinr (u_X37_keepUnit_328 s x0 x1)
def du_X37_keepUnit_185 (s : jS) (x0 x1 x2 : Int) : Option (jS × Int) := jlpW (jc3 b_X37_keepUnit_185) [x0, x1, x2] s
noncomputable def u_X37_keepUnit_185 : jS → Int → Int → Int → Option (jS × Int) := Classical.choose (⟨du_X37_keepUnit_185, rfl⟩ : ∃ f, f = du_X37_keepUnit_185)
theorem eu_X37_keepUnit_185 : u_X37_keepUnit_185 = du_X37_keepUnit_185 := Classical.choose_spec (⟨du_X37_keepUnit_185, rfl⟩ : ∃ f, f = du_X37_keepUnit_185)
def du_X37_keepUnit_169 (s : jS) (x0 x1 : Int) : Option (jS × Int) :=
  (m_X40_count s (x0 + 25) 1).bind fun v1 =>
  (jst s 1000 (x0 + 176) 6 x1 v1).bind fun s2 =>
  u_X37_keepUnit_185 s2 x0 x1 0
noncomputable def u_X37_keepUnit_169 : jS → Int → Int → Option (jS × Int) := Classical.choose (⟨du_X37_keepUnit_169, rfl⟩ : ∃ f, f = du_X37_keepUnit_169)
theorem eu_X37_keepUnit_169 : u_X37_keepUnit_169 = du_X37_keepUnit_169 := Classical.choose_spec (⟨du_X37_keepUnit_169, rfl⟩ : ∃ f, f = du_X37_keepUnit_169)
def b_X37_keepUnit_133 (s : jS) (x0 x1 x2 : Int) : Option ((jS × List Int) ⊕ (jS × Int)) :=
  (jlt s 1000 (x0 + 174) 6 x1).bind fun v1 =>
  if x2 < v1 then
    (m_X40_startAt s (x0 + 25) x2).bind fun v2 =>
    (jst s 1000 (x0 + 173) 6144 (W32 ((W32 (1024 * x1)) + x2)) v2).bind fun s3 =>
    some (.inl (s3, [x0, x1, W32 (x2 + 1)]))
  else
    jinr (u_X37_keepUnit_169 s x0 x1)
def du_X37_keepUnit_133 (s : jS) (x0 x1 x2 : Int) : Option (jS × Int) := jlpW (jc3 b_X37_keepUnit_133) [x0, x1, x2] s
noncomputable def u_X37_keepUnit_133 : jS → Int → Int → Int → Option (jS × Int) := Classical.choose (⟨du_X37_keepUnit_133, rfl⟩ : ∃ f, f = du_X37_keepUnit_133)
theorem eu_X37_keepUnit_133 : u_X37_keepUnit_133 = du_X37_keepUnit_133 := Classical.choose_spec (⟨du_X37_keepUnit_133, rfl⟩ : ∃ f, f = du_X37_keepUnit_133)
def du_X37_keepUnit_130 (s : jS) (x0 x1 y0 y1 y2 : Int) : Option (jS × Int) :=
  (jst s 1002 y2 6 y1 (Wz y0)).bind fun s1 =>
  u_X37_keepUnit_133 s1 x0 x1 0
noncomputable def u_X37_keepUnit_130 : jS → Int → Int → Int → Int → Int → Option (jS × Int) := Classical.choose (⟨du_X37_keepUnit_130, rfl⟩ : ∃ f, f = du_X37_keepUnit_130)
theorem eu_X37_keepUnit_130 : u_X37_keepUnit_130 = du_X37_keepUnit_130 := Classical.choose_spec (⟨du_X37_keepUnit_130, rfl⟩ : ∃ f, f = du_X37_keepUnit_130)
def du_X37_keepUnit_95 (s : jS) (x0 x1 : Int) : Option (jS × Int) :=
  (m_X40_count s (x0 + 25) 0).bind fun v1 =>
  (jst s 1000 (x0 + 174) 6 x1 v1).bind fun s2 =>
  (m_X40_count s2 (x0 + 25) 3).bind fun v3 =>
  if 0 < v3 then
    u_X37_keepUnit_130 s2 x0 x1 1 x1 (x0 + 175)
  else
    u_X37_keepUnit_130 s2 x0 x1 0 x1 (x0 + 175)
noncomputable def u_X37_keepUnit_95 : jS → Int → Int → Option (jS × Int) := Classical.choose (⟨du_X37_keepUnit_95, rfl⟩ : ∃ f, f = du_X37_keepUnit_95)
theorem eu_X37_keepUnit_95 : u_X37_keepUnit_95 = du_X37_keepUnit_95 := Classical.choose_spec (⟨du_X37_keepUnit_95, rfl⟩ : ∃ f, f = du_X37_keepUnit_95)
def b_X37_keepUnit_57 (s : jS) (x0 x1 x2 : Int) : Option ((jS × List Int) ⊕ (jS × Int)) :=
  if x2 < 6144 then
    (jlt s 1000 ((x0 + 25) + 1) 12288 (W32 (6144 + x2))).bind fun v1 =>
    (jst s 1000 (x0 + 170) 36864 (W32 ((W32 (6144 * x1)) + x2)) v1).bind fun s2 =>
    some (.inl (s2, [x0, x1, W32 (x2 + 1)]))
  else
    jinr (u_X37_keepUnit_95 s x0 x1)
def du_X37_keepUnit_57 (s : jS) (x0 x1 x2 : Int) : Option (jS × Int) := jlpW (jc3 b_X37_keepUnit_57) [x0, x1, x2] s
noncomputable def u_X37_keepUnit_57 : jS → Int → Int → Int → Option (jS × Int) := Classical.choose (⟨du_X37_keepUnit_57, rfl⟩ : ∃ f, f = du_X37_keepUnit_57)
theorem eu_X37_keepUnit_57 : u_X37_keepUnit_57 = du_X37_keepUnit_57 := Classical.choose_spec (⟨du_X37_keepUnit_57, rfl⟩ : ∃ f, f = du_X37_keepUnit_57)
def du_X37_keepUnit_55 (s : jS) (x0 x1 : Int) : Option (jS × Int) :=
  u_X37_keepUnit_57 s x0 x1 0
noncomputable def u_X37_keepUnit_55 : jS → Int → Int → Option (jS × Int) := Classical.choose (⟨du_X37_keepUnit_55, rfl⟩ : ∃ f, f = du_X37_keepUnit_55)
theorem eu_X37_keepUnit_55 : u_X37_keepUnit_55 = du_X37_keepUnit_55 := Classical.choose_spec (⟨du_X37_keepUnit_55, rfl⟩ : ∃ f, f = du_X37_keepUnit_55)
def b_X37_keepUnit_2 (s : jS) (x0 x1 x2 : Int) : Option ((jS × List Int) ⊕ (jS × Int)) :=
  if x2 < 4 then
    (jlt s 1000 ((x0 + 25) + 2) 8 (W32 (4 + x2))).bind fun v1 =>
    (jst s 1000 (x0 + 171) 24 (W32 ((W32 (4 * x1)) + x2)) v1).bind fun s2 =>
    (jlt s2 1000 ((x0 + 25) + 3) 8 (W32 (4 + x2))).bind fun v3 =>
    (jst s2 1000 (x0 + 172) 24 (W32 ((W32 (4 * x1)) + x2)) v3).bind fun s4 =>
    some (.inl (s4, [x0, x1, W32 (x2 + 1)]))
  else
    jinr (u_X37_keepUnit_55 s x0 x1)
def du_X37_keepUnit_2 (s : jS) (x0 x1 x2 : Int) : Option (jS × Int) := jlpW (jc3 b_X37_keepUnit_2) [x0, x1, x2] s
noncomputable def u_X37_keepUnit_2 : jS → Int → Int → Int → Option (jS × Int) := Classical.choose (⟨du_X37_keepUnit_2, rfl⟩ : ∃ f, f = du_X37_keepUnit_2)
theorem eu_X37_keepUnit_2 : u_X37_keepUnit_2 = du_X37_keepUnit_2 := Classical.choose_spec (⟨du_X37_keepUnit_2, rfl⟩ : ∃ f, f = du_X37_keepUnit_2)
def dm_X37_keepUnit (s : jS) (x0 x1 : Int) : Option (jS × Int) :=
  u_X37_keepUnit_2 s x0 x1 0
noncomputable def m_X37_keepUnit : jS → Int → Int → Option (jS × Int) := Classical.choose (⟨dm_X37_keepUnit, rfl⟩ : ∃ f, f = dm_X37_keepUnit)
theorem em_X37_keepUnit : m_X37_keepUnit = dm_X37_keepUnit := Classical.choose_spec (⟨dm_X37_keepUnit, rfl⟩ : ∃ f, f = dm_X37_keepUnit)
def du_X37_findGlobals_187 (s : jS) (x0 x1 x2 : Int) : Option (jS × Int) :=
  (m_X37_refuse s x0 3 x1 x2).bind fun q1 =>
  some (q1.1, Wz q1.2)
noncomputable def u_X37_findGlobals_187 : jS → Int → Int → Int → Option (jS × Int) := Classical.choose (⟨du_X37_findGlobals_187, rfl⟩ : ∃ f, f = du_X37_findGlobals_187)
theorem eu_X37_findGlobals_187 : u_X37_findGlobals_187 = du_X37_findGlobals_187 := Classical.choose_spec (⟨du_X37_findGlobals_187, rfl⟩ : ∃ f, f = du_X37_findGlobals_187)
def du_X37_findGlobals_217 (s : jS) (x0 x1 : Int) : Option ((jS × List Int) ⊕ (jS × Int)) :=
  some (.inl (s, [x0, W32 (x1 + 1)]))
noncomputable def u_X37_findGlobals_217 : jS → Int → Int → Option ((jS × List Int) ⊕ (jS × Int)) := Classical.choose (⟨du_X37_findGlobals_217, rfl⟩ : ∃ f, f = du_X37_findGlobals_217)
theorem eu_X37_findGlobals_217 : u_X37_findGlobals_217 = du_X37_findGlobals_217 := Classical.choose_spec (⟨du_X37_findGlobals_217, rfl⟩ : ∃ f, f = du_X37_findGlobals_217)
def du_X37_findGlobals_211 (s : jS) (x0 x1 x2 : Int) : Option ((jS × List Int) ⊕ ((jS × List Int) ⊕ (jS × Int))) :=
  some (.inl (s, [x0, x1, W32 (x2 + 1)]))
noncomputable def u_X37_findGlobals_211 : jS → Int → Int → Int → Option ((jS × List Int) ⊕ ((jS × List Int) ⊕ (jS × Int))) := Classical.choose (⟨du_X37_findGlobals_211, rfl⟩ : ∃ f, f = du_X37_findGlobals_211)
theorem eu_X37_findGlobals_211 : u_X37_findGlobals_211 = du_X37_findGlobals_211 := Classical.choose_spec (⟨du_X37_findGlobals_211, rfl⟩ : ∃ f, f = du_X37_findGlobals_211)
def du_X37_findGlobals_147 (s : jS) (x0 x1 x2 x3 x4 : Int) : Option ((jS × List Int) ⊕ ((jS × List Int) ⊕ (jS × Int))) :=
  (jst s 1000 (x0 + 189) 600 x3 x4).bind fun s1 =>
  (jlt s1 1000 (x0 + 180) 600 x3).bind fun v2 =>
  if v2 = 1 then
    (m_X37_isDefinition s1 x0 x3).bind fun v3 =>
    if v3 = 0 then
      u_X37_findGlobals_211 s1 x0 x1 x2
    else
      (jlt s1 1000 (x0 + 191) 600 x4).bind fun v4 =>
      if v4 = 1 then
        jinr (jinr (u_X37_findGlobals_187 s1 x0 x1 x2))
      else
        (jst s1 1000 (x0 + 191) 600 x4 1).bind fun s5 =>
        (jst s5 1000 (x0 + 192) 600 x4 x3).bind fun s6 =>
        u_X37_findGlobals_211 s6 x0 x1 x2
  else
    u_X37_findGlobals_211 s1 x0 x1 x2
noncomputable def u_X37_findGlobals_147 : jS → Int → Int → Int → Int → Int → Option ((jS × List Int) ⊕ ((jS × List Int) ⊕ (jS × Int))) := Classical.choose (⟨du_X37_findGlobals_147, rfl⟩ : ∃ f, f = du_X37_findGlobals_147)
theorem eu_X37_findGlobals_147 : u_X37_findGlobals_147 = du_X37_findGlobals_147 := Classical.choose_spec (⟨du_X37_findGlobals_147, rfl⟩ : ∃ f, f = du_X37_findGlobals_147)
def du_X37_findGlobals_88 (s : jS) (x0 x1 x2 x3 x4 : Int) : Option ((jS × List Int) ⊕ ((jS × List Int) ⊕ (jS × Int))) :=
  if x4 = (jf s 41 x0 81) then
    (jst s 1000 (x0 + 190) 600 x4 x3).bind fun s1 =>
    (jst s1 1000 (x0 + 191) 600 x4 0).bind fun s2 =>
    (jst s2 1000 (x0 + 193) 600 x4 0).bind fun s3 =>
    (jst s3 1000 (x0 + 194) 600 x4 0).bind fun s4 =>
    (jst s4 1000 (x0 + 195) 600 x4 (-1)).bind fun s5 =>
    jls (jp s5 41 x0 81 (W32 ((jf s5 41 x0 81) + 1))) fun s6 =>
    u_X37_findGlobals_147 s6 x0 x1 x2 x3 x4
  else
    u_X37_findGlobals_147 s x0 x1 x2 x3 x4
noncomputable def u_X37_findGlobals_88 : jS → Int → Int → Int → Int → Int → Option ((jS × List Int) ⊕ ((jS × List Int) ⊕ (jS × Int))) := Classical.choose (⟨du_X37_findGlobals_88, rfl⟩ : ∃ f, f = du_X37_findGlobals_88)
theorem eu_X37_findGlobals_88 : u_X37_findGlobals_88 = du_X37_findGlobals_88 := Classical.choose_spec (⟨du_X37_findGlobals_88, rfl⟩ : ∃ f, f = du_X37_findGlobals_88)
def b_X37_findGlobals_58 (s : jS) (x0 x1 x2 x3 x4 : Int) : Option ((jS × List Int) ⊕ ((jS × List Int) ⊕ ((jS × List Int) ⊕ (jS × Int)))) :=
  if x4 < (jf s 41 x0 81) then
    (jlt s 1000 (x0 + 190) 600 x4).bind fun v1 =>
    (m_X37_areNamesAlike s x0 v1 x3).bind fun v2 =>
    if v2 = 0 then
      some (.inl (s, [x0, x1, x2, x3, W32 (x4 + 1)]))
    else
      jinr (u_X37_findGlobals_88 s x0 x1 x2 x3 x4)
  else
    jinr (u_X37_findGlobals_88 s x0 x1 x2 x3 x4)
def du_X37_findGlobals_58 (s : jS) (x0 x1 x2 x3 x4 : Int) : Option ((jS × List Int) ⊕ ((jS × List Int) ⊕ (jS × Int))) := jlpW (jc5 b_X37_findGlobals_58) [x0, x1, x2, x3, x4] s
noncomputable def u_X37_findGlobals_58 : jS → Int → Int → Int → Int → Int → Option ((jS × List Int) ⊕ ((jS × List Int) ⊕ (jS × Int))) := Classical.choose (⟨du_X37_findGlobals_58, rfl⟩ : ∃ f, f = du_X37_findGlobals_58)
theorem eu_X37_findGlobals_58 : u_X37_findGlobals_58 = du_X37_findGlobals_58 := Classical.choose_spec (⟨du_X37_findGlobals_58, rfl⟩ : ∃ f, f = du_X37_findGlobals_58)
def b_X37_findGlobals_26 (s : jS) (x0 x1 x2 : Int) : Option ((jS × List Int) ⊕ ((jS × List Int) ⊕ (jS × Int))) :=
  (jlt s 1000 (x0 + 176) 6 x1).bind fun v1 =>
  if x2 < v1 then
    jlet (W32 ((W32 (100 * x1)) + x2)) fun v2 =>
    (jlt s 1000 (x0 + 180) 600 v2).bind fun v3 =>
    if v3 = 0 then
      u_X37_findGlobals_211 s x0 x1 x2
    else
      u_X37_findGlobals_58 s x0 x1 x2 v2 0
  else
    jinr (u_X37_findGlobals_217 s x0 x1)
def du_X37_findGlobals_26 (s : jS) (x0 x1 x2 : Int) : Option ((jS × List Int) ⊕ (jS × Int)) := jlpW (jc3 b_X37_findGlobals_26) [x0, x1, x2] s
noncomputable def u_X37_findGlobals_26 : jS → Int → Int → Int → Option ((jS × List Int) ⊕ (jS × Int)) := Classical.choose (⟨du_X37_findGlobals_26, rfl⟩ : ∃ f, f = du_X37_findGlobals_26)
theorem eu_X37_findGlobals_26 : u_X37_findGlobals_26 = du_X37_findGlobals_26 := Classical.choose_spec (⟨du_X37_findGlobals_26, rfl⟩ : ∃ f, f = du_X37_findGlobals_26)
def b_X37_findGlobals_7 (s : jS) (x0 x1 : Int) : Option ((jS × List Int) ⊕ (jS × Int)) :=
  if x1 < 6 then
    (m_X37_isIn s x0 x1).bind fun v1 =>
    if v1 = 0 then
      u_X37_findGlobals_217 s x0 x1
    else
      u_X37_findGlobals_26 s x0 x1 0
  else
    jinr (some (s, Wz 1))
def du_X37_findGlobals_7 (s : jS) (x0 x1 : Int) : Option (jS × Int) := jlpW (jc2 b_X37_findGlobals_7) [x0, x1] s
noncomputable def u_X37_findGlobals_7 : jS → Int → Int → Option (jS × Int) := Classical.choose (⟨du_X37_findGlobals_7, rfl⟩ : ∃ f, f = du_X37_findGlobals_7)
theorem eu_X37_findGlobals_7 : u_X37_findGlobals_7 = du_X37_findGlobals_7 := Classical.choose_spec (⟨du_X37_findGlobals_7, rfl⟩ : ∃ f, f = du_X37_findGlobals_7)
def dm_X37_findGlobals (s : jS) (x0 : Int) : Option (jS × Int) :=
  jls (jp s 41 x0 81 0) fun s1 =>
  u_X37_findGlobals_7 s1 x0 0
noncomputable def m_X37_findGlobals : jS → Int → Option (jS × Int) := Classical.choose (⟨dm_X37_findGlobals, rfl⟩ : ∃ f, f = dm_X37_findGlobals)
theorem em_X37_findGlobals : m_X37_findGlobals = dm_X37_findGlobals := Classical.choose_spec (⟨dm_X37_findGlobals, rfl⟩ : ∃ f, f = dm_X37_findGlobals)
def dm_X37_isStartThere (s : jS) (x0 : Int) : Option (Int) :=
  (m_X37_startSymbol s x0).bind fun v1 =>
  if v1 = (-1) then
    some (Wz 0)
  else
    (jlt s 1000 (x0 + 177) 600 v1).bind fun v2 =>
    if v2 = 0 then
      some (Wz 1)
    else
      some (Wz 0)
noncomputable def m_X37_isStartThere : jS → Int → Option (Int) := Classical.choose (⟨dm_X37_isStartThere, rfl⟩ : ∃ f, f = dm_X37_isStartThere)
theorem em_X37_isStartThere : m_X37_isStartThere = dm_X37_isStartThere := Classical.choose_spec (⟨dm_X37_isStartThere, rfl⟩ : ∃ f, f = dm_X37_isStartThere)
def dm_X37_newPart (s : jS) (x0 x1 x2 : Int) : Option (jS × Int) :=
  (m_X37_logOf s x2).bind fun v1 =>
  (m_X41_part s (x0 + 93) x1 v1).bind fun q2 =>
  if q2.2 = (-1) then
    (m_X37_refuse q2.1 x0 6 (-1) (-1)).bind fun q3 =>
    some (q3.1, (-1))
  else
    (jst q2.1 1000 (x0 + 200) 32 q2.2 (jf q2.1 45 (x0 + 93) 12)).bind fun s4 =>
    (jst s4 1000 (x0 + 201) 32 q2.2 0).bind fun s5 =>
    some (s5, q2.2)
noncomputable def m_X37_newPart : jS → Int → Int → Int → Option (jS × Int) := Classical.choose (⟨dm_X37_newPart, rfl⟩ : ∃ f, f = dm_X37_newPart)
theorem em_X37_newPart : m_X37_newPart = dm_X37_newPart := Classical.choose_spec (⟨dm_X37_newPart, rfl⟩ : ∃ f, f = dm_X37_newPart)
def du_X37_isTakable_70 (s : jS) (x0 x1 x2 : Int) : Option (Int) :=
  (jlt s 1000 (x0 + 185) 1800 x2).bind fun v1 =>
  (m_X37_hasLoose s x0 x1 v1).bind fun v2 =>
  if v2 = 0 then
    some (Wz 0)
  else
    some (Wz 1)
noncomputable def u_X37_isTakable_70 : jS → Int → Int → Int → Option (Int) := Classical.choose (⟨du_X37_isTakable_70, rfl⟩ : ∃ f, f = du_X37_isTakable_70)
theorem eu_X37_isTakable_70 : u_X37_isTakable_70 = du_X37_isTakable_70 := Classical.choose_spec (⟨du_X37_isTakable_70, rfl⟩ : ∃ f, f = du_X37_isTakable_70)
def dm_X37_isTakable (s : jS) (x0 x1 x2 : Int) : Option (Int) :=
  (jlt s 1000 (x0 + 184) 1800 x2).bind fun v1 =>
  if v1 = 0 then
    (jlt s 1000 (x0 + 186) 1800 x2).bind fun v2 =>
    if v2 = 43 then
      (jlt s 1000 (x0 + 188) 1800 x2).bind fun v3 =>
      if 0 < v3 then
        some (Wz 1)
      else
        some (Wz 0)
    else
      (jlt s 1000 (x0 + 186) 1800 x2).bind fun v4 =>
      if v4 = 19 then
        u_X37_isTakable_70 s x0 x1 x2
      else
        (jlt s 1000 (x0 + 186) 1800 x2).bind fun v5 =>
        if v5 = 23 then
          u_X37_isTakable_70 s x0 x1 x2
        else
          (jlt s 1000 (x0 + 186) 1800 x2).bind fun v6 =>
          if v6 = 26 then
            u_X37_isTakable_70 s x0 x1 x2
          else
            some (Wz 0)
  else
    some (Wz 0)
noncomputable def m_X37_isTakable : jS → Int → Int → Int → Option (Int) := Classical.choose (⟨dm_X37_isTakable, rfl⟩ : ∃ f, f = dm_X37_isTakable)
theorem em_X37_isTakable : m_X37_isTakable = dm_X37_isTakable := Classical.choose_spec (⟨dm_X37_isTakable, rfl⟩ : ∃ f, f = dm_X37_isTakable)
def du_X37_labelFor_90 (s : jS) (x0 x4 : Int) : Option (jS × Int) :=
  (jlt s 1000 (x0 + 204) 1200 x4).bind fun v1 =>
  some (s, v1)
noncomputable def u_X37_labelFor_90 : jS → Int → Int → Option (jS × Int) := Classical.choose (⟨du_X37_labelFor_90, rfl⟩ : ∃ f, f = du_X37_labelFor_90)
theorem eu_X37_labelFor_90 : u_X37_labelFor_90 = du_X37_labelFor_90 := Classical.choose_spec (⟨du_X37_labelFor_90, rfl⟩ : ∃ f, f = du_X37_labelFor_90)
def du_X37_labelFor_35 (s : jS) (x0 y0 : Int) : Option (jS × Int) :=
  (jlt s 1000 (x0 + 204) 1200 y0).bind fun v1 =>
  if v1 = (-1) then
    (m_X41_label s (x0 + 93)).bind fun q2 =>
    (jst q2.1 1000 (x0 + 204) 1200 y0 q2.2).bind fun s3 =>
    (jlt s3 1000 (x0 + 204) 1200 y0).bind fun v4 =>
    if v4 = (-1) then
      (m_X37_refuse s3 x0 6 (-1) (-1)).bind fun q5 =>
      u_X37_labelFor_90 q5.1 x0 y0
    else
      u_X37_labelFor_90 s3 x0 y0
  else
    (jlt s 1000 (x0 + 204) 1200 y0).bind fun v6 =>
    some (s, v6)
noncomputable def u_X37_labelFor_35 : jS → Int → Int → Option (jS × Int) := Classical.choose (⟨du_X37_labelFor_35, rfl⟩ : ∃ f, f = du_X37_labelFor_35)
theorem eu_X37_labelFor_35 : u_X37_labelFor_35 = du_X37_labelFor_35 := Classical.choose_spec (⟨du_X37_labelFor_35, rfl⟩ : ∃ f, f = du_X37_labelFor_35)
def dm_X37_labelFor (s : jS) (x0 x1 x2 : Int) : Option (jS × Int) :=
  (jlt s 1000 (x0 + 187) 1800 x2).bind fun v1 =>
  jlet (W32 ((W32 (100 * x1)) + v1)) fun v2 =>
  (jlt s 1000 (x0 + 180) 600 v2).bind fun v3 =>
  if v3 = 0 then
    u_X37_labelFor_35 s x0 v2
  else
    (jlt s 1000 (x0 + 189) 600 v2).bind fun v4 =>
    jlet (W32 (600 + v4)) fun v5 =>
    u_X37_labelFor_35 s x0 v5
noncomputable def m_X37_labelFor : jS → Int → Int → Int → Option (jS × Int) := Classical.choose (⟨dm_X37_labelFor, rfl⟩ : ∃ f, f = dm_X37_labelFor)
theorem em_X37_labelFor : m_X37_labelFor = dm_X37_labelFor := Classical.choose_spec (⟨dm_X37_labelFor, rfl⟩ : ∃ f, f = dm_X37_labelFor)
def du_X37_copyBytes_183 (s : jS) (x0 x1 : Int) : Option ((jS × List Int) ⊕ (jS × Int)) :=
  some (.inl (s, [x0, W32 (x1 + 1)]))
noncomputable def u_X37_copyBytes_183 : jS → Int → Int → Option ((jS × List Int) ⊕ (jS × Int)) := Classical.choose (⟨du_X37_copyBytes_183, rfl⟩ : ∃ f, f = du_X37_copyBytes_183)
theorem eu_X37_copyBytes_183 : u_X37_copyBytes_183 = du_X37_copyBytes_183 := Classical.choose_spec (⟨du_X37_copyBytes_183, rfl⟩ : ∃ f, f = du_X37_copyBytes_183)
def du_X37_copyBytes_177 (s : jS) (x0 x1 x2 : Int) : Option ((jS × List Int) ⊕ ((jS × List Int) ⊕ (jS × Int))) :=
  some (.inl (s, [x0, x1, W32 (x2 + 1)]))
noncomputable def u_X37_copyBytes_177 : jS → Int → Int → Int → Option ((jS × List Int) ⊕ ((jS × List Int) ⊕ (jS × Int))) := Classical.choose (⟨du_X37_copyBytes_177, rfl⟩ : ∃ f, f = du_X37_copyBytes_177)
theorem eu_X37_copyBytes_177 : u_X37_copyBytes_177 = du_X37_copyBytes_177 := Classical.choose_spec (⟨du_X37_copyBytes_177, rfl⟩ : ∃ f, f = du_X37_copyBytes_177)
def du_X37_copyBytes_171 (s : jS) (x0 x1 x2 x3 x4 : Int) : Option ((jS × List Int) ⊕ ((jS × List Int) ⊕ ((jS × List Int) ⊕ (jS × Int)))) :=
  some (.inl (s, [x0, x1, x2, x3, W32 (x4 + 1)]))
noncomputable def u_X37_copyBytes_171 : jS → Int → Int → Int → Int → Int → Option ((jS × List Int) ⊕ ((jS × List Int) ⊕ ((jS × List Int) ⊕ (jS × Int)))) := Classical.choose (⟨du_X37_copyBytes_171, rfl⟩ : ∃ f, f = du_X37_copyBytes_171)
theorem eu_X37_copyBytes_171 : u_X37_copyBytes_171 = du_X37_copyBytes_171 := Classical.choose_spec (⟨du_X37_copyBytes_171, rfl⟩ : ∃ f, f = du_X37_copyBytes_171)
def b_X37_copyBytes_116 (s : jS) (x0 x1 x2 x3 x4 x5 x6 : Int) : Option ((jS × List Int) ⊕ ((jS × List Int) ⊕ ((jS × List Int) ⊕ ((jS × List Int) ⊕ (jS × Int))))) :=
  (jlt s 1000 (x0 + 198) 256 x4).bind fun v1 =>
  if x6 < v1 then
    (jlt s 1000 (x0 + 197) 256 x4).bind fun v2 =>
    (jlt s 1000 (x0 + 170) 36864 (W32 ((W32 ((W32 ((W32 (6144 * x1)) + (W32 (2048 * x2)))) + v2)) + x6))).bind fun v3 =>
    (jst s 1000 (x0 + 205) 12288 (W32 (x5 + x6)) v3).bind fun s4 =>
    some (.inl (s4, [x0, x1, x2, x3, x4, x5, W32 (x6 + 1)]))
  else
    jinr (u_X37_copyBytes_171 s x0 x1 x2 x3 x4)
def du_X37_copyBytes_116 (s : jS) (x0 x1 x2 x3 x4 x5 x6 : Int) : Option ((jS × List Int) ⊕ ((jS × List Int) ⊕ ((jS × List Int) ⊕ (jS × Int)))) := jlpW (jc7 b_X37_copyBytes_116) [x0, x1, x2, x3, x4, x5, x6] s
noncomputable def u_X37_copyBytes_116 : jS → Int → Int → Int → Int → Int → Int → Int → Option ((jS × List Int) ⊕ ((jS × List Int) ⊕ ((jS × List Int) ⊕ (jS × Int)))) := Classical.choose (⟨du_X37_copyBytes_116, rfl⟩ : ∃ f, f = du_X37_copyBytes_116)
theorem eu_X37_copyBytes_116 : u_X37_copyBytes_116 = du_X37_copyBytes_116 := Classical.choose_spec (⟨du_X37_copyBytes_116, rfl⟩ : ∃ f, f = du_X37_copyBytes_116)
def b_X37_copyBytes_64 (s : jS) (x0 x1 x2 x3 x4 : Int) : Option ((jS × List Int) ⊕ ((jS × List Int) ⊕ ((jS × List Int) ⊕ (jS × Int)))) :=
  (jlt s 1000 (x0 + 200) 32 x3).bind fun v1 =>
  (jlt s 1000 (x0 + 201) 32 x3).bind fun v2 =>
  if x4 < (W32 (v1 + v2)) then
    (jlt s 1000 (x0 + 199) 256 x4).bind fun v3 =>
    if v3 = (-1) then
      (jlt s 1000 ((x0 + 93) + 20) 256 x4).bind fun v4 =>
      (m_X37_byteSpot s x0 x2 v4).bind fun v5 =>
      u_X37_copyBytes_116 s x0 x1 x2 x3 x4 v5 0
    else
      u_X37_copyBytes_171 s x0 x1 x2 x3 x4
  else
    jinr (u_X37_copyBytes_177 s x0 x1 x2)
def du_X37_copyBytes_64 (s : jS) (x0 x1 x2 x3 x4 : Int) : Option ((jS × List Int) ⊕ ((jS × List Int) ⊕ (jS × Int))) := jlpW (jc5 b_X37_copyBytes_64) [x0, x1, x2, x3, x4] s
noncomputable def u_X37_copyBytes_64 : jS → Int → Int → Int → Int → Int → Option ((jS × List Int) ⊕ ((jS × List Int) ⊕ (jS × Int))) := Classical.choose (⟨du_X37_copyBytes_64, rfl⟩ : ∃ f, f = du_X37_copyBytes_64)
theorem eu_X37_copyBytes_64 : u_X37_copyBytes_64 = du_X37_copyBytes_64 := Classical.choose_spec (⟨du_X37_copyBytes_64, rfl⟩ : ∃ f, f = du_X37_copyBytes_64)
def b_X37_copyBytes_32 (s : jS) (x0 x1 x2 : Int) : Option ((jS × List Int) ⊕ ((jS × List Int) ⊕ (jS × Int))) :=
  if x2 < 3 then
    (m_X37_isIn s x0 x1).bind fun v1 =>
    if v1 = 0 then
      jinr (u_X37_copyBytes_183 s x0 x1)
    else
      (jlt s 1000 (x0 + 202) 24 (W32 ((W32 (4 * x1)) + x2))).bind fun v2 =>
      (jlt s 1000 (x0 + 200) 32 v2).bind fun v3 =>
      u_X37_copyBytes_64 s x0 x1 x2 v2 v3
  else
    jinr (u_X37_copyBytes_183 s x0 x1)
def du_X37_copyBytes_32 (s : jS) (x0 x1 x2 : Int) : Option ((jS × List Int) ⊕ (jS × Int)) := jlpW (jc3 b_X37_copyBytes_32) [x0, x1, x2] s
noncomputable def u_X37_copyBytes_32 : jS → Int → Int → Int → Option ((jS × List Int) ⊕ (jS × Int)) := Classical.choose (⟨du_X37_copyBytes_32, rfl⟩ : ∃ f, f = du_X37_copyBytes_32)
theorem eu_X37_copyBytes_32 : u_X37_copyBytes_32 = du_X37_copyBytes_32 := Classical.choose_spec (⟨du_X37_copyBytes_32, rfl⟩ : ∃ f, f = du_X37_copyBytes_32)
def b_X37_copyBytes_24 (s : jS) (x0 x1 : Int) : Option ((jS × List Int) ⊕ (jS × Int)) :=
  if x1 < 6 then
    u_X37_copyBytes_32 s x0 x1 0
  else
    jinr (some (s, 0))
def du_X37_copyBytes_24 (s : jS) (x0 x1 : Int) : Option (jS × Int) := jlpW (jc2 b_X37_copyBytes_24) [x0, x1] s
noncomputable def u_X37_copyBytes_24 : jS → Int → Int → Option (jS × Int) := Classical.choose (⟨du_X37_copyBytes_24, rfl⟩ : ∃ f, f = du_X37_copyBytes_24)
theorem eu_X37_copyBytes_24 : u_X37_copyBytes_24 = du_X37_copyBytes_24 := Classical.choose_spec (⟨du_X37_copyBytes_24, rfl⟩ : ∃ f, f = du_X37_copyBytes_24)
def du_X37_copyBytes_22 (s : jS) (x0 : Int) : Option (jS × Int) :=
  u_X37_copyBytes_24 s x0 0
noncomputable def u_X37_copyBytes_22 : jS → Int → Option (jS × Int) := Classical.choose (⟨du_X37_copyBytes_22, rfl⟩ : ∃ f, f = du_X37_copyBytes_22)
theorem eu_X37_copyBytes_22 : u_X37_copyBytes_22 = du_X37_copyBytes_22 := Classical.choose_spec (⟨du_X37_copyBytes_22, rfl⟩ : ∃ f, f = du_X37_copyBytes_22)
def b_X37_copyBytes_2 (s : jS) (x0 x1 : Int) : Option ((jS × List Int) ⊕ (jS × Int)) :=
  if x1 < 12288 then
    (jst s 1000 (x0 + 205) 12288 x1 0).bind fun s1 =>
    some (.inl (s1, [x0, W32 (x1 + 1)]))
  else
    jinr (u_X37_copyBytes_22 s x0)
def du_X37_copyBytes_2 (s : jS) (x0 x1 : Int) : Option (jS × Int) := jlpW (jc2 b_X37_copyBytes_2) [x0, x1] s
noncomputable def u_X37_copyBytes_2 : jS → Int → Int → Option (jS × Int) := Classical.choose (⟨du_X37_copyBytes_2, rfl⟩ : ∃ f, f = du_X37_copyBytes_2)
theorem eu_X37_copyBytes_2 : u_X37_copyBytes_2 = du_X37_copyBytes_2 := Classical.choose_spec (⟨du_X37_copyBytes_2, rfl⟩ : ∃ f, f = du_X37_copyBytes_2)
def dm_X37_copyBytes (s : jS) (x0 : Int) : Option (jS × Int) :=
  u_X37_copyBytes_2 s x0 0
noncomputable def m_X37_copyBytes : jS → Int → Option (jS × Int) := Classical.choose (⟨dm_X37_copyBytes, rfl⟩ : ∃ f, f = dm_X37_copyBytes)
theorem em_X37_copyBytes : m_X37_copyBytes = dm_X37_copyBytes := Classical.choose_spec (⟨dm_X37_copyBytes, rfl⟩ : ∃ f, f = dm_X37_copyBytes)
def du_X37_isPlacedRight_157 (s : jS) (x0 x2 y0 y1 y2 : Int) : Option (jS × Int) :=
  jls (jp s 41 y2 116 (W32 (y1 + y0))) fun s1 =>
  (m_X37_byteSpot s1 x0 x2 (L2i (jf s1 41 x0 116))).bind fun v2 =>
  jls (jp s1 41 x0 115 v2) fun s3 =>
  some (s3, Wz 1)
noncomputable def u_X37_isPlacedRight_157 : jS → Int → Int → Int → Int → Int → Option (jS × Int) := Classical.choose (⟨du_X37_isPlacedRight_157, rfl⟩ : ∃ f, f = du_X37_isPlacedRight_157)
theorem eu_X37_isPlacedRight_157 : u_X37_isPlacedRight_157 = du_X37_isPlacedRight_157 := Classical.choose_spec (⟨du_X37_isPlacedRight_157, rfl⟩ : ∃ f, f = du_X37_isPlacedRight_157)
def du_X37_isPlacedRight_107 (s : jS) (x0 x1 x2 x3 y0 : Int) : Option (jS × Int) :=
  if y0 = 0 then
    (m_X37_wrong s x0 7 x1).bind fun q1 =>
    some (q1.1, Wz q1.2)
  else
    (jlt s 1000 ((x0 + 93) + 20) 256 x3).bind fun v2 =>
    if (jf s 41 x0 114) = (-1) then
      (jlt s 1000 (x0 + 185) 1800 x1).bind fun v3 =>
      (jlt s 1000 (x0 + 197) 256 x3).bind fun v4 =>
      u_X37_isPlacedRight_157 s x0 x2 (W32 (v3 - v4)) v2 x0
    else
      u_X37_isPlacedRight_157 s x0 x2 0 v2 x0
noncomputable def u_X37_isPlacedRight_107 : jS → Int → Int → Int → Int → Int → Option (jS × Int) := Classical.choose (⟨du_X37_isPlacedRight_107, rfl⟩ : ∃ f, f = du_X37_isPlacedRight_107)
theorem eu_X37_isPlacedRight_107 : u_X37_isPlacedRight_107 = du_X37_isPlacedRight_107 := Classical.choose_spec (⟨du_X37_isPlacedRight_107, rfl⟩ : ∃ f, f = du_X37_isPlacedRight_107)
def du_X37_isPlacedRight_106 (s : jS) (x0 x1 x2 x3 : Int) : Option (jS × Int) :=
  u_X37_isPlacedRight_107 s x0 x1 x2 x3 0
noncomputable def u_X37_isPlacedRight_106 : jS → Int → Int → Int → Int → Option (jS × Int) := Classical.choose (⟨du_X37_isPlacedRight_106, rfl⟩ : ∃ f, f = du_X37_isPlacedRight_106)
theorem eu_X37_isPlacedRight_106 : u_X37_isPlacedRight_106 = du_X37_isPlacedRight_106 := Classical.choose_spec (⟨du_X37_isPlacedRight_106, rfl⟩ : ∃ f, f = du_X37_isPlacedRight_106)
def du_X37_isPlacedRight_102 (s : jS) (x0 x1 x2 x3 : Int) : Option (jS × Int) :=
  u_X37_isPlacedRight_107 s x0 x1 x2 x3 1
noncomputable def u_X37_isPlacedRight_102 : jS → Int → Int → Int → Int → Option (jS × Int) := Classical.choose (⟨du_X37_isPlacedRight_102, rfl⟩ : ∃ f, f = du_X37_isPlacedRight_102)
theorem eu_X37_isPlacedRight_102 : u_X37_isPlacedRight_102 = du_X37_isPlacedRight_102 := Classical.choose_spec (⟨du_X37_isPlacedRight_102, rfl⟩ : ∃ f, f = du_X37_isPlacedRight_102)
def du_X37_isPlacedRight_55 (s : jS) (x0 x1 x2 y0 : Int) : Option (jS × Int) :=
  if (jf s 41 x0 114) = (-1) then
    (jlt s 1000 (x0 + 199) 256 y0).bind fun v1 =>
    if v1 = (-1) then
      (jlt s 1000 (x0 + 185) 1800 x1).bind fun v2 =>
      (m_X37_needed s x0 x1).bind fun v3 =>
      (jlt s 1000 (x0 + 197) 256 y0).bind fun v4 =>
      (jlt s 1000 (x0 + 198) 256 y0).bind fun v5 =>
      if (W32 (v4 + v5)) < (W32 (v2 + v3)) then
        u_X37_isPlacedRight_106 s x0 x1 x2 y0
      else
        u_X37_isPlacedRight_102 s x0 x1 x2 y0
    else
      u_X37_isPlacedRight_106 s x0 x1 x2 y0
  else
    u_X37_isPlacedRight_102 s x0 x1 x2 y0
noncomputable def u_X37_isPlacedRight_55 : jS → Int → Int → Int → Int → Option (jS × Int) := Classical.choose (⟨du_X37_isPlacedRight_55, rfl⟩ : ∃ f, f = du_X37_isPlacedRight_55)
theorem eu_X37_isPlacedRight_55 : u_X37_isPlacedRight_55 = du_X37_isPlacedRight_55 := Classical.choose_spec (⟨du_X37_isPlacedRight_55, rfl⟩ : ∃ f, f = du_X37_isPlacedRight_55)
def dm_X37_isPlacedRight (s : jS) (x0 x1 : Int) : Option (jS × Int) :=
  (jlt s 1000 (x0 + 184) 1800 x1).bind fun v1 =>
  (jlt s 1000 (x0 + 203) 1800 x1).bind fun v2 =>
  jls (jp s 41 x0 114 v2) fun s3 =>
  if (jf s3 41 x0 114) = (-1) then
    (jlt s3 1000 (x0 + 202) 24 (W32 ((W32 (4 * (jf s3 41 x0 113))) + v1))).bind fun v4 =>
    (jlt s3 1000 (x0 + 185) 1800 x1).bind fun v5 =>
    (m_X37_pieceAt s3 x0 v4 v5).bind fun v6 =>
    u_X37_isPlacedRight_55 s3 x0 x1 v1 v6
  else
    u_X37_isPlacedRight_55 s3 x0 x1 v1 (jf s3 41 x0 114)
noncomputable def m_X37_isPlacedRight : jS → Int → Int → Option (jS × Int) := Classical.choose (⟨dm_X37_isPlacedRight, rfl⟩ : ∃ f, f = dm_X37_isPlacedRight)
theorem em_X37_isPlacedRight : m_X37_isPlacedRight = dm_X37_isPlacedRight := Classical.choose_spec (⟨dm_X37_isPlacedRight, rfl⟩ : ∃ f, f = dm_X37_isPlacedRight)
def dm_X37_symbolPlace (s : jS) (x0 x1 : Int) : Option (Int) :=
  (jlt s 1000 (x0 + 177) 600 x1).bind fun v1 =>
  if v1 < 4 then
    (jdv 100 (I_div x1 100)).bind fun v2 =>
    (jlt s 1000 (x0 + 177) 600 x1).bind fun v3 =>
    (jlt s 1000 (x0 + 178) 600 x1).bind fun v4 =>
    (m_X37_address_2 s x0 v2 v3 v4).bind fun v5 =>
    some v5
  else
    (jlt s 1000 (x0 + 178) 600 x1).bind fun v6 =>
    some v6
noncomputable def m_X37_symbolPlace : jS → Int → Int → Option (Int) := Classical.choose (⟨dm_X37_symbolPlace, rfl⟩ : ∃ f, f = dm_X37_symbolPlace)
theorem em_X37_symbolPlace : m_X37_symbolPlace = dm_X37_symbolPlace := Classical.choose_spec (⟨dm_X37_symbolPlace, rfl⟩ : ∃ f, f = dm_X37_symbolPlace)
def dm_X37_globalValue (s : jS) (x0 x1 : Int) : Option (Int) :=
  (jlt s 1000 (x0 + 191) 600 x1).bind fun v1 =>
  if v1 = 1 then
    (jlt s 1000 (x0 + 192) 600 x1).bind fun v2 =>
    (m_X37_symbolPlace s x0 v2).bind fun v3 =>
    some v3
  else
  if v1 = 2 then
    (jlt s 1000 (x0 + 195) 600 x1).bind fun v4 =>
    (jlt s 1000 ((x0 + 93) + 9) 32 v4).bind fun v5 =>
    some v5
  else
  if v1 = 3 then
    (jlt s 1000 (x0 + 196) 600 x1).bind fun v6 =>
    if v6 = 1 then
      some (jf s 41 x0 108)
    else
      (jlt s 1000 (x0 + 196) 600 x1).bind fun v7 =>
      if v7 = 2 then
        (jlt s 1000 ((x0 + 93) + 3) 4 0).bind fun v8 =>
        some v8
      else
        (jlt s 1000 (x0 + 196) 600 x1).bind fun v9 =>
        if v9 = 3 then
          (jlt s 1000 ((x0 + 93) + 3) 4 2).bind fun v10 =>
          some v10
        else
          (jlt s 1000 (x0 + 196) 600 x1).bind fun v11 =>
          if v11 = 4 then
            (jlt s 1000 ((x0 + 93) + 2) 4 3).bind fun v12 =>
            some v12
          else
            (jlt s 1000 ((x0 + 93) + 3) 4 3).bind fun v13 =>
            some v13
  else
  some 0
noncomputable def m_X37_globalValue : jS → Int → Int → Option (Int) := Classical.choose (⟨dm_X37_globalValue, rfl⟩ : ∃ f, f = dm_X37_globalValue)
theorem em_X37_globalValue : m_X37_globalValue = dm_X37_globalValue := Classical.choose_spec (⟨dm_X37_globalValue, rfl⟩ : ∃ f, f = dm_X37_globalValue)
def dm_X37_storeWord (s : jS) (x0 x1 x2 : Int) : Option (jS × Int) :=
  (m_X37_lengthAt s x0 x2).bind fun v1 =>
  (m_X37_store s x0 x1 v1 x2).bind fun q2 =>
  some (q2.1, 0)
noncomputable def m_X37_storeWord : jS → Int → Int → Int → Option (jS × Int) := Classical.choose (⟨dm_X37_storeWord, rfl⟩ : ∃ f, f = dm_X37_storeWord)
theorem em_X37_storeWord : m_X37_storeWord = dm_X37_storeWord := Classical.choose_spec (⟨dm_X37_storeWord, rfl⟩ : ∃ f, f = dm_X37_storeWord)
def du_X37_keepGlobals_73 (s : jS) (x0 x1 : Int) : Option ((jS × List Int) ⊕ (jS × Int)) :=
  (m_X37_globalValue s x0 x1).bind fun v1 =>
  (jst s 1000 (x0 + 208) 600 x1 v1).bind fun s2 =>
  some (.inl (s2, [x0, W32 (x1 + 1)]))
noncomputable def u_X37_keepGlobals_73 : jS → Int → Int → Option ((jS × List Int) ⊕ (jS × Int)) := Classical.choose (⟨du_X37_keepGlobals_73, rfl⟩ : ∃ f, f = du_X37_keepGlobals_73)
theorem eu_X37_keepGlobals_73 : u_X37_keepGlobals_73 = du_X37_keepGlobals_73 := Classical.choose_spec (⟨du_X37_keepGlobals_73, rfl⟩ : ∃ f, f = du_X37_keepGlobals_73)
def b_X37_keepGlobals_39 (s : jS) (x0 x1 x2 x3 : Int) : Option ((jS × List Int) ⊕ ((jS × List Int) ⊕ (jS × Int))) :=
  if x3 < 16 then
    (jlt s 1000 (x0 + 182) 9600 (W32 ((W32 (16 * x2)) + x3))).bind fun v1 =>
    (jst s 1000 (x0 + 207) 9600 (W32 ((W32 (16 * x1)) + x3)) v1).bind fun s2 =>
    some (.inl (s2, [x0, x1, x2, W32 (x3 + 1)]))
  else
    jinr (u_X37_keepGlobals_73 s x0 x1)
def du_X37_keepGlobals_39 (s : jS) (x0 x1 x2 x3 : Int) : Option ((jS × List Int) ⊕ (jS × Int)) := jlpW (jc4 b_X37_keepGlobals_39) [x0, x1, x2, x3] s
noncomputable def u_X37_keepGlobals_39 : jS → Int → Int → Int → Int → Option ((jS × List Int) ⊕ (jS × Int)) := Classical.choose (⟨du_X37_keepGlobals_39, rfl⟩ : ∃ f, f = du_X37_keepGlobals_39)
theorem eu_X37_keepGlobals_39 : u_X37_keepGlobals_39 = du_X37_keepGlobals_39 := Classical.choose_spec (⟨du_X37_keepGlobals_39, rfl⟩ : ∃ f, f = du_X37_keepGlobals_39)
def b_X37_keepGlobals_10 (s : jS) (x0 x1 : Int) : Option ((jS × List Int) ⊕ (jS × Int)) :=
  if x1 < (jf s 41 x0 81) then
    (jlt s 1000 (x0 + 190) 600 x1).bind fun v1 =>
    (jlt s 1000 (x0 + 181) 600 v1).bind fun v2 =>
    (jst s 1000 (x0 + 206) 600 x1 v2).bind fun s3 =>
    u_X37_keepGlobals_39 s3 x0 x1 v1 0
  else
    jinr (some (s, 0))
def du_X37_keepGlobals_10 (s : jS) (x0 x1 : Int) : Option (jS × Int) := jlpW (jc2 b_X37_keepGlobals_10) [x0, x1] s
noncomputable def u_X37_keepGlobals_10 : jS → Int → Int → Option (jS × Int) := Classical.choose (⟨du_X37_keepGlobals_10, rfl⟩ : ∃ f, f = du_X37_keepGlobals_10)
theorem eu_X37_keepGlobals_10 : u_X37_keepGlobals_10 = du_X37_keepGlobals_10 := Classical.choose_spec (⟨du_X37_keepGlobals_10, rfl⟩ : ∃ f, f = du_X37_keepGlobals_10)
def dm_X37_keepGlobals (s : jS) (x0 : Int) : Option (jS × Int) :=
  jls (jp s 41 x0 109 (jf s 41 x0 81)) fun s1 =>
  u_X37_keepGlobals_10 s1 x0 0
noncomputable def m_X37_keepGlobals : jS → Int → Option (jS × Int) := Classical.choose (⟨dm_X37_keepGlobals, rfl⟩ : ∃ f, f = dm_X37_keepGlobals)
theorem em_X37_keepGlobals : m_X37_keepGlobals = dm_X37_keepGlobals := Classical.choose_spec (⟨dm_X37_keepGlobals, rfl⟩ : ∃ f, f = dm_X37_keepGlobals)
def dm_X37_back (s : jS) (x0 x1 : Int) : Option (jS × Int) :=
  jls (jp s 41 x0 4 0) fun s1 =>
  (m_X43_back s1 (x0 + 130) x1).bind fun q2 =>
  some (q2.1, q2.2)
noncomputable def m_X37_back : jS → Int → Int → Option (jS × Int) := Classical.choose (⟨dm_X37_back, rfl⟩ : ∃ f, f = dm_X37_back)
theorem em_X37_back : m_X37_back = dm_X37_back := Classical.choose_spec (⟨dm_X37_back, rfl⟩ : ∃ f, f = dm_X37_back)
def dm_X37_set (s : jS) (x0 x1 x2 : Int) : Option (jS × Int) :=
  jls (jp s 41 x0 4 0) fun s1 =>
  (m_X43_set s1 (x0 + 130) x1 x2).bind fun q2 =>
  some (q2.1, Wz q2.2)
noncomputable def m_X37_set : jS → Int → Int → Int → Option (jS × Int) := Classical.choose (⟨dm_X37_set, rfl⟩ : ∃ f, f = dm_X37_set)
theorem em_X37_set : m_X37_set = dm_X37_set := Classical.choose_spec (⟨dm_X37_set, rfl⟩ : ∃ f, f = dm_X37_set)
def dm_X37_get (s : jS) (x0 x1 : Int) : Option (jS × Int) :=
  jls (jp s 41 x0 4 0) fun s1 =>
  (m_X43_get s1 (x0 + 130) x1).bind fun v2 =>
  some (s1, v2)
noncomputable def m_X37_get : jS → Int → Int → Option (jS × Int) := Classical.choose (⟨dm_X37_get, rfl⟩ : ∃ f, f = dm_X37_get)
theorem em_X37_get : m_X37_get = dm_X37_get := Classical.choose_spec (⟨dm_X37_get, rfl⟩ : ∃ f, f = dm_X37_get)
def dm_X37_peek (s : jS) (x0 x1 : Int) : Option (jS × Int) :=
  jls (jp s 41 x0 4 0) fun s1 =>
  (m_X43_peek s1 (x0 + 130) x1).bind fun v2 =>
  some (s1, v2)
noncomputable def m_X37_peek : jS → Int → Int → Option (jS × Int) := Classical.choose (⟨dm_X37_peek, rfl⟩ : ∃ f, f = dm_X37_peek)
theorem em_X37_peek : m_X37_peek = dm_X37_peek := Classical.choose_spec (⟨dm_X37_peek, rfl⟩ : ∃ f, f = dm_X37_peek)
def dm_X37_input (s : jS) (x0 x1 x2 : Int) : Option (jS × Int) :=
  jls (jp s 41 x0 4 0) fun s1 =>
  (m_X43_input s1 (x0 + 130) x1 x2).bind fun q2 =>
  some (q2.1, Wz q2.2)
noncomputable def m_X37_input : jS → Int → Int → Int → Option (jS × Int) := Classical.choose (⟨dm_X37_input, rfl⟩ : ∃ f, f = dm_X37_input)
theorem em_X37_input : m_X37_input = dm_X37_input := Classical.choose_spec (⟨dm_X37_input, rfl⟩ : ∃ f, f = dm_X37_input)
def dm_X37_halt (s : jS) (x0 x1 x2 : Int) : Option (jS × Int) :=
  jls (jp s 41 x0 4 0) fun s1 =>
  (m_X43_halt s1 (x0 + 130) x1 x2).bind fun q2 =>
  some (q2.1, Wz q2.2)
noncomputable def m_X37_halt : jS → Int → Int → Int → Option (jS × Int) := Classical.choose (⟨dm_X37_halt, rfl⟩ : ∃ f, f = dm_X37_halt)
theorem em_X37_halt : m_X37_halt = dm_X37_halt := Classical.choose_spec (⟨dm_X37_halt, rfl⟩ : ∃ f, f = dm_X37_halt)
def dm_X37_state (s : jS) (x0 x1 : Int) : Option (jS × Int) :=
  jls (jp s 41 x0 4 0) fun s1 =>
  (m_X43_state s1 (x0 + 130) x1).bind fun v2 =>
  some (s1, v2)
noncomputable def m_X37_state : jS → Int → Int → Option (jS × Int) := Classical.choose (⟨dm_X37_state, rfl⟩ : ∃ f, f = dm_X37_state)
theorem em_X37_state : m_X37_state = dm_X37_state := Classical.choose_spec (⟨dm_X37_state, rfl⟩ : ∃ f, f = dm_X37_state)
def dm_X37_output (s : jS) (x0 x1 : Int) : Option (jS × Int) :=
  jls (jp s 41 x0 4 0) fun s1 =>
  (m_X43_output s1 (x0 + 130) x1).bind fun v2 =>
  some (s1, v2)
noncomputable def m_X37_output : jS → Int → Int → Option (jS × Int) := Classical.choose (⟨dm_X37_output, rfl⟩ : ∃ f, f = dm_X37_output)
theorem em_X37_output : m_X37_output = dm_X37_output := Classical.choose_spec (⟨dm_X37_output, rfl⟩ : ∃ f, f = dm_X37_output)
def dm_X37_rights (s : jS) (x0 x1 : Int) : Option (jS × Int) :=
  jls (jp s 41 x0 4 0) fun s1 =>
  (m_X43_rights s1 (x0 + 130) x1).bind fun v2 =>
  some (s1, v2)
noncomputable def m_X37_rights : jS → Int → Int → Option (jS × Int) := Classical.choose (⟨dm_X37_rights, rfl⟩ : ∃ f, f = dm_X37_rights)
theorem em_X37_rights : m_X37_rights = dm_X37_rights := Classical.choose_spec (⟨dm_X37_rights, rfl⟩ : ∃ f, f = dm_X37_rights)
def dm_X37_letter (s : jS) (x0 x1 : Int) : Option (jS × Int) :=
  jls (jp s 41 x0 4 0) fun s1 =>
  (m_X38_letter s1 (x0 + 4) x1).bind fun q2 =>
  some (q2.1, q2.2)
noncomputable def m_X37_letter : jS → Int → Int → Option (jS × Int) := Classical.choose (⟨dm_X37_letter, rfl⟩ : ∃ f, f = dm_X37_letter)
theorem em_X37_letter : m_X37_letter = dm_X37_letter := Classical.choose_spec (⟨dm_X37_letter, rfl⟩ : ∃ f, f = dm_X37_letter)
def du_X38_layLong_42 (s : jS) (y0 y1 y2 y3 y4 : Int) : Option (jS × Int) :=
  (m_X38_fix s y4 y3 y2 y1 y0).bind fun q1 =>
  some (q1.1, 0)
noncomputable def u_X38_layLong_42 : jS → Int → Int → Int → Int → Int → Option (jS × Int) := Classical.choose (⟨du_X38_layLong_42, rfl⟩ : ∃ f, f = du_X38_layLong_42)
theorem eu_X38_layLong_42 : u_X38_layLong_42 = du_X38_layLong_42 := Classical.choose_spec (⟨du_X38_layLong_42, rfl⟩ : ∃ f, f = du_X38_layLong_42)
def dm_X38_layLong (s : jS) (x0 x1 : Int) : Option (jS × Int) :=
  if x1 < 48 then
    if 44 < x1 then
      if x1 = 45 then
        u_X38_layLong_42 s 267386895 32 0 x1 x0
      else
        if x1 = 46 then
          u_X38_layLong_42 s 115 32 0 x1 x0
        else
          u_X38_layLong_42 s 1048691 32 0 x1 x0
    else
      (m_X38_opcodeOf s x1).bind fun v1 =>
      (m_X38_fix s x0 x1 0 7 v1).bind fun q2 =>
      if x1 < 3 then
        (m_X38_lay q2.1 x0 x1 11 7 100 4).bind fun q3 =>
        if x1 < 2 then
          (m_X38_lay q3.1 x0 x1 31 12 400 19).bind fun q4 =>
          some (q4.1, 0)
        else
          (m_X38_lay q3.1 x0 x1 31 31 400 20).bind fun q5 =>
          (m_X38_lay q5.1 x0 x1 30 21 400 10).bind fun q6 =>
          (m_X38_lay q6.1 x0 x1 20 20 400 11).bind fun q7 =>
          (m_X38_lay q7.1 x0 x1 19 12 400 19).bind fun q8 =>
          some (q8.1, 0)
      else
        (m_X38_thirdOf q2.1 x1).bind fun v9 =>
        (m_X38_fix q2.1 x0 x1 12 3 v9).bind fun q10 =>
        (m_X38_lay q10.1 x0 x1 19 15 200 4).bind fun q11 =>
        (m_X38_isBranch q11.1 x1).bind fun v12 =>
        if v12 = 0 then
          (m_X38_isStore q11.1 x1).bind fun v13 =>
          if v13 = 0 then
            (m_X38_lay q11.1 x0 x1 11 7 100 4).bind fun q14 =>
            if 26 < x1 then
              (m_X38_lay q14.1 x0 x1 24 20 300 4).bind fun q15 =>
              (m_X38_seventhOf q15.1 x1).bind fun v16 =>
              (m_X38_fix q15.1 x0 x1 25 7 v16).bind fun q17 =>
              some (q17.1, 0)
            else
              (m_X38_isShift q14.1 x1).bind fun v18 =>
              if v18 = 0 then
                (m_X38_lay q14.1 x0 x1 31 20 400 11).bind fun q19 =>
                some (q19.1, 0)
              else
                (m_X38_lay q14.1 x0 x1 24 20 400 4).bind fun q20 =>
                (m_X38_seventhOf q20.1 x1).bind fun v21 =>
                (m_X38_fix q20.1 x0 x1 25 7 v21).bind fun q22 =>
                some (q22.1, 0)
          else
            (m_X38_lay q11.1 x0 x1 24 20 300 4).bind fun q23 =>
            (m_X38_lay q23.1 x0 x1 31 25 400 11).bind fun q24 =>
            (m_X38_lay q24.1 x0 x1 11 7 400 4).bind fun q25 =>
            some (q25.1, 0)
        else
          (m_X38_lay q11.1 x0 x1 24 20 300 4).bind fun q26 =>
          (m_X38_lay q26.1 x0 x1 31 31 400 12).bind fun q27 =>
          (m_X38_lay q27.1 x0 x1 30 25 400 10).bind fun q28 =>
          (m_X38_lay q28.1 x0 x1 11 8 400 4).bind fun q29 =>
          (m_X38_lay q29.1 x0 x1 7 7 400 11).bind fun q30 =>
          some (q30.1, 0)
  else
    some (s, 0)
noncomputable def m_X38_layLong : jS → Int → Int → Option (jS × Int) := Classical.choose (⟨dm_X38_layLong, rfl⟩ : ∃ f, f = dm_X38_layLong)
theorem em_X38_layLong : m_X38_layLong = dm_X38_layLong := Classical.choose_spec (⟨dm_X38_layLong, rfl⟩ : ∃ f, f = dm_X38_layLong)
def du_X38_layShort_787 (s : jS) (x0 : Int) : Option (jS × Int) :=
  (m_X38_ends s x0 74 6 2).bind fun q1 =>
  (m_X38_lay q1.1 x0 74 12 9 400 5).bind fun q2 =>
  (m_X38_lay q2.1 x0 74 8 7 400 7).bind fun q3 =>
  (m_X38_lay q3.1 x0 74 6 2 300 4).bind fun q4 =>
  some (q4.1, 0)
noncomputable def u_X38_layShort_787 : jS → Int → Option (jS × Int) := Classical.choose (⟨du_X38_layShort_787, rfl⟩ : ∃ f, f = du_X38_layShort_787)
theorem eu_X38_layShort_787 : u_X38_layShort_787 = du_X38_layShort_787 := Classical.choose_spec (⟨du_X38_layShort_787, rfl⟩ : ∃ f, f = du_X38_layShort_787)
def du_X38_layShort_781 (s : jS) (x0 x1 : Int) : Option ((jS × List Int) ⊕ (jS × Int)) :=
  some (.inl (s, [x0, W32 (x1 + 1)]))
noncomputable def u_X38_layShort_781 : jS → Int → Int → Option ((jS × List Int) ⊕ (jS × Int)) := Classical.choose (⟨du_X38_layShort_781, rfl⟩ : ∃ f, f = du_X38_layShort_781)
theorem eu_X38_layShort_781 : u_X38_layShort_781 = du_X38_layShort_781 := Classical.choose_spec (⟨du_X38_layShort_781, rfl⟩ : ∃ f, f = du_X38_layShort_781)
def du_X38_layShort_769 (s : jS) (x0 x1 : Int) : Option ((jS × List Int) ⊕ (jS × Int)) :=
  (m_X38_lay s x0 x1 6 2 300 4).bind fun q1 =>
  u_X38_layShort_781 q1.1 x0 x1
noncomputable def u_X38_layShort_769 : jS → Int → Int → Option ((jS × List Int) ⊕ (jS × Int)) := Classical.choose (⟨du_X38_layShort_769, rfl⟩ : ∃ f, f = du_X38_layShort_769)
theorem eu_X38_layShort_769 : u_X38_layShort_769 = du_X38_layShort_769 := Classical.choose_spec (⟨du_X38_layShort_769, rfl⟩ : ∃ f, f = du_X38_layShort_769)
def du_X38_layShort_757 (s : jS) (x0 x1 : Int) : Option ((jS × List Int) ⊕ (jS × Int)) :=
  if x1 = 70 then
    u_X38_layShort_769 s x0 x1
  else
    if x1 = 73 then
      u_X38_layShort_769 s x0 x1
    else
      u_X38_layShort_781 s x0 x1
noncomputable def u_X38_layShort_757 : jS → Int → Int → Option ((jS × List Int) ⊕ (jS × Int)) := Classical.choose (⟨du_X38_layShort_757, rfl⟩ : ∃ f, f = du_X38_layShort_757)
theorem eu_X38_layShort_757 : u_X38_layShort_757 = du_X38_layShort_757 := Classical.choose_spec (⟨du_X38_layShort_757, rfl⟩ : ∃ f, f = du_X38_layShort_757)
def du_X38_layShort_745 (s : jS) (x0 x1 : Int) : Option ((jS × List Int) ⊕ (jS × Int)) :=
  (m_X38_lay s x0 x1 11 7 100 4).bind fun q1 =>
  u_X38_layShort_757 q1.1 x0 x1
noncomputable def u_X38_layShort_745 : jS → Int → Int → Option ((jS × List Int) ⊕ (jS × Int)) := Classical.choose (⟨du_X38_layShort_745, rfl⟩ : ∃ f, f = du_X38_layShort_745)
theorem eu_X38_layShort_745 : u_X38_layShort_745 = du_X38_layShort_745 := Classical.choose_spec (⟨du_X38_layShort_745, rfl⟩ : ∃ f, f = du_X38_layShort_745)
def du_X38_layShort_733 (s : jS) (x0 x1 : Int) : Option ((jS × List Int) ⊕ (jS × Int)) :=
  if x1 = 70 then
    u_X38_layShort_745 s x0 x1
  else
    if x1 = 73 then
      u_X38_layShort_745 s x0 x1
    else
      u_X38_layShort_757 s x0 x1
noncomputable def u_X38_layShort_733 : jS → Int → Int → Option ((jS × List Int) ⊕ (jS × Int)) := Classical.choose (⟨du_X38_layShort_733, rfl⟩ : ∃ f, f = du_X38_layShort_733)
theorem eu_X38_layShort_733 : u_X38_layShort_733 = du_X38_layShort_733 := Classical.choose_spec (⟨du_X38_layShort_733, rfl⟩ : ∃ f, f = du_X38_layShort_733)
def du_X38_layShort_720 (s : jS) (x0 x1 : Int) : Option ((jS × List Int) ⊕ (jS × Int)) :=
  (m_X38_lay s x0 x1 11 7 200 4).bind fun q1 =>
  u_X38_layShort_733 q1.1 x0 x1
noncomputable def u_X38_layShort_720 : jS → Int → Int → Option ((jS × List Int) ⊕ (jS × Int)) := Classical.choose (⟨du_X38_layShort_720, rfl⟩ : ∃ f, f = du_X38_layShort_720)
theorem eu_X38_layShort_720 : u_X38_layShort_720 = du_X38_layShort_720 := Classical.choose_spec (⟨du_X38_layShort_720, rfl⟩ : ∃ f, f = du_X38_layShort_720)
def du_X38_layShort_705 (s : jS) (x0 x1 y0 y1 y2 y3 y4 : Int) : Option ((jS × List Int) ⊕ (jS × Int)) :=
  (m_X38_fix s y4 y3 y2 y1 y0).bind fun q1 =>
  if x1 = 69 then
    u_X38_layShort_720 q1.1 x0 x1
  else
    if x1 = 72 then
      u_X38_layShort_720 q1.1 x0 x1
    else
      u_X38_layShort_733 q1.1 x0 x1
noncomputable def u_X38_layShort_705 : jS → Int → Int → Int → Int → Int → Int → Int → Option ((jS × List Int) ⊕ (jS × Int)) := Classical.choose (⟨du_X38_layShort_705, rfl⟩ : ∃ f, f = du_X38_layShort_705)
theorem eu_X38_layShort_705 : u_X38_layShort_705 = du_X38_layShort_705 := Classical.choose_spec (⟨du_X38_layShort_705, rfl⟩ : ∃ f, f = du_X38_layShort_705)
def b_X38_layShort_676 (s : jS) (x0 x1 : Int) : Option ((jS × List Int) ⊕ (jS × Int)) :=
  if x1 < 74 then
    (m_X38_ends s x0 x1 4 2).bind fun q1 =>
    if 70 < x1 then
      u_X38_layShort_705 q1.1 x0 x1 1 1 12 x1 x0
    else
      u_X38_layShort_705 q1.1 x0 x1 0 1 12 x1 x0
  else
    jinr (u_X38_layShort_787 s x0)
def du_X38_layShort_676 (s : jS) (x0 x1 : Int) : Option (jS × Int) := jlpW (jc2 b_X38_layShort_676) [x0, x1] s
noncomputable def u_X38_layShort_676 : jS → Int → Int → Option (jS × Int) := Classical.choose (⟨du_X38_layShort_676, rfl⟩ : ∃ f, f = du_X38_layShort_676)
theorem eu_X38_layShort_676 : u_X38_layShort_676 = du_X38_layShort_676 := Classical.choose_spec (⟨du_X38_layShort_676, rfl⟩ : ∃ f, f = du_X38_layShort_676)
def du_X38_layShort_583 (s : jS) (x0 : Int) : Option (jS × Int) :=
  (m_X38_ends s x0 67 0 2).bind fun q1 =>
  (m_X38_lay q1.1 x0 67 11 7 100 4).bind fun q2 =>
  (m_X38_lay q2.1 x0 67 6 2 400 4).bind fun q3 =>
  (m_X38_ends q3.1 x0 68 2 2).bind fun q4 =>
  (m_X38_one q4.1 x0 68 12 5).bind fun q5 =>
  (m_X38_lay q5.1 x0 68 11 7 100 4).bind fun q6 =>
  (m_X38_lay q6.1 x0 68 6 4 400 4).bind fun q7 =>
  (m_X38_lay q7.1 x0 68 3 2 400 7).bind fun q8 =>
  u_X38_layShort_676 q8.1 x0 69
noncomputable def u_X38_layShort_583 : jS → Int → Option (jS × Int) := Classical.choose (⟨du_X38_layShort_583, rfl⟩ : ∃ f, f = du_X38_layShort_583)
theorem eu_X38_layShort_583 : u_X38_layShort_583 = du_X38_layShort_583 := Classical.choose_spec (⟨du_X38_layShort_583, rfl⟩ : ∃ f, f = du_X38_layShort_583)
def du_X38_layShort_507 (s : jS) (x0 x1 y0 y1 y2 : Int) : Option ((jS × List Int) ⊕ (jS × Int)) :=
  (m_X38_ends s y2 y1 y0 1).bind fun q1 =>
  (m_X38_one q1.1 x0 x1 12 8).bind fun q2 =>
  (m_X38_lay q2.1 x0 x1 11 10 400 4).bind fun q3 =>
  (m_X38_lay q3.1 x0 x1 9 7 600 2).bind fun q4 =>
  (m_X38_lay q4.1 x0 x1 6 5 400 7).bind fun q5 =>
  (m_X38_lay q5.1 x0 x1 4 3 400 2).bind fun q6 =>
  (m_X38_one q6.1 x0 x1 2 5).bind fun q7 =>
  some (.inl (q7.1, [x0, W32 (x1 + 1)]))
noncomputable def u_X38_layShort_507 : jS → Int → Int → Int → Int → Int → Option ((jS × List Int) ⊕ (jS × Int)) := Classical.choose (⟨du_X38_layShort_507, rfl⟩ : ∃ f, f = du_X38_layShort_507)
theorem eu_X38_layShort_507 : u_X38_layShort_507 = du_X38_layShort_507 := Classical.choose_spec (⟨du_X38_layShort_507, rfl⟩ : ∃ f, f = du_X38_layShort_507)
def b_X38_layShort_486 (s : jS) (x0 x1 : Int) : Option ((jS × List Int) ⊕ (jS × Int)) :=
  if x1 < 67 then
    if x1 = 65 then
      u_X38_layShort_507 s x0 x1 6 x1 x0
    else
      u_X38_layShort_507 s x0 x1 7 x1 x0
  else
    jinr (u_X38_layShort_583 s x0)
def du_X38_layShort_486 (s : jS) (x0 x1 : Int) : Option (jS × Int) := jlpW (jc2 b_X38_layShort_486) [x0, x1] s
noncomputable def u_X38_layShort_486 : jS → Int → Int → Option (jS × Int) := Classical.choose (⟨du_X38_layShort_486, rfl⟩ : ∃ f, f = du_X38_layShort_486)
theorem eu_X38_layShort_486 : u_X38_layShort_486 = du_X38_layShort_486 := Classical.choose_spec (⟨du_X38_layShort_486, rfl⟩ : ∃ f, f = du_X38_layShort_486)
def du_X38_layShort_483 (s : jS) (x0 : Int) : Option (jS × Int) :=
  u_X38_layShort_486 s x0 65
noncomputable def u_X38_layShort_483 : jS → Int → Option (jS × Int) := Classical.choose (⟨du_X38_layShort_483, rfl⟩ : ∃ f, f = du_X38_layShort_483)
theorem eu_X38_layShort_483 : u_X38_layShort_483 = du_X38_layShort_483 := Classical.choose_spec (⟨du_X38_layShort_483, rfl⟩ : ∃ f, f = du_X38_layShort_483)
def b_X38_layShort_420 (s : jS) (x0 x1 : Int) : Option ((jS × List Int) ⊕ (jS × Int)) :=
  if x1 < 64 then
    (m_X38_ends s x0 x1 4 1).bind fun q1 =>
    (m_X38_fix q1.1 x0 x1 10 3 3).bind fun q2 =>
    (m_X38_lay q2.1 x0 x1 9 7 500 2).bind fun q3 =>
    (m_X38_fix q3.1 x0 x1 5 2 (W32 (x1 - 60))).bind fun q4 =>
    (m_X38_lay q4.1 x0 x1 4 2 700 2).bind fun q5 =>
    some (.inl (q5.1, [x0, W32 (x1 + 1)]))
  else
    jinr (u_X38_layShort_483 s x0)
def du_X38_layShort_420 (s : jS) (x0 x1 : Int) : Option (jS × Int) := jlpW (jc2 b_X38_layShort_420) [x0, x1] s
noncomputable def u_X38_layShort_420 : jS → Int → Int → Option (jS × Int) := Classical.choose (⟨du_X38_layShort_420, rfl⟩ : ∃ f, f = du_X38_layShort_420)
theorem eu_X38_layShort_420 : u_X38_layShort_420 = du_X38_layShort_420 := Classical.choose_spec (⟨du_X38_layShort_420, rfl⟩ : ∃ f, f = du_X38_layShort_420)
def du_X38_layShort_417 (s : jS) (x0 : Int) : Option (jS × Int) :=
  u_X38_layShort_420 s x0 60
noncomputable def u_X38_layShort_417 : jS → Int → Option (jS × Int) := Classical.choose (⟨du_X38_layShort_417, rfl⟩ : ∃ f, f = du_X38_layShort_417)
theorem eu_X38_layShort_417 : u_X38_layShort_417 = du_X38_layShort_417 := Classical.choose_spec (⟨du_X38_layShort_417, rfl⟩ : ∃ f, f = du_X38_layShort_417)
def du_X38_layShort_386 (s : jS) (x0 x1 : Int) : Option ((jS × List Int) ⊕ (jS × Int)) :=
  (m_X38_lay s x0 x1 9 7 500 2).bind fun q1 =>
  (m_X38_lay q1.1 x0 x1 6 2 400 4).bind fun q2 =>
  some (.inl (q2.1, [x0, W32 (x1 + 1)]))
noncomputable def u_X38_layShort_386 : jS → Int → Int → Option ((jS × List Int) ⊕ (jS × Int)) := Classical.choose (⟨du_X38_layShort_386, rfl⟩ : ∃ f, f = du_X38_layShort_386)
theorem eu_X38_layShort_386 : u_X38_layShort_386 = du_X38_layShort_386 := Classical.choose_spec (⟨du_X38_layShort_386, rfl⟩ : ∃ f, f = du_X38_layShort_386)
def b_X38_layShort_347 (s : jS) (x0 x1 : Int) : Option ((jS × List Int) ⊕ (jS × Int)) :=
  if x1 < 60 then
    (m_X38_ends s x0 x1 4 1).bind fun q1 =>
    (m_X38_fix q1.1 x0 x1 10 3 (W32 (x1 - 57))).bind fun q2 =>
    if x1 = 59 then
      (m_X38_one q2.1 x0 x1 12 5).bind fun q3 =>
      u_X38_layShort_386 q3.1 x0 x1
    else
      u_X38_layShort_386 q2.1 x0 x1
  else
    jinr (u_X38_layShort_417 s x0)
def du_X38_layShort_347 (s : jS) (x0 x1 : Int) : Option (jS × Int) := jlpW (jc2 b_X38_layShort_347) [x0, x1] s
noncomputable def u_X38_layShort_347 : jS → Int → Int → Option (jS × Int) := Classical.choose (⟨du_X38_layShort_347, rfl⟩ : ∃ f, f = du_X38_layShort_347)
theorem eu_X38_layShort_347 : u_X38_layShort_347 = du_X38_layShort_347 := Classical.choose_spec (⟨du_X38_layShort_347, rfl⟩ : ∃ f, f = du_X38_layShort_347)
def du_X38_layShort_263 (s : jS) (x0 : Int) : Option (jS × Int) :=
  (m_X38_layJump s x0 53 1).bind fun q1 =>
  (m_X38_layJump q1.1 x0 64 5).bind fun q2 =>
  (m_X38_ends q2.1 x0 55 3 1).bind fun q3 =>
  (m_X38_one q3.1 x0 55 12 9).bind fun q4 =>
  (m_X38_fix q4.1 x0 55 7 5 2).bind fun q5 =>
  (m_X38_one q5.1 x0 55 6 4).bind fun q6 =>
  (m_X38_one q6.1 x0 55 5 6).bind fun q7 =>
  (m_X38_lay q7.1 x0 55 4 3 400 8).bind fun q8 =>
  (m_X38_one q8.1 x0 55 2 5).bind fun q9 =>
  u_X38_layShort_347 q9.1 x0 57
noncomputable def u_X38_layShort_263 : jS → Int → Option (jS × Int) := Classical.choose (⟨du_X38_layShort_263, rfl⟩ : ∃ f, f = du_X38_layShort_263)
theorem eu_X38_layShort_263 : u_X38_layShort_263 = du_X38_layShort_263 := Classical.choose_spec (⟨du_X38_layShort_263, rfl⟩ : ∃ f, f = du_X38_layShort_263)
def du_X38_layShort_257 (s : jS) (x0 x1 : Int) : Option ((jS × List Int) ⊕ (jS × Int)) :=
  some (.inl (s, [x0, W32 (x1 + 1)]))
noncomputable def u_X38_layShort_257 : jS → Int → Int → Option ((jS × List Int) ⊕ (jS × Int)) := Classical.choose (⟨du_X38_layShort_257, rfl⟩ : ∃ f, f = du_X38_layShort_257)
theorem eu_X38_layShort_257 : u_X38_layShort_257 = du_X38_layShort_257 := Classical.choose_spec (⟨du_X38_layShort_257, rfl⟩ : ∃ f, f = du_X38_layShort_257)
def du_X38_layShort_221 (s : jS) (x0 x1 y0 y1 y2 : Int) : Option ((jS × List Int) ⊕ (jS × Int)) :=
  (m_X38_ends s y2 y1 y0 1).bind fun q1 =>
  (m_X38_one q1.1 x0 x1 12 5).bind fun q2 =>
  (m_X38_lay q2.1 x0 x1 11 7 100 4).bind fun q3 =>
  (m_X38_lay q3.1 x0 x1 6 2 400 4).bind fun q4 =>
  u_X38_layShort_257 q4.1 x0 x1
noncomputable def u_X38_layShort_221 : jS → Int → Int → Int → Int → Int → Option ((jS × List Int) ⊕ (jS × Int)) := Classical.choose (⟨du_X38_layShort_221, rfl⟩ : ∃ f, f = du_X38_layShort_221)
theorem eu_X38_layShort_221 : u_X38_layShort_221 = du_X38_layShort_221 := Classical.choose_spec (⟨du_X38_layShort_221, rfl⟩ : ∃ f, f = du_X38_layShort_221)
def b_X38_layShort_177 (s : jS) (x0 x1 : Int) : Option ((jS × List Int) ⊕ (jS × Int)) :=
  if x1 < 57 then
    if x1 = 53 then
      u_X38_layShort_257 s x0 x1
    else
      if x1 = 55 then
        u_X38_layShort_257 s x0 x1
      else
        if x1 = 52 then
          u_X38_layShort_221 s x0 x1 0 x1 x0
        else
          if x1 = 54 then
            u_X38_layShort_221 s x0 x1 2 x1 x0
          else
            u_X38_layShort_221 s x0 x1 3 x1 x0
  else
    jinr (u_X38_layShort_263 s x0)
def du_X38_layShort_177 (s : jS) (x0 x1 : Int) : Option (jS × Int) := jlpW (jc2 b_X38_layShort_177) [x0, x1] s
noncomputable def u_X38_layShort_177 : jS → Int → Int → Option (jS × Int) := Classical.choose (⟨du_X38_layShort_177, rfl⟩ : ∃ f, f = du_X38_layShort_177)
theorem eu_X38_layShort_177 : u_X38_layShort_177 = du_X38_layShort_177 := Classical.choose_spec (⟨du_X38_layShort_177, rfl⟩ : ∃ f, f = du_X38_layShort_177)
def du_X38_layShort_164 (s : jS) (x0 : Int) : Option (jS × Int) :=
  (m_X38_fix s x0 51 0 16 1).bind fun q1 =>
  u_X38_layShort_177 q1.1 x0 52
noncomputable def u_X38_layShort_164 : jS → Int → Option (jS × Int) := Classical.choose (⟨du_X38_layShort_164, rfl⟩ : ∃ f, f = du_X38_layShort_164)
theorem eu_X38_layShort_164 : u_X38_layShort_164 = du_X38_layShort_164 := Classical.choose_spec (⟨du_X38_layShort_164, rfl⟩ : ∃ f, f = du_X38_layShort_164)
def du_X38_layShort_154 (s : jS) (x0 x1 y0 y1 y2 y3 y4 : Int) : Option ((jS × List Int) ⊕ (jS × Int)) :=
  (m_X38_lay s y4 y3 y2 y1 y0 2).bind fun q1 =>
  some (.inl (q1.1, [x0, W32 (x1 + 1)]))
noncomputable def u_X38_layShort_154 : jS → Int → Int → Int → Int → Int → Int → Int → Option ((jS × List Int) ⊕ (jS × Int)) := Classical.choose (⟨du_X38_layShort_154, rfl⟩ : ∃ f, f = du_X38_layShort_154)
theorem eu_X38_layShort_154 : u_X38_layShort_154 = du_X38_layShort_154 := Classical.choose_spec (⟨du_X38_layShort_154, rfl⟩ : ∃ f, f = du_X38_layShort_154)
def du_X38_layShort_89 (s : jS) (x0 x1 y0 y1 y2 : Int) : Option ((jS × List Int) ⊕ (jS × Int)) :=
  (m_X38_ends s y2 y1 y0 0).bind fun q1 =>
  (m_X38_lay q1.1 x0 x1 12 10 400 5).bind fun q2 =>
  (m_X38_lay q2.1 x0 x1 9 7 600 2).bind fun q3 =>
  (m_X38_one q3.1 x0 x1 6 2).bind fun q4 =>
  (m_X38_one q4.1 x0 x1 5 6).bind fun q5 =>
  if x1 = 49 then
    u_X38_layShort_154 q5.1 x0 x1 500 2 4 x1 x0
  else
    u_X38_layShort_154 q5.1 x0 x1 700 2 4 x1 x0
noncomputable def u_X38_layShort_89 : jS → Int → Int → Int → Int → Int → Option ((jS × List Int) ⊕ (jS × Int)) := Classical.choose (⟨du_X38_layShort_89, rfl⟩ : ∃ f, f = du_X38_layShort_89)
theorem eu_X38_layShort_89 : u_X38_layShort_89 = du_X38_layShort_89 := Classical.choose_spec (⟨du_X38_layShort_89, rfl⟩ : ∃ f, f = du_X38_layShort_89)
def b_X38_layShort_69 (s : jS) (x0 x1 : Int) : Option ((jS × List Int) ⊕ (jS × Int)) :=
  if x1 < 51 then
    if x1 = 49 then
      u_X38_layShort_89 s x0 x1 2 x1 x0
    else
      u_X38_layShort_89 s x0 x1 6 x1 x0
  else
    jinr (u_X38_layShort_164 s x0)
def du_X38_layShort_69 (s : jS) (x0 x1 : Int) : Option (jS × Int) := jlpW (jc2 b_X38_layShort_69) [x0, x1] s
noncomputable def u_X38_layShort_69 : jS → Int → Int → Option (jS × Int) := Classical.choose (⟨du_X38_layShort_69, rfl⟩ : ∃ f, f = du_X38_layShort_69)
theorem eu_X38_layShort_69 : u_X38_layShort_69 = du_X38_layShort_69 := Classical.choose_spec (⟨du_X38_layShort_69, rfl⟩ : ∃ f, f = du_X38_layShort_69)
def dm_X38_layShort (s : jS) (x0 : Int) : Option (jS × Int) :=
  (m_X38_ends s x0 48 0 0).bind fun q1 =>
  (m_X38_lay q1.1 x0 48 12 11 400 5).bind fun q2 =>
  (m_X38_lay q2.1 x0 48 10 7 400 9).bind fun q3 =>
  (m_X38_one q3.1 x0 48 6 2).bind fun q4 =>
  (m_X38_one q4.1 x0 48 5 3).bind fun q5 =>
  (m_X38_lay q5.1 x0 48 4 2 500 2).bind fun q6 =>
  u_X38_layShort_69 q6.1 x0 49
noncomputable def m_X38_layShort : jS → Int → Option (jS × Int) := Classical.choose (⟨dm_X38_layShort, rfl⟩ : ∃ f, f = dm_X38_layShort)
theorem em_X38_layShort : m_X38_layShort = dm_X38_layShort := Classical.choose_spec (⟨dm_X38_layShort, rfl⟩ : ∃ f, f = dm_X38_layShort)
def b_X38_named_104 (s : jS) (x5 x8 : Int) : Option ((jS × List Int) ⊕ (jS × Int)) :=
  if x8 < 75 then
    (m_X38_nameOf s x8).bind fun v1 =>
    if (L_cmp v1 x5) = 0 then
      jinr (some (s, x8))
    else
      some (.inl (s, [x5, W32 (x8 + 1)]))
  else
    jinr (some (s, (-1)))
def du_X38_named_104 (s : jS) (x5 x8 : Int) : Option (jS × Int) := jlpW (jc2 b_X38_named_104) [x5, x8] s
noncomputable def u_X38_named_104 : jS → Int → Int → Option (jS × Int) := Classical.choose (⟨du_X38_named_104, rfl⟩ : ∃ f, f = du_X38_named_104)
theorem eu_X38_named_104 : u_X38_named_104 = du_X38_named_104 := Classical.choose_spec (⟨du_X38_named_104, rfl⟩ : ∃ f, f = du_X38_named_104)
def du_X38_named_101 (s : jS) (x5 : Int) : Option (jS × Int) :=
  u_X38_named_104 s x5 0
noncomputable def u_X38_named_101 : jS → Int → Option (jS × Int) := Classical.choose (⟨du_X38_named_101, rfl⟩ : ∃ f, f = du_X38_named_101)
theorem eu_X38_named_101 : u_X38_named_101 = du_X38_named_101 := Classical.choose_spec (⟨du_X38_named_101, rfl⟩ : ∃ f, f = du_X38_named_101)
def du_X38_named_95 (s : jS) (x1 x3 x5 x7 x8 : Int) : Option ((jS × List Int) ⊕ (jS × Int)) :=
  some (.inl (s, [x1, x3, x5, x7, W32 (x8 + 1)]))
noncomputable def u_X38_named_95 : jS → Int → Int → Int → Int → Int → Option ((jS × List Int) ⊕ (jS × Int)) := Classical.choose (⟨du_X38_named_95, rfl⟩ : ∃ f, f = du_X38_named_95)
theorem eu_X38_named_95 : u_X38_named_95 = du_X38_named_95 := Classical.choose_spec (⟨du_X38_named_95, rfl⟩ : ∃ f, f = du_X38_named_95)
def du_X38_named_33 (s : jS) (x1 x3 x5 x7 x8 y0 : Int) : Option ((jS × List Int) ⊕ (jS × Int)) :=
  (jdv 8 (I_rem x8 8)).bind fun v1 =>
  jlet (L2i (L_and (L_shr y0 (W32 (56 - (W32 (8 * v1))))) 255)) fun v2 =>
  if v2 = 0 then
    u_X38_named_95 s x1 x3 x5 x7 x8
  else
    (m_X38_codeOf s v2).bind fun v3 =>
    if v3 = 0 then
      jinr (some (s, (-1)))
    else
      if x7 = 11 then
        jinr (some (s, (-1)))
      else
        (m_X38_codeOf s v2).bind fun v4 =>
        jlet (W64 ((W64 (40 * x5)) + v4)) fun v5 =>
        u_X38_named_95 s x1 x3 v5 (W32 (x7 + 1)) x8
noncomputable def u_X38_named_33 : jS → Int → Int → Int → Int → Int → Int → Option ((jS × List Int) ⊕ (jS × Int)) := Classical.choose (⟨du_X38_named_33, rfl⟩ : ∃ f, f = du_X38_named_33)
theorem eu_X38_named_33 : u_X38_named_33 = du_X38_named_33 := Classical.choose_spec (⟨du_X38_named_33, rfl⟩ : ∃ f, f = du_X38_named_33)
def b_X38_named_14 (s : jS) (x1 x3 x5 x7 x8 : Int) : Option ((jS × List Int) ⊕ (jS × Int)) :=
  if x8 < 16 then
    if x8 < 8 then
      u_X38_named_33 s x1 x3 x5 x7 x8 x1
    else
      u_X38_named_33 s x1 x3 x5 x7 x8 x3
  else
    jinr (u_X38_named_101 s x5)
def du_X38_named_14 (s : jS) (x1 x3 x5 x7 x8 : Int) : Option (jS × Int) := jlpW (jc5 b_X38_named_14) [x1, x3, x5, x7, x8] s
noncomputable def u_X38_named_14 : jS → Int → Int → Int → Int → Int → Option (jS × Int) := Classical.choose (⟨du_X38_named_14, rfl⟩ : ∃ f, f = du_X38_named_14)
theorem eu_X38_named_14 : u_X38_named_14 = du_X38_named_14 := Classical.choose_spec (⟨du_X38_named_14, rfl⟩ : ∃ f, f = du_X38_named_14)
def dm_X38_named (s : jS) (x0 x1 x3 : Int) : Option (jS × Int) :=
  jls (jp s 42 x0 0 0) fun s1 =>
  u_X38_named_14 s1 x1 x3 0 0 0
noncomputable def m_X38_named : jS → Int → Int → Int → Option (jS × Int) := Classical.choose (⟨dm_X38_named, rfl⟩ : ∃ f, f = dm_X38_named)
theorem em_X38_named : m_X38_named = dm_X38_named := Classical.choose_spec (⟨dm_X38_named, rfl⟩ : ∃ f, f = dm_X38_named)
def du_X38_has_62 (s : jS) (x0 x1 x2 x3 : Int) : Option (List Int ⊕ (Int)) :=
  some (.inl [x0, x1, x2, W32 (x3 + 1)])
noncomputable def u_X38_has_62 : jS → Int → Int → Int → Int → Option (List Int ⊕ (Int)) := Classical.choose (⟨du_X38_has_62, rfl⟩ : ∃ f, f = du_X38_has_62)
theorem eu_X38_has_62 : u_X38_has_62 = du_X38_has_62 := Classical.choose_spec (⟨du_X38_has_62, rfl⟩ : ∃ f, f = du_X38_has_62)
def du_X38_has_56 (s : jS) (x0 x1 x2 x3 y0 : Int) : Option (List Int ⊕ (Int)) :=
  if y0 = x2 then
    jinr (some (Wz 1))
  else
    u_X38_has_62 s x0 x1 x2 x3
noncomputable def u_X38_has_56 : jS → Int → Int → Int → Int → Int → Option (List Int ⊕ (Int)) := Classical.choose (⟨du_X38_has_56, rfl⟩ : ∃ f, f = du_X38_has_56)
theorem eu_X38_has_56 : u_X38_has_56 = du_X38_has_56 := Classical.choose_spec (⟨du_X38_has_56, rfl⟩ : ∃ f, f = du_X38_has_56)
def b_X38_has_5 (s : jS) (x0 x1 x2 x3 : Int) : Option (List Int ⊕ (Int)) :=
  (m_X38_bitsOf s x1).bind fun v1 =>
  if x3 < (W32 ((W32 (32 * x1)) + v1)) then
    (jlt s 1000 (x0 + 1) 2400 x3).bind fun v2 =>
    (jdv 100 (I_div v2 100)).bind fun v3 =>
    jlet (W32 (v3 - 1)) fun v4 =>
    (jlt s 1000 (x0 + 1) 2400 x3).bind fun v5 =>
    if 1 < v5 then
      if 3 < v4 then
        u_X38_has_56 s x0 x1 x2 x3 (W32 (v4 - 4))
      else
        u_X38_has_56 s x0 x1 x2 x3 v4
    else
      u_X38_has_62 s x0 x1 x2 x3
  else
    jinr (some (Wz 0))
def du_X38_has_5 (s : jS) (x0 x1 x2 x3 : Int) : Option (Int) := jlpR (jc4 b_X38_has_5) [x0, x1, x2, x3] s
noncomputable def u_X38_has_5 : jS → Int → Int → Int → Int → Option (Int) := Classical.choose (⟨du_X38_has_5, rfl⟩ : ∃ f, f = du_X38_has_5)
theorem eu_X38_has_5 : u_X38_has_5 = du_X38_has_5 := Classical.choose_spec (⟨du_X38_has_5, rfl⟩ : ∃ f, f = du_X38_has_5)
def dm_X38_has (s : jS) (x0 x1 x2 : Int) : Option (Int) :=
  jlet (W32 (32 * x1)) fun v1 =>
  u_X38_has_5 s x0 x1 x2 v1
noncomputable def m_X38_has : jS → Int → Int → Int → Option (Int) := Classical.choose (⟨dm_X38_has, rfl⟩ : ∃ f, f = dm_X38_has)
theorem em_X38_has : m_X38_has = dm_X38_has := Classical.choose_spec (⟨dm_X38_has, rfl⟩ : ∃ f, f = dm_X38_has)
def dm_X38_isRegister (s : jS) (x0 x1 x2 x3 : Int) : Option (Int) :=
  (m_X38_isShortPart s x0 x1 x2).bind fun v1 =>
  if v1 = 0 then
    if x3 < 0 then
      some (Wz 0)
    else
      if 31 < x3 then
        some (Wz 0)
      else
        if x1 < 48 then
          some (Wz 1)
        else
          if x1 = 74 then
            some (Wz 1)
          else
            if x3 = 0 then
              some (Wz 0)
            else
              if x1 = 56 then
                if x3 = 2 then
                  some (Wz 0)
                else
                  some (Wz 1)
              else
                some (Wz 1)
  else
    if x3 < 8 then
      some (Wz 0)
    else
      if x3 < 16 then
        some (Wz 1)
      else
        some (Wz 0)
noncomputable def m_X38_isRegister : jS → Int → Int → Int → Int → Option (Int) := Classical.choose (⟨dm_X38_isRegister, rfl⟩ : ∃ f, f = dm_X38_isRegister)
theorem em_X38_isRegister : m_X38_isRegister = dm_X38_isRegister := Classical.choose_spec (⟨dm_X38_isRegister, rfl⟩ : ∃ f, f = dm_X38_isRegister)
def du_X38_isImmediate_346 (s : jS) (x1 : Int) : Option (Int) :=
  (m_X38_isStep s x1 0 252 4).bind fun v1 =>
  some (Wz v1)
noncomputable def u_X38_isImmediate_346 : jS → Int → Option (Int) := Classical.choose (⟨du_X38_isImmediate_346, rfl⟩ : ∃ f, f = du_X38_isImmediate_346)
theorem eu_X38_isImmediate_346 : u_X38_isImmediate_346 = du_X38_isImmediate_346 := Classical.choose_spec (⟨du_X38_isImmediate_346, rfl⟩ : ∃ f, f = du_X38_isImmediate_346)
def du_X38_isImmediate_332 (s : jS) (x1 : Int) : Option (Int) :=
  (m_X38_isStep s x1 (-256) 254 2).bind fun v1 =>
  some (Wz v1)
noncomputable def u_X38_isImmediate_332 : jS → Int → Option (Int) := Classical.choose (⟨du_X38_isImmediate_332, rfl⟩ : ∃ f, f = du_X38_isImmediate_332)
theorem eu_X38_isImmediate_332 : u_X38_isImmediate_332 = du_X38_isImmediate_332 := Classical.choose_spec (⟨du_X38_isImmediate_332, rfl⟩ : ∃ f, f = du_X38_isImmediate_332)
def du_X38_isImmediate_322 (s : jS) (x1 : Int) : Option (Int) :=
  (m_X38_isStep s x1 1 31 1).bind fun v1 =>
  some (Wz v1)
noncomputable def u_X38_isImmediate_322 : jS → Int → Option (Int) := Classical.choose (⟨du_X38_isImmediate_322, rfl⟩ : ∃ f, f = du_X38_isImmediate_322)
theorem eu_X38_isImmediate_322 : u_X38_isImmediate_322 = du_X38_isImmediate_322 := Classical.choose_spec (⟨du_X38_isImmediate_322, rfl⟩ : ∃ f, f = du_X38_isImmediate_322)
def du_X38_isImmediate_250 (s : jS) (x1 : Int) : Option (Int) :=
  (m_X38_isStep s x1 (-32) 31 1).bind fun v1 =>
  some (Wz v1)
noncomputable def u_X38_isImmediate_250 : jS → Int → Option (Int) := Classical.choose (⟨du_X38_isImmediate_250, rfl⟩ : ∃ f, f = du_X38_isImmediate_250)
theorem eu_X38_isImmediate_250 : u_X38_isImmediate_250 = du_X38_isImmediate_250 := Classical.choose_spec (⟨du_X38_isImmediate_250, rfl⟩ : ∃ f, f = du_X38_isImmediate_250)
def du_X38_isImmediate_236 (s : jS) (x1 : Int) : Option (Int) :=
  (m_X38_isStep s x1 (-2048) 2046 2).bind fun v1 =>
  some (Wz v1)
noncomputable def u_X38_isImmediate_236 : jS → Int → Option (Int) := Classical.choose (⟨du_X38_isImmediate_236, rfl⟩ : ∃ f, f = du_X38_isImmediate_236)
theorem eu_X38_isImmediate_236 : u_X38_isImmediate_236 = du_X38_isImmediate_236 := Classical.choose_spec (⟨du_X38_isImmediate_236, rfl⟩ : ∃ f, f = du_X38_isImmediate_236)
def du_X38_isImmediate_198 (s : jS) (x1 : Int) : Option (Int) :=
  (m_X38_isStep s x1 0 124 4).bind fun v1 =>
  some (Wz v1)
noncomputable def u_X38_isImmediate_198 : jS → Int → Option (Int) := Classical.choose (⟨du_X38_isImmediate_198, rfl⟩ : ∃ f, f = du_X38_isImmediate_198)
theorem eu_X38_isImmediate_198 : u_X38_isImmediate_198 = du_X38_isImmediate_198 := Classical.choose_spec (⟨du_X38_isImmediate_198, rfl⟩ : ∃ f, f = du_X38_isImmediate_198)
def dm_X38_isImmediate (s : jS) (x0 x1 : Int) : Option (Int) :=
  if x0 < 2 then
    (m_X38_isStep s x1 0 1048575 1).bind fun v1 =>
    some (Wz v1)
  else
    if x0 = 2 then
      (m_X38_isStep s x1 (-1048576) 1048574 2).bind fun v2 =>
      some (Wz v2)
    else
      (m_X38_isBranch s x0).bind fun v3 =>
      if v3 = 0 then
        (m_X38_isShift s x0).bind fun v4 =>
        if v4 = 0 then
          if x0 < 48 then
            (m_X38_isStep s x1 (-2048) 2047 1).bind fun v5 =>
            some (Wz v5)
          else
            if x0 = 48 then
              (m_X38_isStep s x1 4 1020 4).bind fun v6 =>
              some (Wz v6)
            else
            if x0 = 49 then
              u_X38_isImmediate_198 s x1
            else
            if x0 = 50 then
              u_X38_isImmediate_198 s x1
            else
            if x0 = 51 then
              u_X38_isImmediate_346 s x1
            else
            if x0 = 52 then
              if (L_cmp x1 0) = 0 then
                some (Wz 0)
              else
                (m_X38_isStep s x1 (-32) 31 1).bind fun v7 =>
                if v7 = 0 then
                  some (Wz 0)
                else
                  some (Wz 1)
            else
            if x0 = 53 then
              u_X38_isImmediate_236 s x1
            else
            if x0 = 54 then
              u_X38_isImmediate_250 s x1
            else
            if x0 = 55 then
              if (L_cmp x1 0) = 0 then
                some (Wz 0)
              else
                (m_X38_isStep s x1 (-512) 496 16).bind fun v8 =>
                if v8 = 0 then
                  some (Wz 0)
                else
                  some (Wz 1)
            else
            if x0 = 56 then
              (m_X38_isStep s x1 1 31 1).bind fun v9 =>
              if v9 = 0 then
                (m_X38_isStep s x1 1048544 1048575 1).bind fun v10 =>
                if v10 = 0 then
                  some (Wz 0)
                else
                  some (Wz 1)
              else
                some (Wz 1)
            else
            if x0 = 57 then
              u_X38_isImmediate_322 s x1
            else
            if x0 = 58 then
              u_X38_isImmediate_322 s x1
            else
            if x0 = 59 then
              u_X38_isImmediate_250 s x1
            else
            if x0 = 60 then
              u_X38_isImmediate_346 s x1
            else
            if x0 = 61 then
              u_X38_isImmediate_346 s x1
            else
            if x0 = 62 then
              u_X38_isImmediate_346 s x1
            else
            if x0 = 63 then
              u_X38_isImmediate_346 s x1
            else
            if x0 = 64 then
              u_X38_isImmediate_236 s x1
            else
            if x0 = 65 then
              u_X38_isImmediate_332 s x1
            else
            if x0 = 66 then
              u_X38_isImmediate_332 s x1
            else
            if x0 = 67 then
              u_X38_isImmediate_322 s x1
            else
            u_X38_isImmediate_346 s x1
        else
          (m_X38_isStep s x1 0 31 1).bind fun v11 =>
          some (Wz v11)
      else
        (m_X38_isStep s x1 (-4096) 4094 2).bind fun v12 =>
        some (Wz v12)
noncomputable def m_X38_isImmediate : jS → Int → Int → Option (Int) := Classical.choose (⟨dm_X38_isImmediate, rfl⟩ : ∃ f, f = dm_X38_isImmediate)
theorem em_X38_isImmediate : m_X38_isImmediate = dm_X38_isImmediate := Classical.choose_spec (⟨dm_X38_isImmediate, rfl⟩ : ∃ f, f = dm_X38_isImmediate)
def du_X38_about_52 (s : jS) (x1 x2 x3 : Int) : Option (jS × Int) :=
  if x2 = 0 then
    (m_X38_patternOf s x1).bind fun v1 =>
    some (s, v1)
  else
  if x2 = 1 then
    some (s, x3)
  else
  if x2 = 2 then
    if x1 < 48 then
      some (s, 4)
    else
      some (s, 2)
  else
  if x2 = 3 then
    (m_X38_nameOf s x1).bind fun v2 =>
    (m_X38_lettersOf s v2).bind fun v3 =>
    some (s, v3)
  else
  some (s, (-1))
noncomputable def u_X38_about_52 : jS → Int → Int → Int → Option (jS × Int) := Classical.choose (⟨du_X38_about_52, rfl⟩ : ∃ f, f = du_X38_about_52)
theorem eu_X38_about_52 : u_X38_about_52 = du_X38_about_52 := Classical.choose_spec (⟨du_X38_about_52, rfl⟩ : ∃ f, f = du_X38_about_52)
def du_X38_about_44 (s : jS) (x0 x1 x2 x4 y0 y1 : Int) : Option ((jS × List Int) ⊕ (jS × Int)) :=
  jlet (W32 (y1 + y0)) fun v1 =>
  some (.inl (s, [x0, x1, x2, v1, W32 (x4 + 1)]))
noncomputable def u_X38_about_44 : jS → Int → Int → Int → Int → Int → Int → Option ((jS × List Int) ⊕ (jS × Int)) := Classical.choose (⟨du_X38_about_44, rfl⟩ : ∃ f, f = du_X38_about_44)
theorem eu_X38_about_44 : u_X38_about_44 = du_X38_about_44 := Classical.choose_spec (⟨du_X38_about_44, rfl⟩ : ∃ f, f = du_X38_about_44)
def b_X38_about_19 (s : jS) (x0 x1 x2 x3 x4 : Int) : Option ((jS × List Int) ⊕ (jS × Int)) :=
  if x4 < 4 then
    (m_X38_has s x0 x1 x4).bind fun v1 =>
    if v1 = 0 then
      u_X38_about_44 s x0 x1 x2 x4 0 x3
    else
      u_X38_about_44 s x0 x1 x2 x4 (I_shl 1 x4) x3
  else
    jinr (u_X38_about_52 s x1 x2 x3)
def du_X38_about_19 (s : jS) (x0 x1 x2 x3 x4 : Int) : Option (jS × Int) := jlpW (jc5 b_X38_about_19) [x0, x1, x2, x3, x4] s
noncomputable def u_X38_about_19 : jS → Int → Int → Int → Int → Int → Option (jS × Int) := Classical.choose (⟨du_X38_about_19, rfl⟩ : ∃ f, f = du_X38_about_19)
theorem eu_X38_about_19 : u_X38_about_19 = du_X38_about_19 := Classical.choose_spec (⟨du_X38_about_19, rfl⟩ : ∃ f, f = du_X38_about_19)
def dm_X38_about (s : jS) (x0 x1 x2 : Int) : Option (jS × Int) :=
  jls (jp s 42 x0 0 0) fun s1 =>
  (m_X38_isKind s1 x1).bind fun v2 =>
  if v2 = 0 then
    some (s1, (-1))
  else
    u_X38_about_19 s1 x0 x1 x2 0 0
noncomputable def m_X38_about : jS → Int → Int → Int → Option (jS × Int) := Classical.choose (⟨dm_X38_about, rfl⟩ : ∃ f, f = dm_X38_about)
theorem em_X38_about : m_X38_about = dm_X38_about := Classical.choose_spec (⟨dm_X38_about, rfl⟩ : ∃ f, f = dm_X38_about)
def dm_X38_may (s : jS) (x0 x1 x2 : Int) : Option (jS × Int) :=
  jls (jp s 42 x0 0 0) fun s1 =>
  (m_X38_isKind s1 x1).bind fun v2 =>
  if v2 = 0 then
    some (s1, Wz 0)
  else
    (m_X38_has s1 x0 x1 3).bind fun v3 =>
    if v3 = 0 then
      some (s1, Wz 0)
    else
      (m_X38_isImmediate s1 x1 x2).bind fun v4 =>
      if v4 = 0 then
        some (s1, Wz 0)
      else
        some (s1, Wz 1)
noncomputable def m_X38_may : jS → Int → Int → Int → Option (jS × Int) := Classical.choose (⟨dm_X38_may, rfl⟩ : ∃ f, f = dm_X38_may)
theorem em_X38_may : m_X38_may = dm_X38_may := Classical.choose_spec (⟨dm_X38_may, rfl⟩ : ∃ f, f = dm_X38_may)
def du_X38_sayName_90 (s : jS) (x0 x1 x3 x4 y0 y1 : Int) : Option ((jS × List Int) ⊕ (jS × Int)) :=
  (m_X38_say s y1 y0).bind fun q1 =>
  some (.inl (q1.1, [x0, x1, x3, W32 (x4 + 1)]))
noncomputable def u_X38_sayName_90 : jS → Int → Int → Int → Int → Int → Int → Option ((jS × List Int) ⊕ (jS × Int)) := Classical.choose (⟨du_X38_sayName_90, rfl⟩ : ∃ f, f = du_X38_sayName_90)
theorem eu_X38_sayName_90 : u_X38_sayName_90 = du_X38_sayName_90 := Classical.choose_spec (⟨du_X38_sayName_90, rfl⟩ : ∃ f, f = du_X38_sayName_90)
def du_X38_sayName_43 (s : jS) (x0 x1 x3 x4 x5 : Int) : Option ((jS × List Int) ⊕ (jS × Int)) :=
  (jdv 40 (L_rem x5 40)).bind fun v1 =>
  jlet (L2i v1) fun v2 =>
  if v2 = 37 then
    u_X38_sayName_90 s x0 x1 x3 x4 46 x0
  else
    if 26 < v2 then
      u_X38_sayName_90 s x0 x1 x3 x4 (W32 ((W32 (48 + v2)) - 27)) x0
    else
      u_X38_sayName_90 s x0 x1 x3 x4 (W32 ((W32 (97 + v2)) - 1)) x0
noncomputable def u_X38_sayName_43 : jS → Int → Int → Int → Int → Int → Option ((jS × List Int) ⊕ (jS × Int)) := Classical.choose (⟨du_X38_sayName_43, rfl⟩ : ∃ f, f = du_X38_sayName_43)
theorem eu_X38_sayName_43 : u_X38_sayName_43 = du_X38_sayName_43 := Classical.choose_spec (⟨du_X38_sayName_43, rfl⟩ : ∃ f, f = du_X38_sayName_43)
def b_X38_sayName_23 (s : jS) (x0 x1 x3 x4 x5 x7 : Int) : Option ((jS × List Int) ⊕ ((jS × List Int) ⊕ (jS × Int))) :=
  if x7 < x3 then
    (jdv 40 (L_div x5 40)).bind fun v1 =>
    some (.inl (s, [x0, x1, x3, x4, v1, W32 (x7 + 1)]))
  else
    jinr (u_X38_sayName_43 s x0 x1 x3 x4 x5)
def du_X38_sayName_23 (s : jS) (x0 x1 x3 x4 x5 x7 : Int) : Option ((jS × List Int) ⊕ (jS × Int)) := jlpW (jc6 b_X38_sayName_23) [x0, x1, x3, x4, x5, x7] s
noncomputable def u_X38_sayName_23 : jS → Int → Int → Int → Int → Int → Int → Option ((jS × List Int) ⊕ (jS × Int)) := Classical.choose (⟨du_X38_sayName_23, rfl⟩ : ∃ f, f = du_X38_sayName_23)
theorem eu_X38_sayName_23 : u_X38_sayName_23 = du_X38_sayName_23 := Classical.choose_spec (⟨du_X38_sayName_23, rfl⟩ : ∃ f, f = du_X38_sayName_23)
def b_X38_sayName_8 (s : jS) (x0 x1 x3 x4 : Int) : Option ((jS × List Int) ⊕ (jS × Int)) :=
  if x4 < x3 then
    jlet (W32 (x4 + 1)) fun v1 =>
    u_X38_sayName_23 s x0 x1 x3 x4 x1 v1
  else
    jinr (some (s, 0))
def du_X38_sayName_8 (s : jS) (x0 x1 x3 x4 : Int) : Option (jS × Int) := jlpW (jc4 b_X38_sayName_8) [x0, x1, x3, x4] s
noncomputable def u_X38_sayName_8 : jS → Int → Int → Int → Int → Option (jS × Int) := Classical.choose (⟨du_X38_sayName_8, rfl⟩ : ∃ f, f = du_X38_sayName_8)
theorem eu_X38_sayName_8 : u_X38_sayName_8 = du_X38_sayName_8 := Classical.choose_spec (⟨du_X38_sayName_8, rfl⟩ : ∃ f, f = du_X38_sayName_8)
def dm_X38_sayName (s : jS) (x0 x1 : Int) : Option (jS × Int) :=
  (m_X38_lettersOf s x1).bind fun v1 =>
  u_X38_sayName_8 s x0 x1 v1 0
noncomputable def m_X38_sayName : jS → Int → Int → Option (jS × Int) := Classical.choose (⟨dm_X38_sayName, rfl⟩ : ∃ f, f = dm_X38_sayName)
theorem em_X38_sayName : m_X38_sayName = dm_X38_sayName := Classical.choose_spec (⟨dm_X38_sayName, rfl⟩ : ∃ f, f = dm_X38_sayName)
def dm_X38_register (s : jS) (x0 x1 : Int) : Option (jS × Int) :=
  (m_X38_ahead s x0).bind fun q1 =>
  (m_X38_registerOf q1.1 x1).bind fun v2 =>
  (m_X38_sayName q1.1 x0 v2).bind fun q3 =>
  some (q3.1, 0)
noncomputable def m_X38_register : jS → Int → Int → Option (jS × Int) := Classical.choose (⟨dm_X38_register, rfl⟩ : ∃ f, f = dm_X38_register)
theorem em_X38_register : m_X38_register = dm_X38_register := Classical.choose_spec (⟨dm_X38_register, rfl⟩ : ∃ f, f = dm_X38_register)
def dm_X38_offset (s : jS) (x0 x1 : Int) : Option (jS × Int) :=
  (m_X38_ahead s x0).bind fun q1 =>
  (jlt q1.1 1000 (x0 + 2) 4 3).bind fun v2 =>
  (m_X38_sayDecimal q1.1 x0 v2).bind fun q3 =>
  (m_X38_say q3.1 x0 40).bind fun q4 =>
  (m_X38_registerOf q4.1 x1).bind fun v5 =>
  (m_X38_sayName q4.1 x0 v5).bind fun q6 =>
  (m_X38_say q6.1 x0 41).bind fun q7 =>
  some (q7.1, 0)
noncomputable def m_X38_offset : jS → Int → Int → Option (jS × Int) := Classical.choose (⟨dm_X38_offset, rfl⟩ : ∃ f, f = dm_X38_offset)
theorem em_X38_offset : m_X38_offset = dm_X38_offset := Classical.choose_spec (⟨dm_X38_offset, rfl⟩ : ∃ f, f = dm_X38_offset)
def dm_X38_place (s : jS) (x0 x1 : Int) : Option (jS × Int) :=
  (m_X38_ahead s x0).bind fun q1 =>
  (jlt q1.1 1000 (x0 + 2) 4 3).bind fun v2 =>
  (m_X38_sayHexadecimal q1.1 x0 (W32 (x1 + v2))).bind fun q3 =>
  some (q3.1, 0)
noncomputable def m_X38_place : jS → Int → Int → Option (jS × Int) := Classical.choose (⟨dm_X38_place, rfl⟩ : ∃ f, f = dm_X38_place)
theorem em_X38_place : m_X38_place = dm_X38_place := Classical.choose_spec (⟨dm_X38_place, rfl⟩ : ∃ f, f = dm_X38_place)
def dm_X39_feed (s : jS) (x0 x1 x2 x3 x4 x5 : Int) : Option (jS × Int) :=
  jls (jp s 43 x0 0 0) fun s1 =>
  (m_X39_wait s1 x0 0 x1).bind fun q2 =>
  (m_X39_wait q2.1 x0 4 x2).bind fun q3 =>
  (m_X39_wait q3.1 x0 8 x3).bind fun q4 =>
  (m_X39_wait q4.1 x0 12 x4).bind fun q5 =>
  (m_X39_wait q5.1 x0 16 x5).bind fun q6 =>
  some (q6.1, 0)
noncomputable def m_X39_feed : jS → Int → Int → Int → Int → Int → Int → Option (jS × Int) := Classical.choose (⟨dm_X39_feed, rfl⟩ : ∃ f, f = dm_X39_feed)
theorem em_X39_feed : m_X39_feed = dm_X39_feed := Classical.choose_spec (⟨dm_X39_feed, rfl⟩ : ∃ f, f = dm_X39_feed)
def dm_X39_isInName (s : jS) (x0 : Int) : Option (Int) :=
  (m_X39_isLetter s x0).bind fun v1 =>
  if v1 = 0 then
    (m_X39_isDigit s x0).bind fun v2 =>
    if v2 = 0 then
      if x0 = 36 then
        some (Wz 1)
      else
        some (Wz 0)
    else
      some (Wz 1)
  else
    some (Wz 1)
noncomputable def m_X39_isInName : jS → Int → Option (Int) := Classical.choose (⟨dm_X39_isInName, rfl⟩ : ∃ f, f = dm_X39_isInName)
theorem em_X39_isInName : m_X39_isInName = dm_X39_isInName := Classical.choose_spec (⟨dm_X39_isInName, rfl⟩ : ∃ f, f = dm_X39_isInName)
def du_X39_numberWord_308 (s : jS) (x0 : Int) : Option (jS × Int) :=
  (m_X39_bad s x0 3 (jf s 43 x0 17)).bind fun q1 =>
  some (q1.1, 0)
noncomputable def u_X39_numberWord_308 : jS → Int → Option (jS × Int) := Classical.choose (⟨du_X39_numberWord_308, rfl⟩ : ∃ f, f = du_X39_numberWord_308)
theorem eu_X39_numberWord_308 : u_X39_numberWord_308 = du_X39_numberWord_308 := Classical.choose_spec (⟨du_X39_numberWord_308, rfl⟩ : ∃ f, f = du_X39_numberWord_308)
def du_X39_numberWord_270 (s : jS) (x0 x1 x3 : Int) : Option (jS × Int) :=
  jls (jp s 43 x0 15 2) fun s1 =>
  jls (jp s1 43 x0 16 (L2i x3)) fun s2 =>
  if (L_cmp x3 4294967296) < 0 then
    if x1 = 16 then
      if (jf s2 43 x0 18) = (W32 ((jf s2 43 x0 17) + 2)) then
        u_X39_numberWord_308 s2 x0
      else
        some (s2, 0)
    else
      some (s2, 0)
  else
    u_X39_numberWord_308 s2 x0
noncomputable def u_X39_numberWord_270 : jS → Int → Int → Int → Option (jS × Int) := Classical.choose (⟨du_X39_numberWord_270, rfl⟩ : ∃ f, f = du_X39_numberWord_270)
theorem eu_X39_numberWord_270 : u_X39_numberWord_270 = du_X39_numberWord_270 := Classical.choose_spec (⟨du_X39_numberWord_270, rfl⟩ : ∃ f, f = du_X39_numberWord_270)
def du_X39_numberWord_256 (s : jS) (x0 x1 y0 : Int) : Option ((jS × List Int) ⊕ (jS × Int)) :=
  jls (jp s 43 x0 18 (W32 ((jf s 43 x0 18) + 1))) fun s1 =>
  some (.inl (s1, [x0, x1, y0]))
noncomputable def u_X39_numberWord_256 : jS → Int → Int → Int → Option ((jS × List Int) ⊕ (jS × Int)) := Classical.choose (⟨du_X39_numberWord_256, rfl⟩ : ∃ f, f = du_X39_numberWord_256)
theorem eu_X39_numberWord_256 : u_X39_numberWord_256 = du_X39_numberWord_256 := Classical.choose_spec (⟨du_X39_numberWord_256, rfl⟩ : ∃ f, f = du_X39_numberWord_256)
def b_X39_numberWord_212 (s : jS) (x0 x1 x3 : Int) : Option ((jS × List Int) ⊕ (jS × Int)) :=
  (m_X39_at s x0 (jf s 43 x0 18)).bind fun v1 =>
  (m_X39_digitOf s v1).bind fun v2 =>
  if v2 < x1 then
    if (L_cmp x3 4294967296) < 0 then
      (m_X39_at s x0 (jf s 43 x0 18)).bind fun v3 =>
      (m_X39_digitOf s v3).bind fun v4 =>
      jlet (W64 ((W64 (x1 * x3)) + v4)) fun v5 =>
      u_X39_numberWord_256 s x0 x1 v5
    else
      u_X39_numberWord_256 s x0 x1 x3
  else
    jinr (u_X39_numberWord_270 s x0 x1 x3)
def du_X39_numberWord_212 (s : jS) (x0 x1 x3 : Int) : Option (jS × Int) := jlpW (jc3 b_X39_numberWord_212) [x0, x1, x3] s
noncomputable def u_X39_numberWord_212 : jS → Int → Int → Int → Option (jS × Int) := Classical.choose (⟨du_X39_numberWord_212, rfl⟩ : ∃ f, f = du_X39_numberWord_212)
theorem eu_X39_numberWord_212 : u_X39_numberWord_212 = du_X39_numberWord_212 := Classical.choose_spec (⟨du_X39_numberWord_212, rfl⟩ : ∃ f, f = du_X39_numberWord_212)
def du_X39_numberWord_207 (s : jS) (x0 x1 y0 y1 : Int) : Option (jS × Int) :=
  jls (jp s 43 y1 18 y0) fun s1 =>
  u_X39_numberWord_212 s1 x0 x1 0
noncomputable def u_X39_numberWord_207 : jS → Int → Int → Int → Int → Option (jS × Int) := Classical.choose (⟨du_X39_numberWord_207, rfl⟩ : ∃ f, f = du_X39_numberWord_207)
theorem eu_X39_numberWord_207 : u_X39_numberWord_207 = du_X39_numberWord_207 := Classical.choose_spec (⟨du_X39_numberWord_207, rfl⟩ : ∃ f, f = du_X39_numberWord_207)
def du_X39_numberWord_187 (s : jS) (x0 x1 : Int) : Option (jS × Int) :=
  if x1 = 10 then
    u_X39_numberWord_207 s x0 x1 (jf s 43 x0 17) x0
  else
    u_X39_numberWord_207 s x0 x1 (W32 ((jf s 43 x0 17) + 2)) x0
noncomputable def u_X39_numberWord_187 : jS → Int → Int → Option (jS × Int) := Classical.choose (⟨du_X39_numberWord_187, rfl⟩ : ∃ f, f = du_X39_numberWord_187)
theorem eu_X39_numberWord_187 : u_X39_numberWord_187 = du_X39_numberWord_187 := Classical.choose_spec (⟨du_X39_numberWord_187, rfl⟩ : ∃ f, f = du_X39_numberWord_187)
def du_X39_numberWord_172 (s : jS) (x0 y0 y1 y2 : Int) : Option (jS × Int) :=
  jls (jp s 43 y2 16 (W32 (y1 + y0))) fun s1 =>
  jls (jp s1 43 x0 18 (W32 ((jf s1 43 x0 17) + 2))) fun s2 =>
  some (s2, 0)
noncomputable def u_X39_numberWord_172 : jS → Int → Int → Int → Int → Option (jS × Int) := Classical.choose (⟨du_X39_numberWord_172, rfl⟩ : ∃ f, f = du_X39_numberWord_172)
theorem eu_X39_numberWord_172 : u_X39_numberWord_172 = du_X39_numberWord_172 := Classical.choose_spec (⟨du_X39_numberWord_172, rfl⟩ : ∃ f, f = du_X39_numberWord_172)
def du_X39_numberWord_125 (s : jS) (x0 x1 x2 : Int) : Option (jS × Int) :=
  (m_X39_at s x0 (W32 ((jf s 43 x0 17) + 2))).bind fun v1 =>
  (m_X39_isInName s v1).bind fun v2 =>
  if v2 = 0 then
    jls (jp s 43 x0 15 3) fun s3 =>
    (jlt s3 1000 (x0 + 2) 3000 (jf s3 43 x0 17)).bind fun v4 =>
    if x2 = 102 then
      u_X39_numberWord_172 s3 x0 1 (W32 (2 * (W32 (v4 - 48)))) x0
    else
      u_X39_numberWord_172 s3 x0 0 (W32 (2 * (W32 (v4 - 48)))) x0
  else
    u_X39_numberWord_187 s x0 x1
noncomputable def u_X39_numberWord_125 : jS → Int → Int → Int → Option (jS × Int) := Classical.choose (⟨du_X39_numberWord_125, rfl⟩ : ∃ f, f = du_X39_numberWord_125)
theorem eu_X39_numberWord_125 : u_X39_numberWord_125 = du_X39_numberWord_125 := Classical.choose_spec (⟨du_X39_numberWord_125, rfl⟩ : ∃ f, f = du_X39_numberWord_125)
def du_X39_numberWord_96 (s : jS) (x0 x1 : Int) : Option (jS × Int) :=
  (m_X39_at s x0 (W32 ((jf s 43 x0 17) + 1))).bind fun v1 =>
  if x1 = 10 then
    if v1 = 98 then
      u_X39_numberWord_125 s x0 x1 v1
    else
      if v1 = 102 then
        u_X39_numberWord_125 s x0 x1 v1
      else
        u_X39_numberWord_187 s x0 x1
  else
    u_X39_numberWord_187 s x0 x1
noncomputable def u_X39_numberWord_96 : jS → Int → Int → Option (jS × Int) := Classical.choose (⟨du_X39_numberWord_96, rfl⟩ : ∃ f, f = du_X39_numberWord_96)
theorem eu_X39_numberWord_96 : u_X39_numberWord_96 = du_X39_numberWord_96 := Classical.choose_spec (⟨du_X39_numberWord_96, rfl⟩ : ∃ f, f = du_X39_numberWord_96)
def du_X39_numberWord_94 (s : jS) (x0 : Int) : Option (jS × Int) :=
  u_X39_numberWord_96 s x0 2
noncomputable def u_X39_numberWord_94 : jS → Int → Option (jS × Int) := Classical.choose (⟨du_X39_numberWord_94, rfl⟩ : ∃ f, f = du_X39_numberWord_94)
theorem eu_X39_numberWord_94 : u_X39_numberWord_94 = du_X39_numberWord_94 := Classical.choose_spec (⟨du_X39_numberWord_94, rfl⟩ : ∃ f, f = du_X39_numberWord_94)
def du_X39_numberWord_35 (s : jS) (x0 x1 : Int) : Option (jS × Int) :=
  (jlt s 1000 (x0 + 2) 3000 (jf s 43 x0 17)).bind fun v1 =>
  if v1 = 48 then
    (m_X39_at s x0 (W32 ((jf s 43 x0 17) + 1))).bind fun v2 =>
    if v2 = 98 then
      (m_X39_at s x0 (W32 ((jf s 43 x0 17) + 2))).bind fun v3 =>
      if v3 = 48 then
        u_X39_numberWord_94 s x0
      else
        (m_X39_at s x0 (W32 ((jf s 43 x0 17) + 2))).bind fun v4 =>
        if v4 = 49 then
          u_X39_numberWord_94 s x0
        else
          u_X39_numberWord_96 s x0 x1
    else
      u_X39_numberWord_96 s x0 x1
  else
    u_X39_numberWord_96 s x0 x1
noncomputable def u_X39_numberWord_35 : jS → Int → Int → Option (jS × Int) := Classical.choose (⟨du_X39_numberWord_35, rfl⟩ : ∃ f, f = du_X39_numberWord_35)
theorem eu_X39_numberWord_35 : u_X39_numberWord_35 = du_X39_numberWord_35 := Classical.choose_spec (⟨du_X39_numberWord_35, rfl⟩ : ∃ f, f = du_X39_numberWord_35)
def dm_X39_numberWord (s : jS) (x0 : Int) : Option (jS × Int) :=
  (jlt s 1000 (x0 + 2) 3000 (jf s 43 x0 17)).bind fun v1 =>
  if v1 = 48 then
    (m_X39_at s x0 (W32 ((jf s 43 x0 17) + 1))).bind fun v2 =>
    if v2 = 120 then
      u_X39_numberWord_35 s x0 16
    else
      u_X39_numberWord_35 s x0 10
  else
    u_X39_numberWord_35 s x0 10
noncomputable def m_X39_numberWord : jS → Int → Option (jS × Int) := Classical.choose (⟨dm_X39_numberWord, rfl⟩ : ∃ f, f = dm_X39_numberWord)
theorem em_X39_numberWord : m_X39_numberWord = dm_X39_numberWord := Classical.choose_spec (⟨dm_X39_numberWord, rfl⟩ : ∃ f, f = dm_X39_numberWord)
def du_X39_character_64 (s : jS) (x0 x1 : Int) : Option (jS × Int) :=
  jls (jp s 43 x0 18 (W32 ((jf s 43 x0 18) + 1))) fun s1 =>
  if (jf s1 43 x0 15) = 2 then
    jls (jp s1 43 x0 17 x1) fun s2 =>
    some (s2, 0)
  else
    some (s1, 0)
noncomputable def u_X39_character_64 : jS → Int → Int → Option (jS × Int) := Classical.choose (⟨du_X39_character_64, rfl⟩ : ∃ f, f = du_X39_character_64)
theorem eu_X39_character_64 : u_X39_character_64 = du_X39_character_64 := Classical.choose_spec (⟨du_X39_character_64, rfl⟩ : ∃ f, f = du_X39_character_64)
def du_X39_character_58 (s : jS) (x0 x1 : Int) : Option (jS × Int) :=
  (m_X39_bad s x0 4 x1).bind fun q1 =>
  u_X39_character_64 q1.1 x0 x1
noncomputable def u_X39_character_58 : jS → Int → Int → Option (jS × Int) := Classical.choose (⟨du_X39_character_58, rfl⟩ : ∃ f, f = du_X39_character_58)
theorem eu_X39_character_58 : u_X39_character_58 = du_X39_character_58 := Classical.choose_spec (⟨du_X39_character_58, rfl⟩ : ∃ f, f = du_X39_character_58)
def dm_X39_character (s : jS) (x0 : Int) : Option (jS × Int) :=
  (m_X39_inside s x0 (W32 ((jf s 43 x0 17) + 1)) 39).bind fun q1 =>
  jls (jp q1.1 43 x0 15 2) fun s2 =>
  jls (jp s2 43 x0 16 q1.2) fun s3 =>
  if q1.2 = (-1) then
    u_X39_character_58 s3 x0 (jf s 43 x0 17)
  else
    if (jf s3 43 x0 18) < (jf s3 43 x0 3) then
      (jlt s3 1000 (x0 + 2) 3000 (jf s3 43 x0 18)).bind fun v4 =>
      if v4 = 39 then
        u_X39_character_64 s3 x0 (jf s 43 x0 17)
      else
        u_X39_character_58 s3 x0 (jf s 43 x0 17)
    else
      u_X39_character_58 s3 x0 (jf s 43 x0 17)
noncomputable def m_X39_character : jS → Int → Option (jS × Int) := Classical.choose (⟨dm_X39_character, rfl⟩ : ∃ f, f = dm_X39_character)
theorem em_X39_character : m_X39_character = dm_X39_character := Classical.choose_spec (⟨dm_X39_character, rfl⟩ : ∃ f, f = dm_X39_character)
def dm_X39_is (s : jS) (x0 x1 x2 x3 x4 : Int) : Option (Int) :=
  (m_X39_byteOf s x0 0).bind fun v1 =>
  if v1 = x1 then
    (m_X39_byteOf s x0 1).bind fun v2 =>
    if v2 = x2 then
      (m_X39_byteOf s x0 2).bind fun v3 =>
      if v3 = x3 then
        (m_X39_byteOf s x0 3).bind fun v4 =>
        if v4 = x4 then
          if x4 = 0 then
            some (Wz 1)
          else
            (m_X39_byteOf s x0 4).bind fun v5 =>
            if v5 = 0 then
              some (Wz 1)
            else
              some (Wz 0)
        else
          some (Wz 0)
      else
        some (Wz 0)
    else
      some (Wz 0)
  else
    some (Wz 0)
noncomputable def m_X39_is : jS → Int → Int → Int → Int → Int → Option (Int) := Classical.choose (⟨dm_X39_is, rfl⟩ : ∃ f, f = dm_X39_is)
theorem em_X39_is : m_X39_is = dm_X39_is := Classical.choose_spec (⟨dm_X39_is, rfl⟩ : ∃ f, f = dm_X39_is)
def du_X39_number_108 (s : jS) (x0 x1 : Int) : Option (jS × Int) :=
  (jlt s 1000 (x0 + 3) 8 3).bind fun v1 =>
  (jst s 1000 (x0 + 3) 8 3 (W32 (v1 + 1))).bind fun s2 =>
  some (s2, x1)
noncomputable def u_X39_number_108 : jS → Int → Int → Option (jS × Int) := Classical.choose (⟨du_X39_number_108, rfl⟩ : ∃ f, f = du_X39_number_108)
theorem eu_X39_number_108 : u_X39_number_108 = du_X39_number_108 := Classical.choose_spec (⟨du_X39_number_108, rfl⟩ : ∃ f, f = du_X39_number_108)
def b_X39_number_67 (s : jS) (x0 x1 x2 : Int) : Option ((jS × List Int) ⊕ (jS × Int)) :=
  if x2 < (W32 ((jf s 43 x0 18) - (jf s 43 x0 17))) then
    (jlt s 1000 (x0 + 2) 3000 (W32 ((jf s 43 x0 17) + x2))).bind fun v1 =>
    (jst s 1000 (x0 + 7) 4800 (W32 ((W32 (16 * x1)) + x2)) v1).bind fun s2 =>
    some (.inl (s2, [x0, x1, W32 (x2 + 1)]))
  else
    jinr (u_X39_number_108 s x0 x1)
def du_X39_number_67 (s : jS) (x0 x1 x2 : Int) : Option (jS × Int) := jlpW (jc3 b_X39_number_67) [x0, x1, x2] s
noncomputable def u_X39_number_67 : jS → Int → Int → Int → Option (jS × Int) := Classical.choose (⟨du_X39_number_67, rfl⟩ : ∃ f, f = du_X39_number_67)
theorem eu_X39_number_67 : u_X39_number_67 = du_X39_number_67 := Classical.choose_spec (⟨du_X39_number_67, rfl⟩ : ∃ f, f = du_X39_number_67)
def du_X39_number_29 (s : jS) (x0 : Int) : Option (jS × Int) :=
  (jlt s 1000 (x0 + 3) 8 3).bind fun v1 =>
  if v1 = 150 then
    some (s, (-1))
  else
    (jlt s 1000 (x0 + 3) 8 3).bind fun v2 =>
    (jst s 1000 (x0 + 8) 300 v2 (W32 ((jf s 43 x0 18) - (jf s 43 x0 17)))).bind fun s3 =>
    u_X39_number_67 s3 x0 v2 0
noncomputable def u_X39_number_29 : jS → Int → Option (jS × Int) := Classical.choose (⟨du_X39_number_29, rfl⟩ : ∃ f, f = du_X39_number_29)
theorem eu_X39_number_29 : u_X39_number_29 = du_X39_number_29 := Classical.choose_spec (⟨du_X39_number_29, rfl⟩ : ∃ f, f = du_X39_number_29)
def b_X39_number_2 (s : jS) (x0 x1 : Int) : Option ((jS × List Int) ⊕ (jS × Int)) :=
  (jlt s 1000 (x0 + 3) 8 3).bind fun v1 =>
  if x1 < v1 then
    (m_X39_isName s x0 x1 0).bind fun v2 =>
    if v2 = 0 then
      some (.inl (s, [x0, W32 (x1 + 1)]))
    else
      jinr (some (s, x1))
  else
    jinr (u_X39_number_29 s x0)
def du_X39_number_2 (s : jS) (x0 x1 : Int) : Option (jS × Int) := jlpW (jc2 b_X39_number_2) [x0, x1] s
noncomputable def u_X39_number_2 : jS → Int → Int → Option (jS × Int) := Classical.choose (⟨du_X39_number_2, rfl⟩ : ∃ f, f = du_X39_number_2)
theorem eu_X39_number_2 : u_X39_number_2 = du_X39_number_2 := Classical.choose_spec (⟨du_X39_number_2, rfl⟩ : ∃ f, f = du_X39_number_2)
def dm_X39_number (s : jS) (x0 : Int) : Option (jS × Int) :=
  u_X39_number_2 s x0 0
noncomputable def m_X39_number : jS → Int → Option (jS × Int) := Classical.choose (⟨dm_X39_number, rfl⟩ : ∃ f, f = dm_X39_number)
theorem em_X39_number : m_X39_number = dm_X39_number := Classical.choose_spec (⟨dm_X39_number, rfl⟩ : ∃ f, f = dm_X39_number)
def du_X39_mark_148 (s : jS) (x0 x1 : Int) : Option (Int) :=
  if x1 = 0 then
    some 0
  else
    (m_X39_byteOf s x0 6).bind fun v1 =>
    if v1 = 108 then
      (m_X39_byteOf s x0 7).bind fun v2 =>
      if v2 = 111 then
        some 4
      else
        some 0
    else
      some 0
noncomputable def u_X39_mark_148 : jS → Int → Int → Option (Int) := Classical.choose (⟨du_X39_mark_148, rfl⟩ : ∃ f, f = du_X39_mark_148)
theorem eu_X39_mark_148 : u_X39_mark_148 = du_X39_mark_148 := Classical.choose_spec (⟨du_X39_mark_148, rfl⟩ : ∃ f, f = du_X39_mark_148)
def du_X39_mark_119 (s : jS) (x0 y0 : Int) : Option (Int) :=
  if y0 = 0 then
    u_X39_mark_148 s x0 y0
  else
    (m_X39_byteOf s x0 6).bind fun v1 =>
    if v1 = 104 then
      (m_X39_byteOf s x0 7).bind fun v2 =>
      if v2 = 105 then
        some 3
      else
        u_X39_mark_148 s x0 y0
    else
      u_X39_mark_148 s x0 y0
noncomputable def u_X39_mark_119 : jS → Int → Int → Option (Int) := Classical.choose (⟨du_X39_mark_119, rfl⟩ : ∃ f, f = du_X39_mark_119)
theorem eu_X39_mark_119 : u_X39_mark_119 = du_X39_mark_119 := Classical.choose_spec (⟨du_X39_mark_119, rfl⟩ : ∃ f, f = du_X39_mark_119)
def du_X39_mark_118 (s : jS) (x0 : Int) : Option (Int) :=
  u_X39_mark_119 s x0 0
noncomputable def u_X39_mark_118 : jS → Int → Option (Int) := Classical.choose (⟨du_X39_mark_118, rfl⟩ : ∃ f, f = du_X39_mark_118)
theorem eu_X39_mark_118 : u_X39_mark_118 = du_X39_mark_118 := Classical.choose_spec (⟨du_X39_mark_118, rfl⟩ : ∃ f, f = du_X39_mark_118)
def dm_X39_mark (s : jS) (x0 : Int) : Option (Int) :=
  if (jf s 43 x0 15) = 1 then
    (m_X39_is s x0 104 105 0 0).bind fun v1 =>
    if v1 = 0 then
      (m_X39_is s x0 108 111 0 0).bind fun v2 =>
      if v2 = 0 then
        (m_X39_byteOf s x0 0).bind fun v3 =>
        if v3 = 112 then
          (m_X39_byteOf s x0 1).bind fun v4 =>
          if v4 = 99 then
            (m_X39_byteOf s x0 2).bind fun v5 =>
            if v5 = 114 then
              (m_X39_byteOf s x0 3).bind fun v6 =>
              if v6 = 101 then
                (m_X39_byteOf s x0 4).bind fun v7 =>
                if v7 = 108 then
                  (m_X39_byteOf s x0 5).bind fun v8 =>
                  if v8 = 95 then
                    if (W32 ((jf s 43 x0 18) - (jf s 43 x0 17))) = 8 then
                      u_X39_mark_119 s x0 1
                    else
                      u_X39_mark_118 s x0
                  else
                    u_X39_mark_118 s x0
                else
                  u_X39_mark_118 s x0
              else
                u_X39_mark_118 s x0
            else
              u_X39_mark_118 s x0
          else
            u_X39_mark_118 s x0
        else
          u_X39_mark_118 s x0
      else
        some 2
    else
      some 1
  else
    some 0
noncomputable def m_X39_mark : jS → Int → Option (Int) := Classical.choose (⟨dm_X39_mark, rfl⟩ : ∃ f, f = dm_X39_mark)
theorem em_X39_mark : m_X39_mark = dm_X39_mark := Classical.choose_spec (⟨dm_X39_mark, rfl⟩ : ∃ f, f = dm_X39_mark)
def du_X40_title_113 (s : jS) (x0 : Int) : Option (jS × Int) :=
  (m_X40_letterOf s x0 0).bind fun q1 =>
  some (q1.1, 0)
noncomputable def u_X40_title_113 : jS → Int → Option (jS × Int) := Classical.choose (⟨du_X40_title_113, rfl⟩ : ∃ f, f = du_X40_title_113)
theorem eu_X40_title_113 : u_X40_title_113 = du_X40_title_113 := Classical.choose_spec (⟨du_X40_title_113, rfl⟩ : ∃ f, f = du_X40_title_113)
def du_X40_title_102 (s : jS) (x0 x9 : Int) : Option (jS × Int) :=
  if x9 = 0 then
    u_X40_title_113 s x0
  else
    (m_X40_letterOf s x0 x9).bind fun q1 =>
    u_X40_title_113 q1.1 x0
noncomputable def u_X40_title_102 : jS → Int → Int → Option (jS × Int) := Classical.choose (⟨du_X40_title_102, rfl⟩ : ∃ f, f = du_X40_title_102)
theorem eu_X40_title_102 : u_X40_title_102 = du_X40_title_102 := Classical.choose_spec (⟨du_X40_title_102, rfl⟩ : ∃ f, f = du_X40_title_102)
def du_X40_title_91 (s : jS) (x0 x8 x9 : Int) : Option (jS × Int) :=
  if x8 = 0 then
    u_X40_title_102 s x0 x9
  else
    (m_X40_letterOf s x0 x8).bind fun q1 =>
    u_X40_title_102 q1.1 x0 x9
noncomputable def u_X40_title_91 : jS → Int → Int → Int → Option (jS × Int) := Classical.choose (⟨du_X40_title_91, rfl⟩ : ∃ f, f = du_X40_title_91)
theorem eu_X40_title_91 : u_X40_title_91 = du_X40_title_91 := Classical.choose_spec (⟨du_X40_title_91, rfl⟩ : ∃ f, f = du_X40_title_91)
def du_X40_title_80 (s : jS) (x0 x7 x8 x9 : Int) : Option (jS × Int) :=
  if x7 = 0 then
    u_X40_title_91 s x0 x8 x9
  else
    (m_X40_letterOf s x0 x7).bind fun q1 =>
    u_X40_title_91 q1.1 x0 x8 x9
noncomputable def u_X40_title_80 : jS → Int → Int → Int → Int → Option (jS × Int) := Classical.choose (⟨du_X40_title_80, rfl⟩ : ∃ f, f = du_X40_title_80)
theorem eu_X40_title_80 : u_X40_title_80 = du_X40_title_80 := Classical.choose_spec (⟨du_X40_title_80, rfl⟩ : ∃ f, f = du_X40_title_80)
def du_X40_title_52 (s : jS) (x0 x3 x4 x5 x6 x7 x8 x9 : Int) : Option (jS × Int) :=
  (m_X40_letterOf s x0 x3).bind fun q1 =>
  (m_X40_letterOf q1.1 x0 x4).bind fun q2 =>
  (m_X40_letterOf q2.1 x0 x5).bind fun q3 =>
  if x6 = 0 then
    u_X40_title_80 q3.1 x0 x7 x8 x9
  else
    (m_X40_letterOf q3.1 x0 x6).bind fun q4 =>
    u_X40_title_80 q4.1 x0 x7 x8 x9
noncomputable def u_X40_title_52 : jS → Int → Int → Int → Int → Int → Int → Int → Int → Option (jS × Int) := Classical.choose (⟨du_X40_title_52, rfl⟩ : ∃ f, f = du_X40_title_52)
theorem eu_X40_title_52 : u_X40_title_52 = du_X40_title_52 := Classical.choose_spec (⟨du_X40_title_52, rfl⟩ : ∃ f, f = du_X40_title_52)
def dm_X40_title (s : jS) (x0 x1 x2 x3 x4 x5 x6 x7 x8 x9 : Int) : Option (jS × Int) :=
  (jst s 1000 (x0 + 23) 11 x1 (jf s 44 x0 36)).bind fun s1 =>
  (m_X40_letterOf s1 x0 46).bind fun q2 =>
  if x2 = 114 then
    (m_X40_letterOf q2.1 x0 114).bind fun q3 =>
    (m_X40_letterOf q3.1 x0 101).bind fun q4 =>
    (m_X40_letterOf q4.1 x0 108).bind fun q5 =>
    (m_X40_letterOf q5.1 x0 97).bind fun q6 =>
    (m_X40_letterOf q6.1 x0 46).bind fun q7 =>
    u_X40_title_52 q7.1 x0 x3 x4 x5 x6 x7 x8 x9
  else
    u_X40_title_52 q2.1 x0 x3 x4 x5 x6 x7 x8 x9
noncomputable def m_X40_title : jS → Int → Int → Int → Int → Int → Int → Int → Int → Int → Int → Option (jS × Int) := Classical.choose (⟨dm_X40_title, rfl⟩ : ∃ f, f = dm_X40_title)
theorem em_X40_title : m_X40_title = dm_X40_title := Classical.choose_spec (⟨dm_X40_title, rfl⟩ : ∃ f, f = dm_X40_title)
def du_X40_head_442 (s : jS) (x0 : Int) : Option (jS × Int) :=
  (m_X40_fault s x0 9 50).bind fun q1 =>
  some (q1.1, q1.2)
noncomputable def u_X40_head_442 : jS → Int → Option (jS × Int) := Classical.choose (⟨du_X40_head_442, rfl⟩ : ∃ f, f = du_X40_head_442)
theorem eu_X40_head_442 : u_X40_head_442 = du_X40_head_442 := Classical.choose_spec (⟨du_X40_head_442, rfl⟩ : ∃ f, f = du_X40_head_442)
def du_X40_head_413 (s : jS) (x0 : Int) : Option (jS × Int) :=
  (m_X40_fault s x0 9 48).bind fun q1 =>
  some (q1.1, q1.2)
noncomputable def u_X40_head_413 : jS → Int → Option (jS × Int) := Classical.choose (⟨du_X40_head_413, rfl⟩ : ∃ f, f = du_X40_head_413)
theorem eu_X40_head_413 : u_X40_head_413 = du_X40_head_413 := Classical.choose_spec (⟨du_X40_head_413, rfl⟩ : ∃ f, f = du_X40_head_413)
def du_X40_head_281 (s : jS) (x0 : Int) : Option (jS × Int) :=
  (m_X40_fault s x0 9 32).bind fun q1 =>
  some (q1.1, q1.2)
noncomputable def u_X40_head_281 : jS → Int → Option (jS × Int) := Classical.choose (⟨du_X40_head_281, rfl⟩ : ∃ f, f = du_X40_head_281)
theorem eu_X40_head_281 : u_X40_head_281 = du_X40_head_281 := Classical.choose_spec (⟨du_X40_head_281, rfl⟩ : ∃ f, f = du_X40_head_281)
def du_X40_head_156 (s : jS) (x0 : Int) : Option (jS × Int) :=
  (m_X40_read2 s x0 16).bind fun v1 =>
  if v1 = 1 then
    (m_X40_read2 s x0 18).bind fun v2 =>
    if v2 = 243 then
      (m_X40_read4 s x0 20).bind fun v3 =>
      if (L_cmp v3 1) = 0 then
        (m_X40_read4 s x0 24).bind fun v4 =>
        if (L_cmp v4 0) = 0 then
          (m_X40_read4 s x0 28).bind fun v5 =>
          if (L_cmp v5 0) = 0 then
            (m_X40_read4 s x0 32).bind fun v6 =>
            (jdv 4 (L_rem v6 4)).bind fun v7 =>
            if (L_cmp v7 0) = 0 then
              if (L_cmp v6 52) < 0 then
                u_X40_head_281 s x0
              else
                (m_X40_read4 s x0 36).bind fun v8 =>
                if 0 < (L_cmp v8 1) then
                  (m_X40_fault s x0 9 36).bind fun q9 =>
                  some (q9.1, q9.2)
                else
                  (m_X40_read2 s x0 40).bind fun v10 =>
                  if v10 = 52 then
                    (m_X40_read2 s x0 42).bind fun v11 =>
                    if v11 = 0 then
                      (m_X40_read2 s x0 44).bind fun v12 =>
                      if v12 = 0 then
                        (m_X40_read2 s x0 46).bind fun v13 =>
                        if v13 = 40 then
                          (m_X40_read2 s x0 48).bind fun v14 =>
                          jls (jp s 44 x0 40 v14) fun s15 =>
                          if (jf s15 44 x0 40) < 1 then
                            u_X40_head_413 s15 x0
                          else
                            if 16 < (jf s15 44 x0 40) then
                              u_X40_head_413 s15 x0
                            else
                              (m_X40_read2 s15 x0 50).bind fun v16 =>
                              if v16 < 1 then
                                u_X40_head_442 s15 x0
                              else
                                if v16 < (jf s15 44 x0 40) then
                                  if 0 < (L_cmp (W64 (v6 + (W64 (40 * (jf s15 44 x0 40))))) (jf s15 44 x0 22)) then
                                    (m_X40_fault s15 x0 10 32).bind fun q17 =>
                                    some (q17.1, q17.2)
                                  else
                                    jls (jp s15 44 x0 39 (L2i v6)) fun s18 =>
                                    some (s18, 0)
                                else
                                  u_X40_head_442 s15 x0
                        else
                          (m_X40_fault s x0 9 46).bind fun q19 =>
                          some (q19.1, q19.2)
                      else
                        (m_X40_fault s x0 9 44).bind fun q20 =>
                        some (q20.1, q20.2)
                    else
                      (m_X40_fault s x0 9 42).bind fun q21 =>
                      some (q21.1, q21.2)
                  else
                    (m_X40_fault s x0 9 40).bind fun q22 =>
                    some (q22.1, q22.2)
            else
              u_X40_head_281 s x0
          else
            (m_X40_fault s x0 9 28).bind fun q23 =>
            some (q23.1, q23.2)
        else
          (m_X40_fault s x0 9 24).bind fun q24 =>
          some (q24.1, q24.2)
      else
        (m_X40_fault s x0 9 20).bind fun q25 =>
        some (q25.1, q25.2)
    else
      (m_X40_fault s x0 8 18).bind fun q26 =>
      some (q26.1, q26.2)
  else
    (m_X40_fault s x0 7 16).bind fun q27 =>
    some (q27.1, q27.2)
noncomputable def u_X40_head_156 : jS → Int → Option (jS × Int) := Classical.choose (⟨du_X40_head_156, rfl⟩ : ∃ f, f = du_X40_head_156)
theorem eu_X40_head_156 : u_X40_head_156 = du_X40_head_156 := Classical.choose_spec (⟨du_X40_head_156, rfl⟩ : ∃ f, f = du_X40_head_156)
def du_X40_head_142 (s : jS) (x0 x1 : Int) : Option (jS × Int) :=
  (m_X40_fault s x0 6 x1).bind fun q1 =>
  some (q1.1, q1.2)
noncomputable def u_X40_head_142 : jS → Int → Int → Option (jS × Int) := Classical.choose (⟨du_X40_head_142, rfl⟩ : ∃ f, f = du_X40_head_142)
theorem eu_X40_head_142 : u_X40_head_142 = du_X40_head_142 := Classical.choose_spec (⟨du_X40_head_142, rfl⟩ : ∃ f, f = du_X40_head_142)
def b_X40_head_127 (s : jS) (x0 x1 : Int) : Option ((jS × List Int) ⊕ (jS × Int)) :=
  if x1 < 16 then
    (jlt s 1000 (x0 + 21) 8192 x1).bind fun v1 =>
    if v1 = 0 then
      some (.inl (s, [x0, W32 (x1 + 1)]))
    else
      jinr (u_X40_head_142 s x0 x1)
  else
    jinr (u_X40_head_156 s x0)
def du_X40_head_127 (s : jS) (x0 x1 : Int) : Option (jS × Int) := jlpW (jc2 b_X40_head_127) [x0, x1] s
noncomputable def u_X40_head_127 : jS → Int → Int → Option (jS × Int) := Classical.choose (⟨du_X40_head_127, rfl⟩ : ∃ f, f = du_X40_head_127)
theorem eu_X40_head_127 : u_X40_head_127 = du_X40_head_127 := Classical.choose_spec (⟨du_X40_head_127, rfl⟩ : ∃ f, f = du_X40_head_127)
def du_X40_head_124 (s : jS) (x0 : Int) : Option (jS × Int) :=
  u_X40_head_127 s x0 7
noncomputable def u_X40_head_124 : jS → Int → Option (jS × Int) := Classical.choose (⟨du_X40_head_124, rfl⟩ : ∃ f, f = du_X40_head_124)
theorem eu_X40_head_124 : u_X40_head_124 = du_X40_head_124 := Classical.choose_spec (⟨du_X40_head_124, rfl⟩ : ∃ f, f = du_X40_head_124)
def du_X40_head_109 (s : jS) (x0 x1 : Int) : Option (jS × Int) :=
  (m_X40_fault s x0 (W32 (x1 - 1)) x1).bind fun q1 =>
  some (q1.1, q1.2)
noncomputable def u_X40_head_109 : jS → Int → Int → Option (jS × Int) := Classical.choose (⟨du_X40_head_109, rfl⟩ : ∃ f, f = du_X40_head_109)
theorem eu_X40_head_109 : u_X40_head_109 = du_X40_head_109 := Classical.choose_spec (⟨du_X40_head_109, rfl⟩ : ∃ f, f = du_X40_head_109)
def b_X40_head_93 (s : jS) (x0 x1 : Int) : Option ((jS × List Int) ⊕ (jS × Int)) :=
  if x1 < 7 then
    (jlt s 1000 (x0 + 21) 8192 x1).bind fun v1 =>
    if v1 = 1 then
      some (.inl (s, [x0, W32 (x1 + 1)]))
    else
      jinr (u_X40_head_109 s x0 x1)
  else
    jinr (u_X40_head_124 s x0)
def du_X40_head_93 (s : jS) (x0 x1 : Int) : Option (jS × Int) := jlpW (jc2 b_X40_head_93) [x0, x1] s
noncomputable def u_X40_head_93 : jS → Int → Int → Option (jS × Int) := Classical.choose (⟨du_X40_head_93, rfl⟩ : ∃ f, f = du_X40_head_93)
theorem eu_X40_head_93 : u_X40_head_93 = du_X40_head_93 := Classical.choose_spec (⟨du_X40_head_93, rfl⟩ : ∃ f, f = du_X40_head_93)
def dm_X40_head (s : jS) (x0 : Int) : Option (jS × Int) :=
  if (jf s 44 x0 22) < 52 then
    (m_X40_fault s x0 1 (jf s 44 x0 22)).bind fun q1 =>
    some (q1.1, q1.2)
  else
    (jlt s 1000 (x0 + 21) 8192 0).bind fun v2 =>
    if v2 = 127 then
      (jlt s 1000 (x0 + 21) 8192 1).bind fun v3 =>
      if v3 = 69 then
        (jlt s 1000 (x0 + 21) 8192 2).bind fun v4 =>
        if v4 = 76 then
          (jlt s 1000 (x0 + 21) 8192 3).bind fun v5 =>
          if v5 = 70 then
            u_X40_head_93 s x0 4
          else
            (m_X40_fault s x0 2 3).bind fun q6 =>
            some (q6.1, q6.2)
        else
          (m_X40_fault s x0 2 2).bind fun q7 =>
          some (q7.1, q7.2)
      else
        (m_X40_fault s x0 2 1).bind fun q8 =>
        some (q8.1, q8.2)
    else
      (m_X40_fault s x0 2 0).bind fun q9 =>
      some (q9.1, q9.2)
noncomputable def m_X40_head : jS → Int → Option (jS × Int) := Classical.choose (⟨dm_X40_head, rfl⟩ : ∃ f, f = dm_X40_head)
theorem em_X40_head : m_X40_head = dm_X40_head := Classical.choose_spec (⟨dm_X40_head, rfl⟩ : ∃ f, f = dm_X40_head)
end
