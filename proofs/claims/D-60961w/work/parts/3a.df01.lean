/-! the functions: printed by gen_meth.py -/
set_option maxRecDepth 100000
noncomputable section
def dm_X1_fault (s : jS) (x0 x1 : Int) : Option (Int) :=
  if x1 = 0 then
    some (jf s 1 x0 9)
  else
    if x1 = 1 then
      some (jf s 1 x0 10)
    else
      some (-1)
noncomputable def m_X1_fault : jS → Int → Int → Option (Int) := Classical.choose (⟨dm_X1_fault, rfl⟩ : ∃ f, f = dm_X1_fault)
theorem em_X1_fault : m_X1_fault = dm_X1_fault := Classical.choose_spec (⟨dm_X1_fault, rfl⟩ : ∃ f, f = dm_X1_fault)
def dm_X1_isUnit (s : jS) (x0 : Int) : Option (Int) :=
  if x0 < 0 then
    some (Wz 0)
  else
    if x0 < 6 then
      some (Wz 1)
    else
      some (Wz 0)
noncomputable def m_X1_isUnit : jS → Int → Option (Int) := Classical.choose (⟨dm_X1_isUnit, rfl⟩ : ∃ f, f = dm_X1_isUnit)
theorem em_X1_isUnit : m_X1_isUnit = dm_X1_isUnit := Classical.choose_spec (⟨dm_X1_isUnit, rfl⟩ : ∃ f, f = dm_X1_isUnit)
def dm_X1_linked (s : jS) (x0 x1 : Int) : Option (Int) :=
  if x1 = 0 then
    some (jf s 39 (x0 + 4275) 6)
  else
  if x1 = 1 then
    if (jf s 39 (x0 + 4275) 6) = 0 then
      some (-1)
    else
      some (jf s 39 (x0 + 4275) 7)
  else
  if x1 = 2 then
    if (jf s 39 (x0 + 4275) 6) = 0 then
      some (-1)
    else
      some (jf s 39 (x0 + 4275) 8)
  else
  if x1 = 3 then
    some (jf s 39 (x0 + 4275) 46)
  else
  if x1 = 4 then
    some (jf s 39 (x0 + 4275) 47)
  else
  some (-1)
noncomputable def m_X1_linked : jS → Int → Int → Option (Int) := Classical.choose (⟨dm_X1_linked, rfl⟩ : ∃ f, f = dm_X1_linked)
theorem em_X1_linked : m_X1_linked = dm_X1_linked := Classical.choose_spec (⟨dm_X1_linked, rfl⟩ : ∃ f, f = dm_X1_linked)
def du_X1_renew_105 (s : jS) (x0 : Int) : Option (jS × Int) :=
  jls (jp s 33 (x0 + 4029) 11 0) fun s1 =>
  jls (jp s1 33 (x0 + 4029) 12 0) fun s2 =>
  jls (jp s2 33 (x0 + 4029) 13 0) fun s3 =>
  jls (jp s3 33 (x0 + 4029) 14 0) fun s4 =>
  jls (jp s4 33 (x0 + 4029) 15 0) fun s5 =>
  jls (jp s5 33 (x0 + 4029) 16 0) fun s6 =>
  jls (jp s6 33 (x0 + 4029) 17 0) fun s7 =>
  jls (jp s7 33 (x0 + 4029) 18 0) fun s8 =>
  jls (jp s8 33 (x0 + 4029) 19 0) fun s9 =>
  jls (jp s9 33 (x0 + 4029) 21 0) fun s10 =>
  some (s10, 0)
noncomputable def u_X1_renew_105 : jS → Int → Option (jS × Int) := Classical.choose (⟨du_X1_renew_105, rfl⟩ : ∃ f, f = du_X1_renew_105)
theorem eu_X1_renew_105 : u_X1_renew_105 = du_X1_renew_105 := Classical.choose_spec (⟨du_X1_renew_105, rfl⟩ : ∃ f, f = du_X1_renew_105)
def b_X1_renew_83 (s : jS) (x0 x1 : Int) : Option ((jS × List Int) ⊕ (jS × Int)) :=
  if x1 < 32 then
    (jst s 1000 ((x0 + 4029) + 4) 32 x1 0).bind fun s1 =>
    some (.inl (s1, [x0, W32 (x1 + 1)]))
  else
    jinr (u_X1_renew_105 s x0)
def du_X1_renew_83 (s : jS) (x0 x1 : Int) : Option (jS × Int) := jlpW (jc2 b_X1_renew_83) [x0, x1] s
noncomputable def u_X1_renew_83 : jS → Int → Int → Option (jS × Int) := Classical.choose (⟨du_X1_renew_83, rfl⟩ : ∃ f, f = du_X1_renew_83)
theorem eu_X1_renew_83 : u_X1_renew_83 = du_X1_renew_83 := Classical.choose_spec (⟨du_X1_renew_83, rfl⟩ : ∃ f, f = du_X1_renew_83)
def du_X1_renew_81 (s : jS) (x0 : Int) : Option (jS × Int) :=
  u_X1_renew_83 s x0 0
noncomputable def u_X1_renew_81 : jS → Int → Option (jS × Int) := Classical.choose (⟨du_X1_renew_81, rfl⟩ : ∃ f, f = du_X1_renew_81)
theorem eu_X1_renew_81 : u_X1_renew_81 = du_X1_renew_81 := Classical.choose_spec (⟨du_X1_renew_81, rfl⟩ : ∃ f, f = du_X1_renew_81)
def b_X1_renew_56 (s : jS) (x0 x1 : Int) : Option ((jS × List Int) ⊕ (jS × Int)) :=
  if x1 < 8 then
    (jix 8 x1 (((x0 + 4029) + 3) + 7 + 1 * x1)).bind fun v1 =>
    jls (jp s 35 v1 1 0) fun s2 =>
    some (.inl (s2, [x0, W32 (x1 + 1)]))
  else
    jinr (u_X1_renew_81 s x0)
def du_X1_renew_56 (s : jS) (x0 x1 : Int) : Option (jS × Int) := jlpW (jc2 b_X1_renew_56) [x0, x1] s
noncomputable def u_X1_renew_56 : jS → Int → Int → Option (jS × Int) := Classical.choose (⟨du_X1_renew_56, rfl⟩ : ∃ f, f = du_X1_renew_56)
theorem eu_X1_renew_56 : u_X1_renew_56 = du_X1_renew_56 := Classical.choose_spec (⟨du_X1_renew_56, rfl⟩ : ∃ f, f = du_X1_renew_56)
def du_X1_renew_54 (s : jS) (x0 : Int) : Option (jS × Int) :=
  u_X1_renew_56 s x0 0
noncomputable def u_X1_renew_54 : jS → Int → Option (jS × Int) := Classical.choose (⟨du_X1_renew_54, rfl⟩ : ∃ f, f = du_X1_renew_54)
theorem eu_X1_renew_54 : u_X1_renew_54 = du_X1_renew_54 := Classical.choose_spec (⟨du_X1_renew_54, rfl⟩ : ∃ f, f = du_X1_renew_54)
def b_X1_renew_26 (s : jS) (x0 x1 : Int) : Option ((jS × List Int) ⊕ (jS × Int)) :=
  if x1 < 65536 then
    (jst s 1002 ((x0 + 4029) + 2) 65536 x1 (Wz 0)).bind fun s1 =>
    some (.inl (s1, [x0, W32 (x1 + 1)]))
  else
    jinr (u_X1_renew_54 s x0)
def du_X1_renew_26 (s : jS) (x0 x1 : Int) : Option (jS × Int) := jlpW (jc2 b_X1_renew_26) [x0, x1] s
noncomputable def u_X1_renew_26 : jS → Int → Int → Option (jS × Int) := Classical.choose (⟨du_X1_renew_26, rfl⟩ : ∃ f, f = du_X1_renew_26)
theorem eu_X1_renew_26 : u_X1_renew_26 = du_X1_renew_26 := Classical.choose_spec (⟨du_X1_renew_26, rfl⟩ : ∃ f, f = du_X1_renew_26)
def du_X1_renew_24 (s : jS) (x0 : Int) : Option (jS × Int) :=
  u_X1_renew_26 s x0 0
noncomputable def u_X1_renew_24 : jS → Int → Option (jS × Int) := Classical.choose (⟨du_X1_renew_24, rfl⟩ : ∃ f, f = du_X1_renew_24)
theorem eu_X1_renew_24 : u_X1_renew_24 = du_X1_renew_24 := Classical.choose_spec (⟨du_X1_renew_24, rfl⟩ : ∃ f, f = du_X1_renew_24)
def b_X1_renew_2 (s : jS) (x0 x1 : Int) : Option ((jS × List Int) ⊕ (jS × Int)) :=
  if x1 < 131072 then
    (jst s 1001 ((x0 + 4029) + 1) 131072 x1 (W8 0)).bind fun s1 =>
    some (.inl (s1, [x0, W32 (x1 + 1)]))
  else
    jinr (u_X1_renew_24 s x0)
def du_X1_renew_2 (s : jS) (x0 x1 : Int) : Option (jS × Int) := jlpW (jc2 b_X1_renew_2) [x0, x1] s
noncomputable def u_X1_renew_2 : jS → Int → Int → Option (jS × Int) := Classical.choose (⟨du_X1_renew_2, rfl⟩ : ∃ f, f = du_X1_renew_2)
theorem eu_X1_renew_2 : u_X1_renew_2 = du_X1_renew_2 := Classical.choose_spec (⟨du_X1_renew_2, rfl⟩ : ∃ f, f = du_X1_renew_2)
def dm_X1_renew (s : jS) (x0 : Int) : Option (jS × Int) :=
  u_X1_renew_2 s x0 0
noncomputable def m_X1_renew : jS → Int → Option (jS × Int) := Classical.choose (⟨dm_X1_renew, rfl⟩ : ∃ f, f = dm_X1_renew)
theorem em_X1_renew : m_X1_renew = dm_X1_renew := Classical.choose_spec (⟨dm_X1_renew, rfl⟩ : ∃ f, f = dm_X1_renew)
def dm_X1_place (s : jS) (x0 : Int) : Option (Int) :=
  some (jf s 1 x0 11)
noncomputable def m_X1_place : jS → Int → Option (Int) := Classical.choose (⟨dm_X1_place, rfl⟩ : ∃ f, f = dm_X1_place)
theorem em_X1_place : m_X1_place = dm_X1_place := Classical.choose_spec (⟨dm_X1_place, rfl⟩ : ∃ f, f = dm_X1_place)
def dm_X1_there (s : jS) (x0 : Int) : Option (jS × Bool × Int) :=
  (m_X1_isUnit s x0).bind fun v1 =>
  if v1 = 0 then
    (jnx s 2051).bind fun q2 =>
    jck0 q2.2 (some (q2.1, true, q2.2))
  else
    some (s, false, 0)
noncomputable def m_X1_there : jS → Int → Option (jS × Bool × Int) := Classical.choose (⟨dm_X1_there, rfl⟩ : ∃ f, f = dm_X1_there)
theorem em_X1_there : m_X1_there = dm_X1_there := Classical.choose_spec (⟨dm_X1_there, rfl⟩ : ∃ f, f = dm_X1_there)
def b_X2_down_10 (s : jS) (x0 x2 x3 : Int) : Option ((jS × List Int) ⊕ (jS × Int)) :=
  (jln s 1000 x2).bind fun v1 =>
  if x3 < v1 then
    (jsa s 1000 x2 x3 (W32 (x0 - x3))).bind fun s2 =>
    some (.inl (s2, [x0, x2, W32 (x3 + 1)]))
  else
    jinr (some (s, x2))
def du_X2_down_10 (s : jS) (x0 x2 x3 : Int) : Option (jS × Int) := jlpW (jc3 b_X2_down_10) [x0, x2, x3] s
noncomputable def u_X2_down_10 : jS → Int → Int → Int → Option (jS × Int) := Classical.choose (⟨du_X2_down_10, rfl⟩ : ∃ f, f = du_X2_down_10)
theorem eu_X2_down_10 : u_X2_down_10 = du_X2_down_10 := Classical.choose_spec (⟨du_X2_down_10, rfl⟩ : ∃ f, f = du_X2_down_10)
def dm_X2_down (s : jS) (x0 x1 : Int) : Option (jS × Int) :=
  (jna s 1000 (W32 ((W32 (x0 - x1)) + 1)) 0).bind fun q1 =>
  u_X2_down_10 q1.1 x0 q1.2 0
noncomputable def m_X2_down : jS → Int → Int → Option (jS × Int) := Classical.choose (⟨dm_X2_down, rfl⟩ : ∃ f, f = dm_X2_down)
theorem em_X2_down : m_X2_down = dm_X2_down := Classical.choose_spec (⟨dm_X2_down, rfl⟩ : ∃ f, f = dm_X2_down)
def b_X2_places_27 (s : jS) (x1 x2 x3 x4 : Int) : Option ((jS × List Int) ⊕ (jS × Int)) :=
  (jln s 1000 x2).bind fun v1 =>
  if x4 < v1 then
    (jld s 1000 x2 x4).bind fun v2 =>
    (jsa s 1000 x3 v2 (W32 (x1 - x4))).bind fun s3 =>
    some (.inl (s3, [x1, x2, x3, W32 (x4 + 1)]))
  else
    jinr (some (s, x3))
def du_X2_places_27 (s : jS) (x1 x2 x3 x4 : Int) : Option (jS × Int) := jlpW (jc4 b_X2_places_27) [x1, x2, x3, x4] s
noncomputable def u_X2_places_27 : jS → Int → Int → Int → Int → Option (jS × Int) := Classical.choose (⟨du_X2_places_27, rfl⟩ : ∃ f, f = du_X2_places_27)
theorem eu_X2_places_27 : u_X2_places_27 = du_X2_places_27 := Classical.choose_spec (⟨du_X2_places_27, rfl⟩ : ∃ f, f = du_X2_places_27)
def du_X2_places_24 (s : jS) (x1 x2 x3 : Int) : Option (jS × Int) :=
  u_X2_places_27 s x1 x2 x3 0
noncomputable def u_X2_places_24 : jS → Int → Int → Int → Option (jS × Int) := Classical.choose (⟨du_X2_places_24, rfl⟩ : ∃ f, f = du_X2_places_24)
theorem eu_X2_places_24 : u_X2_places_24 = du_X2_places_24 := Classical.choose_spec (⟨du_X2_places_24, rfl⟩ : ∃ f, f = du_X2_places_24)
def b_X2_places_7 (s : jS) (x0 x1 x2 x3 x4 : Int) : Option ((jS × List Int) ⊕ (jS × Int)) :=
  if x4 < x0 then
    (jsa s 1000 x3 x4 (-1)).bind fun s1 =>
    some (.inl (s1, [x0, x1, x2, x3, W32 (x4 + 1)]))
  else
    jinr (u_X2_places_24 s x1 x2 x3)
def du_X2_places_7 (s : jS) (x0 x1 x2 x3 x4 : Int) : Option (jS × Int) := jlpW (jc5 b_X2_places_7) [x0, x1, x2, x3, x4] s
noncomputable def u_X2_places_7 : jS → Int → Int → Int → Int → Int → Option (jS × Int) := Classical.choose (⟨du_X2_places_7, rfl⟩ : ∃ f, f = du_X2_places_7)
theorem eu_X2_places_7 : u_X2_places_7 = du_X2_places_7 := Classical.choose_spec (⟨du_X2_places_7, rfl⟩ : ∃ f, f = du_X2_places_7)
def dm_X2_places (s : jS) (x0 x1 x2 : Int) : Option (jS × Int) :=
  (jna s 1000 x0 0).bind fun q1 =>
  u_X2_places_7 q1.1 x0 x1 x2 q1.2 0
noncomputable def m_X2_places : jS → Int → Int → Int → Option (jS × Int) := Classical.choose (⟨dm_X2_places, rfl⟩ : ∃ f, f = dm_X2_places)
theorem em_X2_places : m_X2_places = dm_X2_places := Classical.choose_spec (⟨dm_X2_places, rfl⟩ : ∃ f, f = dm_X2_places)
def b_X2_places_2_11 (s : jS) (x3 x4 x5 x6 : Int) : Option ((jS × List Int) ⊕ (jS × Int)) :=
  (jln s 1000 x4).bind fun v1 =>
  if x6 < v1 then
    (jld s 1000 x4 x6).bind fun v2 =>
    (jsa s 1000 x5 v2 (W32 (x3 - x6))).bind fun s3 =>
    some (.inl (s3, [x3, x4, x5, W32 (x6 + 1)]))
  else
    jinr (some (s, x5))
def du_X2_places_2_11 (s : jS) (x3 x4 x5 x6 : Int) : Option (jS × Int) := jlpW (jc4 b_X2_places_2_11) [x3, x4, x5, x6] s
noncomputable def u_X2_places_2_11 : jS → Int → Int → Int → Int → Option (jS × Int) := Classical.choose (⟨du_X2_places_2_11, rfl⟩ : ∃ f, f = du_X2_places_2_11)
theorem eu_X2_places_2_11 : u_X2_places_2_11 = du_X2_places_2_11 := Classical.choose_spec (⟨du_X2_places_2_11, rfl⟩ : ∃ f, f = du_X2_places_2_11)
def dm_X2_places_2 (s : jS) (x0 x1 x2 x3 x4 : Int) : Option (jS × Int) :=
  (m_X2_places s x0 x1 x2).bind fun q1 =>
  u_X2_places_2_11 q1.1 x3 x4 q1.2 0
noncomputable def m_X2_places_2 : jS → Int → Int → Int → Int → Int → Option (jS × Int) := Classical.choose (⟨dm_X2_places_2, rfl⟩ : ∃ f, f = dm_X2_places_2)
theorem em_X2_places_2 : m_X2_places_2 = dm_X2_places_2 := Classical.choose_spec (⟨dm_X2_places_2, rfl⟩ : ∃ f, f = dm_X2_places_2)
def dm_X2_row (s : jS) (x0 : Int) : Option (Int) :=
  some x0
noncomputable def m_X2_row : jS → Int → Option (Int) := Classical.choose (⟨dm_X2_row, rfl⟩ : ∃ f, f = dm_X2_row)
theorem em_X2_row : m_X2_row = dm_X2_row := Classical.choose_spec (⟨dm_X2_row, rfl⟩ : ∃ f, f = dm_X2_row)
def dm_X2_whole (s : jS) (x0 : Int) : Option (Int) :=
  if (I_and x0 3) = 3 then
    some x0
  else
    some (I_and x0 65535)
noncomputable def m_X2_whole : jS → Int → Option (Int) := Classical.choose (⟨dm_X2_whole, rfl⟩ : ∃ f, f = dm_X2_whole)
theorem em_X2_whole : m_X2_whole = dm_X2_whole := Classical.choose_spec (⟨dm_X2_whole, rfl⟩ : ∃ f, f = dm_X2_whole)
def dm_X2_size (s : jS) (x0 x1 : Int) : Option (Int) :=
  if (I_and x1 3) = 3 then
    some 4
  else
    some 2
noncomputable def m_X2_size : jS → Int → Int → Option (Int) := Classical.choose (⟨dm_X2_size, rfl⟩ : ∃ f, f = dm_X2_size)
theorem em_X2_size : m_X2_size = dm_X2_size := Classical.choose_spec (⟨dm_X2_size, rfl⟩ : ∃ f, f = dm_X2_size)
def dm_X2_isKind (s : jS) (x0 x1 : Int) : Option (Int) :=
  if x1 < 0 then
    some (Wz 0)
  else
    if x1 < 75 then
      some (Wz 1)
    else
      some (Wz 0)
noncomputable def m_X2_isKind : jS → Int → Int → Option (Int) := Classical.choose (⟨dm_X2_isKind, rfl⟩ : ∃ f, f = dm_X2_isKind)
theorem em_X2_isKind : m_X2_isKind = dm_X2_isKind := Classical.choose_spec (⟨dm_X2_isKind, rfl⟩ : ∃ f, f = dm_X2_isKind)
def dm_X3_init (s : jS) (x0 : Int) : Option (jS × Int) :=
  jck0 x0 <|
  some (s, 0)
noncomputable def m_X3_init : jS → Int → Option (jS × Int) := Classical.choose (⟨dm_X3_init, rfl⟩ : ∃ f, f = dm_X3_init)
theorem em_X3_init : m_X3_init = dm_X3_init := Classical.choose_spec (⟨dm_X3_init, rfl⟩ : ∃ f, f = dm_X3_init)
def dm_X4_init (s : jS) (x0 x1 x2 : Int) : Option (jS × Int) :=
  (jck0 x0 (m_X3_init s x0)).bind fun q1 =>
  jls (jp q1.1 4 x0 0 x1) fun s2 =>
  jls (jp s2 4 x0 1 x2) fun s3 =>
  some (s3, 0)
noncomputable def m_X4_init : jS → Int → Int → Int → Option (jS × Int) := Classical.choose (⟨dm_X4_init, rfl⟩ : ∃ f, f = dm_X4_init)
theorem em_X4_init : m_X4_init = dm_X4_init := Classical.choose_spec (⟨dm_X4_init, rfl⟩ : ∃ f, f = dm_X4_init)
def dm_X4_all (s : jS) (x0 : Int) : Option (Int) :=
  some 31
noncomputable def m_X4_all : jS → Int → Option (Int) := Classical.choose (⟨dm_X4_all, rfl⟩ : ∃ f, f = dm_X4_all)
theorem em_X4_all : m_X4_all = dm_X4_all := Classical.choose_spec (⟨dm_X4_all, rfl⟩ : ∃ f, f = dm_X4_all)
def dm_X4_put (s : jS) (x0 x1 x2 : Int) : Option (Int) :=
  some (I_or (I_and x1 (I_xor (I_shl 31 (jf s 4 x0 0)) (-1))) (I_shl x2 (jf s 4 x0 0)))
noncomputable def m_X4_put : jS → Int → Int → Int → Option (Int) := Classical.choose (⟨dm_X4_put, rfl⟩ : ∃ f, f = dm_X4_put)
theorem em_X4_put : m_X4_put = dm_X4_put := Classical.choose_spec (⟨dm_X4_put, rfl⟩ : ∃ f, f = dm_X4_put)
def dm_X4_take (s : jS) (x0 x1 : Int) : Option (Int) :=
  some (I_and (I_shr x1 (jf s 4 x0 0)) 31)
noncomputable def m_X4_take : jS → Int → Int → Option (Int) := Classical.choose (⟨dm_X4_take, rfl⟩ : ∃ f, f = dm_X4_take)
theorem em_X4_take : m_X4_take = dm_X4_take := Classical.choose_spec (⟨dm_X4_take, rfl⟩ : ∃ f, f = dm_X4_take)
def dm_X4_may (s : jS) (x0 x1 : Int) : Option (Int) :=
  if (L_cmp x1 0) < 0 then
    some (Wz 0)
  else
    if (L_cmp x1 32) < 0 then
      if (I_and (I_shr (jf s 4 x0 1) (L2i x1)) 1) = 0 then
        some (Wz 1)
      else
        some (Wz 0)
    else
      some (Wz 0)
noncomputable def m_X4_may : jS → Int → Int → Option (Int) := Classical.choose (⟨dm_X4_may, rfl⟩ : ∃ f, f = dm_X4_may)
theorem em_X4_may : m_X4_may = dm_X4_may := Classical.choose_spec (⟨dm_X4_may, rfl⟩ : ∃ f, f = dm_X4_may)
def dm_X5_init (s : jS) (x0 x1 : Int) : Option (jS × Int) :=
  (jck0 x0 (m_X3_init s x0)).bind fun q1 =>
  jls (jp q1.1 5 x0 0 x1) fun s2 =>
  some (s2, 0)
noncomputable def m_X5_init : jS → Int → Int → Option (jS × Int) := Classical.choose (⟨dm_X5_init, rfl⟩ : ∃ f, f = dm_X5_init)
theorem em_X5_init : m_X5_init = dm_X5_init := Classical.choose_spec (⟨dm_X5_init, rfl⟩ : ∃ f, f = dm_X5_init)
def dm_X5_all (s : jS) (x0 : Int) : Option (Int) :=
  some 15
noncomputable def m_X5_all : jS → Int → Option (Int) := Classical.choose (⟨dm_X5_all, rfl⟩ : ∃ f, f = dm_X5_all)
theorem em_X5_all : m_X5_all = dm_X5_all := Classical.choose_spec (⟨dm_X5_all, rfl⟩ : ∃ f, f = dm_X5_all)
def dm_X5_put (s : jS) (x0 x1 x2 : Int) : Option (Int) :=
  some (I_or (I_and x1 (I_xor (I_shl 7 (jf s 5 x0 0)) (-1))) (I_shl (W32 (x2 - 8)) (jf s 5 x0 0)))
noncomputable def m_X5_put : jS → Int → Int → Int → Option (Int) := Classical.choose (⟨dm_X5_put, rfl⟩ : ∃ f, f = dm_X5_put)
theorem em_X5_put : m_X5_put = dm_X5_put := Classical.choose_spec (⟨dm_X5_put, rfl⟩ : ∃ f, f = dm_X5_put)
def dm_X5_take (s : jS) (x0 x1 : Int) : Option (Int) :=
  some (W32 (8 + (I_and (I_shr x1 (jf s 5 x0 0)) 7)))
noncomputable def m_X5_take : jS → Int → Int → Option (Int) := Classical.choose (⟨dm_X5_take, rfl⟩ : ∃ f, f = dm_X5_take)
theorem em_X5_take : m_X5_take = dm_X5_take := Classical.choose_spec (⟨dm_X5_take, rfl⟩ : ∃ f, f = dm_X5_take)
def dm_X5_may (s : jS) (x0 x1 : Int) : Option (Int) :=
  if (L_cmp x1 8) < 0 then
    some (Wz 0)
  else
    if (L_cmp x1 16) < 0 then
      some (Wz 1)
    else
      some (Wz 0)
noncomputable def m_X5_may : jS → Int → Int → Option (Int) := Classical.choose (⟨dm_X5_may, rfl⟩ : ∃ f, f = dm_X5_may)
theorem em_X5_may : m_X5_may = dm_X5_may := Classical.choose_spec (⟨dm_X5_may, rfl⟩ : ∃ f, f = dm_X5_may)
def dm_X6_init (s : jS) (x0 x1 x2 : Int) : Option (jS × Int) :=
  (jck0 x0 (m_X3_init s x0)).bind fun q1 =>
  (jwp q1.1 [(6, 0), (12, 0), (14, 0)] x0 x1).bind fun s2 =>
  (jzb x2).bind fun v3 =>
  (jwp s2 [(6, 1), (12, 1), (14, 1)] x0 v3).bind fun s4 =>
  some (s4, 0)
noncomputable def m_X6_init : jS → Int → Int → Int → Option (jS × Int) := Classical.choose (⟨dm_X6_init, rfl⟩ : ∃ f, f = dm_X6_init)
theorem em_X6_init : m_X6_init = dm_X6_init := Classical.choose_spec (⟨dm_X6_init, rfl⟩ : ∃ f, f = dm_X6_init)
def dm_X6_all (s : jS) (x0 : Int) : Option (Int) :=
  some (-1)
noncomputable def m_X6_all : jS → Int → Option (Int) := Classical.choose (⟨dm_X6_all, rfl⟩ : ∃ f, f = dm_X6_all)
theorem em_X6_all : m_X6_all = dm_X6_all := Classical.choose_spec (⟨dm_X6_all, rfl⟩ : ∃ f, f = dm_X6_all)
def du_X6_put_55 (s : jS) (x0 x2 x3 x4 : Int) : Option (List Int ⊕ (Int)) :=
  some (.inl [x0, x2, x3, W32 (x4 + 1)])
noncomputable def u_X6_put_55 : jS → Int → Int → Int → Int → Option (List Int ⊕ (Int)) := Classical.choose (⟨du_X6_put_55, rfl⟩ : ∃ f, f = du_X6_put_55)
theorem eu_X6_put_55 : u_X6_put_55 = du_X6_put_55 := Classical.choose_spec (⟨du_X6_put_55, rfl⟩ : ∃ f, f = du_X6_put_55)
def b_X6_put_5 (s : jS) (x0 x2 x3 x4 : Int) : Option (List Int ⊕ (Int)) :=
  (jrp s [(6, 0), (12, 0), (14, 0)] x0).bind fun v1 =>
  (jln s 1000 v1).bind fun v2 =>
  if x4 < v2 then
    (jrp s [(6, 0), (12, 0), (14, 0)] x0).bind fun v3 =>
    (jld s 1000 v3 x4).bind fun v4 =>
    if v4 = (-1) then
      u_X6_put_55 s x0 x2 x3 x4
    else
      (jrp s [(6, 0), (12, 0), (14, 0)] x0).bind fun v5 =>
      (jld s 1000 v5 x4).bind fun v6 =>
      (jrp s [(6, 0), (12, 0), (14, 0)] x0).bind fun v7 =>
      (jld s 1000 v7 x4).bind fun v8 =>
      jlet (I_or (I_and x3 (I_xor (I_shl 1 v6) (-1))) (I_shl (I_and (I_shr x2 x4) 1) v8)) fun v9 =>
      u_X6_put_55 s x0 x2 v9 x4
  else
    jinr (some x3)
def du_X6_put_5 (s : jS) (x0 x2 x3 x4 : Int) : Option (Int) := jlpR (jc4 b_X6_put_5) [x0, x2, x3, x4] s
noncomputable def u_X6_put_5 : jS → Int → Int → Int → Int → Option (Int) := Classical.choose (⟨du_X6_put_5, rfl⟩ : ∃ f, f = du_X6_put_5)
theorem eu_X6_put_5 : u_X6_put_5 = du_X6_put_5 := Classical.choose_spec (⟨du_X6_put_5, rfl⟩ : ∃ f, f = du_X6_put_5)
def dm_X6_put (s : jS) (x0 x1 x2 : Int) : Option (Int) :=
  u_X6_put_5 s x0 x2 x1 0
noncomputable def m_X6_put : jS → Int → Int → Int → Option (Int) := Classical.choose (⟨dm_X6_put, rfl⟩ : ∃ f, f = dm_X6_put)
theorem em_X6_put : m_X6_put = dm_X6_put := Classical.choose_spec (⟨dm_X6_put, rfl⟩ : ∃ f, f = dm_X6_put)
def du_X6_take_44 (s : jS) (x0 x2 : Int) : Option (Int) :=
  (jrp s [(6, 0), (12, 0), (14, 0)] x0).bind fun v1 =>
  (jln s 1000 v1).bind fun v2 =>
  jlet (W32 (32 - v2)) fun v3 =>
  (jrp s [(6, 1), (12, 1), (14, 1)] x0).bind fun v4 =>
  if v4 = 0 then
    some x2
  else
    some (I_shr (I_shl x2 v3) v3)
noncomputable def u_X6_take_44 : jS → Int → Int → Option (Int) := Classical.choose (⟨du_X6_take_44, rfl⟩ : ∃ f, f = du_X6_take_44)
theorem eu_X6_take_44 : u_X6_take_44 = du_X6_take_44 := Classical.choose_spec (⟨du_X6_take_44, rfl⟩ : ∃ f, f = du_X6_take_44)
def du_X6_take_38 (s : jS) (x0 x1 x2 x3 : Int) : Option (List Int ⊕ (Int)) :=
  some (.inl [x0, x1, x2, W32 (x3 + 1)])
noncomputable def u_X6_take_38 : jS → Int → Int → Int → Int → Option (List Int ⊕ (Int)) := Classical.choose (⟨du_X6_take_38, rfl⟩ : ∃ f, f = du_X6_take_38)
theorem eu_X6_take_38 : u_X6_take_38 = du_X6_take_38 := Classical.choose_spec (⟨du_X6_take_38, rfl⟩ : ∃ f, f = du_X6_take_38)
def b_X6_take_4 (s : jS) (x0 x1 x2 x3 : Int) : Option (List Int ⊕ (Int)) :=
  (jrp s [(6, 0), (12, 0), (14, 0)] x0).bind fun v1 =>
  (jln s 1000 v1).bind fun v2 =>
  if x3 < v2 then
    (jrp s [(6, 0), (12, 0), (14, 0)] x0).bind fun v3 =>
    (jld s 1000 v3 x3).bind fun v4 =>
    if v4 = (-1) then
      u_X6_take_38 s x0 x1 x2 x3
    else
      (jrp s [(6, 0), (12, 0), (14, 0)] x0).bind fun v5 =>
      (jld s 1000 v5 x3).bind fun v6 =>
      jlet (I_or x2 (I_shl (I_and (I_shr x1 v6) 1) x3)) fun v7 =>
      u_X6_take_38 s x0 x1 v7 x3
  else
    jinr (u_X6_take_44 s x0 x2)
def du_X6_take_4 (s : jS) (x0 x1 x2 x3 : Int) : Option (Int) := jlpR (jc4 b_X6_take_4) [x0, x1, x2, x3] s
noncomputable def u_X6_take_4 : jS → Int → Int → Int → Int → Option (Int) := Classical.choose (⟨du_X6_take_4, rfl⟩ : ∃ f, f = du_X6_take_4)
theorem eu_X6_take_4 : u_X6_take_4 = du_X6_take_4 := Classical.choose_spec (⟨du_X6_take_4, rfl⟩ : ∃ f, f = du_X6_take_4)
def dm_X6_take (s : jS) (x0 x1 : Int) : Option (Int) :=
  u_X6_take_4 s x0 x1 0 0
noncomputable def m_X6_take : jS → Int → Int → Option (Int) := Classical.choose (⟨dm_X6_take, rfl⟩ : ∃ f, f = dm_X6_take)
theorem em_X6_take : m_X6_take = dm_X6_take := Classical.choose_spec (⟨dm_X6_take, rfl⟩ : ∃ f, f = dm_X6_take)
def du_X6_idle_31 (s : jS) (x0 x3 y0 y1 : Int) : Option (List Int ⊕ (Int)) :=
  jlet (L_or y1 y0) fun v1 =>
  some (.inl [x0, v1, W32 (x3 + 1)])
noncomputable def u_X6_idle_31 : jS → Int → Int → Int → Int → Option (List Int ⊕ (Int)) := Classical.choose (⟨du_X6_idle_31, rfl⟩ : ∃ f, f = du_X6_idle_31)
theorem eu_X6_idle_31 : u_X6_idle_31 = du_X6_idle_31 := Classical.choose_spec (⟨du_X6_idle_31, rfl⟩ : ∃ f, f = du_X6_idle_31)
def b_X6_idle_4 (s : jS) (x0 x1 x3 : Int) : Option (List Int ⊕ (Int)) :=
  (jrp s [(6, 0), (12, 0), (14, 0)] x0).bind fun v1 =>
  (jln s 1000 v1).bind fun v2 =>
  if x3 < v2 then
    (jrp s [(6, 0), (12, 0), (14, 0)] x0).bind fun v3 =>
    (jld s 1000 v3 x3).bind fun v4 =>
    if v4 = (-1) then
      u_X6_idle_31 s x0 x3 (L_shl 1 x3) x1
    else
      u_X6_idle_31 s x0 x3 0 x1
  else
    jinr (some x1)
def du_X6_idle_4 (s : jS) (x0 x1 x3 : Int) : Option (Int) := jlpR (jc3 b_X6_idle_4) [x0, x1, x3] s
noncomputable def u_X6_idle_4 : jS → Int → Int → Int → Option (Int) := Classical.choose (⟨du_X6_idle_4, rfl⟩ : ∃ f, f = du_X6_idle_4)
theorem eu_X6_idle_4 : u_X6_idle_4 = du_X6_idle_4 := Classical.choose_spec (⟨du_X6_idle_4, rfl⟩ : ∃ f, f = du_X6_idle_4)
def dm_X6_idle (s : jS) (x0 : Int) : Option (Int) :=
  u_X6_idle_4 s x0 0 0
noncomputable def m_X6_idle : jS → Int → Option (Int) := Classical.choose (⟨dm_X6_idle, rfl⟩ : ∃ f, f = dm_X6_idle)
theorem em_X6_idle : m_X6_idle = dm_X6_idle := Classical.choose_spec (⟨dm_X6_idle, rfl⟩ : ∃ f, f = dm_X6_idle)
def dm_J0_isLatin1 (s : jS) (x0 : Int) : Option (Int) :=
  if 1 = 0 then
    some (Wz 0)
  else
    if (jf s 8 x0 1) = 0 then
      some (Wz 1)
    else
      some (Wz 0)
noncomputable def m_J0_isLatin1 : jS → Int → Option (Int) := Classical.choose (⟨dm_J0_isLatin1, rfl⟩ : ∃ f, f = dm_J0_isLatin1)
theorem em_J0_isLatin1 : m_J0_isLatin1 = dm_J0_isLatin1 := Classical.choose_spec (⟨dm_J0_isLatin1, rfl⟩ : ∃ f, f = dm_J0_isLatin1)
def dm_J0_getValue (s : jS) (x0 : Int) : Option (Int) :=
  some (jf s 8 x0 0)
noncomputable def m_J0_getValue : jS → Int → Option (Int) := Classical.choose (⟨dm_J0_getValue, rfl⟩ : ∃ f, f = dm_J0_getValue)
theorem em_J0_getValue : m_J0_getValue = dm_J0_getValue := Classical.choose_spec (⟨dm_J0_getValue, rfl⟩ : ∃ f, f = dm_J0_getValue)
def dm_J0_length (s : jS) (x0 : Int) : Option (Int) :=
  some (jf s 8 x0 3)
noncomputable def m_J0_length : jS → Int → Option (Int) := Classical.choose (⟨dm_J0_length, rfl⟩ : ∃ f, f = dm_J0_length)
theorem em_J0_length : m_J0_length = dm_J0_length := Classical.choose_spec (⟨dm_J0_length, rfl⟩ : ∃ f, f = dm_J0_length)
def dmq_J0_length (s : jS) (x0 : Int) : Option (Int) := if 0 ≤ x0 ∧ jK s x0 = 8 then m_J0_length s x0 else none
noncomputable def mq_J0_length : jS → Int → Option (Int) := Classical.choose (⟨dmq_J0_length, rfl⟩ : ∃ f, f = dmq_J0_length)
theorem emq_J0_length : mq_J0_length = dmq_J0_length := Classical.choose_spec (⟨dmq_J0_length, rfl⟩ : ∃ f, f = dmq_J0_length)
def dm_J1_length (s : jS) (x0 : Int) : Option (Int) :=
  (mq_J0_length s x0).bind fun v1 =>
  some v1
noncomputable def m_J1_length : jS → Int → Option (Int) := Classical.choose (⟨dm_J1_length, rfl⟩ : ∃ f, f = dm_J1_length)
theorem em_J1_length : m_J1_length = dm_J1_length := Classical.choose_spec (⟨dm_J1_length, rfl⟩ : ∃ f, f = dm_J1_length)
def dm_J2_coder (s : jS) (x0 : Int) : Option (Int) :=
  if 1 = 0 then
    some (W8 1)
  else
    (jrp s [(9, 1), (3009, 1)] x0).bind fun v1 =>
    some (W8 v1)
noncomputable def m_J2_coder : jS → Int → Option (Int) := Classical.choose (⟨dm_J2_coder, rfl⟩ : ∃ f, f = dm_J2_coder)
theorem em_J2_coder : m_J2_coder = dm_J2_coder := Classical.choose_spec (⟨dm_J2_coder, rfl⟩ : ∃ f, f = dm_J2_coder)
def dm_J2_isLatin1 (s : jS) (x0 : Int) : Option (Int) :=
  if 1 = 0 then
    some (Wz 0)
  else
    (jrp s [(9, 1), (3009, 1)] x0).bind fun v1 =>
    if v1 = 0 then
      some (Wz 1)
    else
      some (Wz 0)
noncomputable def m_J2_isLatin1 : jS → Int → Option (Int) := Classical.choose (⟨dm_J2_isLatin1, rfl⟩ : ∃ f, f = dm_J2_isLatin1)
theorem em_J2_isLatin1 : m_J2_isLatin1 = dm_J2_isLatin1 := Classical.choose_spec (⟨dm_J2_isLatin1, rfl⟩ : ∃ f, f = dm_J2_isLatin1)
def dm_J3_length (s : jS) (x0 : Int) : Option (Int) :=
  (jlnE s 1001 x0).bind fun v1 =>
  some (I_shr v1 1)
noncomputable def m_J3_length : jS → Int → Option (Int) := Classical.choose (⟨dm_J3_length, rfl⟩ : ∃ f, f = dm_J3_length)
theorem em_J3_length : m_J3_length = dm_J3_length := Classical.choose_spec (⟨dm_J3_length, rfl⟩ : ∃ f, f = dm_J3_length)
def dm_J3_coderFromArrayLen (s : jS) (x0 x1 : Int) : Option (Int) :=
  (jlnE s 1001 x0).bind fun v1 =>
  some (W8 (W8 (I_ushr (W32 (x1 - v1)) 31)))
noncomputable def m_J3_coderFromArrayLen : jS → Int → Int → Option (Int) := Classical.choose (⟨dm_J3_coderFromArrayLen, rfl⟩ : ∃ f, f = dm_J3_coderFromArrayLen)
theorem em_J3_coderFromArrayLen : m_J3_coderFromArrayLen = dm_J3_coderFromArrayLen := Classical.choose_spec (⟨dm_J3_coderFromArrayLen, rfl⟩ : ∃ f, f = dm_J3_coderFromArrayLen)
def dmp_X3_put (s : jS) (x0 x1 x2 : Int) : Option (Int) := if 0 ≤ x0 ∧ jK s x0 = 4 then jct s 20 x0 (m_X4_put s x0 x1 x2) else if 0 ≤ x0 ∧ jK s x0 = 5 then jct s 21 x0 (m_X5_put s x0 x1 x2) else if 0 ≤ x0 ∧ jK s x0 = 6 then m_X6_put s x0 x1 x2 else if 0 ≤ x0 ∧ jK s x0 = 12 then m_X6_put s x0 x1 x2 else if 0 ≤ x0 ∧ jK s x0 = 14 then m_X6_put s x0 x1 x2 else none
noncomputable def mp_X3_put : jS → Int → Int → Int → Option (Int) := Classical.choose (⟨dmp_X3_put, rfl⟩ : ∃ f, f = dmp_X3_put)
theorem emp_X3_put : mp_X3_put = dmp_X3_put := Classical.choose_spec (⟨dmp_X3_put, rfl⟩ : ∃ f, f = dmp_X3_put)
def dm_X7_put (s : jS) (x0 x1 x2 x3 : Int) : Option (Int) :=
  (jld s 1007 (jf s 11 x0 5) x2).bind fun v1 =>
  if v1 < 0 then
    some x1
  else
    (jld s 1007 (jf s 11 x0 5) x2).bind fun v2 =>
    (mp_X3_put s v2 x1 x3).bind fun v3 =>
    some v3
noncomputable def m_X7_put : jS → Int → Int → Int → Int → Option (Int) := Classical.choose (⟨dm_X7_put, rfl⟩ : ∃ f, f = dm_X7_put)
theorem em_X7_put : m_X7_put = dm_X7_put := Classical.choose_spec (⟨dm_X7_put, rfl⟩ : ∃ f, f = dm_X7_put)
def du_X7_parts_26 (s : jS) (x0 x2 y0 y1 : Int) : Option (List Int ⊕ (Int)) :=
  jlet (I_or y1 y0) fun v1 =>
  some (.inl [x0, v1, W32 (x2 + 1)])
noncomputable def u_X7_parts_26 : jS → Int → Int → Int → Int → Option (List Int ⊕ (Int)) := Classical.choose (⟨du_X7_parts_26, rfl⟩ : ∃ f, f = du_X7_parts_26)
theorem eu_X7_parts_26 : u_X7_parts_26 = du_X7_parts_26 := Classical.choose_spec (⟨du_X7_parts_26, rfl⟩ : ∃ f, f = du_X7_parts_26)
def b_X7_parts_4 (s : jS) (x0 x1 x2 : Int) : Option (List Int ⊕ (Int)) :=
  if x2 < 4 then
    (jld s 1007 (jf s 11 x0 5) x2).bind fun v1 =>
    if v1 < 0 then
      u_X7_parts_26 s x0 x2 0 x1
    else
      u_X7_parts_26 s x0 x2 (I_shl 1 x2) x1
  else
    jinr (some x1)
def du_X7_parts_4 (s : jS) (x0 x1 x2 : Int) : Option (Int) := jlpR (jc3 b_X7_parts_4) [x0, x1, x2] s
noncomputable def u_X7_parts_4 : jS → Int → Int → Int → Option (Int) := Classical.choose (⟨du_X7_parts_4, rfl⟩ : ∃ f, f = du_X7_parts_4)
theorem eu_X7_parts_4 : u_X7_parts_4 = du_X7_parts_4 := Classical.choose_spec (⟨du_X7_parts_4, rfl⟩ : ∃ f, f = du_X7_parts_4)
def dm_X7_parts (s : jS) (x0 : Int) : Option (Int) :=
  u_X7_parts_4 s x0 0 0
noncomputable def m_X7_parts : jS → Int → Option (Int) := Classical.choose (⟨dm_X7_parts, rfl⟩ : ∃ f, f = dm_X7_parts)
theorem em_X7_parts : m_X7_parts = dm_X7_parts := Classical.choose_spec (⟨dm_X7_parts, rfl⟩ : ∃ f, f = dm_X7_parts)
def dm_X8_init (s : jS) (x0 x1 x2 : Int) : Option (jS × Int) :=
  (jck0 x0 (m_X6_init s x0 x1 x2)).bind fun q1 =>
  some (q1.1, 0)
noncomputable def m_X8_init : jS → Int → Int → Int → Option (jS × Int) := Classical.choose (⟨dm_X8_init, rfl⟩ : ∃ f, f = dm_X8_init)
theorem em_X8_init : m_X8_init = dm_X8_init := Classical.choose_spec (⟨dm_X8_init, rfl⟩ : ∃ f, f = dm_X8_init)
def dm_X9_init (s : jS) (x0 x1 x2 x3 x4 : Int) : Option (jS × Int) :=
  jck0 x0 <|
  jls (jp s 13 x0 0 x1) fun s1 =>
  jls (jp s1 13 x0 1 x2) fun s2 =>
  jls (jp s2 13 x0 2 x3) fun s3 =>
  jls (jp s3 13 x0 3 x4) fun s4 =>
  some (s4, 0)
noncomputable def m_X9_init : jS → Int → Int → Int → Int → Int → Option (jS × Int) := Classical.choose (⟨dm_X9_init, rfl⟩ : ∃ f, f = dm_X9_init)
theorem em_X9_init : m_X9_init = dm_X9_init := Classical.choose_spec (⟨dm_X9_init, rfl⟩ : ∃ f, f = dm_X9_init)
def dm_X10_init (s : jS) (x0 x1 : Int) : Option (jS × Int) :=
  (jck0 x0 (m_X6_init s x0 x1 1)).bind fun q1 =>
  some (q1.1, 0)
noncomputable def m_X10_init : jS → Int → Int → Option (jS × Int) := Classical.choose (⟨dm_X10_init, rfl⟩ : ∃ f, f = dm_X10_init)
theorem em_X10_init : m_X10_init = dm_X10_init := Classical.choose_spec (⟨dm_X10_init, rfl⟩ : ∃ f, f = dm_X10_init)
def dmq_X6_take (s : jS) (x0 x1 : Int) : Option (Int) := if 0 ≤ x0 ∧ jK s x0 = 14 then m_X6_take s x0 x1 else none
noncomputable def mq_X6_take : jS → Int → Int → Option (Int) := Classical.choose (⟨dmq_X6_take, rfl⟩ : ∃ f, f = dmq_X6_take)
theorem emq_X6_take : mq_X6_take = dmq_X6_take := Classical.choose_spec (⟨dmq_X6_take, rfl⟩ : ∃ f, f = dmq_X6_take)
def dm_X10_take (s : jS) (x0 x1 : Int) : Option (Int) :=
  (mq_X6_take s x0 x1).bind fun v1 =>
  some (I_and v1 1048575)
noncomputable def m_X10_take : jS → Int → Int → Option (Int) := Classical.choose (⟨dm_X10_take, rfl⟩ : ∃ f, f = dm_X10_take)
theorem em_X10_take : m_X10_take = dm_X10_take := Classical.choose_spec (⟨dm_X10_take, rfl⟩ : ∃ f, f = dm_X10_take)
def du_X10_may_14 (s : jS) (x1 : Int) : Option (Int) :=
  if (L_cmp x1 1048544) < 0 then
    some (Wz 0)
  else
    if (L_cmp x1 1048576) < 0 then
      some (Wz 1)
    else
      some (Wz 0)
noncomputable def u_X10_may_14 : jS → Int → Option (Int) := Classical.choose (⟨du_X10_may_14, rfl⟩ : ∃ f, f = du_X10_may_14)
theorem eu_X10_may_14 : u_X10_may_14 = du_X10_may_14 := Classical.choose_spec (⟨du_X10_may_14, rfl⟩ : ∃ f, f = du_X10_may_14)
def dm_X10_may (s : jS) (x0 x1 : Int) : Option (Int) :=
  if 0 < (L_cmp x1 0) then
    if (L_cmp x1 32) < 0 then
      some (Wz 1)
    else
      u_X10_may_14 s x1
  else
    u_X10_may_14 s x1
noncomputable def m_X10_may : jS → Int → Int → Option (Int) := Classical.choose (⟨dm_X10_may, rfl⟩ : ∃ f, f = dm_X10_may)
theorem em_X10_may : m_X10_may = dm_X10_may := Classical.choose_spec (⟨dm_X10_may, rfl⟩ : ∃ f, f = dm_X10_may)
def du_X11_feed_62 (s : jS) (x0 x1 x2 x3 x4 x5 x6 y0 y1 y2 : Int) : Option ((jS × List Int) ⊕ (jS × Int)) :=
  (jst s 1001 y2 20 y1 (W8 (W8 (I_shr y0 (W32 (24 - (W32 (8 * (I_and x6 3))))))))).bind fun s1 =>
  some (.inl (s1, [x0, x1, x2, x3, x4, x5, W32 (x6 + 1)]))
noncomputable def u_X11_feed_62 : jS → Int → Int → Int → Int → Int → Int → Int → Int → Int → Int → Option ((jS × List Int) ⊕ (jS × Int)) := Classical.choose (⟨du_X11_feed_62, rfl⟩ : ∃ f, f = du_X11_feed_62)
theorem eu_X11_feed_62 : u_X11_feed_62 = du_X11_feed_62 := Classical.choose_spec (⟨du_X11_feed_62, rfl⟩ : ∃ f, f = du_X11_feed_62)
def b_X11_feed_3 (s : jS) (x0 x1 x2 x3 x4 x5 x6 : Int) : Option ((jS × List Int) ⊕ (jS × Int)) :=
  if x6 < 20 then
    if x6 < 4 then
      u_X11_feed_62 s x0 x1 x2 x3 x4 x5 x6 x1 x6 (x0 + 1)
    else
      if x6 < 8 then
        u_X11_feed_62 s x0 x1 x2 x3 x4 x5 x6 x2 x6 (x0 + 1)
      else
        if x6 < 12 then
          u_X11_feed_62 s x0 x1 x2 x3 x4 x5 x6 x3 x6 (x0 + 1)
        else
          if x6 < 16 then
            u_X11_feed_62 s x0 x1 x2 x3 x4 x5 x6 x4 x6 (x0 + 1)
          else
            u_X11_feed_62 s x0 x1 x2 x3 x4 x5 x6 x5 x6 (x0 + 1)
  else
    jinr (some (s, 0))
def du_X11_feed_3 (s : jS) (x0 x1 x2 x3 x4 x5 x6 : Int) : Option (jS × Int) := jlpW (jc7 b_X11_feed_3) [x0, x1, x2, x3, x4, x5, x6] s
noncomputable def u_X11_feed_3 : jS → Int → Int → Int → Int → Int → Int → Int → Option (jS × Int) := Classical.choose (⟨du_X11_feed_3, rfl⟩ : ∃ f, f = du_X11_feed_3)
theorem eu_X11_feed_3 : u_X11_feed_3 = du_X11_feed_3 := Classical.choose_spec (⟨du_X11_feed_3, rfl⟩ : ∃ f, f = du_X11_feed_3)
def dm_X11_feed (s : jS) (x0 x1 x2 x3 x4 x5 : Int) : Option (jS × Int) :=
  u_X11_feed_3 s x0 x1 x2 x3 x4 x5 0
noncomputable def m_X11_feed : jS → Int → Int → Int → Int → Int → Int → Option (jS × Int) := Classical.choose (⟨dm_X11_feed, rfl⟩ : ∃ f, f = dm_X11_feed)
theorem em_X11_feed : m_X11_feed = dm_X11_feed := Classical.choose_spec (⟨dm_X11_feed, rfl⟩ : ∃ f, f = dm_X11_feed)
def du_X11_end_85 (s : jS) (x0 : Int) : Option (jS × Int) :=
  some (s, jf s 15 x0 2)
noncomputable def u_X11_end_85 : jS → Int → Option (jS × Int) := Classical.choose (⟨du_X11_end_85, rfl⟩ : ∃ f, f = du_X11_end_85)
theorem eu_X11_end_85 : u_X11_end_85 = du_X11_end_85 := Classical.choose_spec (⟨du_X11_end_85, rfl⟩ : ∃ f, f = du_X11_end_85)
def b_X11_end_66 (s : jS) (x0 x2 : Int) : Option ((jS × List Int) ⊕ (jS × Int)) :=
  if x2 < 20 then
    (jst s 1001 (x0 + 1) 20 x2 (W8 0)).bind fun s1 =>
    some (.inl (s1, [x0, W32 (x2 + 1)]))
  else
    jinr (u_X11_end_85 s x0)
def du_X11_end_66 (s : jS) (x0 x2 : Int) : Option (jS × Int) := jlpW (jc2 b_X11_end_66) [x0, x2] s
noncomputable def u_X11_end_66 : jS → Int → Int → Option (jS × Int) := Classical.choose (⟨du_X11_end_66, rfl⟩ : ∃ f, f = du_X11_end_66)
theorem eu_X11_end_66 : u_X11_end_66 = du_X11_end_66 := Classical.choose_spec (⟨du_X11_end_66, rfl⟩ : ∃ f, f = du_X11_end_66)
def du_X11_end_54 (s : jS) (x0 x1 : Int) : Option (jS × Int) :=
  jls (jp s 15 x0 2 (W32 ((jf s 15 x0 2) + x1))) fun s1 =>
  u_X11_end_66 s1 x0 0
noncomputable def u_X11_end_54 : jS → Int → Int → Option (jS × Int) := Classical.choose (⟨du_X11_end_54, rfl⟩ : ∃ f, f = du_X11_end_54)
theorem eu_X11_end_54 : u_X11_end_54 = du_X11_end_54 := Classical.choose_spec (⟨du_X11_end_54, rfl⟩ : ∃ f, f = du_X11_end_54)
def b_X11_end_26 (s : jS) (x0 x1 x2 : Int) : Option ((jS × List Int) ⊕ (jS × Int)) :=
  if x2 < x1 then
    (jlt s 1001 (x0 + 1) 20 x2).bind fun v1 =>
    (jst s 1001 (x0 + 2) 3000 (W32 ((jf s 15 x0 2) + x2)) (W8 v1)).bind fun s2 =>
    some (.inl (s2, [x0, x1, W32 (x2 + 1)]))
  else
    jinr (u_X11_end_54 s x0 x1)
def du_X11_end_26 (s : jS) (x0 x1 x2 : Int) : Option (jS × Int) := jlpW (jc3 b_X11_end_26) [x0, x1, x2] s
noncomputable def u_X11_end_26 : jS → Int → Int → Int → Option (jS × Int) := Classical.choose (⟨du_X11_end_26, rfl⟩ : ∃ f, f = du_X11_end_26)
theorem eu_X11_end_26 : u_X11_end_26 = du_X11_end_26 := Classical.choose_spec (⟨du_X11_end_26, rfl⟩ : ∃ f, f = du_X11_end_26)
def dm_X11_end (s : jS) (x0 x1 : Int) : Option (jS × Int) :=
  if x1 < 0 then
    some (s, (-1))
  else
    if 20 < x1 then
      some (s, (-1))
    else
      if 3000 < (W32 ((jf s 15 x0 2) + x1)) then
        some (s, (-1))
      else
        u_X11_end_26 s x0 x1 0
noncomputable def m_X11_end : jS → Int → Int → Option (jS × Int) := Classical.choose (⟨dm_X11_end, rfl⟩ : ∃ f, f = dm_X11_end)
theorem em_X11_end : m_X11_end = dm_X11_end := Classical.choose_spec (⟨dm_X11_end, rfl⟩ : ∃ f, f = dm_X11_end)
def du_X11_isLetter_12 (s : jS) (x0 : Int) : Option (Int) :=
  if x0 < 65 then
    some (Wz 0)
  else
    if 90 < x0 then
      some (Wz 0)
    else
      some (Wz 1)
noncomputable def u_X11_isLetter_12 : jS → Int → Option (Int) := Classical.choose (⟨du_X11_isLetter_12, rfl⟩ : ∃ f, f = du_X11_isLetter_12)
theorem eu_X11_isLetter_12 : u_X11_isLetter_12 = du_X11_isLetter_12 := Classical.choose_spec (⟨du_X11_isLetter_12, rfl⟩ : ∃ f, f = du_X11_isLetter_12)
def dm_X11_isLetter (s : jS) (x0 : Int) : Option (Int) :=
  if x0 < 97 then
    u_X11_isLetter_12 s x0
  else
    if 122 < x0 then
      u_X11_isLetter_12 s x0
    else
      some (Wz 1)
noncomputable def m_X11_isLetter : jS → Int → Option (Int) := Classical.choose (⟨dm_X11_isLetter, rfl⟩ : ∃ f, f = dm_X11_isLetter)
theorem em_X11_isLetter : m_X11_isLetter = dm_X11_isLetter := Classical.choose_spec (⟨dm_X11_isLetter, rfl⟩ : ∃ f, f = dm_X11_isLetter)
def dm_X11_isDigit (s : jS) (x0 : Int) : Option (Int) :=
  if x0 < 48 then
    some (Wz 0)
  else
    if 57 < x0 then
      some (Wz 0)
    else
      some (Wz 1)
noncomputable def m_X11_isDigit : jS → Int → Option (Int) := Classical.choose (⟨dm_X11_isDigit, rfl⟩ : ∃ f, f = dm_X11_isDigit)
theorem em_X11_isDigit : m_X11_isDigit = dm_X11_isDigit := Classical.choose_spec (⟨dm_X11_isDigit, rfl⟩ : ∃ f, f = dm_X11_isDigit)
def du_X11_hexOf_36 (s : jS) (x0 : Int) : Option (Int) :=
  if x0 < 65 then
    some 16
  else
    if 70 < x0 then
      some 16
    else
      some (W32 ((W32 (x0 - 65)) + 10))
noncomputable def u_X11_hexOf_36 : jS → Int → Option (Int) := Classical.choose (⟨du_X11_hexOf_36, rfl⟩ : ∃ f, f = du_X11_hexOf_36)
theorem eu_X11_hexOf_36 : u_X11_hexOf_36 = du_X11_hexOf_36 := Classical.choose_spec (⟨du_X11_hexOf_36, rfl⟩ : ∃ f, f = du_X11_hexOf_36)
def dm_X11_hexOf (s : jS) (x0 : Int) : Option (Int) :=
  (m_X11_isDigit s x0).bind fun v1 =>
  if v1 = 0 then
    if x0 < 97 then
      u_X11_hexOf_36 s x0
    else
      if 102 < x0 then
        u_X11_hexOf_36 s x0
      else
        some (W32 ((W32 (x0 - 97)) + 10))
  else
    some (W32 (x0 - 48))
noncomputable def m_X11_hexOf : jS → Int → Option (Int) := Classical.choose (⟨dm_X11_hexOf, rfl⟩ : ∃ f, f = dm_X11_hexOf)
theorem em_X11_hexOf : m_X11_hexOf = dm_X11_hexOf := Classical.choose_spec (⟨dm_X11_hexOf, rfl⟩ : ∃ f, f = dm_X11_hexOf)
def dm_X11_sortOf (s : jS) (x0 : Int) : Option (Int) :=
  if x0 = 37 then
    some 16
  else
  if x0 = 38 then
    some 19
  else
  if x0 = 42 then
    some 14
  else
  if x0 = 43 then
    some 12
  else
  if x0 = 45 then
    some 13
  else
  if x0 = 47 then
    some 15
  else
  if x0 = 94 then
    some 20
  else
  if x0 = 124 then
    some 21
  else
  if x0 = 256 then
    some 17
  else
  if x0 = 257 then
    some 18
  else
  some (-1)
noncomputable def m_X11_sortOf : jS → Int → Option (Int) := Classical.choose (⟨dm_X11_sortOf, rfl⟩ : ∃ f, f = dm_X11_sortOf)
theorem em_X11_sortOf : m_X11_sortOf = dm_X11_sortOf := Classical.choose_spec (⟨dm_X11_sortOf, rfl⟩ : ∃ f, f = dm_X11_sortOf)
def dm_X11_bindsOf (s : jS) (x0 : Int) : Option (Int) :=
  if x0 = 21 then
    some 1
  else
    if x0 = 20 then
      some 2
    else
      if x0 = 19 then
        some 3
      else
        if 16 < x0 then
          some 4
        else
          if x0 < 14 then
            some 5
          else
            some 6
noncomputable def m_X11_bindsOf : jS → Int → Option (Int) := Classical.choose (⟨dm_X11_bindsOf, rfl⟩ : ∃ f, f = dm_X11_bindsOf)
theorem em_X11_bindsOf : m_X11_bindsOf = dm_X11_bindsOf := Classical.choose_spec (⟨dm_X11_bindsOf, rfl⟩ : ∃ f, f = dm_X11_bindsOf)
def dm_X11_fault (s : jS) (x0 x1 : Int) : Option (Int) :=
  if x1 = 0 then
    some (jf s 15 x0 3)
  else
    if x1 = 1 then
      some (jf s 15 x0 4)
    else
      some (-1)
noncomputable def m_X11_fault : jS → Int → Int → Option (Int) := Classical.choose (⟨dm_X11_fault, rfl⟩ : ∃ f, f = dm_X11_fault)
theorem em_X11_fault : m_X11_fault = dm_X11_fault := Classical.choose_spec (⟨dm_X11_fault, rfl⟩ : ∃ f, f = dm_X11_fault)
def dm_X11_count (s : jS) (x0 x1 : Int) : Option (Int) :=
  if x1 = 0 then
    (jrd s 16 (jf s 15 x0 5) 5).bind fun v1 =>
    some v1
  else
  if x1 = 1 then
    (jrd s 16 (jf s 15 x0 5) 6).bind fun v2 =>
    some v2
  else
  if x1 = 2 then
    (jrd s 16 (jf s 15 x0 5) 7).bind fun v3 =>
    some v3
  else
  if x1 = 3 then
    (jrd s 16 (jf s 15 x0 5) 8).bind fun v4 =>
    some v4
  else
  some (-1)
noncomputable def m_X11_count : jS → Int → Int → Option (Int) := Classical.choose (⟨dm_X11_count, rfl⟩ : ∃ f, f = dm_X11_count)
theorem em_X11_count : m_X11_count = dm_X11_count := Classical.choose_spec (⟨dm_X11_count, rfl⟩ : ∃ f, f = dm_X11_count)
def dm_X11_statementOf (s : jS) (x0 x1 : Int) : Option (Int) :=
  if x1 < 0 then
    some (-1)
  else
    (jrd s 16 (jf s 15 x0 5) 5).bind fun v1 =>
    if x1 < v1 then
      (jrd s 16 (jf s 15 x0 5) 0).bind fun v2 =>
      (jld s 1025 v2 x1).bind fun v3 =>
      some v3
    else
      some (-1)
noncomputable def m_X11_statementOf : jS → Int → Int → Option (Int) := Classical.choose (⟨dm_X11_statementOf, rfl⟩ : ∃ f, f = dm_X11_statementOf)
theorem em_X11_statementOf : m_X11_statementOf = dm_X11_statementOf := Classical.choose_spec (⟨dm_X11_statementOf, rfl⟩ : ∃ f, f = dm_X11_statementOf)
def dm_X11_operandOf (s : jS) (x0 x1 : Int) : Option (Int) :=
  if x1 < 0 then
    some (-1)
  else
    (jrd s 16 (jf s 15 x0 5) 6).bind fun v1 =>
    if x1 < v1 then
      (jrd s 16 (jf s 15 x0 5) 1).bind fun v2 =>
      (jld s 1024 v2 x1).bind fun v3 =>
      some v3
    else
      some (-1)
noncomputable def m_X11_operandOf : jS → Int → Int → Option (Int) := Classical.choose (⟨dm_X11_operandOf, rfl⟩ : ∃ f, f = dm_X11_operandOf)
theorem em_X11_operandOf : m_X11_operandOf = dm_X11_operandOf := Classical.choose_spec (⟨dm_X11_operandOf, rfl⟩ : ∃ f, f = dm_X11_operandOf)
def dm_X11_item (s : jS) (x0 x1 x2 : Int) : Option (Int) :=
  if x1 < 0 then
    some 0
  else
    (jrd s 16 (jf s 15 x0 5) 7).bind fun v1 =>
    if x1 < v1 then
      if x2 = 0 then
        (jrd s 16 (jf s 15 x0 5) 2).bind fun v2 =>
        (jld s 1000 v2 x1).bind fun v3 =>
        some v3
      else
        if x2 = 1 then
          (jrd s 16 (jf s 15 x0 5) 3).bind fun v4 =>
          (jld s 1000 v4 x1).bind fun v5 =>
          some v5
        else
          some 0
    else
      some 0
noncomputable def m_X11_item : jS → Int → Int → Int → Option (Int) := Classical.choose (⟨dm_X11_item, rfl⟩ : ∃ f, f = dm_X11_item)
theorem em_X11_item : m_X11_item = dm_X11_item := Classical.choose_spec (⟨dm_X11_item, rfl⟩ : ∃ f, f = dm_X11_item)
def dm_X12_init (s : jS) (x0 : Int) : Option (jS × Int) :=
  jck0 x0 <|
  (jna s 1025 400 (-1)).bind fun q1 =>
  (jwr q1.1 16 x0 0 q1.2).bind fun s2 =>
  (jna s2 1024 800 (-1)).bind fun q3 =>
  (jwr q3.1 16 x0 1 q3.2).bind fun s4 =>
  (jna s4 1000 2000 0).bind fun q5 =>
  (jwr q5.1 16 x0 2 q5.2).bind fun s6 =>
  (jna s6 1000 2000 0).bind fun q7 =>
  (jwr q7.1 16 x0 3 q7.2).bind fun s8 =>
  (jna s8 1026 150 (-1)).bind fun q9 =>
  (jwr q9.1 16 x0 4 q9.2).bind fun s10 =>
  some (s10, 0)
noncomputable def m_X12_init : jS → Int → Option (jS × Int) := Classical.choose (⟨dm_X12_init, rfl⟩ : ∃ f, f = dm_X12_init)
theorem em_X12_init : m_X12_init = dm_X12_init := Classical.choose_spec (⟨dm_X12_init, rfl⟩ : ∃ f, f = dm_X12_init)
def dm_X12_clear (s : jS) (x0 : Int) : Option (jS × Int) :=
  jls (jp s 16 x0 5 0) fun s1 =>
  jls (jp s1 16 x0 6 0) fun s2 =>
  jls (jp s2 16 x0 7 0) fun s3 =>
  jls (jp s3 16 x0 8 0) fun s4 =>
  some (s4, 0)
noncomputable def m_X12_clear : jS → Int → Option (jS × Int) := Classical.choose (⟨dm_X12_clear, rfl⟩ : ∃ f, f = dm_X12_clear)
theorem em_X12_clear : m_X12_clear = dm_X12_clear := Classical.choose_spec (⟨dm_X12_clear, rfl⟩ : ∃ f, f = dm_X12_clear)
def dm_X12_item (s : jS) (x0 x1 x2 : Int) : Option (jS × Int) :=
  (jst s 1000 (x0 + 3) 2000 (jf s 16 x0 7) x1).bind fun s1 =>
  (jst s1 1000 (x0 + 4) 2000 (jf s1 16 x0 7) x2).bind fun s2 =>
  jls (jp s2 16 x0 7 (W32 ((jf s2 16 x0 7) + 1))) fun s3 =>
  some (s3, 0)
noncomputable def m_X12_item : jS → Int → Int → Int → Option (jS × Int) := Classical.choose (⟨dm_X12_item, rfl⟩ : ∃ f, f = dm_X12_item)
theorem em_X12_item : m_X12_item = dm_X12_item := Classical.choose_spec (⟨dm_X12_item, rfl⟩ : ∃ f, f = dm_X12_item)
def dm_X13_in (s : jS) (x0 x1 x2 : Int) : Option (Int) :=
  if x0 < x1 then
    some (Wz 0)
  else
    if x2 < x0 then
      some (Wz 0)
    else
      some (Wz 1)
noncomputable def m_X13_in : jS → Int → Int → Int → Option (Int) := Classical.choose (⟨dm_X13_in, rfl⟩ : ∃ f, f = dm_X13_in)
theorem em_X13_in : m_X13_in = dm_X13_in := Classical.choose_spec (⟨dm_X13_in, rfl⟩ : ∃ f, f = dm_X13_in)
def dm_X13_cut (s : jS) (x0 x1 : Int) : Option (jS × Int) :=
  (m_X13_in s x1 0 (jf s 23 (x0 + 1229) 1)).bind fun v1 =>
  if v1 = 0 then
    some (s, Wz 0)
  else
    jls (jp s 23 (x0 + 1229) 1 x1) fun s2 =>
    some (s2, Wz 1)
noncomputable def m_X13_cut : jS → Int → Int → Option (jS × Int) := Classical.choose (⟨dm_X13_cut, rfl⟩ : ∃ f, f = dm_X13_cut)
theorem em_X13_cut : m_X13_cut = dm_X13_cut := Classical.choose_spec (⟨dm_X13_cut, rfl⟩ : ∃ f, f = dm_X13_cut)
def dm_X13_size (s : jS) (x0 : Int) : Option (Int) :=
  some (jf s 23 (x0 + 1229) 1)
noncomputable def m_X13_size : jS → Int → Option (Int) := Classical.choose (⟨dm_X13_size, rfl⟩ : ∃ f, f = dm_X13_size)
theorem em_X13_size : m_X13_size = dm_X13_size := Classical.choose_spec (⟨dm_X13_size, rfl⟩ : ∃ f, f = dm_X13_size)
def dm_X13_startAt (s : jS) (x0 x1 : Int) : Option (Int) :=
  (m_X13_in s x1 0 (W32 ((jf s 18 (x0 + 614) 2) - 1))).bind fun v1 =>
  if v1 = 0 then
    some (-1)
  else
    (jlt s 1003 ((x0 + 614) + 2) 1024 x1).bind fun v2 =>
    some v2
noncomputable def m_X13_startAt : jS → Int → Int → Option (Int) := Classical.choose (⟨dm_X13_startAt, rfl⟩ : ∃ f, f = dm_X13_startAt)
theorem em_X13_startAt : m_X13_startAt = dm_X13_startAt := Classical.choose_spec (⟨dm_X13_startAt, rfl⟩ : ∃ f, f = dm_X13_startAt)
def dm_X13_place (s : jS) (x0 : Int) : Option (Int) :=
  some (jf s 17 x0 6)
noncomputable def m_X13_place : jS → Int → Option (Int) := Classical.choose (⟨dm_X13_place, rfl⟩ : ∃ f, f = dm_X13_place)
theorem em_X13_place : m_X13_place = dm_X13_place := Classical.choose_spec (⟨dm_X13_place, rfl⟩ : ∃ f, f = dm_X13_place)
def dm_X13_bss (s : jS) (x0 x1 : Int) : Option (jS × Int) :=
  (m_X13_in s x1 0 4096).bind fun v1 =>
  if v1 = 0 then
    some (s, Wz 0)
  else
    (jix 4 3 (((x0 + 1) + 1) + 4 + 2 * 3)).bind fun v2 =>
    jls (jp s 19 v2 1 x1) fun s3 =>
    some (s3, Wz 1)
noncomputable def m_X13_bss : jS → Int → Int → Option (jS × Int) := Classical.choose (⟨dm_X13_bss, rfl⟩ : ∃ f, f = dm_X13_bss)
theorem em_X13_bss : m_X13_bss = dm_X13_bss := Classical.choose_spec (⟨dm_X13_bss, rfl⟩ : ∃ f, f = dm_X13_bss)
def dm_X13_align (s : jS) (x0 x1 x2 : Int) : Option (jS × Int) :=
  (m_X13_in s x1 0 3).bind fun v1 =>
  if v1 = 0 then
    some (s, Wz 0)
  else
    (m_X13_in s x2 0 6).bind fun v2 =>
    if v2 = 0 then
      some (s, Wz 0)
    else
      (jix 4 x1 (((x0 + 1) + 1) + 4 + 2 * x1)).bind fun v3 =>
      jls (jp s 19 v3 2 (I_shl 1 x2)) fun s4 =>
      some (s4, Wz 1)
noncomputable def m_X13_align : jS → Int → Int → Int → Option (jS × Int) := Classical.choose (⟨dm_X13_align, rfl⟩ : ∃ f, f = dm_X13_align)
theorem em_X13_align : m_X13_align = dm_X13_align := Classical.choose_spec (⟨dm_X13_align, rfl⟩ : ∃ f, f = dm_X13_align)
def dm_X13_isAlignment (s : jS) (x0 : Int) : Option (Int) :=
  if 0 < (L_cmp x0 0) then
    if 0 < (L_cmp x0 64) then
      some (Wz 0)
    else
      if (L_cmp (L_and x0 (W64 (x0 - 1))) 0) = 0 then
        some (Wz 1)
      else
        some (Wz 0)
  else
    some (Wz 0)
noncomputable def m_X13_isAlignment : jS → Int → Option (Int) := Classical.choose (⟨dm_X13_isAlignment, rfl⟩ : ∃ f, f = dm_X13_isAlignment)
theorem em_X13_isAlignment : m_X13_isAlignment = dm_X13_isAlignment := Classical.choose_spec (⟨dm_X13_isAlignment, rfl⟩ : ∃ f, f = dm_X13_isAlignment)
def dm_X13_isMoves (s : jS) (x0 : Int) : Option (Int) :=
  (m_X13_in s x0 6 8).bind fun v1 =>
  some (Wz v1)
noncomputable def m_X13_isMoves : jS → Int → Option (Int) := Classical.choose (⟨dm_X13_isMoves, rfl⟩ : ∃ f, f = dm_X13_isMoves)
theorem em_X13_isMoves : m_X13_isMoves = dm_X13_isMoves := Classical.choose_spec (⟨dm_X13_isMoves, rfl⟩ : ∃ f, f = dm_X13_isMoves)
def dm_X13_nameOf (s : jS) (x0 : Int) : Option (Int) :=
  if x0 = 1 then
    some (jc s 171)
  else
  if x0 = 2 then
    some (jc s 172)
  else
  if x0 = 3 then
    some (jc s 173)
  else
  if x0 = 4 then
    some (jc s 174)
  else
  if x0 = 5 then
    some (jc s 175)
  else
  if x0 = 6 then
    some (jc s 176)
  else
  if x0 = 7 then
    some (jc s 177)
  else
  if x0 = 8 then
    some (jc s 178)
  else
  if x0 = 9 then
    some (jc s 179)
  else
  if x0 = 10 then
    some (jc s 180)
  else
  some (jc s 181)
noncomputable def m_X13_nameOf : jS → Int → Option (Int) := Classical.choose (⟨dm_X13_nameOf, rfl⟩ : ∃ f, f = dm_X13_nameOf)
theorem em_X13_nameOf : m_X13_nameOf = dm_X13_nameOf := Classical.choose_spec (⟨dm_X13_nameOf, rfl⟩ : ∃ f, f = dm_X13_nameOf)
def dm_X13_sortOf (s : jS) (x0 : Int) : Option (Int) :=
  if x0 = 4 then
    some 8
  else
    if x0 < 6 then
      some 1
    else
      (m_X13_isMoves s x0).bind fun v1 =>
      if v1 = 0 then
        if x0 = 9 then
          some 2
        else
          some 3
      else
        some 4
noncomputable def m_X13_sortOf : jS → Int → Option (Int) := Classical.choose (⟨dm_X13_sortOf, rfl⟩ : ∃ f, f = dm_X13_sortOf)
theorem em_X13_sortOf : m_X13_sortOf = dm_X13_sortOf := Classical.choose_spec (⟨dm_X13_sortOf, rfl⟩ : ∃ f, f = dm_X13_sortOf)
def dm_X13_flagsOf (s : jS) (x0 : Int) : Option (Int) :=
  if x0 = 1 then
    some 6
  else
    if x0 = 2 then
      some 2
    else
      if x0 < 5 then
        some 3
      else
        (m_X13_isMoves s x0).bind fun v1 =>
        if v1 = 0 then
          some 0
        else
          some 64
noncomputable def m_X13_flagsOf : jS → Int → Option (Int) := Classical.choose (⟨dm_X13_flagsOf, rfl⟩ : ∃ f, f = dm_X13_flagsOf)
theorem em_X13_flagsOf : m_X13_flagsOf = dm_X13_flagsOf := Classical.choose_spec (⟨dm_X13_flagsOf, rfl⟩ : ∃ f, f = dm_X13_flagsOf)
def dm_X13_eachOf (s : jS) (x0 : Int) : Option (Int) :=
  if x0 = 5 then
    some 2
  else
    (m_X13_isMoves s x0).bind fun v1 =>
    if v1 = 0 then
      if x0 = 9 then
        some 16
      else
        some 0
    else
      some 12
noncomputable def m_X13_eachOf : jS → Int → Option (Int) := Classical.choose (⟨dm_X13_eachOf, rfl⟩ : ∃ f, f = dm_X13_eachOf)
theorem em_X13_eachOf : m_X13_eachOf = dm_X13_eachOf := Classical.choose_spec (⟨dm_X13_eachOf, rfl⟩ : ∃ f, f = dm_X13_eachOf)
def dm_X14_room (s : jS) (x0 x1 : Int) : Option (Int) :=
  (jix 4 x1 ((x0 + 1) + 4 + 2 * x1)).bind fun v1 =>
  some (jf s 19 v1 1)
noncomputable def m_X14_room : jS → Int → Int → Option (Int) := Classical.choose (⟨dm_X14_room, rfl⟩ : ∃ f, f = dm_X14_room)
theorem em_X14_room : m_X14_room = dm_X14_room := Classical.choose_spec (⟨dm_X14_room, rfl⟩ : ∃ f, f = dm_X14_room)
def dm_X14_isShort (s : jS) (x0 x1 : Int) : Option (Int) :=
  (jix 4 0 ((x0 + 1) + 4 + 2 * 0)).bind fun v1 =>
  (jlt s 1003 (x0 + 2) 1024 x1).bind fun v2 =>
  (jlt s 1001 (v1 + 1) (jN s (v1 + 1)) v2).bind fun v3 =>
  if (I_and v3 3) = 3 then
    some (Wz 0)
  else
    some (Wz 1)
noncomputable def m_X14_isShort : jS → Int → Int → Option (Int) := Classical.choose (⟨dm_X14_isShort, rfl⟩ : ∃ f, f = dm_X14_isShort)
theorem em_X14_isShort : m_X14_isShort = dm_X14_isShort := Classical.choose_spec (⟨dm_X14_isShort, rfl⟩ : ∃ f, f = dm_X14_isShort)
def du_X14_start_44 (s : jS) (x0 x1 : Int) : Option (jS × Int) :=
  (jst s 1003 (x0 + 2) 1024 (jf s 18 x0 2) (W16 (W16 x1))).bind fun s1 =>
  jls (jp s1 18 x0 2 (W32 ((jf s1 18 x0 2) + 1))) fun s2 =>
  some (s2, Wz 1)
noncomputable def u_X14_start_44 : jS → Int → Int → Option (jS × Int) := Classical.choose (⟨du_X14_start_44, rfl⟩ : ∃ f, f = du_X14_start_44)
theorem eu_X14_start_44 : u_X14_start_44 = du_X14_start_44 := Classical.choose_spec (⟨du_X14_start_44, rfl⟩ : ∃ f, f = du_X14_start_44)
def dm_X14_start (s : jS) (x0 x1 : Int) : Option (jS × Int) :=
  if (jf s 18 x0 2) = 1024 then
    some (s, Wz 0)
  else
    if x1 < 0 then
      some (s, Wz 0)
    else
      (jdv 2 (I_rem x1 2)).bind fun v1 =>
      if v1 = 0 then
        if 0 < (jf s 18 x0 2) then
          (jlt s 1003 (x0 + 2) 1024 (W32 ((jf s 18 x0 2) - 1))).bind fun v2 =>
          if v2 < x1 then
            u_X14_start_44 s x0 x1
          else
            some (s, Wz 0)
        else
          u_X14_start_44 s x0 x1
      else
        some (s, Wz 0)
noncomputable def m_X14_start : jS → Int → Int → Option (jS × Int) := Classical.choose (⟨dm_X14_start, rfl⟩ : ∃ f, f = dm_X14_start)
theorem em_X14_start : m_X14_start = dm_X14_start := Classical.choose_spec (⟨dm_X14_start, rfl⟩ : ∃ f, f = dm_X14_start)
def du_X14_relocationsOf_31 (s : jS) (x0 x1 x3 y0 y1 : Int) : Option (List Int ⊕ (Int)) :=
  jlet (W32 (y1 + y0)) fun v1 =>
  some (.inl [x0, x1, v1, W32 (x3 + 1)])
noncomputable def u_X14_relocationsOf_31 : jS → Int → Int → Int → Int → Int → Option (List Int ⊕ (Int)) := Classical.choose (⟨du_X14_relocationsOf_31, rfl⟩ : ∃ f, f = du_X14_relocationsOf_31)
theorem eu_X14_relocationsOf_31 : u_X14_relocationsOf_31 = du_X14_relocationsOf_31 := Classical.choose_spec (⟨du_X14_relocationsOf_31, rfl⟩ : ∃ f, f = du_X14_relocationsOf_31)
def b_X14_relocationsOf_4 (s : jS) (x0 x1 x2 x3 : Int) : Option (List Int ⊕ (Int)) :=
  if x3 < (jf s 18 x0 6) then
    (jix 300 x3 ((x0 + 4) + 309 + 1 * x3)).bind fun v1 =>
    if (jf s 22 v1 0) = x1 then
      u_X14_relocationsOf_31 s x0 x1 x3 1 x2
    else
      u_X14_relocationsOf_31 s x0 x1 x3 0 x2
  else
    jinr (some x2)
def du_X14_relocationsOf_4 (s : jS) (x0 x1 x2 x3 : Int) : Option (Int) := jlpR (jc4 b_X14_relocationsOf_4) [x0, x1, x2, x3] s
noncomputable def u_X14_relocationsOf_4 : jS → Int → Int → Int → Int → Option (Int) := Classical.choose (⟨du_X14_relocationsOf_4, rfl⟩ : ∃ f, f = du_X14_relocationsOf_4)
theorem eu_X14_relocationsOf_4 : u_X14_relocationsOf_4 = du_X14_relocationsOf_4 := Classical.choose_spec (⟨du_X14_relocationsOf_4, rfl⟩ : ∃ f, f = du_X14_relocationsOf_4)
def dm_X14_relocationsOf (s : jS) (x0 x1 : Int) : Option (Int) :=
  u_X14_relocationsOf_4 s x0 x1 0 0
noncomputable def m_X14_relocationsOf : jS → Int → Int → Option (Int) := Classical.choose (⟨dm_X14_relocationsOf, rfl⟩ : ∃ f, f = dm_X14_relocationsOf)
theorem em_X14_relocationsOf : m_X14_relocationsOf = dm_X14_relocationsOf := Classical.choose_spec (⟨dm_X14_relocationsOf, rfl⟩ : ∃ f, f = dm_X14_relocationsOf)
def du_X14_locals_30 (s : jS) (x0 x2 y0 y1 : Int) : Option (List Int ⊕ (Int)) :=
  jlet (W32 (y1 + y0)) fun v1 =>
  some (.inl [x0, v1, W32 (x2 + 1)])
noncomputable def u_X14_locals_30 : jS → Int → Int → Int → Int → Option (List Int ⊕ (Int)) := Classical.choose (⟨du_X14_locals_30, rfl⟩ : ∃ f, f = du_X14_locals_30)
theorem eu_X14_locals_30 : u_X14_locals_30 = du_X14_locals_30 := Classical.choose_spec (⟨du_X14_locals_30, rfl⟩ : ∃ f, f = du_X14_locals_30)
def b_X14_locals_4 (s : jS) (x0 x1 x2 : Int) : Option (List Int ⊕ (Int)) :=
  if x2 < (jf s 18 x0 4) then
    (jix 100 x2 ((x0 + 3) + 10 + 3 * x2)).bind fun v1 =>
    if (jf s 20 v1 4) = 0 then
      u_X14_locals_30 s x0 x2 1 x1
    else
      u_X14_locals_30 s x0 x2 0 x1
  else
    jinr (some x1)
def du_X14_locals_4 (s : jS) (x0 x1 x2 : Int) : Option (Int) := jlpR (jc3 b_X14_locals_4) [x0, x1, x2] s
noncomputable def u_X14_locals_4 : jS → Int → Int → Int → Option (Int) := Classical.choose (⟨du_X14_locals_4, rfl⟩ : ∃ f, f = du_X14_locals_4)
theorem eu_X14_locals_4 : u_X14_locals_4 = du_X14_locals_4 := Classical.choose_spec (⟨du_X14_locals_4, rfl⟩ : ∃ f, f = du_X14_locals_4)
def dm_X14_locals (s : jS) (x0 : Int) : Option (Int) :=
  u_X14_locals_4 s x0 0 0
noncomputable def m_X14_locals : jS → Int → Option (Int) := Classical.choose (⟨dm_X14_locals, rfl⟩ : ∃ f, f = dm_X14_locals)
theorem em_X14_locals : m_X14_locals = dm_X14_locals := Classical.choose_spec (⟨dm_X14_locals, rfl⟩ : ∃ f, f = dm_X14_locals)
def dm_X15_init (s : jS) (x0 x1 : Int) : Option (jS × Int) :=
  jck0 x0 <|
  (jwr s 19 x0 2 1).bind fun s1 =>
  (jna s1 1001 x1 0).bind fun q2 =>
  (jwr q2.1 19 x0 0 q2.2).bind fun s3 =>
  some (s3, 0)
noncomputable def m_X15_init : jS → Int → Int → Option (jS × Int) := Classical.choose (⟨dm_X15_init, rfl⟩ : ∃ f, f = dm_X15_init)
theorem em_X15_init : m_X15_init = dm_X15_init := Classical.choose_spec (⟨dm_X15_init, rfl⟩ : ∃ f, f = dm_X15_init)
def dm_X15_clear (s : jS) (x0 : Int) : Option (jS × Int) :=
  jls (jp s 19 x0 1 0) fun s1 =>
  jls (jp s1 19 x0 2 1) fun s2 =>
  some (s2, 0)
noncomputable def m_X15_clear : jS → Int → Option (jS × Int) := Classical.choose (⟨dm_X15_clear, rfl⟩ : ∃ f, f = dm_X15_clear)
theorem em_X15_clear : m_X15_clear = dm_X15_clear := Classical.choose_spec (⟨dm_X15_clear, rfl⟩ : ∃ f, f = dm_X15_clear)
def dm_X15_add (s : jS) (x0 x1 : Int) : Option (jS × Int) :=
  (jst s 1001 (x0 + 1) (jN s (x0 + 1)) (jf s 19 x0 1) (W8 (W8 x1))).bind fun s1 =>
  jls (jp s1 19 x0 1 (W32 ((jf s1 19 x0 1) + 1))) fun s2 =>
  some (s2, 0)
noncomputable def m_X15_add : jS → Int → Int → Option (jS × Int) := Classical.choose (⟨dm_X15_add, rfl⟩ : ∃ f, f = dm_X15_add)
theorem em_X15_add : m_X15_add = dm_X15_add := Classical.choose_spec (⟨dm_X15_add, rfl⟩ : ∃ f, f = dm_X15_add)
def b_X15_set_18 (s : jS) (x0 x1 x2 : Int) : Option ((jS × List Int) ⊕ (jS × Int)) :=
  if x2 < (jN s (x0 + 1)) then
    if x2 < (jf s 19 x0 1) then
      (jrd s 19 x1 0).bind fun v1 =>
      (jld s 1001 v1 x2).bind fun v2 =>
      (jst s 1001 (x0 + 1) (jN s (x0 + 1)) x2 (W8 v2)).bind fun s3 =>
      some (.inl (s3, [x0, x1, W32 (x2 + 1)]))
    else
      jinr (some (s, 0))
  else
    jinr (some (s, 0))
def du_X15_set_18 (s : jS) (x0 x1 x2 : Int) : Option (jS × Int) := jlpW (jc3 b_X15_set_18) [x0, x1, x2] s
noncomputable def u_X15_set_18 : jS → Int → Int → Int → Option (jS × Int) := Classical.choose (⟨du_X15_set_18, rfl⟩ : ∃ f, f = du_X15_set_18)
theorem eu_X15_set_18 : u_X15_set_18 = du_X15_set_18 := Classical.choose_spec (⟨du_X15_set_18, rfl⟩ : ∃ f, f = du_X15_set_18)
def dm_X15_set (s : jS) (x0 x1 : Int) : Option (jS × Int) :=
  (jrd s 19 x1 1).bind fun v1 =>
  jls (jp s 19 x0 1 v1) fun s2 =>
  (jrd s2 19 x1 2).bind fun v3 =>
  jls (jp s2 19 x0 2 v3) fun s4 =>
  u_X15_set_18 s4 x0 x1 0
noncomputable def m_X15_set : jS → Int → Int → Option (jS × Int) := Classical.choose (⟨dm_X15_set, rfl⟩ : ∃ f, f = dm_X15_set)
theorem em_X15_set : m_X15_set = dm_X15_set := Classical.choose_spec (⟨dm_X15_set, rfl⟩ : ∃ f, f = dm_X15_set)
def dm_X16_tell (s : jS) (x0 x1 : Int) : Option (Int) :=
  if x1 = 0 then
    some (jf s 20 x0 1)
  else
  if x1 = 1 then
    some (jf s 20 x0 2)
  else
  if x1 = 2 then
    some (jf s 20 x0 3)
  else
  if x1 = 3 then
    some (jf s 20 x0 4)
  else
  if x1 = 4 then
    some (jf s 20 x0 5)
  else
  if x1 = 5 then
    some (jf s 21 (x0 + 1) 1)
  else
  (m_X13_in s (W32 (x1 - 6)) 0 (W32 ((jf s 21 (x0 + 1) 1) - 1))).bind fun v1 =>
  if v1 = 0 then
    some (-1)
  else
    (jlt s 1001 ((x0 + 1) + 1) 16 (W32 (x1 - 6))).bind fun v2 =>
    some v2
noncomputable def m_X16_tell : jS → Int → Int → Option (Int) := Classical.choose (⟨dm_X16_tell, rfl⟩ : ∃ f, f = dm_X16_tell)
theorem em_X16_tell : m_X16_tell = dm_X16_tell := Classical.choose_spec (⟨dm_X16_tell, rfl⟩ : ∃ f, f = dm_X16_tell)
def dm_X16_set (s : jS) (x0 x1 x2 x3 x4 x5 : Int) : Option (jS × Int) :=
  jls (jp s 20 x0 1 x1) fun s1 =>
  jls (jp s1 20 x0 2 x2) fun s2 =>
  jls (jp s2 20 x0 3 x3) fun s3 =>
  jls (jp s3 20 x0 4 x4) fun s4 =>
  jls (jp s4 20 x0 5 x5) fun s5 =>
  some (s5, 0)
noncomputable def m_X16_set : jS → Int → Int → Int → Int → Int → Int → Option (jS × Int) := Classical.choose (⟨dm_X16_set, rfl⟩ : ∃ f, f = dm_X16_set)
theorem em_X16_set : m_X16_set = dm_X16_set := Classical.choose_spec (⟨dm_X16_set, rfl⟩ : ∃ f, f = dm_X16_set)
def dm_X16_wrong (s : jS) (x0 : Int) : Option (Int) :=
  if (jf s 20 x0 1) = (-1) then
    if (jf s 20 x0 2) = 0 then
      if (jf s 20 x0 3) = 0 then
        if (jf s 20 x0 4) = 0 then
          some 3
        else
          some 0
      else
        some 2
    else
      some 1
  else
  if (jf s 20 x0 1) = 4 then
    if (jf s 20 x0 3) < 0 then
      some 2
    else
      some 0
  else
  if (jf s 20 x0 1) = 5 then
    (m_X13_isAlignment s (jf s 20 x0 2)).bind fun v1 =>
    if v1 = 0 then
      some 1
    else
      (m_X13_in s (jf s 20 x0 3) 1 4096).bind fun v2 =>
      if v2 = 0 then
        some 2
      else
        if (jf s 20 x0 4) = 1 then
          some 0
        else
          some 3
  else
  if (jf s 20 x0 2) < 0 then
    some 1
  else
    if (jf s 20 x0 3) < 0 then
      some 2
    else
      some 0
noncomputable def m_X16_wrong : jS → Int → Option (Int) := Classical.choose (⟨dm_X16_wrong, rfl⟩ : ∃ f, f = dm_X16_wrong)
theorem em_X16_wrong : m_X16_wrong = dm_X16_wrong := Classical.choose_spec (⟨dm_X16_wrong, rfl⟩ : ∃ f, f = dm_X16_wrong)
def dm_X16_beyond (s : jS) (x0 x1 : Int) : Option (Int) :=
  if x1 < (jf s 20 x0 2) then
    some 1
  else
    if 0 < (L_cmp (W64 ((jf s 20 x0 2) + (jf s 20 x0 3))) x1) then
      some 2
    else
      some 0
noncomputable def m_X16_beyond : jS → Int → Int → Option (Int) := Classical.choose (⟨dm_X16_beyond, rfl⟩ : ∃ f, f = dm_X16_beyond)
theorem em_X16_beyond : m_X16_beyond = dm_X16_beyond := Classical.choose_spec (⟨dm_X16_beyond, rfl⟩ : ∃ f, f = dm_X16_beyond)
def dm_X17_init (s : jS) (x0 : Int) : Option (jS × Int) :=
  jck0 x0 <|
  (jna s 1001 16 0).bind fun q1 =>
  (jwr q1.1 21 x0 0 q1.2).bind fun s2 =>
  some (s2, 0)
noncomputable def m_X17_init : jS → Int → Option (jS × Int) := Classical.choose (⟨dm_X17_init, rfl⟩ : ∃ f, f = dm_X17_init)
theorem em_X17_init : m_X17_init = dm_X17_init := Classical.choose_spec (⟨dm_X17_init, rfl⟩ : ∃ f, f = dm_X17_init)
def dm_X17_add (s : jS) (x0 x1 : Int) : Option (jS × Int) :=
  if (jf s 21 x0 1) = 16 then
    some (s, Wz 0)
  else
    (m_X13_in s x1 33 126).bind fun v1 =>
    if v1 = 0 then
      some (s, Wz 0)
    else
      (jst s 1001 (x0 + 1) 16 (jf s 21 x0 1) (W8 (W8 x1))).bind fun s2 =>
      jls (jp s2 21 x0 1 (W32 ((jf s2 21 x0 1) + 1))) fun s3 =>
      some (s3, Wz 1)
noncomputable def m_X17_add : jS → Int → Int → Option (jS × Int) := Classical.choose (⟨dm_X17_add, rfl⟩ : ∃ f, f = dm_X17_add)
theorem em_X17_add : m_X17_add = dm_X17_add := Classical.choose_spec (⟨dm_X17_add, rfl⟩ : ∃ f, f = dm_X17_add)
def b_X17_is_15 (s : jS) (x0 x1 x2 : Int) : Option (List Int ⊕ (Int)) :=
  if x2 < (jf s 21 x0 1) then
    (jlt s 1001 (x0 + 1) 16 x2).bind fun v1 =>
    (jrd s 21 x1 0).bind fun v2 =>
    (jld s 1001 v2 x2).bind fun v3 =>
    if v1 = v3 then
      some (.inl [x0, x1, W32 (x2 + 1)])
    else
      jinr (some (Wz 0))
  else
    jinr (some (Wz 1))
def du_X17_is_15 (s : jS) (x0 x1 x2 : Int) : Option (Int) := jlpR (jc3 b_X17_is_15) [x0, x1, x2] s
noncomputable def u_X17_is_15 : jS → Int → Int → Int → Option (Int) := Classical.choose (⟨du_X17_is_15, rfl⟩ : ∃ f, f = du_X17_is_15)
theorem eu_X17_is_15 : u_X17_is_15 = du_X17_is_15 := Classical.choose_spec (⟨du_X17_is_15, rfl⟩ : ∃ f, f = du_X17_is_15)
def dm_X17_is (s : jS) (x0 x1 : Int) : Option (Int) :=
  (jrd s 21 x1 1).bind fun v1 =>
  if (jf s 21 x0 1) = v1 then
    u_X17_is_15 s x0 x1 0
  else
    some (Wz 0)
noncomputable def m_X17_is : jS → Int → Int → Option (Int) := Classical.choose (⟨dm_X17_is, rfl⟩ : ∃ f, f = dm_X17_is)
theorem em_X17_is : m_X17_is = dm_X17_is := Classical.choose_spec (⟨dm_X17_is, rfl⟩ : ∃ f, f = dm_X17_is)
def b_X17_set_10 (s : jS) (x0 x1 x2 : Int) : Option ((jS × List Int) ⊕ (jS × Int)) :=
  if x2 < (jf s 21 x0 1) then
    (jrd s 21 x1 0).bind fun v1 =>
    (jld s 1001 v1 x2).bind fun v2 =>
    (jst s 1001 (x0 + 1) 16 x2 (W8 v2)).bind fun s3 =>
    some (.inl (s3, [x0, x1, W32 (x2 + 1)]))
  else
    jinr (some (s, 0))
def du_X17_set_10 (s : jS) (x0 x1 x2 : Int) : Option (jS × Int) := jlpW (jc3 b_X17_set_10) [x0, x1, x2] s
noncomputable def u_X17_set_10 : jS → Int → Int → Int → Option (jS × Int) := Classical.choose (⟨du_X17_set_10, rfl⟩ : ∃ f, f = du_X17_set_10)
theorem eu_X17_set_10 : u_X17_set_10 = du_X17_set_10 := Classical.choose_spec (⟨du_X17_set_10, rfl⟩ : ∃ f, f = du_X17_set_10)
def dm_X17_set (s : jS) (x0 x1 : Int) : Option (jS × Int) :=
  (jrd s 21 x1 1).bind fun v1 =>
  jls (jp s 21 x0 1 v1) fun s2 =>
  u_X17_set_10 s2 x0 x1 0
noncomputable def m_X17_set : jS → Int → Int → Option (jS × Int) := Classical.choose (⟨dm_X17_set, rfl⟩ : ∃ f, f = dm_X17_set)
theorem em_X17_set : m_X17_set = dm_X17_set := Classical.choose_spec (⟨dm_X17_set, rfl⟩ : ∃ f, f = dm_X17_set)
def dm_X18_init (s : jS) (x0 : Int) : Option (jS × Int) :=
  jck0 x0 <|
  some (s, 0)
noncomputable def m_X18_init : jS → Int → Option (jS × Int) := Classical.choose (⟨dm_X18_init, rfl⟩ : ∃ f, f = dm_X18_init)
theorem em_X18_init : m_X18_init = dm_X18_init := Classical.choose_spec (⟨dm_X18_init, rfl⟩ : ∃ f, f = dm_X18_init)
def dm_X18_tell (s : jS) (x0 x1 : Int) : Option (Int) :=
  if x1 = 0 then
    some (jf s 22 x0 0)
  else
  if x1 = 1 then
    some (jf s 22 x0 1)
  else
  if x1 = 2 then
    some (jf s 22 x0 2)
  else
  if x1 = 3 then
    some (jf s 22 x0 3)
  else
  if x1 = 4 then
    some (jf s 22 x0 4)
  else
  some (-1)
noncomputable def m_X18_tell : jS → Int → Int → Option (Int) := Classical.choose (⟨dm_X18_tell, rfl⟩ : ∃ f, f = dm_X18_tell)
theorem em_X18_tell : m_X18_tell = dm_X18_tell := Classical.choose_spec (⟨dm_X18_tell, rfl⟩ : ∃ f, f = dm_X18_tell)
def dm_X18_set (s : jS) (x0 x1 x2 x3 x4 x5 : Int) : Option (jS × Int) :=
  jls (jp s 22 x0 0 x1) fun s1 =>
  jls (jp s1 22 x0 1 x2) fun s2 =>
  jls (jp s2 22 x0 2 x3) fun s3 =>
  jls (jp s3 22 x0 3 x4) fun s4 =>
  jls (jp s4 22 x0 4 x5) fun s5 =>
  some (s5, 0)
noncomputable def m_X18_set : jS → Int → Int → Int → Int → Int → Int → Option (jS × Int) := Classical.choose (⟨dm_X18_set, rfl⟩ : ∃ f, f = dm_X18_set)
theorem em_X18_set : m_X18_set = dm_X18_set := Classical.choose_spec (⟨dm_X18_set, rfl⟩ : ∃ f, f = dm_X18_set)
def dm_X18_set_2 (s : jS) (x0 x1 : Int) : Option (jS × Int) :=
  (jrd s 22 x1 0).bind fun v1 =>
  (jrd s 22 x1 1).bind fun v2 =>
  (jrd s 22 x1 2).bind fun v3 =>
  (jrd s 22 x1 3).bind fun v4 =>
  (jrd s 22 x1 4).bind fun v5 =>
  (m_X18_set s x0 v1 v2 v3 v4 v5).bind fun q6 =>
  some (q6.1, 0)
noncomputable def m_X18_set_2 : jS → Int → Int → Option (jS × Int) := Classical.choose (⟨dm_X18_set_2, rfl⟩ : ∃ f, f = dm_X18_set_2)
theorem em_X18_set_2 : m_X18_set_2 = dm_X18_set_2 := Classical.choose_spec (⟨dm_X18_set_2, rfl⟩ : ∃ f, f = dm_X18_set_2)
def dm_X19_init (s : jS) (x0 x1 : Int) : Option (jS × Int) :=
  jck0 x0 <|
  (jna s 1001 x1 0).bind fun q1 =>
  (jwr q1.1 23 x0 0 q1.2).bind fun s2 =>
  some (s2, 0)
noncomputable def m_X19_init : jS → Int → Int → Option (jS × Int) := Classical.choose (⟨dm_X19_init, rfl⟩ : ∃ f, f = dm_X19_init)
theorem em_X19_init : m_X19_init = dm_X19_init := Classical.choose_spec (⟨dm_X19_init, rfl⟩ : ∃ f, f = dm_X19_init)
def du_X19_put1_25 (s : jS) (x0 x1 y0 y1 : Int) : Option (jS × Int) :=
  (jzb y0).bind fun v1 =>
  jls (jp s 23 y1 2 v1) fun s2 =>
  if (jf s2 23 x0 2) = 0 then
    (jst s2 1001 (x0 + 1) (jN s2 (x0 + 1)) (jf s2 23 x0 1) (W8 (W8 x1))).bind fun s3 =>
    jls (jp s3 23 x0 1 (W32 ((jf s3 23 x0 1) + 1))) fun s4 =>
    some (s4, 0)
  else
    some (s2, 0)
noncomputable def u_X19_put1_25 : jS → Int → Int → Int → Int → Option (jS × Int) := Classical.choose (⟨du_X19_put1_25, rfl⟩ : ∃ f, f = du_X19_put1_25)
theorem eu_X19_put1_25 : u_X19_put1_25 = du_X19_put1_25 := Classical.choose_spec (⟨du_X19_put1_25, rfl⟩ : ∃ f, f = du_X19_put1_25)
def du_X19_put1_20 (s : jS) (x0 x1 y0 : Int) : Option (jS × Int) :=
  u_X19_put1_25 s x0 x1 1 y0
noncomputable def u_X19_put1_20 : jS → Int → Int → Int → Option (jS × Int) := Classical.choose (⟨du_X19_put1_20, rfl⟩ : ∃ f, f = du_X19_put1_20)
theorem eu_X19_put1_20 : u_X19_put1_20 = du_X19_put1_20 := Classical.choose_spec (⟨du_X19_put1_20, rfl⟩ : ∃ f, f = du_X19_put1_20)
def dm_X19_put1 (s : jS) (x0 x1 : Int) : Option (jS × Int) :=
  if (jf s 23 x0 2) = 0 then
    if (jf s 23 x0 1) = (jN s (x0 + 1)) then
      u_X19_put1_20 s x0 x1 x0
    else
      u_X19_put1_25 s x0 x1 0 x0
  else
    u_X19_put1_20 s x0 x1 x0
noncomputable def m_X19_put1 : jS → Int → Int → Option (jS × Int) := Classical.choose (⟨dm_X19_put1, rfl⟩ : ∃ f, f = dm_X19_put1)
theorem em_X19_put1 : m_X19_put1 = dm_X19_put1 := Classical.choose_spec (⟨dm_X19_put1, rfl⟩ : ∃ f, f = dm_X19_put1)
def dm_X19_u1 (s : jS) (x0 x1 : Int) : Option (Int) :=
  (jlt s 1001 (x0 + 1) (jN s (x0 + 1)) x1).bind fun v1 =>
  some (I_and v1 255)
noncomputable def m_X19_u1 : jS → Int → Int → Option (Int) := Classical.choose (⟨dm_X19_u1, rfl⟩ : ∃ f, f = dm_X19_u1)
theorem em_X19_u1 : m_X19_u1 = dm_X19_u1 := Classical.choose_spec (⟨dm_X19_u1, rfl⟩ : ∃ f, f = dm_X19_u1)
def dm_X19_clear (s : jS) (x0 : Int) : Option (jS × Int) :=
  jls (jp s 23 x0 1 0) fun s1 =>
  (jzb 0).bind fun v2 =>
  jls (jp s1 23 x0 2 v2) fun s3 =>
  some (s3, 0)
noncomputable def m_X19_clear : jS → Int → Option (jS × Int) := Classical.choose (⟨dm_X19_clear, rfl⟩ : ∃ f, f = dm_X19_clear)
theorem em_X19_clear : m_X19_clear = dm_X19_clear := Classical.choose_spec (⟨dm_X19_clear, rfl⟩ : ∃ f, f = dm_X19_clear)
def dm_X19_put2 (s : jS) (x0 x1 : Int) : Option (jS × Int) :=
  (m_X19_put1 s x0 x1).bind fun q1 =>
  (m_X19_put1 q1.1 x0 (I_shr x1 8)).bind fun q2 =>
  some (q2.1, 0)
noncomputable def m_X19_put2 : jS → Int → Int → Option (jS × Int) := Classical.choose (⟨dm_X19_put2, rfl⟩ : ∃ f, f = dm_X19_put2)
theorem em_X19_put2 : m_X19_put2 = dm_X19_put2 := Classical.choose_spec (⟨dm_X19_put2, rfl⟩ : ∃ f, f = dm_X19_put2)
def b_X19_align_0 (s : jS) (x0 x1 : Int) : Option ((jS × List Int) ⊕ (jS × Int)) :=
  if (jf s 23 x0 2) = 0 then
    (jdv x1 (I_rem (jf s 23 x0 1) x1)).bind fun v1 =>
    if v1 = 0 then
      jinr (some (s, 0))
    else
      (m_X19_put1 s x0 0).bind fun q2 =>
      some (.inl (q2.1, [x0, x1]))
  else
    jinr (some (s, 0))
def du_X19_align_0 (s : jS) (x0 x1 : Int) : Option (jS × Int) := jlpW (jc2 b_X19_align_0) [x0, x1] s
noncomputable def u_X19_align_0 : jS → Int → Int → Option (jS × Int) := Classical.choose (⟨du_X19_align_0, rfl⟩ : ∃ f, f = du_X19_align_0)
theorem eu_X19_align_0 : u_X19_align_0 = du_X19_align_0 := Classical.choose_spec (⟨du_X19_align_0, rfl⟩ : ∃ f, f = du_X19_align_0)
def dm_X19_align (s : jS) (x0 x1 : Int) : Option (jS × Int) :=
  u_X19_align_0 s x0 x1
noncomputable def m_X19_align : jS → Int → Int → Option (jS × Int) := Classical.choose (⟨dm_X19_align, rfl⟩ : ∃ f, f = dm_X19_align)
theorem em_X19_align : m_X19_align = dm_X19_align := Classical.choose_spec (⟨dm_X19_align, rfl⟩ : ∃ f, f = dm_X19_align)
def b_X19_stands_24 (s : jS) (x0 x1 x2 x3 x5 : Int) : Option (List Int ⊕ (Int)) :=
  if x5 < x2 then
    (jlt s 1001 (x0 + 1) (jN s (x0 + 1)) (W32 (x3 + x5))).bind fun v1 =>
    (jld s 1001 x1 x5).bind fun v2 =>
    if v1 = v2 then
      some (.inl [x0, x1, x2, x3, W32 (x5 + 1)])
    else
      jinr (some (Wz 0))
  else
    jinr (some (Wz 1))
def du_X19_stands_24 (s : jS) (x0 x1 x2 x3 x5 : Int) : Option (Int) := jlpR (jc5 b_X19_stands_24) [x0, x1, x2, x3, x5] s
noncomputable def u_X19_stands_24 : jS → Int → Int → Int → Int → Int → Option (Int) := Classical.choose (⟨du_X19_stands_24, rfl⟩ : ∃ f, f = du_X19_stands_24)
theorem eu_X19_stands_24 : u_X19_stands_24 = du_X19_stands_24 := Classical.choose_spec (⟨du_X19_stands_24, rfl⟩ : ∃ f, f = du_X19_stands_24)
def dm_X19_stands (s : jS) (x0 x1 x2 x3 x4 : Int) : Option (Int) :=
  if (W32 (x3 + x2)) < x4 then
    (jlt s 1001 (x0 + 1) (jN s (x0 + 1)) (W32 (x3 + x2))).bind fun v1 =>
    if v1 = 0 then
      u_X19_stands_24 s x0 x1 x2 x3 0
    else
      some (Wz 0)
  else
    some (Wz 0)
noncomputable def m_X19_stands : jS → Int → Int → Int → Int → Int → Option (Int) := Classical.choose (⟨dm_X19_stands, rfl⟩ : ∃ f, f = dm_X19_stands)
theorem em_X19_stands : m_X19_stands = dm_X19_stands := Classical.choose_spec (⟨dm_X19_stands, rfl⟩ : ∃ f, f = dm_X19_stands)
def dm_X19_u2 (s : jS) (x0 x1 : Int) : Option (Int) :=
  (m_X19_u1 s x0 x1).bind fun v1 =>
  (m_X19_u1 s x0 (W32 (x1 + 1))).bind fun v2 =>
  some (I_or v1 (I_shl v2 8))
noncomputable def m_X19_u2 : jS → Int → Int → Option (Int) := Classical.choose (⟨dm_X19_u2, rfl⟩ : ∃ f, f = dm_X19_u2)
theorem em_X19_u2 : m_X19_u2 = dm_X19_u2 := Classical.choose_spec (⟨dm_X19_u2, rfl⟩ : ∃ f, f = dm_X19_u2)
def dm_X19_s4 (s : jS) (x0 x1 : Int) : Option (Int) :=
  (m_X19_u2 s x0 x1).bind fun v1 =>
  (m_X19_u2 s x0 (W32 (x1 + 2))).bind fun v2 =>
  some (I_or v1 (I_shl v2 16))
noncomputable def m_X19_s4 : jS → Int → Int → Option (Int) := Classical.choose (⟨dm_X19_s4, rfl⟩ : ∃ f, f = dm_X19_s4)
theorem em_X19_s4 : m_X19_s4 = dm_X19_s4 := Classical.choose_spec (⟨dm_X19_s4, rfl⟩ : ∃ f, f = dm_X19_s4)
def dm_X20_init (s : jS) (x0 : Int) : Option (jS × Int) :=
  jck0 x0 <|
  (jnw s 23 3 (jdf 23)).bind fun q1 =>
  (jck0 q1.2 (m_X19_init q1.1 q1.2 8193)).bind fun q2 =>
  (jwr q2.1 24 x0 0 q1.2).bind fun s3 =>
  (jna s3 1000 12 0).bind fun q4 =>
  (jwr q4.1 24 x0 1 q4.2).bind fun s5 =>
  (jna s5 1000 12 0).bind fun q6 =>
  (jwr q6.1 24 x0 2 q6.2).bind fun s7 =>
  (jna s7 1000 12 0).bind fun q8 =>
  (jwr q8.1 24 x0 3 q8.2).bind fun s9 =>
  (jna s9 1000 12 0).bind fun q10 =>
  (jwr q10.1 24 x0 4 q10.2).bind fun s11 =>
  (jna s11 1001 16 0).bind fun q12 =>
  (jwr q12.1 24 x0 5 q12.2).bind fun s13 =>
  some (s13, 0)
noncomputable def m_X20_init : jS → Int → Option (jS × Int) := Classical.choose (⟨dm_X20_init, rfl⟩ : ∃ f, f = dm_X20_init)
theorem em_X20_init : m_X20_init = dm_X20_init := Classical.choose_spec (⟨dm_X20_init, rfl⟩ : ∃ f, f = dm_X20_init)
def dm_X20_isThere (s : jS) (x0 x1 x2 : Int) : Option (Int) :=
  if x2 = 5 then
    (jrd s 18 x1 2).bind fun v1 =>
    if 0 < v1 then
      some (Wz 1)
    else
      some (Wz 0)
  else
    (m_X13_isMoves s x2).bind fun v2 =>
    if v2 = 0 then
      some (Wz 1)
    else
      (jct s 34 x1 (m_X14_relocationsOf s x1 (W32 (x2 - 6)))).bind fun v3 =>
      if 0 < v3 then
        some (Wz 1)
      else
        some (Wz 0)
noncomputable def m_X20_isThere : jS → Int → Int → Int → Option (Int) := Classical.choose (⟨dm_X20_isThere, rfl⟩ : ∃ f, f = dm_X20_isThere)
theorem em_X20_isThere : m_X20_isThere = dm_X20_isThere := Classical.choose_spec (⟨dm_X20_isThere, rfl⟩ : ∃ f, f = dm_X20_isThere)
def dm_X20_begin (s : jS) (x0 x1 x2 : Int) : Option (jS × Int) :=
  (m_X19_align s (x0 + 1) x2).bind fun q1 =>
  (jst q1.1 1000 (x0 + 4) 12 x1 (jf q1.1 23 (x0 + 1) 1)).bind fun s2 =>
  (jst s2 1000 (x0 + 6) 12 x1 x2).bind fun s3 =>
  some (s3, 0)
noncomputable def m_X20_begin : jS → Int → Int → Int → Option (jS × Int) := Classical.choose (⟨dm_X20_begin, rfl⟩ : ∃ f, f = dm_X20_begin)
theorem em_X20_begin : m_X20_begin = dm_X20_begin := Classical.choose_spec (⟨dm_X20_begin, rfl⟩ : ∃ f, f = dm_X20_begin)
def dm_X20_end (s : jS) (x0 x1 : Int) : Option (jS × Int) :=
  (jst s 1000 (x0 + 5) 12 x1 (jf s 23 (x0 + 1) 1)).bind fun s1 =>
  some (s1, 0)
noncomputable def m_X20_end : jS → Int → Int → Option (jS × Int) := Classical.choose (⟨dm_X20_end, rfl⟩ : ∃ f, f = dm_X20_end)
theorem em_X20_end : m_X20_end = dm_X20_end := Classical.choose_spec (⟨dm_X20_end, rfl⟩ : ∃ f, f = dm_X20_end)
def du_X20_starts_35 (s : jS) (x0 : Int) : Option (jS × Int) :=
  (m_X20_end s x0 5).bind fun q1 =>
  some (q1.1, 0)
noncomputable def u_X20_starts_35 : jS → Int → Option (jS × Int) := Classical.choose (⟨du_X20_starts_35, rfl⟩ : ∃ f, f = du_X20_starts_35)
theorem eu_X20_starts_35 : u_X20_starts_35 = du_X20_starts_35 := Classical.choose_spec (⟨du_X20_starts_35, rfl⟩ : ∃ f, f = du_X20_starts_35)
def b_X20_starts_8 (s : jS) (x0 x1 x2 : Int) : Option ((jS × List Int) ⊕ (jS × Int)) :=
  (jrd s 18 x1 2).bind fun v1 =>
  if x2 < v1 then
    (jrd s 18 x1 1).bind fun v2 =>
    (jld s 1003 v2 x2).bind fun v3 =>
    (m_X19_put2 s (x0 + 1) v3).bind fun q4 =>
    some (.inl (q4.1, [x0, x1, W32 (x2 + 1)]))
  else
    jinr (u_X20_starts_35 s x0)
def du_X20_starts_8 (s : jS) (x0 x1 x2 : Int) : Option (jS × Int) := jlpW (jc3 b_X20_starts_8) [x0, x1, x2] s
noncomputable def u_X20_starts_8 : jS → Int → Int → Int → Option (jS × Int) := Classical.choose (⟨du_X20_starts_8, rfl⟩ : ∃ f, f = du_X20_starts_8)
theorem eu_X20_starts_8 : u_X20_starts_8 = du_X20_starts_8 := Classical.choose_spec (⟨du_X20_starts_8, rfl⟩ : ∃ f, f = du_X20_starts_8)
def dm_X20_starts (s : jS) (x0 x1 : Int) : Option (jS × Int) :=
  (m_X20_begin s x0 5 2).bind fun q1 =>
  u_X20_starts_8 q1.1 x0 x1 0
noncomputable def m_X20_starts : jS → Int → Int → Option (jS × Int) := Classical.choose (⟨dm_X20_starts, rfl⟩ : ∃ f, f = dm_X20_starts)
theorem em_X20_starts : m_X20_starts = dm_X20_starts := Classical.choose_spec (⟨dm_X20_starts, rfl⟩ : ∃ f, f = dm_X20_starts)
def dm_X20_whereOf (s : jS) (x0 x1 : Int) : Option (Int) :=
  if x1 = (-1) then
    some 0
  else
    if x1 = 4 then
      some 65521
    else
      if x1 = 5 then
        some 65522
      else
        (jlt s 1000 (x0 + 3) 12 (W32 (x1 + 1))).bind fun v1 =>
        some v1
noncomputable def m_X20_whereOf : jS → Int → Int → Option (Int) := Classical.choose (⟨dm_X20_whereOf, rfl⟩ : ∃ f, f = dm_X20_whereOf)
theorem em_X20_whereOf : m_X20_whereOf = dm_X20_whereOf := Classical.choose_spec (⟨dm_X20_whereOf, rfl⟩ : ∃ f, f = dm_X20_whereOf)
def b_X20_patch_2 (s : jS) (x0 x1 x2 x3 : Int) : Option ((jS × List Int) ⊕ (jS × Int)) :=
  if x3 < 4 then
    if (W32 (x1 + x3)) < (jf s 23 (x0 + 1) 1) then
      (jst s 1001 ((x0 + 1) + 1) (jN s ((x0 + 1) + 1)) (W32 (x1 + x3)) (W8 (W8 (I_shr x2 (W32 (8 * x3)))))).bind fun s1 =>
      some (.inl (s1, [x0, x1, x2, W32 (x3 + 1)]))
    else
      jinr (some (s, 0))
  else
    jinr (some (s, 0))
def du_X20_patch_2 (s : jS) (x0 x1 x2 x3 : Int) : Option (jS × Int) := jlpW (jc4 b_X20_patch_2) [x0, x1, x2, x3] s
noncomputable def u_X20_patch_2 : jS → Int → Int → Int → Int → Option (jS × Int) := Classical.choose (⟨du_X20_patch_2, rfl⟩ : ∃ f, f = du_X20_patch_2)
theorem eu_X20_patch_2 : u_X20_patch_2 = du_X20_patch_2 := Classical.choose_spec (⟨du_X20_patch_2, rfl⟩ : ∃ f, f = du_X20_patch_2)
def dm_X20_patch (s : jS) (x0 x1 x2 : Int) : Option (jS × Int) :=
  u_X20_patch_2 s x0 x1 x2 0
noncomputable def m_X20_patch : jS → Int → Int → Int → Option (jS × Int) := Classical.choose (⟨dm_X20_patch, rfl⟩ : ∃ f, f = dm_X20_patch)
theorem em_X20_patch : m_X20_patch = dm_X20_patch := Classical.choose_spec (⟨dm_X20_patch, rfl⟩ : ∃ f, f = dm_X20_patch)
def dm_X21_need (s : jS) (x0 x1 x2 x3 : Int) : Option (jS × Bool × Int) :=
  if x1 = 0 then
    jls (jp s 25 x0 9 x2) fun s1 =>
    jls (jp s1 25 x0 10 x3) fun s2 =>
    (jnx s2 2054).bind fun q3 =>
    jck0 q3.2 (some (q3.1, true, q3.2))
  else
    some (s, false, 0)
noncomputable def m_X21_need : jS → Int → Int → Int → Int → Option (jS × Bool × Int) := Classical.choose (⟨dm_X21_need, rfl⟩ : ∃ f, f = dm_X21_need)
theorem em_X21_need : m_X21_need = dm_X21_need := Classical.choose_spec (⟨dm_X21_need, rfl⟩ : ∃ f, f = dm_X21_need)
def dm_X21_field (s : jS) (x0 x1 x2 : Int) : Option (Int) :=
  some (W32 ((W32 ((jf s 25 x0 2) + (W32 (40 * x1)))) + (W32 (4 * x2))))
noncomputable def m_X21_field : jS → Int → Int → Int → Option (Int) := Classical.choose (⟨dm_X21_field, rfl⟩ : ∃ f, f = dm_X21_field)
theorem em_X21_field : m_X21_field = dm_X21_field := Classical.choose_spec (⟨dm_X21_field, rfl⟩ : ∃ f, f = dm_X21_field)
def dm_X21_sizeOf (s : jS) (x0 x1 : Int) : Option (Int) :=
  (m_X21_field s x0 x1 5).bind fun v1 =>
  (jct s 39 (jf s 25 x0 0) (m_X19_s4 s (jf s 25 x0 0) v1)).bind fun v2 =>
  some v2
noncomputable def m_X21_sizeOf : jS → Int → Int → Option (Int) := Classical.choose (⟨dm_X21_sizeOf, rfl⟩ : ∃ f, f = dm_X21_sizeOf)
theorem em_X21_sizeOf : m_X21_sizeOf = dm_X21_sizeOf := Classical.choose_spec (⟨dm_X21_sizeOf, rfl⟩ : ∃ f, f = dm_X21_sizeOf)
def dm_X21_from (s : jS) (x0 x1 : Int) : Option (Int) :=
  (m_X21_field s x0 x1 4).bind fun v1 =>
  (jct s 39 (jf s 25 x0 0) (m_X19_s4 s (jf s 25 x0 0) v1)).bind fun v2 =>
  some v2
noncomputable def m_X21_from : jS → Int → Int → Option (Int) := Classical.choose (⟨dm_X21_from, rfl⟩ : ∃ f, f = dm_X21_from)
theorem em_X21_from : m_X21_from = dm_X21_from := Classical.choose_spec (⟨dm_X21_from, rfl⟩ : ∃ f, f = dm_X21_from)
def dm_X21_meets (s : jS) (x0 x1 x2 x3 x4 : Int) : Option (Int) :=
  if x1 < (W32 (x3 + x4)) then
    if x3 < (W32 (x1 + x2)) then
      some (Wz 1)
    else
      some (Wz 0)
  else
    some (Wz 0)
noncomputable def m_X21_meets : jS → Int → Int → Int → Int → Int → Option (Int) := Classical.choose (⟨dm_X21_meets, rfl⟩ : ∃ f, f = dm_X21_meets)
theorem em_X21_meets : m_X21_meets = dm_X21_meets := Classical.choose_spec (⟨dm_X21_meets, rfl⟩ : ∃ f, f = dm_X21_meets)
def du_X21_strings_83 (s : jS) (x0 x1 x2 y0 y1 : Int) : Option (jS × Bool × Int) :=
  (m_X21_from s x0 x1).bind fun v1 =>
  (m_X21_sizeOf s x0 x1).bind fun v2 =>
  (m_X21_need s y1 y0 x2 (W32 ((W32 (v1 + v2)) - 1))).bind fun q3 =>
  jth q3.2.1 (some (q3.1, true, q3.2.2)) <|
  some (q3.1, false, 0)
noncomputable def u_X21_strings_83 : jS → Int → Int → Int → Int → Int → Option (jS × Bool × Int) := Classical.choose (⟨du_X21_strings_83, rfl⟩ : ∃ f, f = du_X21_strings_83)
theorem eu_X21_strings_83 : u_X21_strings_83 = du_X21_strings_83 := Classical.choose_spec (⟨du_X21_strings_83, rfl⟩ : ∃ f, f = du_X21_strings_83)
def du_X21_strings_45 (s : jS) (x0 x1 x2 y0 y1 : Int) : Option (jS × Bool × Int) :=
  (m_X21_from s x0 x1).bind fun v1 =>
  (m_X21_need s y1 y0 x2 v1).bind fun q2 =>
  jth q2.2.1 (some (q2.1, true, q2.2.2)) <|
  (m_X21_from q2.1 x0 x1).bind fun v3 =>
  (m_X21_sizeOf q2.1 x0 x1).bind fun v4 =>
  (jct q2.1 39 (jf q2.1 25 x0 0) (m_X19_u1 q2.1 (jf q2.1 25 x0 0) (W32 ((W32 (v3 + v4)) - 1)))).bind fun v5 =>
  if v5 = 0 then
    u_X21_strings_83 q2.1 x0 x1 x2 1 x0
  else
    u_X21_strings_83 q2.1 x0 x1 x2 0 x0
noncomputable def u_X21_strings_45 : jS → Int → Int → Int → Int → Int → Option (jS × Bool × Int) := Classical.choose (⟨du_X21_strings_45, rfl⟩ : ∃ f, f = du_X21_strings_45)
theorem eu_X21_strings_45 : u_X21_strings_45 = du_X21_strings_45 := Classical.choose_spec (⟨du_X21_strings_45, rfl⟩ : ∃ f, f = du_X21_strings_45)
def du_X21_strings_14 (s : jS) (x0 x1 x2 y0 y1 : Int) : Option (jS × Bool × Int) :=
  (m_X21_field s x0 x1 5).bind fun v1 =>
  (m_X21_need s y1 y0 x2 v1).bind fun q2 =>
  jth q2.2.1 (some (q2.1, true, q2.2.2)) <|
  (m_X21_from q2.1 x0 x1).bind fun v3 =>
  (jct q2.1 39 (jf q2.1 25 x0 0) (m_X19_u1 q2.1 (jf q2.1 25 x0 0) v3)).bind fun v4 =>
  if v4 = 0 then
    u_X21_strings_45 q2.1 x0 x1 x2 1 x0
  else
    u_X21_strings_45 q2.1 x0 x1 x2 0 x0
noncomputable def u_X21_strings_14 : jS → Int → Int → Int → Int → Int → Option (jS × Bool × Int) := Classical.choose (⟨du_X21_strings_14, rfl⟩ : ∃ f, f = du_X21_strings_14)
theorem eu_X21_strings_14 : u_X21_strings_14 = du_X21_strings_14 := Classical.choose_spec (⟨du_X21_strings_14, rfl⟩ : ∃ f, f = du_X21_strings_14)
def dm_X21_strings (s : jS) (x0 x1 x2 : Int) : Option (jS × Bool × Int) :=
  (m_X21_sizeOf s x0 x1).bind fun v1 =>
  if 0 < v1 then
    u_X21_strings_14 s x0 x1 x2 1 x0
  else
    u_X21_strings_14 s x0 x1 x2 0 x0
noncomputable def m_X21_strings : jS → Int → Int → Int → Option (jS × Bool × Int) := Classical.choose (⟨dm_X21_strings, rfl⟩ : ∃ f, f = dm_X21_strings)
theorem em_X21_strings : m_X21_strings = dm_X21_strings := Classical.choose_spec (⟨dm_X21_strings, rfl⟩ : ∃ f, f = dm_X21_strings)
def du_X21_isName_89 (s : jS) (x0 x5 : Int) : Option (jS × Int) :=
  if x5 = 0 then
    some (s, Wz 0)
  else
    if 0 < (jf s 21 ((x0 + 616) + 1) 1) then
      some (s, Wz 1)
    else
      some (s, Wz 0)
noncomputable def u_X21_isName_89 : jS → Int → Int → Option (jS × Int) := Classical.choose (⟨du_X21_isName_89, rfl⟩ : ∃ f, f = du_X21_isName_89)
theorem eu_X21_isName_89 : u_X21_isName_89 = du_X21_isName_89 := Classical.choose_spec (⟨du_X21_isName_89, rfl⟩ : ∃ f, f = du_X21_isName_89)
def b_X21_isName_45 (s : jS) (x0 x4 x5 : Int) : Option ((jS × List Int) ⊕ (jS × Int)) :=
  if x5 = 0 then
    jinr (u_X21_isName_89 s x0 x5)
  else
    (jct s 39 (jf s 25 x0 0) (m_X19_u1 s (jf s 25 x0 0) x4)).bind fun v1 =>
    if v1 = 0 then
      jinr (u_X21_isName_89 s x0 x5)
    else
      (jct s 39 (jf s 25 x0 0) (m_X19_u1 s (jf s 25 x0 0) x4)).bind fun v2 =>
      (m_X17_add s ((x0 + 616) + 1) v2).bind fun q3 =>
      some (.inl (q3.1, [x0, W32 (x4 + 1), q3.2]))
def du_X21_isName_45 (s : jS) (x0 x4 x5 : Int) : Option (jS × Int) := jlpW (jc3 b_X21_isName_45) [x0, x4, x5] s
noncomputable def u_X21_isName_45 : jS → Int → Int → Int → Option (jS × Int) := Classical.choose (⟨du_X21_isName_45, rfl⟩ : ∃ f, f = du_X21_isName_45)
theorem eu_X21_isName_45 : u_X21_isName_45 = du_X21_isName_45 := Classical.choose_spec (⟨du_X21_isName_45, rfl⟩ : ∃ f, f = du_X21_isName_45)
def dm_X21_isName (s : jS) (x0 x1 : Int) : Option (jS × Int) :=
  (jlt s 1000 (x0 + 1) 12 10).bind fun v1 =>
  jls (jp s 21 ((x0 + 616) + 1) 1 0) fun s2 =>
  (m_X21_sizeOf s2 x0 v1).bind fun v3 =>
  if (L_cmp x1 v3) < 0 then
    (m_X21_from s2 x0 v1).bind fun v4 =>
    jlet (W32 (v4 + (L2i x1))) fun v5 =>
    u_X21_isName_45 s2 x0 v5 1
  else
    some (s2, Wz 0)
noncomputable def m_X21_isName : jS → Int → Int → Option (jS × Int) := Classical.choose (⟨dm_X21_isName, rfl⟩ : ∃ f, f = dm_X21_isName)
theorem em_X21_isName : m_X21_isName = dm_X21_isName := Classical.choose_spec (⟨dm_X21_isName, rfl⟩ : ∃ f, f = dm_X21_isName)
def b_X21_where_37 (s : jS) (x0 x1 x2 : Int) : Option (List Int ⊕ (Int)) :=
  if x2 < 4 then
    (jlt s 1000 (x0 + 1) 12 (W32 (x2 + 1))).bind fun v1 =>
    if v1 = x1 then
      jinr (some x2)
    else
      some (.inl [x0, x1, W32 (x2 + 1)])
  else
    jinr (some 6)
def du_X21_where_37 (s : jS) (x0 x1 x2 : Int) : Option (Int) := jlpR (jc3 b_X21_where_37) [x0, x1, x2] s
noncomputable def u_X21_where_37 : jS → Int → Int → Int → Option (Int) := Classical.choose (⟨du_X21_where_37, rfl⟩ : ∃ f, f = du_X21_where_37)
theorem eu_X21_where_37 : u_X21_where_37 = du_X21_where_37 := Classical.choose_spec (⟨du_X21_where_37, rfl⟩ : ∃ f, f = du_X21_where_37)
def dm_X21_where (s : jS) (x0 x1 : Int) : Option (Int) :=
  if x1 = 0 then
    some (-1)
  else
    if 65520 < x1 then
      if x1 = 65521 then
        some 4
      else
        if x1 = 65522 then
          some 5
        else
          some 6
    else
      u_X21_where_37 s x0 x1 0
noncomputable def m_X21_where : jS → Int → Int → Option (Int) := Classical.choose (⟨dm_X21_where, rfl⟩ : ∃ f, f = dm_X21_where)
theorem em_X21_where : m_X21_where = dm_X21_where := Classical.choose_spec (⟨dm_X21_where, rfl⟩ : ∃ f, f = dm_X21_where)
def dm_X22_in (s : jS) (x0 x2 x4 : Int) : Option (Int) :=
  if (L_cmp x0 x2) < 0 then
    some (Wz 0)
  else
    if 0 < (L_cmp x0 x4) then
      some (Wz 0)
    else
      some (Wz 1)
noncomputable def m_X22_in : jS → Int → Int → Int → Option (Int) := Classical.choose (⟨dm_X22_in, rfl⟩ : ∃ f, f = dm_X22_in)
theorem em_X22_in : m_X22_in = dm_X22_in := Classical.choose_spec (⟨dm_X22_in, rfl⟩ : ∃ f, f = dm_X22_in)
def dm_X22_cut (s : jS) (x0 x1 : Int) : Option (jS × Int) :=
  (m_X22_in s x1 0 (jf s 29 (x0 + 19) 1)).bind fun v1 =>
  if v1 = 0 then
    some (s, Wz 0)
  else
    jls (jp s 29 (x0 + 19) 1 x1) fun s2 =>
    some (s2, Wz 1)
noncomputable def m_X22_cut : jS → Int → Int → Option (jS × Int) := Classical.choose (⟨dm_X22_cut, rfl⟩ : ∃ f, f = dm_X22_cut)
theorem em_X22_cut : m_X22_cut = dm_X22_cut := Classical.choose_spec (⟨dm_X22_cut, rfl⟩ : ∃ f, f = dm_X22_cut)
def dm_X22_size (s : jS) (x0 : Int) : Option (Int) :=
  some (jf s 29 (x0 + 19) 1)
noncomputable def m_X22_size : jS → Int → Option (Int) := Classical.choose (⟨dm_X22_size, rfl⟩ : ∃ f, f = dm_X22_size)
theorem em_X22_size : m_X22_size = dm_X22_size := Classical.choose_spec (⟨dm_X22_size, rfl⟩ : ∃ f, f = dm_X22_size)
def dm_X22_place (s : jS) (x0 : Int) : Option (Int) :=
  some (jf s 26 x0 5)
noncomputable def m_X22_place : jS → Int → Option (Int) := Classical.choose (⟨dm_X22_place, rfl⟩ : ∃ f, f = dm_X22_place)
theorem em_X22_place : m_X22_place = dm_X22_place := Classical.choose_spec (⟨dm_X22_place, rfl⟩ : ∃ f, f = dm_X22_place)
def dm_X22_isSegment (s : jS) (x0 : Int) : Option (Int) :=
  if x0 < 0 then
    some (Wz 0)
  else
    if x0 < 3 then
      some (Wz 1)
    else
      some (Wz 0)
noncomputable def m_X22_isSegment : jS → Int → Option (Int) := Classical.choose (⟨dm_X22_isSegment, rfl⟩ : ∃ f, f = dm_X22_isSegment)
theorem em_X22_isSegment : m_X22_isSegment = dm_X22_isSegment := Classical.choose_spec (⟨dm_X22_isSegment, rfl⟩ : ∃ f, f = dm_X22_isSegment)
def dm_X22_page (s : jS) (x0 x1 : Int) : Option (jS × Int) :=
  (m_X22_in s x1 0 12).bind fun v1 =>
  if v1 = 0 then
    some (s, Wz 0)
  else
    jls (jp s 27 (x0 + 1) 3 (I_shl 1 x1)) fun s2 =>
    some (s2, Wz 1)
noncomputable def m_X22_page : jS → Int → Int → Option (jS × Int) := Classical.choose (⟨dm_X22_page, rfl⟩ : ∃ f, f = dm_X22_page)
theorem em_X22_page : m_X22_page = dm_X22_page := Classical.choose_spec (⟨dm_X22_page, rfl⟩ : ∃ f, f = dm_X22_page)
def dm_X22_entry (s : jS) (x0 x1 : Int) : Option (jS × Int) :=
  jls (jp s 27 (x0 + 1) 2 x1) fun s1 =>
  some (s1, 0)
noncomputable def m_X22_entry : jS → Int → Int → Option (jS × Int) := Classical.choose (⟨dm_X22_entry, rfl⟩ : ∃ f, f = dm_X22_entry)
theorem em_X22_entry : m_X22_entry = dm_X22_entry := Classical.choose_spec (⟨dm_X22_entry, rfl⟩ : ∃ f, f = dm_X22_entry)
def dm_X22_mark (s : jS) (x0 x1 x2 : Int) : Option (jS × Int) :=
  (m_X22_in s x1 0 4094).bind fun v1 =>
  if v1 = 0 then
    some (s, Wz 0)
  else
    (jdv 2 (I_rem x1 2)).bind fun v2 =>
    if v2 = 0 then
      (jdv 2 (I_div x1 2)).bind fun v3 =>
      (jlt s 1002 ((x0 + 1) + 2) 2048 v3).bind fun v4 =>
      if v4 = x2 then
        some (s, Wz 0)
      else
        (jdv 2 (I_div x1 2)).bind fun v5 =>
        (jst s 1002 ((x0 + 1) + 2) 2048 v5 (Wz x2)).bind fun s6 =>
        some (s6, Wz 1)
    else
      some (s, Wz 0)
noncomputable def m_X22_mark : jS → Int → Int → Int → Option (jS × Int) := Classical.choose (⟨dm_X22_mark, rfl⟩ : ∃ f, f = dm_X22_mark)
theorem em_X22_mark : m_X22_mark = dm_X22_mark := Classical.choose_spec (⟨dm_X22_mark, rfl⟩ : ∃ f, f = dm_X22_mark)
def dm_X22_rightsOf (s : jS) (x0 : Int) : Option (Int) :=
  if x0 = 0 then
    some 5
  else
    if x0 = 1 then
      some 4
    else
      some 6
noncomputable def m_X22_rightsOf : jS → Int → Option (Int) := Classical.choose (⟨dm_X22_rightsOf, rfl⟩ : ∃ f, f = dm_X22_rightsOf)
theorem em_X22_rightsOf : m_X22_rightsOf = dm_X22_rightsOf := Classical.choose_spec (⟨dm_X22_rightsOf, rfl⟩ : ∃ f, f = dm_X22_rightsOf)
def b_X23_clear_35 (s : jS) (x0 x1 : Int) : Option ((jS × List Int) ⊕ (jS × Int)) :=
  if x1 < 2048 then
    (jst s 1002 (x0 + 2) 2048 x1 (Wz 0)).bind fun s1 =>
    some (.inl (s1, [x0, W32 (x1 + 1)]))
  else
    jinr (some (s, 0))
def du_X23_clear_35 (s : jS) (x0 x1 : Int) : Option (jS × Int) := jlpW (jc2 b_X23_clear_35) [x0, x1] s
noncomputable def u_X23_clear_35 : jS → Int → Int → Option (jS × Int) := Classical.choose (⟨du_X23_clear_35, rfl⟩ : ∃ f, f = du_X23_clear_35)
theorem eu_X23_clear_35 : u_X23_clear_35 = du_X23_clear_35 := Classical.choose_spec (⟨du_X23_clear_35, rfl⟩ : ∃ f, f = du_X23_clear_35)
def du_X23_clear_33 (s : jS) (x0 : Int) : Option (jS × Int) :=
  u_X23_clear_35 s x0 0
noncomputable def u_X23_clear_33 : jS → Int → Option (jS × Int) := Classical.choose (⟨du_X23_clear_33, rfl⟩ : ∃ f, f = du_X23_clear_33)
theorem eu_X23_clear_33 : u_X23_clear_33 = du_X23_clear_33 := Classical.choose_spec (⟨du_X23_clear_33, rfl⟩ : ∃ f, f = du_X23_clear_33)
def b_X23_clear_12 (s : jS) (x0 x1 : Int) : Option ((jS × List Int) ⊕ (jS × Int)) :=
  if x1 < 3 then
    (jix 3 x1 ((x0 + 1) + 2 + 2 * x1)).bind fun v1 =>
    (jzb 0).bind fun v2 =>
    jls (jp s 28 v1 2 v2) fun s3 =>
    some (.inl (s3, [x0, W32 (x1 + 1)]))
  else
    jinr (u_X23_clear_33 s x0)
def du_X23_clear_12 (s : jS) (x0 x1 : Int) : Option (jS × Int) := jlpW (jc2 b_X23_clear_12) [x0, x1] s
noncomputable def u_X23_clear_12 : jS → Int → Int → Option (jS × Int) := Classical.choose (⟨du_X23_clear_12, rfl⟩ : ∃ f, f = du_X23_clear_12)
theorem eu_X23_clear_12 : u_X23_clear_12 = du_X23_clear_12 := Classical.choose_spec (⟨du_X23_clear_12, rfl⟩ : ∃ f, f = du_X23_clear_12)
def dm_X23_clear (s : jS) (x0 : Int) : Option (jS × Int) :=
  jls (jp s 27 x0 2 0) fun s1 =>
  jls (jp s1 27 x0 3 1) fun s2 =>
  u_X23_clear_12 s2 x0 0
noncomputable def m_X23_clear : jS → Int → Option (jS × Int) := Classical.choose (⟨dm_X23_clear, rfl⟩ : ∃ f, f = dm_X23_clear)
theorem em_X23_clear : m_X23_clear = dm_X23_clear := Classical.choose_spec (⟨dm_X23_clear, rfl⟩ : ∃ f, f = dm_X23_clear)
def dm_X23_text (s : jS) (x0 : Int) : Option (Int) :=
  (jix 3 0 ((x0 + 1) + 2 + 2 * 0)).bind fun v1 =>
  some v1
noncomputable def m_X23_text : jS → Int → Option (Int) := Classical.choose (⟨dm_X23_text, rfl⟩ : ∃ f, f = dm_X23_text)
theorem em_X23_text : m_X23_text = dm_X23_text := Classical.choose_spec (⟨dm_X23_text, rfl⟩ : ∃ f, f = dm_X23_text)
def dm_X23_places (s : jS) (x0 : Int) : Option (Int) :=
  (m_X23_text s x0).bind fun v1 =>
  (jrd s 28 v1 2).bind fun v2 =>
  if v2 = 0 then
    some 0
  else
    (m_X23_text s x0).bind fun v3 =>
    (jrd s 28 v3 4).bind fun v4 =>
    (jdv 2 (I_div v4 2)).bind fun v5 =>
    some v5
noncomputable def m_X23_places : jS → Int → Option (Int) := Classical.choose (⟨dm_X23_places, rfl⟩ : ∃ f, f = dm_X23_places)
theorem em_X23_places : m_X23_places = dm_X23_places := Classical.choose_spec (⟨dm_X23_places, rfl⟩ : ∃ f, f = dm_X23_places)
def dm_X23_markBytes (s : jS) (x0 : Int) : Option (Int) :=
  (m_X23_text s x0).bind fun v1 =>
  (jrd s 28 v1 4).bind fun v2 =>
  (jdv 16 (I_div (W32 (v2 + 15)) 16)).bind fun v3 =>
  some v3
noncomputable def m_X23_markBytes : jS → Int → Option (Int) := Classical.choose (⟨dm_X23_markBytes, rfl⟩ : ∃ f, f = dm_X23_markBytes)
theorem em_X23_markBytes : m_X23_markBytes = dm_X23_markBytes := Classical.choose_spec (⟨dm_X23_markBytes, rfl⟩ : ∃ f, f = dm_X23_markBytes)
def dm_X23_isShort (s : jS) (x0 x1 : Int) : Option (Int) :=
  (m_X23_text s x0).bind fun v1 =>
  (jrd s 28 v1 1).bind fun v2 =>
  (jld s 1001 v2 (W32 (2 * x1))).bind fun v3 =>
  if (I_and v3 3) = 3 then
    some (Wz 0)
  else
    some (Wz 1)
noncomputable def m_X23_isShort : jS → Int → Int → Option (Int) := Classical.choose (⟨dm_X23_isShort, rfl⟩ : ∃ f, f = dm_X23_isShort)
theorem em_X23_isShort : m_X23_isShort = dm_X23_isShort := Classical.choose_spec (⟨dm_X23_isShort, rfl⟩ : ∃ f, f = dm_X23_isShort)
def dm_X23_isMark (s : jS) (x0 x1 : Int) : Option (Int) :=
  (m_X23_text s x0).bind fun v1 =>
  (jrd s 28 v1 3).bind fun v2 =>
  jlet (W64 (x1 - v2)) fun v3 =>
  (m_X23_text s x0).bind fun v4 =>
  (jrd s 28 v4 2).bind fun v5 =>
  if v5 = 0 then
    some (Wz 0)
  else
    if (L_cmp v3 0) < 0 then
      some (Wz 0)
    else
      (m_X23_text s x0).bind fun v6 =>
      (jrd s 28 v6 4).bind fun v7 =>
      if (L_cmp v3 v7) < 0 then
        (jdv 2 (L_rem v3 2)).bind fun v8 =>
        if (L_cmp v8 0) = 0 then
          (jdv 2 (I_div (L2i v3) 2)).bind fun v9 =>
          (jlt s 1002 (x0 + 2) 2048 v9).bind fun v10 =>
          if v10 = 0 then
            some (Wz 0)
          else
            some (Wz 1)
        else
          some (Wz 0)
      else
        some (Wz 0)
noncomputable def m_X23_isMark : jS → Int → Int → Option (Int) := Classical.choose (⟨dm_X23_isMark, rfl⟩ : ∃ f, f = dm_X23_isMark)
theorem em_X23_isMark : m_X23_isMark = dm_X23_isMark := Classical.choose_spec (⟨dm_X23_isMark, rfl⟩ : ∃ f, f = dm_X23_isMark)
def du_X23_markByte_44 (s : jS) (x0 x1 x3 y0 y1 : Int) : Option (List Int ⊕ (Int)) :=
  jlet (I_or y1 y0) fun v1 =>
  some (.inl [x0, x1, v1, W32 (x3 + 1)])
noncomputable def u_X23_markByte_44 : jS → Int → Int → Int → Int → Int → Option (List Int ⊕ (Int)) := Classical.choose (⟨du_X23_markByte_44, rfl⟩ : ∃ f, f = du_X23_markByte_44)
theorem eu_X23_markByte_44 : u_X23_markByte_44 = du_X23_markByte_44 := Classical.choose_spec (⟨du_X23_markByte_44, rfl⟩ : ∃ f, f = du_X23_markByte_44)
def b_X23_markByte_4 (s : jS) (x0 x1 x2 x3 : Int) : Option (List Int ⊕ (Int)) :=
  if x3 < 8 then
    if (W32 ((W32 (8 * x1)) + x3)) < 2048 then
      (jlt s 1002 (x0 + 2) 2048 (W32 ((W32 (8 * x1)) + x3))).bind fun v1 =>
      if v1 = 0 then
        u_X23_markByte_44 s x0 x1 x3 0 x2
      else
        u_X23_markByte_44 s x0 x1 x3 (I_shl 1 x3) x2
    else
      jinr (some x2)
  else
    jinr (some x2)
def du_X23_markByte_4 (s : jS) (x0 x1 x2 x3 : Int) : Option (Int) := jlpR (jc4 b_X23_markByte_4) [x0, x1, x2, x3] s
noncomputable def u_X23_markByte_4 : jS → Int → Int → Int → Int → Option (Int) := Classical.choose (⟨du_X23_markByte_4, rfl⟩ : ∃ f, f = du_X23_markByte_4)
theorem eu_X23_markByte_4 : u_X23_markByte_4 = du_X23_markByte_4 := Classical.choose_spec (⟨du_X23_markByte_4, rfl⟩ : ∃ f, f = du_X23_markByte_4)
def dm_X23_markByte (s : jS) (x0 x1 : Int) : Option (Int) :=
  u_X23_markByte_4 s x0 x1 0 0
noncomputable def m_X23_markByte : jS → Int → Int → Option (Int) := Classical.choose (⟨dm_X23_markByte, rfl⟩ : ∃ f, f = dm_X23_markByte)
theorem em_X23_markByte : m_X23_markByte = dm_X23_markByte := Classical.choose_spec (⟨dm_X23_markByte, rfl⟩ : ∃ f, f = dm_X23_markByte)
def du_X23_count_39 (s : jS) (x0 x1 x3 y0 y1 : Int) : Option (List Int ⊕ (Int)) :=
  jlet (W32 (y1 + y0)) fun v1 =>
  some (.inl [x0, x1, v1, W32 (x3 + 1)])
noncomputable def u_X23_count_39 : jS → Int → Int → Int → Int → Int → Option (List Int ⊕ (Int)) := Classical.choose (⟨du_X23_count_39, rfl⟩ : ∃ f, f = du_X23_count_39)
theorem eu_X23_count_39 : u_X23_count_39 = du_X23_count_39 := Classical.choose_spec (⟨du_X23_count_39, rfl⟩ : ∃ f, f = du_X23_count_39)
def du_X23_count_38 (s : jS) (x0 x1 x3 y0 : Int) : Option (List Int ⊕ (Int)) :=
  u_X23_count_39 s x0 x1 x3 0 y0
noncomputable def u_X23_count_38 : jS → Int → Int → Int → Int → Option (List Int ⊕ (Int)) := Classical.choose (⟨du_X23_count_38, rfl⟩ : ∃ f, f = du_X23_count_38)
theorem eu_X23_count_38 : u_X23_count_38 = du_X23_count_38 := Classical.choose_spec (⟨du_X23_count_38, rfl⟩ : ∃ f, f = du_X23_count_38)
def du_X23_count_34 (s : jS) (x0 x1 x3 y0 : Int) : Option (List Int ⊕ (Int)) :=
  u_X23_count_39 s x0 x1 x3 1 y0
noncomputable def u_X23_count_34 : jS → Int → Int → Int → Int → Option (List Int ⊕ (Int)) := Classical.choose (⟨du_X23_count_34, rfl⟩ : ∃ f, f = du_X23_count_34)
theorem eu_X23_count_34 : u_X23_count_34 = du_X23_count_34 := Classical.choose_spec (⟨du_X23_count_34, rfl⟩ : ∃ f, f = du_X23_count_34)
def b_X23_count_4 (s : jS) (x0 x1 x2 x3 : Int) : Option (List Int ⊕ (Int)) :=
  (m_X23_places s x0).bind fun v1 =>
  if x3 < v1 then
    (jlt s 1002 (x0 + 2) 2048 x3).bind fun v2 =>
    if v2 = 0 then
      u_X23_count_38 s x0 x1 x3 x2
    else
      if x1 = 0 then
        u_X23_count_34 s x0 x1 x3 x2
      else
        (m_X23_isShort s x0 x3).bind fun v3 =>
        if v3 = 0 then
          u_X23_count_38 s x0 x1 x3 x2
        else
          u_X23_count_34 s x0 x1 x3 x2
  else
    jinr (some x2)
def du_X23_count_4 (s : jS) (x0 x1 x2 x3 : Int) : Option (Int) := jlpR (jc4 b_X23_count_4) [x0, x1, x2, x3] s
noncomputable def u_X23_count_4 : jS → Int → Int → Int → Int → Option (Int) := Classical.choose (⟨du_X23_count_4, rfl⟩ : ∃ f, f = du_X23_count_4)
theorem eu_X23_count_4 : u_X23_count_4 = du_X23_count_4 := Classical.choose_spec (⟨du_X23_count_4, rfl⟩ : ∃ f, f = du_X23_count_4)
def dm_X23_count (s : jS) (x0 x1 : Int) : Option (Int) :=
  u_X23_count_4 s x0 x1 0 0
noncomputable def m_X23_count : jS → Int → Int → Option (Int) := Classical.choose (⟨dm_X23_count, rfl⟩ : ∃ f, f = dm_X23_count)
theorem em_X23_count : m_X23_count = dm_X23_count := Classical.choose_spec (⟨dm_X23_count, rfl⟩ : ∃ f, f = dm_X23_count)
def dm_X24_init (s : jS) (x0 x1 : Int) : Option (jS × Int) :=
  jck0 x0 <|
  (jna s 1001 4096 0).bind fun q1 =>
  (jwr q1.1 28 x0 1 q1.2).bind fun s2 =>
  (jwr s2 28 x0 0 x1).bind fun s3 =>
  some (s3, 0)
noncomputable def m_X24_init : jS → Int → Int → Option (jS × Int) := Classical.choose (⟨dm_X24_init, rfl⟩ : ∃ f, f = dm_X24_init)
theorem em_X24_init : m_X24_init = dm_X24_init := Classical.choose_spec (⟨dm_X24_init, rfl⟩ : ∃ f, f = dm_X24_init)
def du_X24_lie_12 (s : jS) (x0 x1 x2 : Int) : Option (jS × Int) :=
  (jzb 1).bind fun v1 =>
  jls (jp s 28 x0 2 v1) fun s2 =>
  jls (jp s2 28 x0 3 x1) fun s3 =>
  jls (jp s3 28 x0 5 x2) fun s4 =>
  some (s4, 0)
noncomputable def u_X24_lie_12 : jS → Int → Int → Int → Option (jS × Int) := Classical.choose (⟨du_X24_lie_12, rfl⟩ : ∃ f, f = du_X24_lie_12)
theorem eu_X24_lie_12 : u_X24_lie_12 = du_X24_lie_12 := Classical.choose_spec (⟨du_X24_lie_12, rfl⟩ : ∃ f, f = du_X24_lie_12)
def dm_X24_lie (s : jS) (x0 x1 x2 : Int) : Option (jS × Int) :=
  if (jf s 28 x0 2) = 0 then
    jls (jp s 28 x0 4 0) fun s1 =>
    u_X24_lie_12 s1 x0 x1 x2
  else
    u_X24_lie_12 s x0 x1 x2
noncomputable def m_X24_lie : jS → Int → Int → Int → Option (jS × Int) := Classical.choose (⟨dm_X24_lie, rfl⟩ : ∃ f, f = dm_X24_lie)
theorem em_X24_lie : m_X24_lie = dm_X24_lie := Classical.choose_spec (⟨dm_X24_lie, rfl⟩ : ∃ f, f = dm_X24_lie)
def dm_X24_add (s : jS) (x0 x1 : Int) : Option (jS × Int) :=
  (jst s 1001 (x0 + 1) 4096 (jf s 28 x0 4) (W8 (W8 x1))).bind fun s1 =>
  jls (jp s1 28 x0 4 (W32 ((jf s1 28 x0 4) + 1))) fun s2 =>
  some (s2, 0)
noncomputable def m_X24_add : jS → Int → Int → Option (jS × Int) := Classical.choose (⟨dm_X24_add, rfl⟩ : ∃ f, f = dm_X24_add)
theorem em_X24_add : m_X24_add = dm_X24_add := Classical.choose_spec (⟨dm_X24_add, rfl⟩ : ∃ f, f = dm_X24_add)
def dm_X24_end (s : jS) (x0 : Int) : Option (Int) :=
  some (W32 ((W32 ((jf s 28 x0 3) + (jf s 28 x0 4))) + (jf s 28 x0 5)))
noncomputable def m_X24_end : jS → Int → Option (Int) := Classical.choose (⟨dm_X24_end, rfl⟩ : ∃ f, f = dm_X24_end)
theorem em_X24_end : m_X24_end = dm_X24_end := Classical.choose_spec (⟨dm_X24_end, rfl⟩ : ∃ f, f = dm_X24_end)
def dm_X24_meets (s : jS) (x0 x1 : Int) : Option (Int) :=
  if (jf s 28 x0 2) = 0 then
    some (Wz 0)
  else
    (jrd s 28 x1 2).bind fun v1 =>
    if v1 = 0 then
      some (Wz 0)
    else
      (jct s 44 x1 (m_X24_end s x1)).bind fun v2 =>
      if (jf s 28 x0 3) < v2 then
        (jrd s 28 x1 3).bind fun v3 =>
        (m_X24_end s x0).bind fun v4 =>
        if v3 < v4 then
          (m_X24_end s x0).bind fun v5 =>
          if (jf s 28 x0 3) < v5 then
            (jct s 44 x1 (m_X24_end s x1)).bind fun v6 =>
            (jrd s 28 x1 3).bind fun v7 =>
            if v7 < v6 then
              some (Wz 1)
            else
              some (Wz 0)
          else
            some (Wz 0)
        else
          some (Wz 0)
      else
        some (Wz 0)
noncomputable def m_X24_meets : jS → Int → Int → Option (Int) := Classical.choose (⟨dm_X24_meets, rfl⟩ : ∃ f, f = dm_X24_meets)
theorem em_X24_meets : m_X24_meets = dm_X24_meets := Classical.choose_spec (⟨dm_X24_meets, rfl⟩ : ∃ f, f = dm_X24_meets)
def b_X24_set_34 (s : jS) (x0 x1 x2 : Int) : Option ((jS × List Int) ⊕ (jS × Int)) :=
  if x2 < (jf s 28 x0 4) then
    (jrd s 28 x1 1).bind fun v1 =>
    (jld s 1001 v1 x2).bind fun v2 =>
    (jst s 1001 (x0 + 1) 4096 x2 (W8 v2)).bind fun s3 =>
    some (.inl (s3, [x0, x1, W32 (x2 + 1)]))
  else
    jinr (some (s, 0))
def du_X24_set_34 (s : jS) (x0 x1 x2 : Int) : Option (jS × Int) := jlpW (jc3 b_X24_set_34) [x0, x1, x2] s
noncomputable def u_X24_set_34 : jS → Int → Int → Int → Option (jS × Int) := Classical.choose (⟨du_X24_set_34, rfl⟩ : ∃ f, f = du_X24_set_34)
theorem eu_X24_set_34 : u_X24_set_34 = du_X24_set_34 := Classical.choose_spec (⟨du_X24_set_34, rfl⟩ : ∃ f, f = du_X24_set_34)
def dm_X24_set (s : jS) (x0 x1 : Int) : Option (jS × Int) :=
  (jrd s 28 x1 2).bind fun v1 =>
  (jzb v1).bind fun v2 =>
  jls (jp s 28 x0 2 v2) fun s3 =>
  (jrd s3 28 x1 3).bind fun v4 =>
  jls (jp s3 28 x0 3 v4) fun s5 =>
  (jrd s5 28 x1 4).bind fun v6 =>
  jls (jp s5 28 x0 4 v6) fun s7 =>
  (jrd s7 28 x1 5).bind fun v8 =>
  jls (jp s7 28 x0 5 v8) fun s9 =>
  u_X24_set_34 s9 x0 x1 0
noncomputable def m_X24_set : jS → Int → Int → Option (jS × Int) := Classical.choose (⟨dm_X24_set, rfl⟩ : ∃ f, f = dm_X24_set)
theorem em_X24_set : m_X24_set = dm_X24_set := Classical.choose_spec (⟨dm_X24_set, rfl⟩ : ∃ f, f = dm_X24_set)
def dm_X24_tell (s : jS) (x0 x1 : Int) : Option (Int) :=
  if x1 = 0 then
    if (jf s 28 x0 2) = 0 then
      some 0
    else
      some 1
  else
    if (jf s 28 x0 2) = 0 then
      some (-1)
    else
      if x1 = 1 then
        some (jf s 28 x0 3)
      else
        if x1 = 2 then
          some (jf s 28 x0 4)
        else
          if x1 = 3 then
            some (jf s 28 x0 5)
          else
            some (-1)
noncomputable def m_X24_tell : jS → Int → Int → Option (Int) := Classical.choose (⟨dm_X24_tell, rfl⟩ : ∃ f, f = dm_X24_tell)
theorem em_X24_tell : m_X24_tell = dm_X24_tell := Classical.choose_spec (⟨dm_X24_tell, rfl⟩ : ∃ f, f = dm_X24_tell)
def dm_X24_has (s : jS) (x0 x1 : Int) : Option (Int) :=
  if (jf s 28 x0 2) = 0 then
    some (Wz 0)
  else
    if x1 < (jf s 28 x0 3) then
      some (Wz 0)
    else
      (m_X24_end s x0).bind fun v1 =>
      if x1 < v1 then
        some (Wz 1)
      else
        some (Wz 0)
noncomputable def m_X24_has : jS → Int → Int → Option (Int) := Classical.choose (⟨dm_X24_has, rfl⟩ : ∃ f, f = dm_X24_has)
theorem em_X24_has : m_X24_has = dm_X24_has := Classical.choose_spec (⟨dm_X24_has, rfl⟩ : ∃ f, f = dm_X24_has)
def dm_X24_byteAt (s : jS) (x0 x1 : Int) : Option (Int) :=
  if (W32 (x1 - (jf s 28 x0 3))) < (jf s 28 x0 4) then
    (jlt s 1001 (x0 + 1) 4096 (W32 (x1 - (jf s 28 x0 3)))).bind fun v1 =>
    some (I_and v1 255)
  else
    some 0
noncomputable def m_X24_byteAt : jS → Int → Int → Option (Int) := Classical.choose (⟨dm_X24_byteAt, rfl⟩ : ∃ f, f = dm_X24_byteAt)
theorem em_X24_byteAt : m_X24_byteAt = dm_X24_byteAt := Classical.choose_spec (⟨dm_X24_byteAt, rfl⟩ : ∃ f, f = dm_X24_byteAt)
def dm_X25_init (s : jS) (x0 x1 : Int) : Option (jS × Int) :=
  jck0 x0 <|
  (jna s 1001 x1 0).bind fun q1 =>
  (jwr q1.1 29 x0 0 q1.2).bind fun s2 =>
  some (s2, 0)
noncomputable def m_X25_init : jS → Int → Int → Option (jS × Int) := Classical.choose (⟨dm_X25_init, rfl⟩ : ∃ f, f = dm_X25_init)
theorem em_X25_init : m_X25_init = dm_X25_init := Classical.choose_spec (⟨dm_X25_init, rfl⟩ : ∃ f, f = dm_X25_init)
def du_X25_put1_23 (s : jS) (x0 : Int) : Option (jS × Int) :=
  jls (jp s 29 x0 1 (W32 ((jf s 29 x0 1) + 1))) fun s1 =>
  some (s1, 0)
noncomputable def u_X25_put1_23 : jS → Int → Option (jS × Int) := Classical.choose (⟨du_X25_put1_23, rfl⟩ : ∃ f, f = du_X25_put1_23)
theorem eu_X25_put1_23 : u_X25_put1_23 = du_X25_put1_23 := Classical.choose_spec (⟨du_X25_put1_23, rfl⟩ : ∃ f, f = du_X25_put1_23)
def dm_X25_put1 (s : jS) (x0 x1 : Int) : Option (jS × Int) :=
  if (jf s 29 x0 1) < 16384 then
    (jst s 1001 (x0 + 1) 16384 (jf s 29 x0 1) (W8 (W8 x1))).bind fun s1 =>
    u_X25_put1_23 s1 x0
  else
    u_X25_put1_23 s x0
noncomputable def m_X25_put1 : jS → Int → Int → Option (jS × Int) := Classical.choose (⟨dm_X25_put1, rfl⟩ : ∃ f, f = dm_X25_put1)
theorem em_X25_put1 : m_X25_put1 = dm_X25_put1 := Classical.choose_spec (⟨dm_X25_put1, rfl⟩ : ∃ f, f = dm_X25_put1)
def dm_X25_u1 (s : jS) (x0 x1 : Int) : Option (Int) :=
  (jlt s 1001 (x0 + 1) 16384 x1).bind fun v1 =>
  some (I_and v1 255)
noncomputable def m_X25_u1 : jS → Int → Int → Option (Int) := Classical.choose (⟨dm_X25_u1, rfl⟩ : ∃ f, f = dm_X25_u1)
theorem em_X25_u1 : m_X25_u1 = dm_X25_u1 := Classical.choose_spec (⟨dm_X25_u1, rfl⟩ : ∃ f, f = dm_X25_u1)
def dm_X25_u2 (s : jS) (x0 x1 : Int) : Option (Int) :=
  (m_X25_u1 s x0 x1).bind fun v1 =>
  (m_X25_u1 s x0 (W32 (x1 + 1))).bind fun v2 =>
  some (I_or v1 (I_shl v2 8))
noncomputable def m_X25_u2 : jS → Int → Int → Option (Int) := Classical.choose (⟨dm_X25_u2, rfl⟩ : ∃ f, f = dm_X25_u2)
theorem em_X25_u2 : m_X25_u2 = dm_X25_u2 := Classical.choose_spec (⟨dm_X25_u2, rfl⟩ : ∃ f, f = dm_X25_u2)
def dm_X25_s4 (s : jS) (x0 x1 : Int) : Option (Int) :=
  (m_X25_u2 s x0 x1).bind fun v1 =>
  (m_X25_u2 s x0 (W32 (x1 + 2))).bind fun v2 =>
  some (I_or v1 (I_shl v2 16))
noncomputable def m_X25_s4 : jS → Int → Int → Option (Int) := Classical.choose (⟨dm_X25_s4, rfl⟩ : ∃ f, f = dm_X25_s4)
theorem em_X25_s4 : m_X25_s4 = dm_X25_s4 := Classical.choose_spec (⟨dm_X25_s4, rfl⟩ : ∃ f, f = dm_X25_s4)
def dm_X25_put2 (s : jS) (x0 x1 : Int) : Option (jS × Int) :=
  (m_X25_put1 s x0 x1).bind fun q1 =>
  (m_X25_put1 q1.1 x0 (I_shr x1 8)).bind fun q2 =>
  some (q2.1, 0)
noncomputable def m_X25_put2 : jS → Int → Int → Option (jS × Int) := Classical.choose (⟨dm_X25_put2, rfl⟩ : ∃ f, f = dm_X25_put2)
theorem em_X25_put2 : m_X25_put2 = dm_X25_put2 := Classical.choose_spec (⟨dm_X25_put2, rfl⟩ : ∃ f, f = dm_X25_put2)
def b_X25_set4_2 (s : jS) (x0 x1 x2 x3 : Int) : Option ((jS × List Int) ⊕ (jS × Int)) :=
  if x3 < 4 then
    (jst s 1001 (x0 + 1) 16384 (W32 (x1 + x3)) (W8 (W8 (I_shr x2 (W32 (8 * x3)))))).bind fun s1 =>
    some (.inl (s1, [x0, x1, x2, W32 (x3 + 1)]))
  else
    jinr (some (s, 0))
def du_X25_set4_2 (s : jS) (x0 x1 x2 x3 : Int) : Option (jS × Int) := jlpW (jc4 b_X25_set4_2) [x0, x1, x2, x3] s
noncomputable def u_X25_set4_2 : jS → Int → Int → Int → Int → Option (jS × Int) := Classical.choose (⟨du_X25_set4_2, rfl⟩ : ∃ f, f = du_X25_set4_2)
theorem eu_X25_set4_2 : u_X25_set4_2 = du_X25_set4_2 := Classical.choose_spec (⟨du_X25_set4_2, rfl⟩ : ∃ f, f = du_X25_set4_2)
def dm_X25_set4 (s : jS) (x0 x1 x2 : Int) : Option (jS × Int) :=
  u_X25_set4_2 s x0 x1 x2 0
noncomputable def m_X25_set4 : jS → Int → Int → Int → Option (jS × Int) := Classical.choose (⟨dm_X25_set4, rfl⟩ : ∃ f, f = dm_X25_set4)
theorem em_X25_set4 : m_X25_set4 = dm_X25_set4 := Classical.choose_spec (⟨dm_X25_set4, rfl⟩ : ∃ f, f = dm_X25_set4)
def dm_X26_noteSize (s : jS) (x0 x1 : Int) : Option (Int) :=
  (jct s 43 x1 (m_X23_markBytes s x1)).bind fun v1 =>
  (jdv 4 (I_div (W32 (v1 + 3)) 4)).bind fun v2 =>
  some (W32 (28 + (W32 (v2 * 4))))
noncomputable def m_X26_noteSize : jS → Int → Int → Option (Int) := Classical.choose (⟨dm_X26_noteSize, rfl⟩ : ∃ f, f = dm_X26_noteSize)
theorem em_X26_noteSize : m_X26_noteSize = dm_X26_noteSize := Classical.choose_spec (⟨dm_X26_noteSize, rfl⟩ : ∃ f, f = dm_X26_noteSize)
def dm_X27_init (s : jS) (x0 : Int) : Option (jS × Int) :=
  jck0 x0 <|
  some (s, 0)
noncomputable def m_X27_init : jS → Int → Option (jS × Int) := Classical.choose (⟨dm_X27_init, rfl⟩ : ∃ f, f = dm_X27_init)
theorem em_X27_init : m_X27_init = dm_X27_init := Classical.choose_spec (⟨dm_X27_init, rfl⟩ : ∃ f, f = dm_X27_init)
def dm_X27_begin (s : jS) (x0 : Int) : Option (jS × Int) :=
  jls (jp s 31 x0 0 (-1)) fun s1 =>
  some (s1, 0)
noncomputable def m_X27_begin : jS → Int → Option (jS × Int) := Classical.choose (⟨dm_X27_begin, rfl⟩ : ∃ f, f = dm_X27_begin)
theorem em_X27_begin : m_X27_begin = dm_X27_begin := Classical.choose_spec (⟨dm_X27_begin, rfl⟩ : ∃ f, f = dm_X27_begin)
def du_X27_take_45 (s : jS) (x0 x1 x2 y0 y1 y2 : Int) : Option ((jS × List Int) ⊕ (jS × Int)) :=
  jls (jp s 31 y2 0 (I_xor y1 y0)) fun s1 =>
  some (.inl (s1, [x0, x1, W32 (x2 + 1)]))
noncomputable def u_X27_take_45 : jS → Int → Int → Int → Int → Int → Int → Option ((jS × List Int) ⊕ (jS × Int)) := Classical.choose (⟨du_X27_take_45, rfl⟩ : ∃ f, f = du_X27_take_45)
theorem eu_X27_take_45 : u_X27_take_45 = du_X27_take_45 := Classical.choose_spec (⟨du_X27_take_45, rfl⟩ : ∃ f, f = du_X27_take_45)
def du_X27_take_27 (s : jS) (x0 x1 x2 y0 : Int) : Option ((jS × List Int) ⊕ (jS × Int)) :=
  if y0 = 0 then
    u_X27_take_45 s x0 x1 x2 0 (I_ushr (jf s 31 x0 0) 1) x0
  else
    u_X27_take_45 s x0 x1 x2 (-306674912) (I_ushr (jf s 31 x0 0) 1) x0
noncomputable def u_X27_take_27 : jS → Int → Int → Int → Int → Option ((jS × List Int) ⊕ (jS × Int)) := Classical.choose (⟨du_X27_take_27, rfl⟩ : ∃ f, f = du_X27_take_27)
theorem eu_X27_take_27 : u_X27_take_27 = du_X27_take_27 := Classical.choose_spec (⟨du_X27_take_27, rfl⟩ : ∃ f, f = du_X27_take_27)
def b_X27_take_2 (s : jS) (x0 x1 x2 : Int) : Option ((jS × List Int) ⊕ (jS × Int)) :=
  if x2 < 8 then
    if (I_and (I_xor (jf s 31 x0 0) (I_shr x1 x2)) 1) = 1 then
      u_X27_take_27 s x0 x1 x2 1
    else
      u_X27_take_27 s x0 x1 x2 0
  else
    jinr (some (s, 0))
def du_X27_take_2 (s : jS) (x0 x1 x2 : Int) : Option (jS × Int) := jlpW (jc3 b_X27_take_2) [x0, x1, x2] s
noncomputable def u_X27_take_2 : jS → Int → Int → Int → Option (jS × Int) := Classical.choose (⟨du_X27_take_2, rfl⟩ : ∃ f, f = du_X27_take_2)
theorem eu_X27_take_2 : u_X27_take_2 = du_X27_take_2 := Classical.choose_spec (⟨du_X27_take_2, rfl⟩ : ∃ f, f = du_X27_take_2)
def dm_X27_take (s : jS) (x0 x1 : Int) : Option (jS × Int) :=
  u_X27_take_2 s x0 x1 0
noncomputable def m_X27_take : jS → Int → Int → Option (jS × Int) := Classical.choose (⟨dm_X27_take, rfl⟩ : ∃ f, f = dm_X27_take)
theorem em_X27_take : m_X27_take = dm_X27_take := Classical.choose_spec (⟨dm_X27_take, rfl⟩ : ∃ f, f = dm_X27_take)
def dm_X27_end (s : jS) (x0 : Int) : Option (Int) :=
  some (I_xor (jf s 31 x0 0) (-1))
noncomputable def m_X27_end : jS → Int → Option (Int) := Classical.choose (⟨dm_X27_end, rfl⟩ : ∃ f, f = dm_X27_end)
theorem em_X27_end : m_X27_end = dm_X27_end := Classical.choose_spec (⟨dm_X27_end, rfl⟩ : ∃ f, f = dm_X27_end)
def dm_X28_need (s : jS) (x0 x1 x2 x3 : Int) : Option (jS × Bool × Int) :=
  if x1 = 0 then
    jls (jp s 32 x0 8 x2) fun s1 =>
    jls (jp s1 32 x0 9 x3) fun s2 =>
    (jnx s2 2054).bind fun q3 =>
    jck0 q3.2 (some (q3.1, true, q3.2))
  else
    some (s, false, 0)
noncomputable def m_X28_need : jS → Int → Int → Int → Int → Option (jS × Bool × Int) := Classical.choose (⟨dm_X28_need, rfl⟩ : ∃ f, f = dm_X28_need)
theorem em_X28_need : m_X28_need = dm_X28_need := Classical.choose_spec (⟨dm_X28_need, rfl⟩ : ∃ f, f = dm_X28_need)
def dm_X28_field (s : jS) (x0 x1 x2 : Int) : Option (Int) :=
  some (W32 ((W32 ((jf s 32 x0 5) + (W32 (32 * x1)))) + (W32 (4 * x2))))
noncomputable def m_X28_field : jS → Int → Int → Int → Option (Int) := Classical.choose (⟨dm_X28_field, rfl⟩ : ∃ f, f = dm_X28_field)
theorem em_X28_field : m_X28_field = dm_X28_field := Classical.choose_spec (⟨dm_X28_field, rfl⟩ : ∃ f, f = dm_X28_field)
def dm_X28_segmentOf (s : jS) (x0 x1 : Int) : Option (Int) :=
  if (L_cmp x1 5) = 0 then
    some 0
  else
    if (L_cmp x1 4) = 0 then
      some 1
    else
      if (L_cmp x1 6) = 0 then
        some 2
      else
        some (-1)
noncomputable def m_X28_segmentOf : jS → Int → Int → Option (Int) := Classical.choose (⟨dm_X28_segmentOf, rfl⟩ : ∃ f, f = dm_X28_segmentOf)
theorem em_X28_segmentOf : m_X28_segmentOf = dm_X28_segmentOf := Classical.choose_spec (⟨dm_X28_segmentOf, rfl⟩ : ∃ f, f = dm_X28_segmentOf)
def dm_X28_value (s : jS) (x0 x1 x2 : Int) : Option (Int) :=
  (m_X28_field s x0 x1 x2).bind fun v1 =>
  (jct s 45 (jf s 32 x0 3) (m_X25_s4 s (jf s 32 x0 3) v1)).bind fun v2 =>
  some v2
noncomputable def m_X28_value : jS → Int → Int → Int → Option (Int) := Classical.choose (⟨dm_X28_value, rfl⟩ : ∃ f, f = dm_X28_value)
theorem em_X28_value : m_X28_value = dm_X28_value := Classical.choose_spec (⟨dm_X28_value, rfl⟩ : ∃ f, f = dm_X28_value)
def dm_X29_forget (s : jS) (x0 : Int) : Option (jS × Int) :=
  jls (jp s 33 x0 21 0) fun s1 =>
  some (s1, 0)
noncomputable def m_X29_forget : jS → Int → Option (jS × Int) := Classical.choose (⟨dm_X29_forget, rfl⟩ : ∃ f, f = dm_X29_forget)
theorem em_X29_forget : m_X29_forget = dm_X29_forget := Classical.choose_spec (⟨dm_X29_forget, rfl⟩ : ∃ f, f = dm_X29_forget)
def dm_X29_beyond (s : jS) (x0 : Int) : Option (Int) :=
  if x0 < 0 then
    some (Wz 1)
  else
    if x0 < 131072 then
      some (Wz 0)
    else
      some (Wz 1)
noncomputable def m_X29_beyond : jS → Int → Option (Int) := Classical.choose (⟨dm_X29_beyond, rfl⟩ : ∃ f, f = dm_X29_beyond)
theorem em_X29_beyond : m_X29_beyond = dm_X29_beyond := Classical.choose_spec (⟨dm_X29_beyond, rfl⟩ : ∃ f, f = dm_X29_beyond)
def du_X29_set_66 (s : jS) (x0 : Int) : Option (jS × Int) :=
  (m_X29_forget s x0).bind fun q1 =>
  some (q1.1, Wz 1)
noncomputable def u_X29_set_66 : jS → Int → Option (jS × Int) := Classical.choose (⟨du_X29_set_66, rfl⟩ : ∃ f, f = du_X29_set_66)
theorem eu_X29_set_66 : u_X29_set_66 = du_X29_set_66 := Classical.choose_spec (⟨du_X29_set_66, rfl⟩ : ∃ f, f = du_X29_set_66)
def du_X29_set_26 (s : jS) (x0 x1 x2 : Int) : Option (jS × Int) :=
  if x1 < 32 then
    (jst s 1000 (x0 + 4) 32 x1 x2).bind fun s1 =>
    u_X29_set_66 s1 x0
  else
    if x1 = 32 then
      jls (jp s 33 x0 10 x2) fun s2 =>
      u_X29_set_66 s2 x0
    else
      jls (jp s 33 x0 11 0) fun s3 =>
      jls (jp s3 33 x0 12 0) fun s4 =>
      u_X29_set_66 s4 x0
noncomputable def u_X29_set_26 : jS → Int → Int → Int → Option (jS × Int) := Classical.choose (⟨du_X29_set_26, rfl⟩ : ∃ f, f = du_X29_set_26)
theorem eu_X29_set_26 : u_X29_set_26 = du_X29_set_26 := Classical.choose_spec (⟨du_X29_set_26, rfl⟩ : ∃ f, f = du_X29_set_26)
def dm_X29_set (s : jS) (x0 x1 x2 : Int) : Option (jS × Int) :=
  if x1 < 1 then
    some (s, Wz 0)
  else
    if 33 < x1 then
      some (s, Wz 0)
    else
      if x1 = 32 then
        if (I_and x2 1) = 1 then
          some (s, Wz 0)
        else
          u_X29_set_26 s x0 x1 x2
      else
        u_X29_set_26 s x0 x1 x2
noncomputable def m_X29_set : jS → Int → Int → Int → Option (jS × Int) := Classical.choose (⟨dm_X29_set, rfl⟩ : ∃ f, f = dm_X29_set)
theorem em_X29_set : m_X29_set = dm_X29_set := Classical.choose_spec (⟨dm_X29_set, rfl⟩ : ∃ f, f = dm_X29_set)
def dm_X29_mark (s : jS) (x0 x1 x2 : Int) : Option (jS × Int) :=
  (m_X29_beyond s x1).bind fun v1 =>
  if v1 = 0 then
    if (I_and x1 1) = 1 then
      some (s, Wz 0)
    else
      (jst s 1002 (x0 + 2) 65536 (I_shr x1 1) (Wz x2)).bind fun s2 =>
      (m_X29_forget s2 x0).bind fun q3 =>
      some (q3.1, Wz 1)
  else
    some (s, Wz 0)
noncomputable def m_X29_mark : jS → Int → Int → Int → Option (jS × Int) := Classical.choose (⟨dm_X29_mark, rfl⟩ : ∃ f, f = dm_X29_mark)
theorem em_X29_mark : m_X29_mark = dm_X29_mark := Classical.choose_spec (⟨dm_X29_mark, rfl⟩ : ∃ f, f = dm_X29_mark)
def dm_X29_marking (s : jS) (x0 x1 : Int) : Option (jS × Int) :=
  (jzb x1).bind fun v1 =>
  jls (jp s 33 x0 9 v1) fun s2 =>
  (m_X29_forget s2 x0).bind fun q3 =>
  some (q3.1, 0)
noncomputable def m_X29_marking : jS → Int → Int → Option (jS × Int) := Classical.choose (⟨dm_X29_marking, rfl⟩ : ∃ f, f = dm_X29_marking)
theorem em_X29_marking : m_X29_marking = dm_X29_marking := Classical.choose_spec (⟨dm_X29_marking, rfl⟩ : ∃ f, f = dm_X29_marking)
def dm_X29_isEnd (s : jS) (x0 : Int) : Option (Int) :=
  if (jf s 33 x0 11) = 0 then
    some (Wz 0)
  else
    if (jf s 33 x0 11) = 9 then
      some (Wz 0)
    else
      some (Wz 1)
noncomputable def m_X29_isEnd : jS → Int → Option (Int) := Classical.choose (⟨dm_X29_isEnd, rfl⟩ : ∃ f, f = dm_X29_isEnd)
theorem em_X29_isEnd : m_X29_isEnd = dm_X29_isEnd := Classical.choose_spec (⟨dm_X29_isEnd, rfl⟩ : ∃ f, f = dm_X29_isEnd)
def dm_X29_note (s : jS) (x0 : Int) : Option (jS × Int) :=
  (jix 101 (jf s 33 x0 20) ((x0 + 8) + 10 + 1 * (jf s 33 x0 20))).bind fun v1 =>
  jls (jp s 33 x0 22 v1) fun s2 =>
  (jwr s2 36 (jf s2 33 x0 22) 0 (jf s2 33 x0 10)).bind fun s3 =>
  (jwr s3 36 (jf s3 33 x0 22) 1 (jf s3 33 x0 11)).bind fun s4 =>
  (jwr s4 36 (jf s4 33 x0 22) 2 (jf s4 33 x0 12)).bind fun s5 =>
  (jwr s5 36 (jf s5 33 x0 22) 3 (jf s5 33 x0 13)).bind fun s6 =>
  (jwr s6 36 (jf s6 33 x0 22) 4 (jf s6 33 x0 14)).bind fun s7 =>
  (jwr s7 36 (jf s7 33 x0 22) 5 (jf s7 33 x0 15)).bind fun s8 =>
  (jwr s8 36 (jf s8 33 x0 22) 6 (jf s8 33 x0 18)).bind fun s9 =>
  (jwr s9 36 (jf s9 33 x0 22) 7 (jf s9 33 x0 17)).bind fun s10 =>
  (jwr s10 36 (jf s10 33 x0 22) 8 (-1)).bind fun s11 =>
  (jwr s11 36 (jf s11 33 x0 22) 11 0).bind fun s12 =>
  some (s12, 0)
noncomputable def m_X29_note : jS → Int → Option (jS × Int) := Classical.choose (⟨dm_X29_note, rfl⟩ : ∃ f, f = dm_X29_note)
theorem em_X29_note : m_X29_note = dm_X29_note := Classical.choose_spec (⟨dm_X29_note, rfl⟩ : ∃ f, f = dm_X29_note)
def dm_X29_fails (s : jS) (x0 x1 x2 : Int) : Option (jS × Int) :=
  jls (jp s 33 x0 11 x1) fun s1 =>
  jls (jp s1 33 x0 12 x2) fun s2 =>
  some (s2, 0)
noncomputable def m_X29_fails : jS → Int → Int → Int → Option (jS × Int) := Classical.choose (⟨dm_X29_fails, rfl⟩ : ∃ f, f = dm_X29_fails)
theorem em_X29_fails : m_X29_fails = dm_X29_fails := Classical.choose_spec (⟨dm_X29_fails, rfl⟩ : ∃ f, f = dm_X29_fails)
def dm_X29_half (s : jS) (x0 x1 : Int) : Option (Int) :=
  (jlt s 1001 (x0 + 1) 131072 x1).bind fun v1 =>
  (jlt s 1001 (x0 + 1) 131072 (W32 (x1 + 1))).bind fun v2 =>
  some (I_or (I_and v1 255) (I_shl (I_and v2 255) 8))
noncomputable def m_X29_half : jS → Int → Int → Option (Int) := Classical.choose (⟨dm_X29_half, rfl⟩ : ∃ f, f = dm_X29_half)
theorem em_X29_half : m_X29_half = dm_X29_half := Classical.choose_spec (⟨dm_X29_half, rfl⟩ : ∃ f, f = dm_X29_half)
def dm_X29_bits (s : jS) (x0 x1 x2 : Int) : Option (Int) :=
  some (I_and (I_ushr x0 x2) (W32 ((I_shl 1 (W32 ((W32 (x1 - x2)) + 1))) - 1)))
noncomputable def m_X29_bits : jS → Int → Int → Int → Option (Int) := Classical.choose (⟨dm_X29_bits, rfl⟩ : ∃ f, f = dm_X29_bits)
theorem em_X29_bits : m_X29_bits = dm_X29_bits := Classical.choose_spec (⟨dm_X29_bits, rfl⟩ : ∃ f, f = dm_X29_bits)
def dm_X29_only (s : jS) (x0 x1 : Int) : Option (jS × Int) :=
  if x1 = 0 then
    (jwr s 34 x0 0 (-1)).bind fun s1 =>
    some (s1, 0)
  else
    some (s, 0)
noncomputable def m_X29_only : jS → Int → Int → Option (jS × Int) := Classical.choose (⟨dm_X29_only, rfl⟩ : ∃ f, f = dm_X29_only)
theorem em_X29_only : m_X29_only = dm_X29_only := Classical.choose_spec (⟨dm_X29_only, rfl⟩ : ∃ f, f = dm_X29_only)
def dm_X29_signed (s : jS) (x0 x1 : Int) : Option (Int) :=
  some (I_shr (I_shl x0 (W32 (32 - x1))) (W32 (32 - x1)))
noncomputable def m_X29_signed : jS → Int → Int → Option (Int) := Classical.choose (⟨dm_X29_signed, rfl⟩ : ∃ f, f = dm_X29_signed)
theorem em_X29_signed : m_X29_signed = dm_X29_signed := Classical.choose_spec (⟨dm_X29_signed, rfl⟩ : ∃ f, f = dm_X29_signed)
def dm_X29_jump (s : jS) (x0 : Int) : Option (Int) :=
  (m_X29_bits s x0 12 12).bind fun v1 =>
  (m_X29_bits s x0 8 8).bind fun v2 =>
  (m_X29_bits s x0 10 9).bind fun v3 =>
  (m_X29_bits s x0 6 6).bind fun v4 =>
  (m_X29_bits s x0 7 7).bind fun v5 =>
  (m_X29_bits s x0 2 2).bind fun v6 =>
  (m_X29_bits s x0 11 11).bind fun v7 =>
  (m_X29_bits s x0 5 3).bind fun v8 =>
  (m_X29_signed s (I_or (I_or (I_or (I_or (I_or (I_or (I_or (I_shl v1 11) (I_shl v2 10)) (I_shl v3 8)) (I_shl v4 7)) (I_shl v5 6)) (I_shl v6 5)) (I_shl v7 4)) (I_shl v8 1)) 12).bind fun v9 =>
  some v9
noncomputable def m_X29_jump : jS → Int → Option (Int) := Classical.choose (⟨dm_X29_jump, rfl⟩ : ∃ f, f = dm_X29_jump)
theorem em_X29_jump : m_X29_jump = dm_X29_jump := Classical.choose_spec (⟨dm_X29_jump, rfl⟩ : ∃ f, f = dm_X29_jump)
def dm_X29_branch (s : jS) (x0 : Int) : Option (Int) :=
  (m_X29_bits s x0 12 12).bind fun v1 =>
  (m_X29_bits s x0 6 5).bind fun v2 =>
  (m_X29_bits s x0 2 2).bind fun v3 =>
  (m_X29_bits s x0 11 10).bind fun v4 =>
  (m_X29_bits s x0 4 3).bind fun v5 =>
  (m_X29_signed s (I_or (I_or (I_or (I_or (I_shl v1 8) (I_shl v2 6)) (I_shl v3 5)) (I_shl v4 3)) (I_shl v5 1)) 9).bind fun v6 =>
  some v6
noncomputable def m_X29_branch : jS → Int → Option (Int) := Classical.choose (⟨dm_X29_branch, rfl⟩ : ∃ f, f = dm_X29_branch)
theorem em_X29_branch : m_X29_branch = dm_X29_branch := Classical.choose_spec (⟨dm_X29_branch, rfl⟩ : ∃ f, f = dm_X29_branch)
def dm_X29_rowKind (s : jS) (x0 x1 : Int) : Option (Int) :=
  if x1 = 1 then
    some (W32 (37 + x0))
  else
    if x1 = 32 then
      if x0 = 0 then
        some 28
      else
        if x0 = 5 then
          some 34
        else
          some (-1)
    else
      if x1 = 0 then
        if x0 = 0 then
          some 27
        else
          if x0 < 5 then
            some (W32 (28 + x0))
          else
            if x0 = 5 then
              some 33
            else
              some (W32 (29 + x0))
      else
        some (-1)
noncomputable def m_X29_rowKind : jS → Int → Int → Option (Int) := Classical.choose (⟨dm_X29_rowKind, rfl⟩ : ∃ f, f = dm_X29_rowKind)
theorem em_X29_rowKind : m_X29_rowKind = dm_X29_rowKind := Classical.choose_spec (⟨dm_X29_rowKind, rfl⟩ : ∃ f, f = dm_X29_rowKind)
def dm_X29_isMarked (s : jS) (x0 x1 : Int) : Option (Int) :=
  (m_X29_beyond s x1).bind fun v1 =>
  if v1 = 0 then
    (jlt s 1002 (x0 + 2) 65536 (I_shr x1 1)).bind fun v2 =>
    if v2 = 0 then
      some (Wz 0)
    else
      some (Wz 1)
  else
    some (Wz 0)
noncomputable def m_X29_isMarked : jS → Int → Int → Option (Int) := Classical.choose (⟨dm_X29_isMarked, rfl⟩ : ∃ f, f = dm_X29_isMarked)
theorem em_X29_isMarked : m_X29_isMarked = dm_X29_isMarked := Classical.choose_spec (⟨dm_X29_isMarked, rfl⟩ : ∃ f, f = dm_X29_isMarked)
def b_X29_load_7 (s : jS) (x0 x1 x3 x4 : Int) : Option (List Int ⊕ (Int)) :=
  if x4 < 0 then
    jinr (some x3)
  else
    (jlt s 1001 (x0 + 1) 131072 (W32 (x1 + x4))).bind fun v1 =>
    jlet (I_or (I_shl x3 8) (I_and v1 255)) fun v2 =>
    some (.inl [x0, x1, v2, W32 (x4 + (-1))])
def du_X29_load_7 (s : jS) (x0 x1 x3 x4 : Int) : Option (Int) := jlpR (jc4 b_X29_load_7) [x0, x1, x3, x4] s
noncomputable def u_X29_load_7 : jS → Int → Int → Int → Int → Option (Int) := Classical.choose (⟨du_X29_load_7, rfl⟩ : ∃ f, f = du_X29_load_7)
theorem eu_X29_load_7 : u_X29_load_7 = du_X29_load_7 := Classical.choose_spec (⟨du_X29_load_7, rfl⟩ : ∃ f, f = du_X29_load_7)
def dm_X29_load (s : jS) (x0 x1 x2 : Int) : Option (Int) :=
  jlet (W32 (x2 - 1)) fun v1 =>
  u_X29_load_7 s x0 x1 0 v1
noncomputable def m_X29_load : jS → Int → Int → Int → Option (Int) := Classical.choose (⟨dm_X29_load, rfl⟩ : ∃ f, f = dm_X29_load)
theorem em_X29_load : m_X29_load = dm_X29_load := Classical.choose_spec (⟨dm_X29_load, rfl⟩ : ∃ f, f = dm_X29_load)
def dm_X29_put (s : jS) (x0 x1 x2 : Int) : Option (jS × Int) :=
  if x1 = 0 then
    some (s, 0)
  else
    (jwr s 36 (jf s 33 x0 22) 8 x1).bind fun s1 =>
    (jlt s1 1000 (x0 + 4) 32 x1).bind fun v2 =>
    (jwr s1 36 (jf s1 33 x0 22) 9 v2).bind fun s3 =>
    (jst s3 1000 (x0 + 4) 32 x1 x2).bind fun s4 =>
    some (s4, 0)
noncomputable def m_X29_put : jS → Int → Int → Int → Option (jS × Int) := Classical.choose (⟨dm_X29_put, rfl⟩ : ∃ f, f = dm_X29_put)
theorem em_X29_put : m_X29_put = dm_X29_put := Classical.choose_spec (⟨dm_X29_put, rfl⟩ : ∃ f, f = dm_X29_put)
def du_X29_serves_228 (s : jS) (x0 x1 : Int) : Option (jS × Int) :=
  jls (jp s 33 x0 10 x1) fun s1 =>
  some (s1, 0)
noncomputable def u_X29_serves_228 : jS → Int → Int → Option (jS × Int) := Classical.choose (⟨du_X29_serves_228, rfl⟩ : ∃ f, f = du_X29_serves_228)
theorem eu_X29_serves_228 : u_X29_serves_228 = du_X29_serves_228 := Classical.choose_spec (⟨du_X29_serves_228, rfl⟩ : ∃ f, f = du_X29_serves_228)
def du_X29_serves_217 (s : jS) (x0 : Int) : Option (jS × Int) :=
  (m_X29_fails s x0 7 (jf s 33 x0 10)).bind fun q1 =>
  some (q1.1, 0)
noncomputable def u_X29_serves_217 : jS → Int → Option (jS × Int) := Classical.choose (⟨du_X29_serves_217, rfl⟩ : ∃ f, f = du_X29_serves_217)
theorem eu_X29_serves_217 : u_X29_serves_217 = du_X29_serves_217 := Classical.choose_spec (⟨du_X29_serves_217, rfl⟩ : ∃ f, f = du_X29_serves_217)
def du_X29_serves_175 (s : jS) (x0 x1 y0 y1 y2 : Int) : Option (jS × Int) :=
  jls (jp s 33 y2 17 (W32 (y1 + y0))) fun s1 =>
  u_X29_serves_228 s1 x0 x1
noncomputable def u_X29_serves_175 : jS → Int → Int → Int → Int → Int → Option (jS × Int) := Classical.choose (⟨du_X29_serves_175, rfl⟩ : ∃ f, f = du_X29_serves_175)
theorem eu_X29_serves_175 : u_X29_serves_175 = du_X29_serves_175 := Classical.choose_spec (⟨du_X29_serves_175, rfl⟩ : ∃ f, f = du_X29_serves_175)
def du_X29_serves_151 (s : jS) (x0 x1 y0 y1 y2 : Int) : Option (jS × Int) :=
  (m_X29_put s y2 y1 y0).bind fun q1 =>
  if (jf q1.1 33 x0 17) < (jf q1.1 33 x0 16) then
    u_X29_serves_175 q1.1 x0 x1 1 (jf q1.1 33 x0 17) x0
  else
    u_X29_serves_175 q1.1 x0 x1 0 (jf q1.1 33 x0 17) x0
noncomputable def u_X29_serves_151 : jS → Int → Int → Int → Int → Int → Option (jS × Int) := Classical.choose (⟨du_X29_serves_151, rfl⟩ : ∃ f, f = du_X29_serves_151)
theorem eu_X29_serves_151 : u_X29_serves_151 = du_X29_serves_151 := Classical.choose_spec (⟨du_X29_serves_151, rfl⟩ : ∃ f, f = du_X29_serves_151)
def dm_X29_serves (s : jS) (x0 x1 : Int) : Option (jS × Int) :=
  (jlt s 1000 (x0 + 4) 32 17).bind fun v1 =>
  if v1 = 1 then
    if (jf s 33 x0 18) < 2000 then
      (jlt s 1000 (x0 + 4) 32 10).bind fun v2 =>
      (jst s 1001 (x0 + 7) 2000 (jf s 33 x0 18) (W8 (W8 v2))).bind fun s3 =>
      jls (jp s3 33 x0 18 (W32 ((jf s3 33 x0 18) + 1))) fun s4 =>
      (m_X29_put s4 x0 10 (jf s4 33 x0 18)).bind fun q5 =>
      u_X29_serves_228 q5.1 x0 x1
    else
      (m_X29_put s x0 10 (-1)).bind fun q6 =>
      u_X29_serves_228 q6.1 x0 x1
  else
  if v1 = 2 then
    if (jf s 33 x0 17) < (jf s 33 x0 16) then
      (jlt s 1001 (x0 + 6) 1000 (jf s 33 x0 17)).bind fun v7 =>
      u_X29_serves_151 s x0 x1 (I_and v7 255) 10 x0
    else
      u_X29_serves_151 s x0 x1 (-1) 10 x0
  else
  if v1 = 3 then
    (m_X29_put s x0 10 (jf s 33 x0 14)).bind fun q8 =>
    u_X29_serves_228 q8.1 x0 x1
  else
  if v1 = 4 then
    u_X29_serves_217 s x0
  else
  if v1 = 5 then
    u_X29_serves_217 s x0
  else
  if v1 = 6 then
    u_X29_serves_217 s x0
  else
  if v1 = 7 then
    u_X29_serves_217 s x0
  else
  if v1 = 8 then
    u_X29_serves_217 s x0
  else
  if v1 = 9 then
    u_X29_serves_217 s x0
  else
  if v1 = 10 then
    (jlt s 1000 (x0 + 4) 32 10).bind fun v9 =>
    jls (jp s 33 x0 13 v9) fun s10 =>
    (m_X29_fails s10 x0 8 (jf s10 33 x0 10)).bind fun q11 =>
    some (q11.1, 0)
  else
  u_X29_serves_217 s x0
noncomputable def m_X29_serves : jS → Int → Int → Option (jS × Int) := Classical.choose (⟨dm_X29_serves, rfl⟩ : ∃ f, f = dm_X29_serves)
theorem em_X29_serves : m_X29_serves = dm_X29_serves := Classical.choose_spec (⟨dm_X29_serves, rfl⟩ : ∃ f, f = dm_X29_serves)
def dm_X29_jumps (s : jS) (x0 x1 : Int) : Option (jS × Int) :=
  jls (jp s 33 x0 10 x1) fun s1 =>
  if (jf s1 33 x0 9) = 0 then
    some (s1, 0)
  else
    (m_X29_isMarked s1 x0 x1).bind fun v2 =>
    if v2 = 0 then
      (m_X29_fails s1 x0 5 x1).bind fun q3 =>
      some (q3.1, 0)
    else
      some (s1, 0)
noncomputable def m_X29_jumps : jS → Int → Int → Option (jS × Int) := Classical.choose (⟨dm_X29_jumps, rfl⟩ : ∃ f, f = dm_X29_jumps)
theorem em_X29_jumps : m_X29_jumps = dm_X29_jumps := Classical.choose_spec (⟨dm_X29_jumps, rfl⟩ : ∃ f, f = dm_X29_jumps)
def dm_X29_plain (s : jS) (x0 : Int) : Option (Int) :=
  some (L_and x0 4294967295)
noncomputable def m_X29_plain : jS → Int → Option (Int) := Classical.choose (⟨dm_X29_plain, rfl⟩ : ∃ f, f = dm_X29_plain)
theorem em_X29_plain : m_X29_plain = dm_X29_plain := Classical.choose_spec (⟨dm_X29_plain, rfl⟩ : ∃ f, f = dm_X29_plain)
def b_X29_store_75 (s : jS) (x0 x1 x2 x3 x4 : Int) : Option ((jS × List Int) ⊕ (jS × Int)) :=
  if x4 < x2 then
    (jst s 1001 (x0 + 1) 131072 (W32 (x1 + x4)) (W8 (W8 (I_shr x3 (W32 (8 * x4)))))).bind fun s1 =>
    some (.inl (s1, [x0, x1, x2, x3, W32 (x4 + 1)]))
  else
    jinr (some (s, 0))
def du_X29_store_75 (s : jS) (x0 x1 x2 x3 x4 : Int) : Option (jS × Int) := jlpW (jc5 b_X29_store_75) [x0, x1, x2, x3, x4] s
noncomputable def u_X29_store_75 : jS → Int → Int → Int → Int → Int → Option (jS × Int) := Classical.choose (⟨du_X29_store_75, rfl⟩ : ∃ f, f = du_X29_store_75)
theorem eu_X29_store_75 : u_X29_store_75 = du_X29_store_75 := Classical.choose_spec (⟨du_X29_store_75, rfl⟩ : ∃ f, f = du_X29_store_75)
def du_X29_store_72 (s : jS) (x0 x1 x2 x3 : Int) : Option (jS × Int) :=
  u_X29_store_75 s x0 x1 x2 x3 0
noncomputable def u_X29_store_72 : jS → Int → Int → Int → Int → Option (jS × Int) := Classical.choose (⟨du_X29_store_72, rfl⟩ : ∃ f, f = du_X29_store_72)
theorem eu_X29_store_72 : u_X29_store_72 = du_X29_store_72 := Classical.choose_spec (⟨du_X29_store_72, rfl⟩ : ∃ f, f = du_X29_store_72)
def b_X29_store_29 (s : jS) (x0 x1 x2 x3 x4 : Int) : Option ((jS × List Int) ⊕ (jS × Int)) :=
  if x4 < 0 then
    jinr (u_X29_store_72 s x0 x1 x2 x3)
  else
    (jrd s 36 (jf s 33 x0 22) 12).bind fun v1 =>
    (jlt s 1001 (x0 + 1) 131072 (W32 (x1 + x4))).bind fun v2 =>
    (jwr s 36 (jf s 33 x0 22) 12 (L_or (L_shl v1 8) (L_and v2 255))).bind fun s3 =>
    some (.inl (s3, [x0, x1, x2, x3, W32 (x4 + (-1))]))
def du_X29_store_29 (s : jS) (x0 x1 x2 x3 x4 : Int) : Option (jS × Int) := jlpW (jc5 b_X29_store_29) [x0, x1, x2, x3, x4] s
noncomputable def u_X29_store_29 : jS → Int → Int → Int → Int → Int → Option (jS × Int) := Classical.choose (⟨du_X29_store_29, rfl⟩ : ∃ f, f = du_X29_store_29)
theorem eu_X29_store_29 : u_X29_store_29 = du_X29_store_29 := Classical.choose_spec (⟨du_X29_store_29, rfl⟩ : ∃ f, f = du_X29_store_29)
def dm_X29_store (s : jS) (x0 x1 x2 x3 : Int) : Option (jS × Int) :=
  (jwr s 36 (jf s 33 x0 22) 10 x1).bind fun s1 =>
  (jwr s1 36 (jf s1 33 x0 22) 11 x2).bind fun s2 =>
  (jwr s2 36 (jf s2 33 x0 22) 12 0).bind fun s3 =>
  jlet (W32 (x2 - 1)) fun v4 =>
  u_X29_store_29 s3 x0 x1 x2 x3 v4
noncomputable def m_X29_store : jS → Int → Int → Int → Int → Option (jS × Int) := Classical.choose (⟨dm_X29_store, rfl⟩ : ∃ f, f = dm_X29_store)
theorem em_X29_store : m_X29_store = dm_X29_store := Classical.choose_spec (⟨dm_X29_store, rfl⟩ : ∃ f, f = dm_X29_store)
def dm_X29_asRow (s : jS) (x0 : Int) : Option (Int) :=
  if x0 = 18 then
    some 27
  else
  if x0 = 19 then
    some 30
  else
  if x0 = 20 then
    some 31
  else
  if x0 = 21 then
    some 32
  else
  if x0 = 22 then
    some 35
  else
  if x0 = 23 then
    some 36
  else
  if x0 = 24 then
    some 29
  else
  if x0 = 25 then
    some 33
  else
  some 34
noncomputable def m_X29_asRow : jS → Int → Option (Int) := Classical.choose (⟨dm_X29_asRow, rfl⟩ : ∃ f, f = dm_X29_asRow)
theorem em_X29_asRow : m_X29_asRow = dm_X29_asRow := Classical.choose_spec (⟨dm_X29_asRow, rfl⟩ : ∃ f, f = dm_X29_asRow)
def dm_X29_moved (s : jS) (x0 x1 x2 : Int) : Option (Int) :=
  if x0 = 0 then
    some (I_shl x1 (I_and x2 31))
  else
    if x0 = 1 then
      some (I_ushr x1 (I_and x2 31))
    else
      some (I_shr x1 (I_and x2 31))
noncomputable def m_X29_moved : jS → Int → Int → Int → Option (Int) := Classical.choose (⟨dm_X29_moved, rfl⟩ : ∃ f, f = dm_X29_moved)
theorem em_X29_moved : m_X29_moved = dm_X29_moved := Classical.choose_spec (⟨dm_X29_moved, rfl⟩ : ∃ f, f = dm_X29_moved)
def dm_X29_product (s : jS) (x0 x1 x2 : Int) : Option (Int) :=
  if x0 = 37 then
    some (W32 (x1 * x2))
  else
  if x0 = 38 then
    some (L2i (L_shr (W64 (x1 * x2)) 32))
  else
  if x0 = 39 then
    (m_X29_plain s x2).bind fun v1 =>
    some (L2i (L_shr (W64 (x1 * v1)) 32))
  else
  (m_X29_plain s x1).bind fun v2 =>
  (m_X29_plain s x2).bind fun v3 =>
  some (L2i (L_ushr (W64 (v2 * v3)) 32))
noncomputable def m_X29_product : jS → Int → Int → Int → Option (Int) := Classical.choose (⟨dm_X29_product, rfl⟩ : ∃ f, f = dm_X29_product)
theorem em_X29_product : m_X29_product = dm_X29_product := Classical.choose_spec (⟨dm_X29_product, rfl⟩ : ∃ f, f = dm_X29_product)
def dm_X29_quotient (s : jS) (x0 x1 x2 : Int) : Option (Int) :=
  if x0 = 41 then
    if x2 = 0 then
      some (-1)
    else
      if x2 = (-1) then
        some (W32 (-x1))
      else
        (jdv x2 (I_div x1 x2)).bind fun v1 =>
        some v1
  else
  if x0 = 42 then
    if x2 = 0 then
      some (-1)
    else
      (m_X29_plain s x1).bind fun v2 =>
      (m_X29_plain s x2).bind fun v3 =>
      (jdv v3 (L_div v2 v3)).bind fun v4 =>
      some (L2i v4)
  else
  if x0 = 43 then
    if x2 = 0 then
      some x1
    else
      if x2 = (-1) then
        some 0
      else
        (jdv x2 (I_rem x1 x2)).bind fun v5 =>
        some v5
  else
  if x2 = 0 then
    some x1
  else
    (m_X29_plain s x1).bind fun v6 =>
    (m_X29_plain s x2).bind fun v7 =>
    (jdv v7 (L_rem v6 v7)).bind fun v8 =>
    some (L2i v8)
noncomputable def m_X29_quotient : jS → Int → Int → Int → Option (Int) := Classical.choose (⟨dm_X29_quotient, rfl⟩ : ∃ f, f = dm_X29_quotient)
theorem em_X29_quotient : m_X29_quotient = dm_X29_quotient := Classical.choose_spec (⟨dm_X29_quotient, rfl⟩ : ∃ f, f = dm_X29_quotient)
def b_X29_haltAt_2 (s : jS) (x0 x1 x2 : Int) : Option (List Int ⊕ (Int)) :=
  if x2 < (jf s 33 x0 19) then
    (jlt s 1000 (x0 + 5) 8 x2).bind fun v1 =>
    if v1 = x1 then
      jinr (some x2)
    else
      some (.inl [x0, x1, W32 (x2 + 1)])
  else
    jinr (some (-1))
def du_X29_haltAt_2 (s : jS) (x0 x1 x2 : Int) : Option (Int) := jlpR (jc3 b_X29_haltAt_2) [x0, x1, x2] s
noncomputable def u_X29_haltAt_2 : jS → Int → Int → Int → Option (Int) := Classical.choose (⟨du_X29_haltAt_2, rfl⟩ : ∃ f, f = du_X29_haltAt_2)
theorem eu_X29_haltAt_2 : u_X29_haltAt_2 = du_X29_haltAt_2 := Classical.choose_spec (⟨du_X29_haltAt_2, rfl⟩ : ∃ f, f = du_X29_haltAt_2)
def dm_X29_haltAt (s : jS) (x0 x1 : Int) : Option (Int) :=
  u_X29_haltAt_2 s x0 x1 0
noncomputable def m_X29_haltAt : jS → Int → Int → Option (Int) := Classical.choose (⟨dm_X29_haltAt, rfl⟩ : ∃ f, f = dm_X29_haltAt)
theorem em_X29_haltAt : m_X29_haltAt = dm_X29_haltAt := Classical.choose_spec (⟨dm_X29_haltAt, rfl⟩ : ∃ f, f = dm_X29_haltAt)
def du_X29_back_119 (s : jS) (x0 x1 x2 x3 : Int) : Option ((jS × List Int) ⊕ (jS × Int)) :=
  jls (jp s 33 x0 10 (jf s 36 x3 0)) fun s1 =>
  jls (jp s1 33 x0 11 (jf s1 36 x3 1)) fun s2 =>
  jls (jp s2 33 x0 12 (jf s2 36 x3 2)) fun s3 =>
  jls (jp s3 33 x0 13 (jf s3 36 x3 3)) fun s4 =>
  jls (jp s4 33 x0 14 (jf s4 36 x3 4)) fun s5 =>
  jls (jp s5 33 x0 15 (jf s5 36 x3 5)) fun s6 =>
  jls (jp s6 33 x0 18 (jf s6 36 x3 6)) fun s7 =>
  jls (jp s7 33 x0 17 (jf s7 36 x3 7)) fun s8 =>
  some (.inl (s8, [x0, x1, W32 (x2 + 1)]))
noncomputable def u_X29_back_119 : jS → Int → Int → Int → Int → Option ((jS × List Int) ⊕ (jS × Int)) := Classical.choose (⟨du_X29_back_119, rfl⟩ : ∃ f, f = du_X29_back_119)
theorem eu_X29_back_119 : u_X29_back_119 = du_X29_back_119 := Classical.choose_spec (⟨du_X29_back_119, rfl⟩ : ∃ f, f = du_X29_back_119)
def b_X29_back_80 (s : jS) (x0 x1 x2 x3 x4 : Int) : Option ((jS × List Int) ⊕ ((jS × List Int) ⊕ (jS × Int))) :=
  if x4 < (jf s 36 x3 11) then
    (jst s 1001 (x0 + 1) 131072 (W32 ((jf s 36 x3 10) + x4)) (W8 (W8 (L2i (L_shr (jf s 36 x3 12) (W32 (8 * x4))))))).bind fun s1 =>
    some (.inl (s1, [x0, x1, x2, x3, W32 (x4 + 1)]))
  else
    jinr (u_X29_back_119 s x0 x1 x2 x3)
def du_X29_back_80 (s : jS) (x0 x1 x2 x3 x4 : Int) : Option ((jS × List Int) ⊕ (jS × Int)) := jlpW (jc5 b_X29_back_80) [x0, x1, x2, x3, x4] s
noncomputable def u_X29_back_80 : jS → Int → Int → Int → Int → Int → Option ((jS × List Int) ⊕ (jS × Int)) := Classical.choose (⟨du_X29_back_80, rfl⟩ : ∃ f, f = du_X29_back_80)
theorem eu_X29_back_80 : u_X29_back_80 = du_X29_back_80 := Classical.choose_spec (⟨du_X29_back_80, rfl⟩ : ∃ f, f = du_X29_back_80)
def du_X29_back_77 (s : jS) (x0 x1 x2 x3 : Int) : Option ((jS × List Int) ⊕ (jS × Int)) :=
  u_X29_back_80 s x0 x1 x2 x3 0
noncomputable def u_X29_back_77 : jS → Int → Int → Int → Int → Option ((jS × List Int) ⊕ (jS × Int)) := Classical.choose (⟨du_X29_back_77, rfl⟩ : ∃ f, f = du_X29_back_77)
theorem eu_X29_back_77 : u_X29_back_77 = du_X29_back_77 := Classical.choose_spec (⟨du_X29_back_77, rfl⟩ : ∃ f, f = du_X29_back_77)
def du_X29_back_33 (s : jS) (x0 x1 x2 y0 y1 : Int) : Option ((jS × List Int) ⊕ (jS × Int)) :=
  jls (jp s 33 y1 20 y0) fun s1 =>
  jls (jp s1 33 x0 21 (W32 ((jf s1 33 x0 21) - 1))) fun s2 =>
  (jix 101 (jf s2 33 x0 20) ((x0 + 8) + 10 + 1 * (jf s2 33 x0 20))).bind fun v3 =>
  if (jf s2 36 v3 8) = (-1) then
    u_X29_back_77 s2 x0 x1 x2 v3
  else
    (jst s2 1000 (x0 + 4) 32 (jf s2 36 v3 8) (jf s2 36 v3 9)).bind fun s4 =>
    u_X29_back_77 s4 x0 x1 x2 v3
noncomputable def u_X29_back_33 : jS → Int → Int → Int → Int → Int → Option ((jS × List Int) ⊕ (jS × Int)) := Classical.choose (⟨du_X29_back_33, rfl⟩ : ∃ f, f = du_X29_back_33)
theorem eu_X29_back_33 : u_X29_back_33 = du_X29_back_33 := Classical.choose_spec (⟨du_X29_back_33, rfl⟩ : ∃ f, f = du_X29_back_33)
def b_X29_back_2 (s : jS) (x0 x1 x2 : Int) : Option ((jS × List Int) ⊕ (jS × Int)) :=
  if x2 < x1 then
    if 0 < (jf s 33 x0 21) then
      if (jf s 33 x0 20) = 0 then
        u_X29_back_33 s x0 x1 x2 100 x0
      else
        u_X29_back_33 s x0 x1 x2 (W32 ((jf s 33 x0 20) - 1)) x0
    else
      jinr (some (s, x2))
  else
    jinr (some (s, x2))
def du_X29_back_2 (s : jS) (x0 x1 x2 : Int) : Option (jS × Int) := jlpW (jc3 b_X29_back_2) [x0, x1, x2] s
noncomputable def u_X29_back_2 : jS → Int → Int → Int → Option (jS × Int) := Classical.choose (⟨du_X29_back_2, rfl⟩ : ∃ f, f = du_X29_back_2)
theorem eu_X29_back_2 : u_X29_back_2 = du_X29_back_2 := Classical.choose_spec (⟨du_X29_back_2, rfl⟩ : ∃ f, f = du_X29_back_2)
def dm_X29_back (s : jS) (x0 x1 : Int) : Option (jS × Int) :=
  u_X29_back_2 s x0 x1 0
noncomputable def m_X29_back : jS → Int → Int → Option (jS × Int) := Classical.choose (⟨dm_X29_back, rfl⟩ : ∃ f, f = dm_X29_back)
theorem em_X29_back : m_X29_back = dm_X29_back := Classical.choose_spec (⟨dm_X29_back, rfl⟩ : ∃ f, f = dm_X29_back)
def dm_X29_get (s : jS) (x0 x1 : Int) : Option (Int) :=
  if x1 = 32 then
    some (jf s 33 x0 10)
  else
    if x1 < 0 then
      some 0
    else
      if x1 < 32 then
        (jlt s 1000 (x0 + 4) 32 x1).bind fun v1 =>
        some v1
      else
        some 0
noncomputable def m_X29_get : jS → Int → Int → Option (Int) := Classical.choose (⟨dm_X29_get, rfl⟩ : ∃ f, f = dm_X29_get)
theorem em_X29_get : m_X29_get = dm_X29_get := Classical.choose_spec (⟨dm_X29_get, rfl⟩ : ∃ f, f = dm_X29_get)
def dm_X29_peek (s : jS) (x0 x1 : Int) : Option (Int) :=
  (m_X29_beyond s x1).bind fun v1 =>
  if v1 = 0 then
    (jlt s 1001 (x0 + 1) 131072 x1).bind fun v2 =>
    some (I_and v2 255)
  else
    some (-1)
noncomputable def m_X29_peek : jS → Int → Int → Option (Int) := Classical.choose (⟨dm_X29_peek, rfl⟩ : ∃ f, f = dm_X29_peek)
theorem em_X29_peek : m_X29_peek = dm_X29_peek := Classical.choose_spec (⟨dm_X29_peek, rfl⟩ : ∃ f, f = dm_X29_peek)
def du_X29_input_64 (s : jS) (x0 x1 : Int) : Option (jS × Int) :=
  jls (jp s 33 x0 16 (W32 ((jf s 33 x0 16) + x1))) fun s1 =>
  (m_X29_forget s1 x0).bind fun q2 =>
  some (q2.1, Wz 1)
noncomputable def u_X29_input_64 : jS → Int → Int → Option (jS × Int) := Classical.choose (⟨du_X29_input_64, rfl⟩ : ∃ f, f = du_X29_input_64)
theorem eu_X29_input_64 : u_X29_input_64 = du_X29_input_64 := Classical.choose_spec (⟨du_X29_input_64, rfl⟩ : ∃ f, f = du_X29_input_64)
def b_X29_input_28 (s : jS) (x0 x1 x2 x4 : Int) : Option ((jS × List Int) ⊕ (jS × Int)) :=
  if x4 < x1 then
    (jst s 1001 (x0 + 6) 1000 (W32 ((jf s 33 x0 16) + x4)) (W8 (W8 (L2i (L_shr x2 (W32 (56 - (W32 (8 * x4))))))))).bind fun s1 =>
    some (.inl (s1, [x0, x1, x2, W32 (x4 + 1)]))
  else
    jinr (u_X29_input_64 s x0 x1)
def du_X29_input_28 (s : jS) (x0 x1 x2 x4 : Int) : Option (jS × Int) := jlpW (jc4 b_X29_input_28) [x0, x1, x2, x4] s
noncomputable def u_X29_input_28 : jS → Int → Int → Int → Int → Option (jS × Int) := Classical.choose (⟨du_X29_input_28, rfl⟩ : ∃ f, f = du_X29_input_28)
theorem eu_X29_input_28 : u_X29_input_28 = du_X29_input_28 := Classical.choose_spec (⟨du_X29_input_28, rfl⟩ : ∃ f, f = du_X29_input_28)
def dm_X29_input (s : jS) (x0 x1 x2 : Int) : Option (jS × Int) :=
  if x1 < 1 then
    some (s, Wz 0)
  else
    if 8 < x1 then
      some (s, Wz 0)
    else
      if 1000 < (W32 ((jf s 33 x0 16) + x1)) then
        some (s, Wz 0)
      else
        u_X29_input_28 s x0 x1 x2 0
noncomputable def m_X29_input : jS → Int → Int → Int → Option (jS × Int) := Classical.choose (⟨dm_X29_input, rfl⟩ : ∃ f, f = dm_X29_input)
theorem em_X29_input : m_X29_input = dm_X29_input := Classical.choose_spec (⟨dm_X29_input, rfl⟩ : ∃ f, f = dm_X29_input)
def du_X29_halt_98 (s : jS) (x0 : Int) : Option (jS × Int) :=
  (m_X29_forget s x0).bind fun q1 =>
  some (q1.1, Wz 1)
noncomputable def u_X29_halt_98 : jS → Int → Option (jS × Int) := Classical.choose (⟨du_X29_halt_98, rfl⟩ : ∃ f, f = du_X29_halt_98)
theorem eu_X29_halt_98 : u_X29_halt_98 = du_X29_halt_98 := Classical.choose_spec (⟨du_X29_halt_98, rfl⟩ : ∃ f, f = du_X29_halt_98)
def du_X29_halt_46 (s : jS) (x0 x1 x2 x3 : Int) : Option (jS × Int) :=
  if x2 = 0 then
    jls (jp s 33 x0 19 (W32 ((jf s 33 x0 19) - 1))) fun s1 =>
    (jlt s1 1000 (x0 + 5) 8 (jf s1 33 x0 19)).bind fun v2 =>
    (jst s1 1000 (x0 + 5) 8 x3 v2).bind fun s3 =>
    u_X29_halt_98 s3 x0
  else
    (jst s 1000 (x0 + 5) 8 (jf s 33 x0 19) x1).bind fun s4 =>
    jls (jp s4 33 x0 19 (W32 ((jf s4 33 x0 19) + 1))) fun s5 =>
    u_X29_halt_98 s5 x0
noncomputable def u_X29_halt_46 : jS → Int → Int → Int → Int → Option (jS × Int) := Classical.choose (⟨du_X29_halt_46, rfl⟩ : ∃ f, f = du_X29_halt_46)
theorem eu_X29_halt_46 : u_X29_halt_46 = du_X29_halt_46 := Classical.choose_spec (⟨du_X29_halt_46, rfl⟩ : ∃ f, f = du_X29_halt_46)
def du_X29_halt_28 (s : jS) (x0 x1 x2 x3 y0 y1 : Int) : Option (jS × Int) :=
  if y1 = y0 then
    some (s, Wz 0)
  else
    if x2 = 0 then
      u_X29_halt_46 s x0 x1 x2 x3
    else
      if (jf s 33 x0 19) = 8 then
        some (s, Wz 0)
      else
        u_X29_halt_46 s x0 x1 x2 x3
noncomputable def u_X29_halt_28 : jS → Int → Int → Int → Int → Int → Int → Option (jS × Int) := Classical.choose (⟨du_X29_halt_28, rfl⟩ : ∃ f, f = du_X29_halt_28)
theorem eu_X29_halt_28 : u_X29_halt_28 = du_X29_halt_28 := Classical.choose_spec (⟨du_X29_halt_28, rfl⟩ : ∃ f, f = du_X29_halt_28)
def dm_X29_halt (s : jS) (x0 x1 x2 : Int) : Option (jS × Int) :=
  (m_X29_haltAt s x0 x1).bind fun v1 =>
  if x1 < 0 then
    some (s, Wz 0)
  else
    if (I_and x1 1) = 1 then
      some (s, Wz 0)
    else
      if v1 = (-1) then
        u_X29_halt_28 s x0 x1 x2 v1 0 x2
      else
        u_X29_halt_28 s x0 x1 x2 v1 1 x2
noncomputable def m_X29_halt : jS → Int → Int → Int → Option (jS × Int) := Classical.choose (⟨dm_X29_halt, rfl⟩ : ∃ f, f = dm_X29_halt)
theorem em_X29_halt : m_X29_halt = dm_X29_halt := Classical.choose_spec (⟨dm_X29_halt, rfl⟩ : ∃ f, f = dm_X29_halt)
def dm_X29_state (s : jS) (x0 x1 : Int) : Option (Int) :=
  if x1 = 0 then
    some (jf s 33 x0 11)
  else
  if x1 = 1 then
    some (jf s 33 x0 12)
  else
  if x1 = 2 then
    some (jf s 33 x0 13)
  else
  if x1 = 3 then
    some (jf s 33 x0 14)
  else
  if x1 = 4 then
    some (jf s 33 x0 15)
  else
  if x1 = 5 then
    some (jf s 33 x0 18)
  else
  if x1 = 6 then
    some (W32 ((jf s 33 x0 16) - (jf s 33 x0 17)))
  else
  if x1 = 7 then
    some (jf s 33 x0 21)
  else
  if x1 = 8 then
    some (jf s 33 x0 19)
  else
  some (-1)
noncomputable def m_X29_state : jS → Int → Int → Option (Int) := Classical.choose (⟨dm_X29_state, rfl⟩ : ∃ f, f = dm_X29_state)
theorem em_X29_state : m_X29_state = dm_X29_state := Classical.choose_spec (⟨dm_X29_state, rfl⟩ : ∃ f, f = dm_X29_state)
def dm_X29_output (s : jS) (x0 x1 : Int) : Option (Int) :=
  if x1 < 0 then
    some (-1)
  else
    if x1 < (jf s 33 x0 18) then
      (jlt s 1001 (x0 + 7) 2000 x1).bind fun v1 =>
      some (I_and v1 255)
    else
      some (-1)
noncomputable def m_X29_output : jS → Int → Int → Option (Int) := Classical.choose (⟨dm_X29_output, rfl⟩ : ∃ f, f = dm_X29_output)
theorem em_X29_output : m_X29_output = dm_X29_output := Classical.choose_spec (⟨dm_X29_output, rfl⟩ : ∃ f, f = dm_X29_output)
def dm_X30_init (s : jS) (x0 : Int) : Option (jS × Int) :=
  jck0 x0 <|
  some (s, 0)
noncomputable def m_X30_init : jS → Int → Option (jS × Int) := Classical.choose (⟨dm_X30_init, rfl⟩ : ∃ f, f = dm_X30_init)
theorem em_X30_init : m_X30_init = dm_X30_init := Classical.choose_spec (⟨dm_X30_init, rfl⟩ : ∃ f, f = dm_X30_init)
def dm_X30_is (s : jS) (x0 x1 x2 x3 x4 x5 : Int) : Option (jS × Int) :=
  jls (jp s 34 x0 0 x1) fun s1 =>
  jls (jp s1 34 x0 1 x2) fun s2 =>
  jls (jp s2 34 x0 2 x3) fun s3 =>
  jls (jp s3 34 x0 3 x4) fun s4 =>
  jls (jp s4 34 x0 4 x5) fun s5 =>
  some (s5, x0)
noncomputable def m_X30_is : jS → Int → Int → Int → Int → Int → Int → Option (jS × Int) := Classical.choose (⟨dm_X30_is, rfl⟩ : ∃ f, f = dm_X30_is)
theorem em_X30_is : m_X30_is = dm_X30_is := Classical.choose_spec (⟨dm_X30_is, rfl⟩ : ∃ f, f = dm_X30_is)
def dm_X31_init (s : jS) (x0 : Int) : Option (jS × Int) :=
  jck0 x0 <|
  some (s, 0)
noncomputable def m_X31_init : jS → Int → Option (jS × Int) := Classical.choose (⟨dm_X31_init, rfl⟩ : ∃ f, f = dm_X31_init)
theorem em_X31_init : m_X31_init = dm_X31_init := Classical.choose_spec (⟨dm_X31_init, rfl⟩ : ∃ f, f = dm_X31_init)
def dm_X31_has (s : jS) (x0 x1 : Int) : Option (Int) :=
  if x1 < (jf s 35 x0 0) then
    some (Wz 0)
  else
    if (W32 (x1 - (jf s 35 x0 0))) < (jf s 35 x0 1) then
      some (Wz 1)
    else
      some (Wz 0)
noncomputable def m_X31_has : jS → Int → Int → Option (Int) := Classical.choose (⟨dm_X31_has, rfl⟩ : ∃ f, f = dm_X31_has)
theorem em_X31_has : m_X31_has = dm_X31_has := Classical.choose_spec (⟨dm_X31_has, rfl⟩ : ∃ f, f = dm_X31_has)
def dm_X32_init (s : jS) (x0 : Int) : Option (jS × Int) :=
  jck0 x0 <|
  some (s, 0)
noncomputable def m_X32_init : jS → Int → Option (jS × Int) := Classical.choose (⟨dm_X32_init, rfl⟩ : ∃ f, f = dm_X32_init)
theorem em_X32_init : m_X32_init = dm_X32_init := Classical.choose_spec (⟨dm_X32_init, rfl⟩ : ∃ f, f = dm_X32_init)
def du_X33_clear_87 (s : jS) (x0 : Int) : Option (jS × Int) :=
  jls (jp s 37 x0 25 0) fun s1 =>
  jls (jp s1 37 x0 26 0) fun s2 =>
  jls (jp s2 37 x0 27 0) fun s3 =>
  jls (jp s3 37 x0 28 0) fun s4 =>
  jls (jp s4 37 x0 29 0) fun s5 =>
  jls (jp s5 37 x0 30 0) fun s6 =>
  (jzb 1).bind fun v7 =>
  jls (jp s6 37 x0 39 v7) fun s8 =>
  (jzb 1).bind fun v9 =>
  jls (jp s8 37 x0 40 v9) fun s10 =>
  some (s10, 0)
noncomputable def u_X33_clear_87 : jS → Int → Option (jS × Int) := Classical.choose (⟨du_X33_clear_87, rfl⟩ : ∃ f, f = du_X33_clear_87)
theorem eu_X33_clear_87 : u_X33_clear_87 = du_X33_clear_87 := Classical.choose_spec (⟨du_X33_clear_87, rfl⟩ : ∃ f, f = du_X33_clear_87)
def b_X33_clear_61 (s : jS) (x0 x1 : Int) : Option ((jS × List Int) ⊕ (jS × Int)) :=
  if x1 < 10 then
    (jst s 1000 (x0 + 15) 10 x1 (-1)).bind fun s1 =>
    (jst s1 1000 (x0 + 16) 10 x1 (-1)).bind fun s2 =>
    some (.inl (s2, [x0, W32 (x1 + 1)]))
  else
    jinr (u_X33_clear_87 s x0)
def du_X33_clear_61 (s : jS) (x0 x1 : Int) : Option (jS × Int) := jlpW (jc2 b_X33_clear_61) [x0, x1] s
noncomputable def u_X33_clear_61 : jS → Int → Int → Option (jS × Int) := Classical.choose (⟨du_X33_clear_61, rfl⟩ : ∃ f, f = du_X33_clear_61)
theorem eu_X33_clear_61 : u_X33_clear_61 = du_X33_clear_61 := Classical.choose_spec (⟨du_X33_clear_61, rfl⟩ : ∃ f, f = du_X33_clear_61)
def du_X33_clear_59 (s : jS) (x0 : Int) : Option (jS × Int) :=
  u_X33_clear_61 s x0 0
noncomputable def u_X33_clear_59 : jS → Int → Option (jS × Int) := Classical.choose (⟨du_X33_clear_59, rfl⟩ : ∃ f, f = du_X33_clear_59)
theorem eu_X33_clear_59 : u_X33_clear_59 = du_X33_clear_59 := Classical.choose_spec (⟨du_X33_clear_59, rfl⟩ : ∃ f, f = du_X33_clear_59)
def du_X33_clear_52 (s : jS) (x0 x1 y0 y1 y2 : Int) : Option ((jS × List Int) ⊕ (jS × Int)) :=
  (jst s 1000 y2 4 y1 y0).bind fun s1 =>
  some (.inl (s1, [x0, W32 (x1 + 1)]))
noncomputable def u_X33_clear_52 : jS → Int → Int → Int → Int → Int → Option ((jS × List Int) ⊕ (jS × Int)) := Classical.choose (⟨du_X33_clear_52, rfl⟩ : ∃ f, f = du_X33_clear_52)
theorem eu_X33_clear_52 : u_X33_clear_52 = du_X33_clear_52 := Classical.choose_spec (⟨du_X33_clear_52, rfl⟩ : ∃ f, f = du_X33_clear_52)
def b_X33_clear_26 (s : jS) (x0 x1 : Int) : Option ((jS × List Int) ⊕ (jS × Int)) :=
  if x1 < 4 then
    (jst s 1000 (x0 + 7) 4 x1 0).bind fun s1 =>
    if x1 = 0 then
      u_X33_clear_52 s1 x0 x1 2 x1 (x0 + 8)
    else
      u_X33_clear_52 s1 x0 x1 0 x1 (x0 + 8)
  else
    jinr (u_X33_clear_59 s x0)
def du_X33_clear_26 (s : jS) (x0 x1 : Int) : Option (jS × Int) := jlpW (jc2 b_X33_clear_26) [x0, x1] s
noncomputable def u_X33_clear_26 : jS → Int → Int → Option (jS × Int) := Classical.choose (⟨du_X33_clear_26, rfl⟩ : ∃ f, f = du_X33_clear_26)
theorem eu_X33_clear_26 : u_X33_clear_26 = du_X33_clear_26 := Classical.choose_spec (⟨du_X33_clear_26, rfl⟩ : ∃ f, f = du_X33_clear_26)
def du_X33_clear_24 (s : jS) (x0 : Int) : Option (jS × Int) :=
  u_X33_clear_26 s x0 0
noncomputable def u_X33_clear_24 : jS → Int → Option (jS × Int) := Classical.choose (⟨du_X33_clear_24, rfl⟩ : ∃ f, f = du_X33_clear_24)
theorem eu_X33_clear_24 : u_X33_clear_24 = du_X33_clear_24 := Classical.choose_spec (⟨du_X33_clear_24, rfl⟩ : ∃ f, f = du_X33_clear_24)
def b_X33_clear_2 (s : jS) (x0 x1 : Int) : Option ((jS × List Int) ⊕ (jS × Int)) :=
  if x1 < 150 then
    (jst s 1000 (x0 + 2) 150 x1 (-1)).bind fun s1 =>
    some (.inl (s1, [x0, W32 (x1 + 1)]))
  else
    jinr (u_X33_clear_24 s x0)
def du_X33_clear_2 (s : jS) (x0 x1 : Int) : Option (jS × Int) := jlpW (jc2 b_X33_clear_2) [x0, x1] s
noncomputable def u_X33_clear_2 : jS → Int → Int → Option (jS × Int) := Classical.choose (⟨du_X33_clear_2, rfl⟩ : ∃ f, f = du_X33_clear_2)
theorem eu_X33_clear_2 : u_X33_clear_2 = du_X33_clear_2 := Classical.choose_spec (⟨du_X33_clear_2, rfl⟩ : ∃ f, f = du_X33_clear_2)
def dm_X33_clear (s : jS) (x0 : Int) : Option (jS × Int) :=
  u_X33_clear_2 s x0 0
noncomputable def m_X33_clear : jS → Int → Option (jS × Int) := Classical.choose (⟨dm_X33_clear, rfl⟩ : ∃ f, f = dm_X33_clear)
theorem em_X33_clear : m_X33_clear = dm_X33_clear := Classical.choose_spec (⟨dm_X33_clear, rfl⟩ : ∃ f, f = dm_X33_clear)
def dm_X33_wrong (s : jS) (x0 x1 x2 : Int) : Option (jS × Int) :=
  jls (jp s 37 x0 37 x1) fun s1 =>
  jls (jp s1 37 x0 38 x2) fun s2 =>
  (jnx s2 2054).bind fun q3 =>
  some (q3.1, q3.2)
noncomputable def m_X33_wrong : jS → Int → Int → Int → Option (jS × Int) := Classical.choose (⟨dm_X33_wrong, rfl⟩ : ∃ f, f = dm_X33_wrong)
theorem em_X33_wrong : m_X33_wrong = dm_X33_wrong := Classical.choose_spec (⟨dm_X33_wrong, rfl⟩ : ∃ f, f = dm_X33_wrong)
def dm_X33_push (s : jS) (x0 x1 x2 x3 : Int) : Option (jS × Int) :=
  (jst s 1000 (x0 + 23) 2000 (jf s 37 x0 36) x1).bind fun s1 =>
  (jst s1 1000 (x0 + 24) 2000 (jf s1 37 x0 36) x2).bind fun s2 =>
  (jst s2 1000 (x0 + 25) 2000 (jf s2 37 x0 36) x3).bind fun s3 =>
  jls (jp s3 37 x0 36 (W32 ((jf s3 37 x0 36) + 1))) fun s4 =>
  some (s4, 0)
noncomputable def m_X33_push : jS → Int → Int → Int → Int → Option (jS × Int) := Classical.choose (⟨dm_X33_push, rfl⟩ : ∃ f, f = dm_X33_push)
theorem em_X33_push : m_X33_push = dm_X33_push := Classical.choose_spec (⟨dm_X33_push, rfl⟩ : ∃ f, f = dm_X33_push)
def dm_X33_turn (s : jS) (x0 x1 : Int) : Option (jS × Int) :=
  (jlt s 1000 (x0 + 24) 2000 x1).bind fun v1 =>
  (jlt s 1000 (x0 + 23) 2000 x1).bind fun v2 =>
  (jst s 1000 (x0 + 23) 2000 x1 (W32 (-v2))).bind fun s3 =>
  (jlt s3 1000 (x0 + 25) 2000 x1).bind fun v4 =>
  (jst s3 1000 (x0 + 24) 2000 x1 v4).bind fun s5 =>
  (jst s5 1000 (x0 + 25) 2000 x1 v1).bind fun s6 =>
  some (s6, 0)
noncomputable def m_X33_turn : jS → Int → Int → Option (jS × Int) := Classical.choose (⟨dm_X33_turn, rfl⟩ : ∃ f, f = dm_X33_turn)
theorem em_X33_turn : m_X33_turn = dm_X33_turn := Classical.choose_spec (⟨dm_X33_turn, rfl⟩ : ∃ f, f = dm_X33_turn)
def dm_X33_isPlainAt (s : jS) (x0 x1 : Int) : Option (Int) :=
  (jlt s 1000 (x0 + 24) 2000 x1).bind fun v1 =>
  if v1 = (-1) then
    (jlt s 1000 (x0 + 25) 2000 x1).bind fun v2 =>
    if v2 = (-1) then
      some (Wz 1)
    else
      some (Wz 0)
  else
    some (Wz 0)
noncomputable def m_X33_isPlainAt : jS → Int → Int → Option (Int) := Classical.choose (⟨dm_X33_isPlainAt, rfl⟩ : ∃ f, f = dm_X33_isPlainAt)
theorem em_X33_isPlainAt : m_X33_isPlainAt = dm_X33_isPlainAt := Classical.choose_spec (⟨dm_X33_isPlainAt, rfl⟩ : ∃ f, f = dm_X33_isPlainAt)
def dm_X33_started (s : jS) (x0 : Int) : Option (jS × Int) :=
  (jst s 1003 (x0 + 9) 1024 (jf s 37 x0 27) (W16 (W16 (jf s 37 x0 32)))).bind fun s1 =>
  jls (jp s1 37 x0 27 (W32 ((jf s1 37 x0 27) + 1))) fun s2 =>
  some (s2, 0)
noncomputable def m_X33_started : jS → Int → Option (jS × Int) := Classical.choose (⟨dm_X33_started, rfl⟩ : ∃ f, f = dm_X33_started)
theorem em_X33_started : m_X33_started = dm_X33_started := Classical.choose_spec (⟨dm_X33_started, rfl⟩ : ∃ f, f = dm_X33_started)
def du_X33_sortsOf_120 (s : jS) : Option (Int) :=
  some (jc s 58)
noncomputable def u_X33_sortsOf_120 : jS → Option (Int) := Classical.choose (⟨du_X33_sortsOf_120, rfl⟩ : ∃ f, f = du_X33_sortsOf_120)
theorem eu_X33_sortsOf_120 : u_X33_sortsOf_120 = du_X33_sortsOf_120 := Classical.choose_spec (⟨du_X33_sortsOf_120, rfl⟩ : ∃ f, f = du_X33_sortsOf_120)
def du_X33_sortsOf_104 (s : jS) : Option (Int) :=
  some (jc s 48)
noncomputable def u_X33_sortsOf_104 : jS → Option (Int) := Classical.choose (⟨du_X33_sortsOf_104, rfl⟩ : ∃ f, f = du_X33_sortsOf_104)
theorem eu_X33_sortsOf_104 : u_X33_sortsOf_104 = du_X33_sortsOf_104 := Classical.choose_spec (⟨du_X33_sortsOf_104, rfl⟩ : ∃ f, f = du_X33_sortsOf_104)
def du_X33_sortsOf_92 (s : jS) : Option (Int) :=
  some (jc s 53)
noncomputable def u_X33_sortsOf_92 : jS → Option (Int) := Classical.choose (⟨du_X33_sortsOf_92, rfl⟩ : ∃ f, f = du_X33_sortsOf_92)
theorem eu_X33_sortsOf_92 : u_X33_sortsOf_92 = du_X33_sortsOf_92 := Classical.choose_spec (⟨du_X33_sortsOf_92, rfl⟩ : ∃ f, f = du_X33_sortsOf_92)
def dm_X33_sortsOf (s : jS) (x0 x1 : Int) : Option (Int) :=
  if x1 = 0 then
    some (jc s 50)
  else
  if x1 = 1 then
    some (jc s 51)
  else
  if x1 = 2 then
    some (jc s 52)
  else
  if x1 = 3 then
    u_X33_sortsOf_92 s 
  else
  if x1 = 4 then
    u_X33_sortsOf_92 s 
  else
  if x1 = 5 then
    some (jc s 54)
  else
  if x1 = 6 then
    some (jc s 55)
  else
  if x1 = 7 then
    u_X33_sortsOf_104 s 
  else
  if x1 = 8 then
    some (jc s 47)
  else
  if x1 = 9 then
    u_X33_sortsOf_104 s 
  else
  if x1 = 10 then
    some (jc s 56)
  else
  if x1 = 11 then
    some (jc s 57)
  else
  if x1 = 12 then
    u_X33_sortsOf_104 s 
  else
  if x1 = 13 then
    u_X33_sortsOf_120 s 
  else
  if x1 = 14 then
    u_X33_sortsOf_120 s 
  else
  if x1 = 15 then
    some (jc s 59)
  else
  some (jc s 60)
noncomputable def m_X33_sortsOf : jS → Int → Int → Option (Int) := Classical.choose (⟨dm_X33_sortsOf, rfl⟩ : ∃ f, f = dm_X33_sortsOf)
theorem em_X33_sortsOf : m_X33_sortsOf = dm_X33_sortsOf := Classical.choose_spec (⟨dm_X33_sortsOf, rfl⟩ : ∃ f, f = dm_X33_sortsOf)
def du_X33_partsOf_104 (s : jS) : Option (Int) :=
  some (jc s 63)
noncomputable def u_X33_partsOf_104 : jS → Option (Int) := Classical.choose (⟨du_X33_partsOf_104, rfl⟩ : ∃ f, f = du_X33_partsOf_104)
theorem eu_X33_partsOf_104 : u_X33_partsOf_104 = du_X33_partsOf_104 := Classical.choose_spec (⟨du_X33_partsOf_104, rfl⟩ : ∃ f, f = du_X33_partsOf_104)
def dm_X33_partsOf (s : jS) (x0 x1 : Int) : Option (Int) :=
  if x1 = 0 then
    some (jc s 50)
  else
  if x1 = 1 then
    some (jc s 61)
  else
  if x1 = 2 then
    some (jc s 62)
  else
  if x1 = 3 then
    some (jc s 63)
  else
  if x1 = 4 then
    some (jc s 64)
  else
  if x1 = 5 then
    some (jc s 65)
  else
  if x1 = 6 then
    u_X33_partsOf_104 s 
  else
  if x1 = 7 then
    u_X33_partsOf_104 s 
  else
  if x1 = 8 then
    some (jc s 66)
  else
  if x1 = 9 then
    some (jc s 67)
  else
  if x1 = 10 then
    some (jc s 68)
  else
  if x1 = 11 then
    some (jc s 69)
  else
  if x1 = 12 then
    u_X33_partsOf_104 s 
  else
  if x1 = 13 then
    u_X33_partsOf_104 s 
  else
  if x1 = 14 then
    some (jc s 64)
  else
  if x1 = 15 then
    some (jc s 70)
  else
  some (jc s 71)
noncomputable def m_X33_partsOf : jS → Int → Int → Option (Int) := Classical.choose (⟨dm_X33_partsOf, rfl⟩ : ∃ f, f = dm_X33_partsOf)
theorem em_X33_partsOf : m_X33_partsOf = dm_X33_partsOf := Classical.choose_spec (⟨dm_X33_partsOf, rfl⟩ : ∃ f, f = dm_X33_partsOf)
def dm_X34_init (s : jS) (x0 : Int) : Option (jS × Int) :=
  jck0 x0 <|
  some (s, 0)
noncomputable def m_X34_init : jS → Int → Option (jS × Int) := Classical.choose (⟨dm_X34_init, rfl⟩ : ∃ f, f = dm_X34_init)
theorem em_X34_init : m_X34_init = dm_X34_init := Classical.choose_spec (⟨dm_X34_init, rfl⟩ : ∃ f, f = dm_X34_init)
def dm_X34_begin (s : jS) (x0 x1 : Int) : Option (jS × Int) :=
  jls (jp s 38 x0 0 x1) fun s1 =>
  jls (jp s1 38 x0 1 (-1)) fun s2 =>
  jls (jp s2 38 x0 2 0) fun s3 =>
  jls (jp s3 38 x0 3 0) fun s4 =>
  (jzb 0).bind fun v5 =>
  jls (jp s4 38 x0 4 v5) fun s6 =>
  (jzb 0).bind fun v7 =>
  jls (jp s6 38 x0 5 v7) fun s8 =>
  some (s8, 0)
noncomputable def m_X34_begin : jS → Int → Int → Option (jS × Int) := Classical.choose (⟨dm_X34_begin, rfl⟩ : ∃ f, f = dm_X34_begin)
theorem em_X34_begin : m_X34_begin = dm_X34_begin := Classical.choose_spec (⟨dm_X34_begin, rfl⟩ : ∃ f, f = dm_X34_begin)
def dm_X34_bind (s : jS) (x0 : Int) : Option (Int) :=
  if (jf s 38 x0 5) = 0 then
    if (jf s 38 x0 4) = 0 then
      if (jf s 38 x0 1) = (-1) then
        some 1
      else
        some 0
    else
      some 1
  else
    some 2
noncomputable def m_X34_bind : jS → Int → Option (Int) := Classical.choose (⟨dm_X34_bind, rfl⟩ : ∃ f, f = dm_X34_bind)
theorem em_X34_bind : m_X34_bind = dm_X34_bind := Classical.choose_spec (⟨dm_X34_bind, rfl⟩ : ∃ f, f = dm_X34_bind)
def dm_X35_wrong (s : jS) (x0 x1 x2 x3 : Int) : Option (jS × Int) :=
  jls (jp s 39 x0 6 x1) fun s1 =>
  jls (jp s1 39 x0 7 x2) fun s2 =>
  jls (jp s2 39 x0 8 x3) fun s3 =>
  (jnx s3 2069).bind fun q4 =>
  some (q4.1, q4.2)
noncomputable def m_X35_wrong : jS → Int → Int → Int → Int → Option (jS × Int) := Classical.choose (⟨dm_X35_wrong, rfl⟩ : ∃ f, f = dm_X35_wrong)
theorem em_X35_wrong : m_X35_wrong = dm_X35_wrong := Classical.choose_spec (⟨dm_X35_wrong, rfl⟩ : ∃ f, f = dm_X35_wrong)
def dm_X35_symbol (s : jS) (x0 x1 x2 : Int) : Option (Int) :=
  (jix 6 x1 ((x0 + (-4000)) + 4041 + 1858 * x1)).bind fun v1 =>
  (jix 100 x2 (((v1 + 614) + 3) + 10 + 3 * x2)).bind fun v2 =>
  some v2
noncomputable def m_X35_symbol : jS → Int → Int → Int → Option (Int) := Classical.choose (⟨dm_X35_symbol, rfl⟩ : ∃ f, f = dm_X35_symbol)
theorem em_X35_symbol : m_X35_symbol = dm_X35_symbol := Classical.choose_spec (⟨dm_X35_symbol, rfl⟩ : ∃ f, f = dm_X35_symbol)
def du_X35_globalFor_52 (s : jS) (x0 x1 x2 : Int) : Option (jS × Int) :=
  (jst s 1000 (x0 + 15) 600 (jf s 39 x0 20) x1).bind fun s1 =>
  (jst s1 1000 (x0 + 16) 600 (jf s 39 x0 20) x2).bind fun s2 =>
  (jst s2 1000 (x0 + 17) 600 (jf s 39 x0 20) 4).bind fun s3 =>
  (jst s3 1000 (x0 + 18) 600 (jf s 39 x0 20) (-1)).bind fun s4 =>
  (jst s4 1000 (x0 + 20) 600 (jf s 39 x0 20) 0).bind fun s5 =>
  (jst s5 1000 (x0 + 21) 600 (jf s 39 x0 20) 1).bind fun s6 =>
  (jst s6 1000 (x0 + 23) 600 (jf s 39 x0 20) (-1)).bind fun s7 =>
  jls (jp s7 39 x0 20 (W32 ((jf s7 39 x0 20) + 1))) fun s8 =>
  some (s8, jf s 39 x0 20)
noncomputable def u_X35_globalFor_52 : jS → Int → Int → Int → Option (jS × Int) := Classical.choose (⟨du_X35_globalFor_52, rfl⟩ : ∃ f, f = du_X35_globalFor_52)
theorem eu_X35_globalFor_52 : u_X35_globalFor_52 = du_X35_globalFor_52 := Classical.choose_spec (⟨du_X35_globalFor_52, rfl⟩ : ∃ f, f = du_X35_globalFor_52)
def b_X35_globalFor_2 (s : jS) (x0 x1 x2 x3 : Int) : Option ((jS × List Int) ⊕ (jS × Int)) :=
  if x3 < (jf s 39 x0 20) then
    (jlt s 1000 (x0 + 15) 600 x3).bind fun v1 =>
    (jlt s 1000 (x0 + 16) 600 x3).bind fun v2 =>
    (m_X35_symbol s x0 v1 v2).bind fun v3 =>
    (jrd s 20 v3 0).bind fun v4 =>
    (m_X35_symbol s x0 x1 x2).bind fun v5 =>
    (jrd s 20 v5 0).bind fun v6 =>
    (jct s 37 v4 (m_X17_is s v4 v6)).bind fun v7 =>
    if v7 = 0 then
      some (.inl (s, [x0, x1, x2, W32 (x3 + 1)]))
    else
      jinr (some (s, x3))
  else
    jinr (u_X35_globalFor_52 s x0 x1 x2)
def du_X35_globalFor_2 (s : jS) (x0 x1 x2 x3 : Int) : Option (jS × Int) := jlpW (jc4 b_X35_globalFor_2) [x0, x1, x2, x3] s
noncomputable def u_X35_globalFor_2 : jS → Int → Int → Int → Int → Option (jS × Int) := Classical.choose (⟨du_X35_globalFor_2, rfl⟩ : ∃ f, f = du_X35_globalFor_2)
theorem eu_X35_globalFor_2 : u_X35_globalFor_2 = du_X35_globalFor_2 := Classical.choose_spec (⟨du_X35_globalFor_2, rfl⟩ : ∃ f, f = du_X35_globalFor_2)
def dm_X35_globalFor (s : jS) (x0 x1 x2 : Int) : Option (jS × Int) :=
  u_X35_globalFor_2 s x0 x1 x2 0
noncomputable def m_X35_globalFor : jS → Int → Int → Int → Option (jS × Int) := Classical.choose (⟨dm_X35_globalFor, rfl⟩ : ∃ f, f = dm_X35_globalFor)
theorem em_X35_globalFor : m_X35_globalFor = dm_X35_globalFor := Classical.choose_spec (⟨dm_X35_globalFor, rfl⟩ : ∃ f, f = dm_X35_globalFor)
def dm_X35_means (s : jS) (x0 x1 x2 x3 x4 : Int) : Option (jS × Int) :=
  (jst s 1000 (x0 + 17) 600 x1 x2).bind fun s1 =>
  (jst s1 1000 (x0 + 18) 600 x1 x3).bind fun s2 =>
  (jst s2 1000 (x0 + 19) 600 x1 x4).bind fun s3 =>
  some (s3, 0)
noncomputable def m_X35_means : jS → Int → Int → Int → Int → Int → Option (jS × Int) := Classical.choose (⟨dm_X35_means, rfl⟩ : ∃ f, f = dm_X35_means)
theorem em_X35_means : m_X35_means = dm_X35_means := Classical.choose_spec (⟨dm_X35_means, rfl⟩ : ∃ f, f = dm_X35_means)
def du_X35_relax_61 (s : jS) (x0 x1 x2 : Int) : Option ((jS × List Int) ⊕ (jS × Int)) :=
  some (.inl (s, [x0, x1, W32 (x2 + 1)]))
noncomputable def u_X35_relax_61 : jS → Int → Int → Int → Option ((jS × List Int) ⊕ (jS × Int)) := Classical.choose (⟨du_X35_relax_61, rfl⟩ : ∃ f, f = du_X35_relax_61)
theorem eu_X35_relax_61 : u_X35_relax_61 = du_X35_relax_61 := Classical.choose_spec (⟨du_X35_relax_61, rfl⟩ : ∃ f, f = du_X35_relax_61)
def b_X35_relax_24 (s : jS) (x0 x1 x2 : Int) : Option ((jS × List Int) ⊕ (jS × Int)) :=
  (jrd s 18 x1 6).bind fun v1 =>
  if x2 < v1 then
    (jrd s 18 x1 5).bind fun v2 =>
    (jld s 1012 v2 x2).bind fun v3 =>
    (jrd s 22 v3 2).bind fun v4 =>
    if v4 = 51 then
      (jrd s 18 x1 5).bind fun v5 =>
      (jld s 1012 v5 x2).bind fun v6 =>
      (jrd s 22 v6 1).bind fun v7 =>
      (jst s 1002 (x0 + 37) 2049 v7 (Wz 1)).bind fun s8 =>
      u_X35_relax_61 s8 x0 x1 x2
    else
      u_X35_relax_61 s x0 x1 x2
  else
    jinr (some (s, 0))
def du_X35_relax_24 (s : jS) (x0 x1 x2 : Int) : Option (jS × Int) := jlpW (jc3 b_X35_relax_24) [x0, x1, x2] s
noncomputable def u_X35_relax_24 : jS → Int → Int → Int → Option (jS × Int) := Classical.choose (⟨du_X35_relax_24, rfl⟩ : ∃ f, f = du_X35_relax_24)
theorem eu_X35_relax_24 : u_X35_relax_24 = du_X35_relax_24 := Classical.choose_spec (⟨du_X35_relax_24, rfl⟩ : ∃ f, f = du_X35_relax_24)
def du_X35_relax_22 (s : jS) (x0 x1 : Int) : Option (jS × Int) :=
  u_X35_relax_24 s x0 x1 0
noncomputable def u_X35_relax_22 : jS → Int → Int → Option (jS × Int) := Classical.choose (⟨du_X35_relax_22, rfl⟩ : ∃ f, f = du_X35_relax_22)
theorem eu_X35_relax_22 : u_X35_relax_22 = du_X35_relax_22 := Classical.choose_spec (⟨du_X35_relax_22, rfl⟩ : ∃ f, f = du_X35_relax_22)
def b_X35_relax_2 (s : jS) (x0 x1 x2 : Int) : Option ((jS × List Int) ⊕ (jS × Int)) :=
  if 2048 < x2 then
    jinr (u_X35_relax_22 s x0 x1)
  else
    (jst s 1002 (x0 + 37) 2049 x2 (Wz 0)).bind fun s1 =>
    some (.inl (s1, [x0, x1, W32 (x2 + 1)]))
def du_X35_relax_2 (s : jS) (x0 x1 x2 : Int) : Option (jS × Int) := jlpW (jc3 b_X35_relax_2) [x0, x1, x2] s
noncomputable def u_X35_relax_2 : jS → Int → Int → Int → Option (jS × Int) := Classical.choose (⟨du_X35_relax_2, rfl⟩ : ∃ f, f = du_X35_relax_2)
theorem eu_X35_relax_2 : u_X35_relax_2 = du_X35_relax_2 := Classical.choose_spec (⟨du_X35_relax_2, rfl⟩ : ∃ f, f = du_X35_relax_2)
def dm_X35_relax (s : jS) (x0 x1 : Int) : Option (jS × Int) :=
  u_X35_relax_2 s x0 x1 0
noncomputable def m_X35_relax : jS → Int → Int → Option (jS × Int) := Classical.choose (⟨dm_X35_relax, rfl⟩ : ∃ f, f = dm_X35_relax)
theorem em_X35_relax : m_X35_relax = dm_X35_relax := Classical.choose_spec (⟨dm_X35_relax, rfl⟩ : ∃ f, f = dm_X35_relax)
def du_X35_mayMove_60 (s : jS) (x0 x1 : Int) : Option (Int) :=
  (jrd s 22 x1 1).bind fun v1 =>
  (jlt s 1002 (x0 + 37) 2049 v1).bind fun v2 =>
  if v2 = 0 then
    some (Wz 0)
  else
    some (Wz 1)
noncomputable def u_X35_mayMove_60 : jS → Int → Int → Option (Int) := Classical.choose (⟨du_X35_mayMove_60, rfl⟩ : ∃ f, f = du_X35_mayMove_60)
theorem eu_X35_mayMove_60 : u_X35_mayMove_60 = du_X35_mayMove_60 := Classical.choose_spec (⟨du_X35_mayMove_60, rfl⟩ : ∃ f, f = du_X35_mayMove_60)
def dm_X35_mayMove (s : jS) (x0 x1 : Int) : Option (Int) :=
  (jrd s 22 x1 0).bind fun v1 =>
  if v1 = 0 then
    (jrd s 22 x1 2).bind fun v2 =>
    if v2 = 43 then
      (jrd s 22 x1 4).bind fun v3 =>
      if 0 < v3 then
        some (Wz 1)
      else
        some (Wz 0)
    else
      (jrd s 22 x1 2).bind fun v4 =>
      if v4 = 19 then
        u_X35_mayMove_60 s x0 x1
      else
        (jrd s 22 x1 2).bind fun v5 =>
        if v5 = 23 then
          u_X35_mayMove_60 s x0 x1
        else
          (jrd s 22 x1 2).bind fun v6 =>
          if v6 = 26 then
            u_X35_mayMove_60 s x0 x1
          else
            some (Wz 0)
  else
    some (Wz 0)
noncomputable def m_X35_mayMove : jS → Int → Int → Option (Int) := Classical.choose (⟨dm_X35_mayMove, rfl⟩ : ∃ f, f = dm_X35_mayMove)
theorem em_X35_mayMove : m_X35_mayMove = dm_X35_mayMove := Classical.choose_spec (⟨dm_X35_mayMove, rfl⟩ : ∃ f, f = dm_X35_mayMove)
def dm_X35_piece (s : jS) (x0 x1 x2 x3 x4 x5 x6 : Int) : Option (jS × Bool × Int) :=
  if x1 = (-1) then
    (m_X35_wrong s x0 6 (-1) (-1)).bind fun q1 =>
    jck0 q1.2 (some (q1.1, true, q1.2))
  else
    (jst s 1000 (x0 + 25) 256 x1 x4).bind fun s2 =>
    (jst s2 1000 (x0 + 26) 256 x1 x5).bind fun s3 =>
    (jst s3 1000 (x0 + 27) 256 x1 x6).bind fun s4 =>
    (jst s4 1000 (x0 + 28) 256 x1 x3).bind fun s5 =>
    jls (jp s5 39 x0 29 (W32 (x1 + 1))) fun s6 =>
    (jst s6 1000 (x0 + 30) 32 x2 (jf s6 39 x0 29)).bind fun s7 =>
    some (s7, false, 0)
noncomputable def m_X35_piece : jS → Int → Int → Int → Int → Int → Int → Int → Option (jS × Bool × Int) := Classical.choose (⟨dm_X35_piece, rfl⟩ : ∃ f, f = dm_X35_piece)
theorem em_X35_piece : m_X35_piece = dm_X35_piece := Classical.choose_spec (⟨dm_X35_piece, rfl⟩ : ∃ f, f = dm_X35_piece)
def dm_X35_wordIn (s : jS) (x0 x1 : Int) : Option (Int) :=
  (jrd s 18 x0 0).bind fun v1 =>
  (jld s 1013 v1 0).bind fun v2 =>
  (jrd s 19 v2 0).bind fun v3 =>
  (jld s 1001 v3 x1).bind fun v4 =>
  (jld s 1001 v3 (W32 (x1 + 1))).bind fun v5 =>
  (jld s 1001 v3 (W32 (x1 + 2))).bind fun v6 =>
  (jld s 1001 v3 (W32 (x1 + 3))).bind fun v7 =>
  some (I_or (I_or (I_or (I_and v4 255) (I_shl (I_and v5 255) 8)) (I_shl (I_and v6 255) 16)) (I_shl v7 24))
noncomputable def m_X35_wordIn : jS → Int → Int → Option (Int) := Classical.choose (⟨dm_X35_wordIn, rfl⟩ : ∃ f, f = dm_X35_wordIn)
theorem em_X35_wordIn : m_X35_wordIn = dm_X35_wordIn := Classical.choose_spec (⟨dm_X35_wordIn, rfl⟩ : ∃ f, f = dm_X35_wordIn)
def dm_X35_lengthOf (s : jS) (x0 x1 : Int) : Option (Int) :=
  (jrd s 22 x1 2).bind fun v1 =>
  if v1 = 19 then
    some 8
  else
    (jrd s 22 x1 2).bind fun v2 =>
    if v2 = 43 then
      (jrd s 22 x1 4).bind fun v3 =>
      some v3
    else
      some 4
noncomputable def m_X35_lengthOf : jS → Int → Int → Option (Int) := Classical.choose (⟨dm_X35_lengthOf, rfl⟩ : ∃ f, f = dm_X35_lengthOf)
theorem em_X35_lengthOf : m_X35_lengthOf = dm_X35_lengthOf := Classical.choose_spec (⟨dm_X35_lengthOf, rfl⟩ : ∃ f, f = dm_X35_lengthOf)
def du_X35_partOf_18 (s : jS) (x2 x3 : Int) : Option (Int) :=
  some (W32 ((W32 (4 * x3)) + x2))
noncomputable def u_X35_partOf_18 : jS → Int → Int → Option (Int) := Classical.choose (⟨du_X35_partOf_18, rfl⟩ : ∃ f, f = du_X35_partOf_18)
theorem eu_X35_partOf_18 : u_X35_partOf_18 = du_X35_partOf_18 := Classical.choose_spec (⟨du_X35_partOf_18, rfl⟩ : ∃ f, f = du_X35_partOf_18)
def b_X35_partOf_2 (s : jS) (x0 x1 x2 x3 : Int) : Option (List Int ⊕ (Int)) :=
  (jlt s 1000 (x0 + 13) 6 x3).bind fun v1 =>
  if v1 = x1 then
    jinr (u_X35_partOf_18 s x2 x3)
  else
    some (.inl [x0, x1, x2, W32 (x3 + 1)])
def du_X35_partOf_2 (s : jS) (x0 x1 x2 x3 : Int) : Option (Int) := jlpR (jc4 b_X35_partOf_2) [x0, x1, x2, x3] s
noncomputable def u_X35_partOf_2 : jS → Int → Int → Int → Int → Option (Int) := Classical.choose (⟨du_X35_partOf_2, rfl⟩ : ∃ f, f = du_X35_partOf_2)
theorem eu_X35_partOf_2 : u_X35_partOf_2 = du_X35_partOf_2 := Classical.choose_spec (⟨du_X35_partOf_2, rfl⟩ : ∃ f, f = du_X35_partOf_2)
def dm_X35_partOf (s : jS) (x0 x1 x2 : Int) : Option (Int) :=
  u_X35_partOf_2 s x0 x1 x2 0
noncomputable def m_X35_partOf : jS → Int → Int → Int → Option (Int) := Classical.choose (⟨dm_X35_partOf, rfl⟩ : ∃ f, f = dm_X35_partOf)
theorem em_X35_partOf : m_X35_partOf = dm_X35_partOf := Classical.choose_spec (⟨dm_X35_partOf, rfl⟩ : ∃ f, f = dm_X35_partOf)
def du_X35_pieceAt_37 (s : jS) (x0 x1 : Int) : Option (Int) :=
  (jlt s 1000 (x0 + 29) 32 x1).bind fun v1 =>
  some v1
noncomputable def u_X35_pieceAt_37 : jS → Int → Int → Option (Int) := Classical.choose (⟨du_X35_pieceAt_37, rfl⟩ : ∃ f, f = du_X35_pieceAt_37)
theorem eu_X35_pieceAt_37 : u_X35_pieceAt_37 = du_X35_pieceAt_37 := Classical.choose_spec (⟨du_X35_pieceAt_37, rfl⟩ : ∃ f, f = du_X35_pieceAt_37)
def b_X35_pieceAt_9 (s : jS) (x0 x1 x2 x3 : Int) : Option (List Int ⊕ (Int)) :=
  (jlt s 1000 (x0 + 29) 32 x1).bind fun v1 =>
  if v1 < x3 then
    (jlt s 1000 (x0 + 25) 256 x3).bind fun v2 =>
    if x2 < v2 then
      some (.inl [x0, x1, x2, W32 (x3 + (-1))])
    else
      jinr (some x3)
  else
    jinr (u_X35_pieceAt_37 s x0 x1)
def du_X35_pieceAt_9 (s : jS) (x0 x1 x2 x3 : Int) : Option (Int) := jlpR (jc4 b_X35_pieceAt_9) [x0, x1, x2, x3] s
noncomputable def u_X35_pieceAt_9 : jS → Int → Int → Int → Int → Option (Int) := Classical.choose (⟨du_X35_pieceAt_9, rfl⟩ : ∃ f, f = du_X35_pieceAt_9)
theorem eu_X35_pieceAt_9 : u_X35_pieceAt_9 = du_X35_pieceAt_9 := Classical.choose_spec (⟨du_X35_pieceAt_9, rfl⟩ : ∃ f, f = du_X35_pieceAt_9)
def dm_X35_pieceAt (s : jS) (x0 x1 x2 : Int) : Option (Int) :=
  (jlt s 1000 (x0 + 30) 32 x1).bind fun v1 =>
  jlet (W32 (v1 - 1)) fun v2 =>
  u_X35_pieceAt_9 s x0 x1 x2 v2
noncomputable def m_X35_pieceAt : jS → Int → Int → Int → Option (Int) := Classical.choose (⟨dm_X35_pieceAt, rfl⟩ : ∃ f, f = dm_X35_pieceAt)
theorem em_X35_pieceAt : m_X35_pieceAt = dm_X35_pieceAt := Classical.choose_spec (⟨dm_X35_pieceAt, rfl⟩ : ∃ f, f = dm_X35_pieceAt)
def du_X35_nothing_48 (s : jS) (x1 x2 x3 x4 y0 y1 y2 : Int) : Option ((jS × List Int) ⊕ (jS × Int)) :=
  (jsa s 1001 y2 y1 (W8 (W8 y0))).bind fun s1 =>
  some (.inl (s1, [x1, x2, x3, W32 (x4 + 1)]))
noncomputable def u_X35_nothing_48 : jS → Int → Int → Int → Int → Int → Int → Int → Option ((jS × List Int) ⊕ (jS × Int)) := Classical.choose (⟨du_X35_nothing_48, rfl⟩ : ∃ f, f = du_X35_nothing_48)
theorem eu_X35_nothing_48 : u_X35_nothing_48 = du_X35_nothing_48 := Classical.choose_spec (⟨du_X35_nothing_48, rfl⟩ : ∃ f, f = du_X35_nothing_48)
def b_X35_nothing_3 (s : jS) (x1 x2 x3 x4 : Int) : Option ((jS × List Int) ⊕ (jS × Int)) :=
  if x4 < x3 then
    (jdv 4 (I_div x4 4)).bind fun v1 =>
    if x3 < (W32 ((W32 (v1 * 4)) + 4)) then
      (jdv 4 (I_rem x4 4)).bind fun v2 =>
      u_X35_nothing_48 s x1 x2 x3 x4 (I_shr 1 (W32 (v2 * 8))) (W32 (x2 + x4)) x1
    else
      (jdv 4 (I_rem x4 4)).bind fun v3 =>
      u_X35_nothing_48 s x1 x2 x3 x4 (I_shr 19 (W32 (v3 * 8))) (W32 (x2 + x4)) x1
  else
    jinr (some (s, 0))
def du_X35_nothing_3 (s : jS) (x1 x2 x3 x4 : Int) : Option (jS × Int) := jlpW (jc4 b_X35_nothing_3) [x1, x2, x3, x4] s
noncomputable def u_X35_nothing_3 : jS → Int → Int → Int → Int → Option (jS × Int) := Classical.choose (⟨du_X35_nothing_3, rfl⟩ : ∃ f, f = du_X35_nothing_3)
theorem eu_X35_nothing_3 : u_X35_nothing_3 = du_X35_nothing_3 := Classical.choose_spec (⟨du_X35_nothing_3, rfl⟩ : ∃ f, f = du_X35_nothing_3)
def dm_X35_nothing (s : jS) (x0 x1 x2 x3 : Int) : Option (jS × Int) :=
  u_X35_nothing_3 s x1 x2 x3 0
noncomputable def m_X35_nothing : jS → Int → Int → Int → Int → Option (jS × Int) := Classical.choose (⟨dm_X35_nothing, rfl⟩ : ∃ f, f = dm_X35_nothing)
theorem em_X35_nothing : m_X35_nothing = dm_X35_nothing := Classical.choose_spec (⟨dm_X35_nothing, rfl⟩ : ∃ f, f = dm_X35_nothing)
def dm_X35_wrong_2 (s : jS) (x0 x1 : Int) : Option (jS × Int) :=
  (m_X35_wrong s x0 x1 (jf s 39 x0 35) (jf s 39 x0 36)).bind fun q1 =>
  some (q1.1, q1.2)
noncomputable def m_X35_wrong_2 : jS → Int → Int → Option (jS × Int) := Classical.choose (⟨dm_X35_wrong_2, rfl⟩ : ∃ f, f = dm_X35_wrong_2)
theorem em_X35_wrong_2 : m_X35_wrong_2 = dm_X35_wrong_2 := Classical.choose_spec (⟨dm_X35_wrong_2, rfl⟩ : ∃ f, f = dm_X35_wrong_2)
def b_X35_get_8 (s : jS) (x1 x2 x4 x6 : Int) : Option (List Int ⊕ (Int)) :=
  if x6 < 0 then
    jinr (some x4)
  else
    (jld s 1001 x1 (W32 (x2 + x6))).bind fun v1 =>
    jlet (L_or (L_shl x4 8) (L_and v1 255)) fun v2 =>
    some (.inl [x1, x2, v2, W32 (x6 + (-1))])
def du_X35_get_8 (s : jS) (x1 x2 x4 x6 : Int) : Option (Int) := jlpR (jc4 b_X35_get_8) [x1, x2, x4, x6] s
noncomputable def u_X35_get_8 : jS → Int → Int → Int → Int → Option (Int) := Classical.choose (⟨du_X35_get_8, rfl⟩ : ∃ f, f = du_X35_get_8)
theorem eu_X35_get_8 : u_X35_get_8 = du_X35_get_8 := Classical.choose_spec (⟨du_X35_get_8, rfl⟩ : ∃ f, f = du_X35_get_8)
def dm_X35_get (s : jS) (x0 x1 x2 x3 : Int) : Option (Int) :=
  jlet (W32 (x3 - 1)) fun v1 =>
  u_X35_get_8 s x1 x2 0 v1
noncomputable def m_X35_get : jS → Int → Int → Int → Int → Option (Int) := Classical.choose (⟨dm_X35_get, rfl⟩ : ∃ f, f = dm_X35_get)
theorem em_X35_get : m_X35_get = dm_X35_get := Classical.choose_spec (⟨dm_X35_get, rfl⟩ : ∃ f, f = dm_X35_get)
def dm_X35_isOne (s : jS) (x0 x1 x2 x3 : Int) : Option (Int) :=
  if x1 = x2 then
    some (Wz 1)
  else
    if x1 = x3 then
      some (Wz 1)
    else
      some (Wz 0)
noncomputable def m_X35_isOne : jS → Int → Int → Int → Int → Option (Int) := Classical.choose (⟨dm_X35_isOne, rfl⟩ : ∃ f, f = dm_X35_isOne)
theorem em_X35_isOne : m_X35_isOne = dm_X35_isOne := Classical.choose_spec (⟨dm_X35_isOne, rfl⟩ : ∃ f, f = dm_X35_isOne)
def b_X35_put_3 (s : jS) (x1 x2 x3 x4 x6 : Int) : Option ((jS × List Int) ⊕ (jS × Int)) :=
  if x6 < x3 then
    (jsa s 1001 x1 (W32 (x2 + x6)) (W8 (W8 (L2i (L_shr x4 (W32 (8 * x6))))))).bind fun s1 =>
    some (.inl (s1, [x1, x2, x3, x4, W32 (x6 + 1)]))
  else
    jinr (some (s, 0))
def du_X35_put_3 (s : jS) (x1 x2 x3 x4 x6 : Int) : Option (jS × Int) := jlpW (jc5 b_X35_put_3) [x1, x2, x3, x4, x6] s
noncomputable def u_X35_put_3 : jS → Int → Int → Int → Int → Int → Option (jS × Int) := Classical.choose (⟨du_X35_put_3, rfl⟩ : ∃ f, f = du_X35_put_3)
theorem eu_X35_put_3 : u_X35_put_3 = du_X35_put_3 := Classical.choose_spec (⟨du_X35_put_3, rfl⟩ : ∃ f, f = du_X35_put_3)
def dm_X35_put (s : jS) (x0 x1 x2 x3 x4 : Int) : Option (jS × Int) :=
  u_X35_put_3 s x1 x2 x3 x4 0
noncomputable def m_X35_put : jS → Int → Int → Int → Int → Int → Option (jS × Int) := Classical.choose (⟨dm_X35_put, rfl⟩ : ∃ f, f = dm_X35_put)
theorem em_X35_put : m_X35_put = dm_X35_put := Classical.choose_spec (⟨dm_X35_put, rfl⟩ : ∃ f, f = dm_X35_put)
def dm_X35_isInt (s : jS) (x0 : Int) : Option (Int) :=
  if (L_cmp x0 (-2147483648)) < 0 then
    some (Wz 0)
  else
    if 0 < (L_cmp x0 2147483647) then
      some (Wz 0)
    else
      some (Wz 1)
noncomputable def m_X35_isInt : jS → Int → Option (Int) := Classical.choose (⟨dm_X35_isInt, rfl⟩ : ∃ f, f = dm_X35_isInt)
theorem em_X35_isInt : m_X35_isInt = dm_X35_isInt := Classical.choose_spec (⟨dm_X35_isInt, rfl⟩ : ∃ f, f = dm_X35_isInt)
def dm_X35_upperOf (s : jS) (x0 : Int) : Option (Int) :=
  some (L_and (L_shr (W64 (x0 + 2048)) 12) 1048575)
noncomputable def m_X35_upperOf : jS → Int → Option (Int) := Classical.choose (⟨dm_X35_upperOf, rfl⟩ : ∃ f, f = dm_X35_upperOf)
theorem em_X35_upperOf : m_X35_upperOf = dm_X35_upperOf := Classical.choose_spec (⟨dm_X35_upperOf, rfl⟩ : ∃ f, f = dm_X35_upperOf)
def dm_X35_lowerOf (s : jS) (x0 : Int) : Option (Int) :=
  some (W64 ((L_xor (L_and x0 4095) 2048) - 2048))
noncomputable def m_X35_lowerOf : jS → Int → Option (Int) := Classical.choose (⟨dm_X35_lowerOf, rfl⟩ : ∃ f, f = dm_X35_lowerOf)
theorem em_X35_lowerOf : m_X35_lowerOf = dm_X35_lowerOf := Classical.choose_spec (⟨dm_X35_lowerOf, rfl⟩ : ∃ f, f = dm_X35_lowerOf)
def dm_X35_isLow (s : jS) (x0 : Int) : Option (Int) :=
  if (L_cmp x0 (-2048)) < 0 then
    some (Wz 0)
  else
    if 0 < (L_cmp x0 2047) then
      some (Wz 0)
    else
      some (Wz 1)
noncomputable def m_X35_isLow : jS → Int → Option (Int) := Classical.choose (⟨dm_X35_isLow, rfl⟩ : ∃ f, f = dm_X35_isLow)
theorem em_X35_isLow : m_X35_isLow = dm_X35_isLow := Classical.choose_spec (⟨dm_X35_isLow, rfl⟩ : ∃ f, f = dm_X35_isLow)
def dm_X35_how (s : jS) (x0 x1 : Int) : Option (Int) :=
  (jlt s 1000 (x0 + 17) 600 x1).bind fun v1 =>
  some v1
noncomputable def m_X35_how : jS → Int → Int → Option (Int) := Classical.choose (⟨dm_X35_how, rfl⟩ : ∃ f, f = dm_X35_how)
theorem em_X35_how : m_X35_how = dm_X35_how := Classical.choose_spec (⟨dm_X35_how, rfl⟩ : ∃ f, f = dm_X35_how)
def du_X35_sumUp_92 (s : jS) (y0 y1 y2 y3 y4 : Int) : Option (jS × Int) :=
  (m_X35_put s y4 y3 y2 y1 y0).bind fun q1 =>
  some (q1.1, 0)
noncomputable def u_X35_sumUp_92 : jS → Int → Int → Int → Int → Int → Option (jS × Int) := Classical.choose (⟨du_X35_sumUp_92, rfl⟩ : ∃ f, f = du_X35_sumUp_92)
theorem eu_X35_sumUp_92 : u_X35_sumUp_92 = du_X35_sumUp_92 := Classical.choose_spec (⟨du_X35_sumUp_92, rfl⟩ : ∃ f, f = du_X35_sumUp_92)
def du_X35_sumUp_33 (s : jS) (x0 x1 x2 y0 : Int) : Option (jS × Int) :=
  if x2 = 1 then
    u_X35_sumUp_92 s (jf s 39 x0 40) y0 (jf s 39 x0 38) x1 x0
  else
    if x2 < 37 then
      (m_X35_get s x0 x1 (jf s 39 x0 38) y0).bind fun v1 =>
      u_X35_sumUp_92 s (W64 (v1 + (jf s 39 x0 40))) y0 (jf s 39 x0 38) x1 x0
    else
      (m_X35_get s x0 x1 (jf s 39 x0 38) y0).bind fun v2 =>
      u_X35_sumUp_92 s (W64 (v2 - (jf s 39 x0 40))) y0 (jf s 39 x0 38) x1 x0
noncomputable def u_X35_sumUp_33 : jS → Int → Int → Int → Int → Option (jS × Int) := Classical.choose (⟨du_X35_sumUp_33, rfl⟩ : ∃ f, f = du_X35_sumUp_33)
theorem eu_X35_sumUp_33 : u_X35_sumUp_33 = du_X35_sumUp_33 := Classical.choose_spec (⟨du_X35_sumUp_33, rfl⟩ : ∃ f, f = du_X35_sumUp_33)
def du_X35_sumUp_28 (s : jS) (x0 x1 x2 : Int) : Option (jS × Int) :=
  u_X35_sumUp_33 s x0 x1 x2 2
noncomputable def u_X35_sumUp_28 : jS → Int → Int → Int → Option (jS × Int) := Classical.choose (⟨du_X35_sumUp_28, rfl⟩ : ∃ f, f = du_X35_sumUp_28)
theorem eu_X35_sumUp_28 : u_X35_sumUp_28 = du_X35_sumUp_28 := Classical.choose_spec (⟨du_X35_sumUp_28, rfl⟩ : ∃ f, f = du_X35_sumUp_28)
def du_X35_sumUp_12 (s : jS) (x0 x1 x2 : Int) : Option (jS × Int) :=
  u_X35_sumUp_33 s x0 x1 x2 1
noncomputable def u_X35_sumUp_12 : jS → Int → Int → Int → Option (jS × Int) := Classical.choose (⟨du_X35_sumUp_12, rfl⟩ : ∃ f, f = du_X35_sumUp_12)
theorem eu_X35_sumUp_12 : u_X35_sumUp_12 = du_X35_sumUp_12 := Classical.choose_spec (⟨du_X35_sumUp_12, rfl⟩ : ∃ f, f = du_X35_sumUp_12)
def dm_X35_sumUp (s : jS) (x0 x1 x2 : Int) : Option (jS × Int) :=
  if x2 = 33 then
    u_X35_sumUp_12 s x0 x1 x2
  else
    if x2 = 37 then
      u_X35_sumUp_12 s x0 x1 x2
    else
      if x2 = 34 then
        u_X35_sumUp_28 s x0 x1 x2
      else
        if x2 = 38 then
          u_X35_sumUp_28 s x0 x1 x2
        else
          u_X35_sumUp_33 s x0 x1 x2 4
noncomputable def m_X35_sumUp : jS → Int → Int → Int → Option (jS × Int) := Classical.choose (⟨dm_X35_sumUp, rfl⟩ : ∃ f, f = dm_X35_sumUp)
theorem em_X35_sumUp : m_X35_sumUp = dm_X35_sumUp := Classical.choose_spec (⟨dm_X35_sumUp, rfl⟩ : ∃ f, f = dm_X35_sumUp)
def du_X35_find_138 (s : jS) (x0 x1 x3 x5 : Int) : Option (List Int ⊕ (Int)) :=
  some (.inl [x0, x1, x3, W32 (x5 + 1)])
noncomputable def u_X35_find_138 : jS → Int → Int → Int → Int → Option (List Int ⊕ (Int)) := Classical.choose (⟨du_X35_find_138, rfl⟩ : ∃ f, f = du_X35_find_138)
theorem eu_X35_find_138 : u_X35_find_138 = du_X35_find_138 := Classical.choose_spec (⟨du_X35_find_138, rfl⟩ : ∃ f, f = du_X35_find_138)
def du_X35_find_118 (s : jS) (x0 x1 x3 x5 x6 x7 : Int) : Option (List Int ⊕ (Int)) :=
  if x7 = 0 then
    u_X35_find_138 s x0 x1 x3 x5
  else
    (jlt s 1000 (x0 + 39) 600 x5).bind fun v1 =>
    if x6 = v1 then
      jinr (some x5)
    else
      u_X35_find_138 s x0 x1 x3 x5
noncomputable def u_X35_find_118 : jS → Int → Int → Int → Int → Int → Int → Option (List Int ⊕ (Int)) := Classical.choose (⟨du_X35_find_118, rfl⟩ : ∃ f, f = du_X35_find_118)
theorem eu_X35_find_118 : u_X35_find_118 = du_X35_find_118 := Classical.choose_spec (⟨du_X35_find_118, rfl⟩ : ∃ f, f = du_X35_find_118)
def du_X35_find_112 (s : jS) (x0 x1 x3 x5 x6 x7 x8 : Int) : Option (List Int ⊕ (List Int ⊕ (Int))) :=
  some (.inl [x0, x1, x3, x5, x6, x7, W32 (x8 + 1)])
noncomputable def u_X35_find_112 : jS → Int → Int → Int → Int → Int → Int → Int → Option (List Int ⊕ (List Int ⊕ (Int))) := Classical.choose (⟨du_X35_find_112, rfl⟩ : ∃ f, f = du_X35_find_112)
theorem eu_X35_find_112 : u_X35_find_112 = du_X35_find_112 := Classical.choose_spec (⟨du_X35_find_112, rfl⟩ : ∃ f, f = du_X35_find_112)
def du_X35_find_107 (s : jS) (x0 x1 x3 x5 x6 x8 y0 : Int) : Option (List Int ⊕ (List Int ⊕ (Int))) :=
  u_X35_find_112 s x0 x1 x3 x5 (W32 (x6 + 1)) y0 x8
noncomputable def u_X35_find_107 : jS → Int → Int → Int → Int → Int → Int → Int → Option (List Int ⊕ (List Int ⊕ (Int))) := Classical.choose (⟨du_X35_find_107, rfl⟩ : ∃ f, f = du_X35_find_107)
theorem eu_X35_find_107 : u_X35_find_107 = du_X35_find_107 := Classical.choose_spec (⟨du_X35_find_107, rfl⟩ : ∃ f, f = du_X35_find_107)
def du_X35_find_106 (s : jS) (x0 x1 x3 x5 x6 x8 : Int) : Option (List Int ⊕ (List Int ⊕ (Int))) :=
  u_X35_find_107 s x0 x1 x3 x5 x6 x8 0
noncomputable def u_X35_find_106 : jS → Int → Int → Int → Int → Int → Int → Option (List Int ⊕ (List Int ⊕ (Int))) := Classical.choose (⟨du_X35_find_106, rfl⟩ : ∃ f, f = du_X35_find_106)
theorem eu_X35_find_106 : u_X35_find_106 = du_X35_find_106 := Classical.choose_spec (⟨du_X35_find_106, rfl⟩ : ∃ f, f = du_X35_find_106)
def du_X35_find_45 (s : jS) (x0 x1 x3 x5 x6 x7 x8 y0 : Int) : Option (List Int ⊕ (List Int ⊕ (Int))) :=
  jlet (L2i (L_and (L_shr y0 (W32 (56 - (W32 (8 * (I_and x8 7)))))) 255)) fun v1 =>
  if v1 = 0 then
    u_X35_find_112 s x0 x1 x3 x5 x6 x7 x8
  else
    (jlt s 1000 (x0 + 39) 600 x5).bind fun v2 =>
    if x6 < v2 then
      (jlt s 1001 (x0 + 38) 9600 (W32 ((W32 (16 * x5)) + x6))).bind fun v3 =>
      if v3 = v1 then
        u_X35_find_107 s x0 x1 x3 x5 x6 x8 1
      else
        u_X35_find_106 s x0 x1 x3 x5 x6 x8
    else
      u_X35_find_106 s x0 x1 x3 x5 x6 x8
noncomputable def u_X35_find_45 : jS → Int → Int → Int → Int → Int → Int → Int → Int → Option (List Int ⊕ (List Int ⊕ (Int))) := Classical.choose (⟨du_X35_find_45, rfl⟩ : ∃ f, f = du_X35_find_45)
theorem eu_X35_find_45 : u_X35_find_45 = du_X35_find_45 := Classical.choose_spec (⟨du_X35_find_45, rfl⟩ : ∃ f, f = du_X35_find_45)
def b_X35_find_21 (s : jS) (x0 x1 x3 x5 x6 x7 x8 : Int) : Option (List Int ⊕ (List Int ⊕ (Int))) :=
  if x8 < 16 then
    if x7 = 0 then
      jinr (u_X35_find_118 s x0 x1 x3 x5 x6 x7)
    else
      if x8 < 8 then
        u_X35_find_45 s x0 x1 x3 x5 x6 x7 x8 x1
      else
        u_X35_find_45 s x0 x1 x3 x5 x6 x7 x8 x3
  else
    jinr (u_X35_find_118 s x0 x1 x3 x5 x6 x7)
def du_X35_find_21 (s : jS) (x0 x1 x3 x5 x6 x7 x8 : Int) : Option (List Int ⊕ (Int)) := jlpR (jc7 b_X35_find_21) [x0, x1, x3, x5, x6, x7, x8] s
noncomputable def u_X35_find_21 : jS → Int → Int → Int → Int → Int → Int → Int → Option (List Int ⊕ (Int)) := Classical.choose (⟨du_X35_find_21, rfl⟩ : ∃ f, f = du_X35_find_21)
theorem eu_X35_find_21 : u_X35_find_21 = du_X35_find_21 := Classical.choose_spec (⟨du_X35_find_21, rfl⟩ : ∃ f, f = du_X35_find_21)
def b_X35_find_3 (s : jS) (x0 x1 x3 x5 : Int) : Option (List Int ⊕ (Int)) :=
  if x5 < (jf s 39 x0 45) then
    u_X35_find_21 s x0 x1 x3 x5 0 1 0
  else
    jinr (some (-1))
def du_X35_find_3 (s : jS) (x0 x1 x3 x5 : Int) : Option (Int) := jlpR (jc4 b_X35_find_3) [x0, x1, x3, x5] s
noncomputable def u_X35_find_3 : jS → Int → Int → Int → Int → Option (Int) := Classical.choose (⟨du_X35_find_3, rfl⟩ : ∃ f, f = du_X35_find_3)
theorem eu_X35_find_3 : u_X35_find_3 = du_X35_find_3 := Classical.choose_spec (⟨du_X35_find_3, rfl⟩ : ∃ f, f = du_X35_find_3)
def dm_X35_find (s : jS) (x0 x1 x3 : Int) : Option (Int) :=
  u_X35_find_3 s x0 x1 x3 0
noncomputable def m_X35_find : jS → Int → Int → Int → Option (Int) := Classical.choose (⟨dm_X35_find, rfl⟩ : ∃ f, f = dm_X35_find)
theorem em_X35_find : m_X35_find = dm_X35_find := Classical.choose_spec (⟨dm_X35_find, rfl⟩ : ∃ f, f = dm_X35_find)
def b_X36_renew_47 (s : jS) (x0 x1 : Int) : Option ((jS × List Int) ⊕ (jS × Int)) :=
  if x1 < 4 then
    (jst s 1000 (x0 + 8) 4 x1 0).bind fun s1 =>
    some (.inl (s1, [x0, W32 (x1 + 1)]))
  else
    jinr (some (s, 0))
def du_X36_renew_47 (s : jS) (x0 x1 : Int) : Option (jS × Int) := jlpW (jc2 b_X36_renew_47) [x0, x1] s
noncomputable def u_X36_renew_47 : jS → Int → Int → Option (jS × Int) := Classical.choose (⟨du_X36_renew_47, rfl⟩ : ∃ f, f = du_X36_renew_47)
theorem eu_X36_renew_47 : u_X36_renew_47 = du_X36_renew_47 := Classical.choose_spec (⟨du_X36_renew_47, rfl⟩ : ∃ f, f = du_X36_renew_47)
def dm_X36_renew (s : jS) (x0 : Int) : Option (jS × Int) :=
  jls (jp s 40 x0 15 0) fun s1 =>
  jls (jp s1 40 x0 16 0) fun s2 =>
  jls (jp s2 40 x0 17 0) fun s3 =>
  jls (jp s3 40 x0 7 0) fun s4 =>
  jls (jp s4 40 x0 8 0) fun s5 =>
  jls (jp s5 40 x0 9 0) fun s6 =>
  jls (jp s6 40 x0 10 0) fun s7 =>
  jls (jp s7 40 x0 18 0) fun s8 =>
  (jzb 0).bind fun v9 =>
  jls (jp s8 40 x0 19 v9) fun s10 =>
  u_X36_renew_47 s10 x0 0
noncomputable def m_X36_renew : jS → Int → Option (jS × Int) := Classical.choose (⟨dm_X36_renew, rfl⟩ : ∃ f, f = dm_X36_renew)
theorem em_X36_renew : m_X36_renew = dm_X36_renew := Classical.choose_spec (⟨dm_X36_renew, rfl⟩ : ∃ f, f = dm_X36_renew)
def dm_X36_in (s : jS) (x0 x2 x4 : Int) : Option (Int) :=
  if (L_cmp x0 x2) < 0 then
    some (Wz 0)
  else
    if 0 < (L_cmp x0 x4) then
      some (Wz 0)
    else
      some (Wz 1)
noncomputable def m_X36_in : jS → Int → Int → Int → Option (Int) := Classical.choose (⟨dm_X36_in, rfl⟩ : ∃ f, f = dm_X36_in)
theorem em_X36_in : m_X36_in = dm_X36_in := Classical.choose_spec (⟨dm_X36_in, rfl⟩ : ∃ f, f = dm_X36_in)
def dm_X36_align (s : jS) (x0 x1 x2 : Int) : Option (jS × Int) :=
  (m_X36_in s x1 0 3).bind fun v1 =>
  if v1 = 0 then
    some (s, Wz 0)
  else
    (m_X36_in s x2 0 12).bind fun v2 =>
    if v2 = 0 then
      some (s, Wz 0)
    else
      (jst s 1000 (x0 + 8) 4 x1 x2).bind fun s3 =>
      (jzb 0).bind fun v4 =>
      jls (jp s3 40 x0 19 v4) fun s5 =>
      some (s5, Wz 1)
noncomputable def m_X36_align : jS → Int → Int → Int → Option (jS × Int) := Classical.choose (⟨dm_X36_align, rfl⟩ : ∃ f, f = dm_X36_align)
theorem em_X36_align : m_X36_align = dm_X36_align := Classical.choose_spec (⟨dm_X36_align, rfl⟩ : ∃ f, f = dm_X36_align)
def dm_X36_isPart (s : jS) (x0 x1 : Int) : Option (Int) :=
  (m_X36_in s x1 0 (W32 ((jf s 40 x0 15) - 1))).bind fun v1 =>
  some (Wz v1)
noncomputable def m_X36_isPart : jS → Int → Int → Option (Int) := Classical.choose (⟨dm_X36_isPart, rfl⟩ : ∃ f, f = dm_X36_isPart)
theorem em_X36_isPart : m_X36_isPart = dm_X36_isPart := Classical.choose_spec (⟨dm_X36_isPart, rfl⟩ : ∃ f, f = dm_X36_isPart)
def dm_X36_isLabel (s : jS) (x0 x1 : Int) : Option (Int) :=
  (m_X36_in s x1 0 (W32 ((jf s 40 x0 17) - 1))).bind fun v1 =>
  some (Wz v1)
noncomputable def m_X36_isLabel : jS → Int → Int → Option (Int) := Classical.choose (⟨dm_X36_isLabel, rfl⟩ : ∃ f, f = dm_X36_isLabel)
theorem em_X36_isLabel : m_X36_isLabel = dm_X36_isLabel := Classical.choose_spec (⟨dm_X36_isLabel, rfl⟩ : ∃ f, f = dm_X36_isLabel)
def dm_X36_isPiece (s : jS) (x0 x1 : Int) : Option (Int) :=
  (m_X36_in s x1 0 (W32 ((jf s 40 x0 16) - 1))).bind fun v1 =>
  some (Wz v1)
noncomputable def m_X36_isPiece : jS → Int → Int → Option (Int) := Classical.choose (⟨dm_X36_isPiece, rfl⟩ : ∃ f, f = dm_X36_isPiece)
theorem em_X36_isPiece : m_X36_isPiece = dm_X36_isPiece := Classical.choose_spec (⟨dm_X36_isPiece, rfl⟩ : ∃ f, f = dm_X36_isPiece)
def dm_X36_up (s : jS) (x0 x1 : Int) : Option (Int) :=
  some (I_shl (I_shr (W32 ((W32 (x0 + (I_shl 1 x1))) - 1)) x1) x1)
noncomputable def m_X36_up : jS → Int → Int → Option (Int) := Classical.choose (⟨dm_X36_up, rfl⟩ : ∃ f, f = dm_X36_up)
theorem em_X36_up : m_X36_up = dm_X36_up := Classical.choose_spec (⟨dm_X36_up, rfl⟩ : ∃ f, f = dm_X36_up)
def dm_X36_gp (s : jS) (x0 : Int) : Option (Int) :=
  (jlt s 1000 (x0 + 9) 4 2).bind fun v1 =>
  some (W32 (v1 + 2048))
noncomputable def m_X36_gp : jS → Int → Option (Int) := Classical.choose (⟨dm_X36_gp, rfl⟩ : ∃ f, f = dm_X36_gp)
theorem em_X36_gp : m_X36_gp = dm_X36_gp := Classical.choose_spec (⟨dm_X36_gp, rfl⟩ : ∃ f, f = dm_X36_gp)
def dm_J5_init (s : jS) (x0 : Int) : Option (jS × Int) :=
  none
noncomputable def m_J5_init : jS → Int → Option (jS × Int) := Classical.choose (⟨dm_J5_init, rfl⟩ : ∃ f, f = dm_J5_init)
theorem em_J5_init : m_J5_init = dm_J5_init := Classical.choose_spec (⟨dm_J5_init, rfl⟩ : ∃ f, f = dm_J5_init)
def dm_J5_init_2 (s : jS) (x0 x1 : Int) : Option (jS × Int) :=
  none
noncomputable def m_J5_init_2 : jS → Int → Int → Option (jS × Int) := Classical.choose (⟨dm_J5_init_2, rfl⟩ : ∃ f, f = dm_J5_init_2)
theorem em_J5_init_2 : m_J5_init_2 = dm_J5_init_2 := Classical.choose_spec (⟨dm_J5_init_2, rfl⟩ : ∃ f, f = dm_J5_init_2)
def dm_J6_init (s : jS) (x0 : Int) : Option (jS × Int) :=
  none
noncomputable def m_J6_init : jS → Int → Option (jS × Int) := Classical.choose (⟨dm_J6_init, rfl⟩ : ∃ f, f = dm_J6_init)
theorem em_J6_init : m_J6_init = dm_J6_init := Classical.choose_spec (⟨dm_J6_init, rfl⟩ : ∃ f, f = dm_J6_init)
def dm_J6_init_2 (s : jS) (x0 x1 : Int) : Option (jS × Int) :=
  none
noncomputable def m_J6_init_2 : jS → Int → Int → Option (jS × Int) := Classical.choose (⟨dm_J6_init_2, rfl⟩ : ∃ f, f = dm_J6_init_2)
theorem em_J6_init_2 : m_J6_init_2 = dm_J6_init_2 := Classical.choose_spec (⟨dm_J6_init_2, rfl⟩ : ∃ f, f = dm_J6_init_2)
def dm_J7_init (s : jS) (x0 x1 : Int) : Option (jS × Int) :=
  none
noncomputable def m_J7_init : jS → Int → Int → Option (jS × Int) := Classical.choose (⟨dm_J7_init, rfl⟩ : ∃ f, f = dm_J7_init)
theorem em_J7_init : m_J7_init = dm_J7_init := Classical.choose_spec (⟨dm_J7_init, rfl⟩ : ∃ f, f = dm_J7_init)
def dm_J7_init_2 (s : jS) (x0 : Int) : Option (jS × Int) :=
  none
noncomputable def m_J7_init_2 : jS → Int → Option (jS × Int) := Classical.choose (⟨dm_J7_init_2, rfl⟩ : ∃ f, f = dm_J7_init_2)
theorem em_J7_init_2 : m_J7_init_2 = dm_J7_init_2 := Classical.choose_spec (⟨dm_J7_init_2, rfl⟩ : ∃ f, f = dm_J7_init_2)
def dm_J8_init_2 (s : jS) (x0 x1 : Int) : Option (jS × Int) :=
  none
noncomputable def m_J8_init_2 : jS → Int → Int → Option (jS × Int) := Classical.choose (⟨dm_J8_init_2, rfl⟩ : ∃ f, f = dm_J8_init_2)
theorem em_J8_init_2 : m_J8_init_2 = dm_J8_init_2 := Classical.choose_spec (⟨dm_J8_init_2, rfl⟩ : ∃ f, f = dm_J8_init_2)
def dm_X44_byteAt (s : jS) (x0 x1 : Int) : Option (Int) :=
  if x1 < (jf s 53 x0 1) then
    (jld s 1001 (jf s 53 x0 0) x1).bind fun v1 =>
    some (I_and v1 255)
  else
    some (-1)
noncomputable def m_X44_byteAt : jS → Int → Int → Option (Int) := Classical.choose (⟨dm_X44_byteAt, rfl⟩ : ∃ f, f = dm_X44_byteAt)
theorem em_X44_byteAt : m_X44_byteAt = dm_X44_byteAt := Classical.choose_spec (⟨dm_X44_byteAt, rfl⟩ : ∃ f, f = dm_X44_byteAt)
def dm_X44_wrong (s : jS) (x0 x1 x2 : Int) : Option (jS × Int) :=
  jls (jp s 53 x0 12 x1) fun s1 =>
  jls (jp s1 53 x0 13 x2) fun s2 =>
  (jnx s2 2054).bind fun q3 =>
  some (q3.1, q3.2)
noncomputable def m_X44_wrong : jS → Int → Int → Int → Option (jS × Int) := Classical.choose (⟨dm_X44_wrong, rfl⟩ : ∃ f, f = dm_X44_wrong)
theorem em_X44_wrong : m_X44_wrong = dm_X44_wrong := Classical.choose_spec (⟨dm_X44_wrong, rfl⟩ : ∃ f, f = dm_X44_wrong)
def dm_X44_is (s : jS) (x0 x1 x2 x3 : Int) : Option (jS × Int) :=
  jls (jp s 53 x0 5 x1) fun s1 =>
  jls (jp s1 53 x0 7 x2) fun s2 =>
  jls (jp s2 53 x0 8 x3) fun s3 =>
  some (s3, 0)
noncomputable def m_X44_is : jS → Int → Int → Int → Int → Option (jS × Int) := Classical.choose (⟨dm_X44_is, rfl⟩ : ∃ f, f = dm_X44_is)
theorem em_X44_is : m_X44_is = dm_X44_is := Classical.choose_spec (⟨dm_X44_is, rfl⟩ : ∃ f, f = dm_X44_is)
def du_X44_digits_68 (s : jS) (x0 : Int) : Option (jS × Bool × Int) :=
  (m_X44_wrong s x0 3 (jf s 53 x0 2)).bind fun q1 =>
  jck0 q1.2 (some (q1.1, true, q1.2))
noncomputable def u_X44_digits_68 : jS → Int → Option (jS × Bool × Int) := Classical.choose (⟨du_X44_digits_68, rfl⟩ : ∃ f, f = du_X44_digits_68)
theorem eu_X44_digits_68 : u_X44_digits_68 = du_X44_digits_68 := Classical.choose_spec (⟨du_X44_digits_68, rfl⟩ : ∃ f, f = du_X44_digits_68)
def du_X44_digits_54 (s : jS) (x0 x1 x3 x4 : Int) : Option (jS × Bool × Int) :=
  if 0 < (L_cmp x4 4294967295) then
    u_X44_digits_68 s x0
  else
    if x3 = x1 then
      u_X44_digits_68 s x0
    else
      (m_X44_is s x0 2 (L2i x4) x3).bind fun q1 =>
      some (q1.1, false, 0)
noncomputable def u_X44_digits_54 : jS → Int → Int → Int → Int → Option (jS × Bool × Int) := Classical.choose (⟨du_X44_digits_54, rfl⟩ : ∃ f, f = du_X44_digits_54)
theorem eu_X44_digits_54 : u_X44_digits_54 = du_X44_digits_54 := Classical.choose_spec (⟨du_X44_digits_54, rfl⟩ : ∃ f, f = du_X44_digits_54)
def du_X44_digits_46 (s : jS) (x0 x1 x2 x3 y0 : Int) : Option ((jS × List Int) ⊕ (jS × Bool × Int)) :=
  some (.inl (s, [x0, x1, x2, W32 (x3 + 1), y0]))
noncomputable def u_X44_digits_46 : jS → Int → Int → Int → Int → Int → Option ((jS × List Int) ⊕ (jS × Bool × Int)) := Classical.choose (⟨du_X44_digits_46, rfl⟩ : ∃ f, f = du_X44_digits_46)
theorem eu_X44_digits_46 : u_X44_digits_46 = du_X44_digits_46 := Classical.choose_spec (⟨du_X44_digits_46, rfl⟩ : ∃ f, f = du_X44_digits_46)
def b_X44_digits_5 (s : jS) (x0 x1 x2 x3 x4 : Int) : Option ((jS × List Int) ⊕ (jS × Bool × Int)) :=
  (m_X44_byteAt s x0 x3).bind fun v1 =>
  (m_X11_hexOf s v1).bind fun v2 =>
  if v2 < x2 then
    if 0 < (L_cmp x4 4294967295) then
      u_X44_digits_46 s x0 x1 x2 x3 x4
    else
      (m_X44_byteAt s x0 x3).bind fun v3 =>
      (m_X11_hexOf s v3).bind fun v4 =>
      jlet (W64 ((W64 (x4 * x2)) + v4)) fun v5 =>
      u_X44_digits_46 s x0 x1 x2 x3 v5
  else
    jinr (u_X44_digits_54 s x0 x1 x3 x4)
def du_X44_digits_5 (s : jS) (x0 x1 x2 x3 x4 : Int) : Option (jS × Bool × Int) := jlpW (jc5 b_X44_digits_5) [x0, x1, x2, x3, x4] s
noncomputable def u_X44_digits_5 : jS → Int → Int → Int → Int → Int → Option (jS × Bool × Int) := Classical.choose (⟨du_X44_digits_5, rfl⟩ : ∃ f, f = du_X44_digits_5)
theorem eu_X44_digits_5 : u_X44_digits_5 = du_X44_digits_5 := Classical.choose_spec (⟨du_X44_digits_5, rfl⟩ : ∃ f, f = du_X44_digits_5)
def dm_X44_digits (s : jS) (x0 x1 x2 : Int) : Option (jS × Bool × Int) :=
  u_X44_digits_5 s x0 x1 x2 x1 0
noncomputable def m_X44_digits : jS → Int → Int → Int → Option (jS × Bool × Int) := Classical.choose (⟨dm_X44_digits, rfl⟩ : ∃ f, f = dm_X44_digits)
theorem em_X44_digits : m_X44_digits = dm_X44_digits := Classical.choose_spec (⟨dm_X44_digits, rfl⟩ : ∃ f, f = dm_X44_digits)
def du_X44_inside_104 (s : jS) (x1 : Int) : Option (jS × Int) :=
  some (s, W32 (x1 + 2))
noncomputable def u_X44_inside_104 : jS → Int → Option (jS × Int) := Classical.choose (⟨du_X44_inside_104, rfl⟩ : ∃ f, f = du_X44_inside_104)
theorem eu_X44_inside_104 : u_X44_inside_104 = du_X44_inside_104 := Classical.choose_spec (⟨du_X44_inside_104, rfl⟩ : ∃ f, f = du_X44_inside_104)
def du_X44_inside_59 (s : jS) (x1 x4 y0 y1 : Int) : Option (jS × Int) :=
  jls (jp s 53 y1 7 y0) fun s1 =>
  if x4 = 110 then
    u_X44_inside_104 s1 x1
  else
    if x4 = 116 then
      u_X44_inside_104 s1 x1
    else
      if x4 = 48 then
        u_X44_inside_104 s1 x1
      else
        if x4 = 92 then
          u_X44_inside_104 s1 x1
        else
          if x4 = 39 then
            u_X44_inside_104 s1 x1
          else
            if x4 = 34 then
              u_X44_inside_104 s1 x1
            else
              some (s1, (-1))
noncomputable def u_X44_inside_59 : jS → Int → Int → Int → Int → Option (jS × Int) := Classical.choose (⟨du_X44_inside_59, rfl⟩ : ∃ f, f = du_X44_inside_59)
theorem eu_X44_inside_59 : u_X44_inside_59 = du_X44_inside_59 := Classical.choose_spec (⟨du_X44_inside_59, rfl⟩ : ∃ f, f = du_X44_inside_59)
def dm_X44_inside (s : jS) (x0 x1 x2 : Int) : Option (jS × Int) :=
  (m_X44_byteAt s x0 x1).bind fun v1 =>
  if v1 = 92 then
    (m_X44_byteAt s x0 (W32 (x1 + 1))).bind fun v2 =>
    if v2 = 110 then
      u_X44_inside_59 s x1 v2 10 x0
    else
      if v2 = 116 then
        u_X44_inside_59 s x1 v2 9 x0
      else
        if v2 = 48 then
          u_X44_inside_59 s x1 v2 0 x0
        else
          u_X44_inside_59 s x1 v2 v2 x0
  else
    jls (jp s 53 x0 7 v1) fun s3 =>
    if v1 < 32 then
      some (s3, (-1))
    else
      if 126 < v1 then
        some (s3, (-1))
      else
        if v1 = x2 then
          some (s3, (-1))
        else
          some (s3, W32 (x1 + 1))
noncomputable def m_X44_inside : jS → Int → Int → Int → Option (jS × Int) := Classical.choose (⟨dm_X44_inside, rfl⟩ : ∃ f, f = dm_X44_inside)
theorem em_X44_inside : m_X44_inside = dm_X44_inside := Classical.choose_spec (⟨dm_X44_inside, rfl⟩ : ∃ f, f = dm_X44_inside)
def du_X44_sign_125 (s : jS) (x0 : Int) : Option (jS × Bool × Int) :=
  (m_X44_wrong s x0 1 (jf s 53 x0 2)).bind fun q1 =>
  jck0 q1.2 (some (q1.1, true, q1.2))
noncomputable def u_X44_sign_125 : jS → Int → Option (jS × Bool × Int) := Classical.choose (⟨du_X44_sign_125, rfl⟩ : ∃ f, f = du_X44_sign_125)
theorem eu_X44_sign_125 : u_X44_sign_125 = du_X44_sign_125 := Classical.choose_spec (⟨du_X44_sign_125, rfl⟩ : ∃ f, f = du_X44_sign_125)
def du_X44_sign_110 (s : jS) (x0 x1 : Int) : Option (jS × Bool × Int) :=
  (m_X44_is s x0 5 x1 (W32 ((jf s 53 x0 2) + 1))).bind fun q1 =>
  some (q1.1, false, 0)
noncomputable def u_X44_sign_110 : jS → Int → Int → Option (jS × Bool × Int) := Classical.choose (⟨du_X44_sign_110, rfl⟩ : ∃ f, f = du_X44_sign_110)
theorem eu_X44_sign_110 : u_X44_sign_110 = du_X44_sign_110 := Classical.choose_spec (⟨du_X44_sign_110, rfl⟩ : ∃ f, f = du_X44_sign_110)
def du_X44_sign_53 (s : jS) (x0 y0 y1 y2 : Int) : Option (jS × Bool × Int) :=
  (m_X44_is s y2 y1 y0 (W32 ((jf s 53 x0 2) + 2))).bind fun q1 =>
  some (q1.1, false, 0)
noncomputable def u_X44_sign_53 : jS → Int → Int → Int → Int → Option (jS × Bool × Int) := Classical.choose (⟨du_X44_sign_53, rfl⟩ : ∃ f, f = du_X44_sign_53)
theorem eu_X44_sign_53 : u_X44_sign_53 = du_X44_sign_53 := Classical.choose_spec (⟨du_X44_sign_53, rfl⟩ : ∃ f, f = du_X44_sign_53)
def du_X44_sign_31 (s : jS) (x0 x1 y0 : Int) : Option (jS × Bool × Int) :=
  if y0 = 0 then
    if x1 = 44 then
      u_X44_sign_110 s x0 x1
    else
      if x1 = 40 then
        u_X44_sign_110 s x0 x1
      else
        if x1 = 41 then
          u_X44_sign_110 s x0 x1
        else
          if x1 = 58 then
            u_X44_sign_110 s x0 x1
          else
            if x1 = 126 then
              u_X44_sign_110 s x0 x1
            else
              if x1 < 128 then
                (m_X11_sortOf s x1).bind fun v1 =>
                if v1 = (-1) then
                  u_X44_sign_125 s x0
                else
                  u_X44_sign_110 s x0 x1
              else
                u_X44_sign_125 s x0
  else
    if x1 = 60 then
      u_X44_sign_53 s x0 256 5 x0
    else
      u_X44_sign_53 s x0 257 5 x0
noncomputable def u_X44_sign_31 : jS → Int → Int → Int → Option (jS × Bool × Int) := Classical.choose (⟨du_X44_sign_31, rfl⟩ : ∃ f, f = du_X44_sign_31)
theorem eu_X44_sign_31 : u_X44_sign_31 = du_X44_sign_31 := Classical.choose_spec (⟨du_X44_sign_31, rfl⟩ : ∃ f, f = du_X44_sign_31)
def du_X44_sign_30 (s : jS) (x0 x1 : Int) : Option (jS × Bool × Int) :=
  u_X44_sign_31 s x0 x1 0
noncomputable def u_X44_sign_30 : jS → Int → Int → Option (jS × Bool × Int) := Classical.choose (⟨du_X44_sign_30, rfl⟩ : ∃ f, f = du_X44_sign_30)
theorem eu_X44_sign_30 : u_X44_sign_30 = du_X44_sign_30 := Classical.choose_spec (⟨du_X44_sign_30, rfl⟩ : ∃ f, f = du_X44_sign_30)
def du_X44_sign_12 (s : jS) (x0 x1 : Int) : Option (jS × Bool × Int) :=
  (m_X44_byteAt s x0 (W32 ((jf s 53 x0 2) + 1))).bind fun v1 =>
  if v1 = x1 then
    u_X44_sign_31 s x0 x1 1
  else
    u_X44_sign_30 s x0 x1
noncomputable def u_X44_sign_12 : jS → Int → Int → Option (jS × Bool × Int) := Classical.choose (⟨du_X44_sign_12, rfl⟩ : ∃ f, f = du_X44_sign_12)
theorem eu_X44_sign_12 : u_X44_sign_12 = du_X44_sign_12 := Classical.choose_spec (⟨du_X44_sign_12, rfl⟩ : ∃ f, f = du_X44_sign_12)
def dm_X44_sign (s : jS) (x0 x1 : Int) : Option (jS × Bool × Int) :=
  if x1 = 60 then
    u_X44_sign_12 s x0 x1
  else
    if x1 = 62 then
      u_X44_sign_12 s x0 x1
    else
      u_X44_sign_30 s x0 x1
noncomputable def m_X44_sign : jS → Int → Int → Option (jS × Bool × Int) := Classical.choose (⟨dm_X44_sign, rfl⟩ : ∃ f, f = dm_X44_sign)
theorem em_X44_sign : m_X44_sign = dm_X44_sign := Classical.choose_spec (⟨dm_X44_sign, rfl⟩ : ∃ f, f = dm_X44_sign)
def dm_X44_room (s : jS) (x0 x1 : Int) : Option (jS × Bool × Int) :=
  (jrd s 16 (jf s 53 x0 10) 5).bind fun v1 =>
  if v1 = 400 then
    (m_X44_wrong s x0 8 x1).bind fun q2 =>
    jck0 q2.2 (some (q2.1, true, q2.2))
  else
    some (s, false, 0)
noncomputable def m_X44_room : jS → Int → Int → Option (jS × Bool × Int) := Classical.choose (⟨dm_X44_room, rfl⟩ : ∃ f, f = dm_X44_room)
theorem em_X44_room : m_X44_room = dm_X44_room := Classical.choose_spec (⟨dm_X44_room, rfl⟩ : ∃ f, f = dm_X44_room)
def dm_X44_take (s : jS) (x0 : Int) : Option (jS × Int) :=
  jls (jp s 53 x0 2 (jf s 53 x0 8)) fun s1 =>
  (jzb 0).bind fun v2 =>
  jls (jp s1 53 x0 4 v2) fun s3 =>
  some (s3, 0)
noncomputable def m_X44_take : jS → Int → Option (jS × Int) := Classical.choose (⟨dm_X44_take, rfl⟩ : ∃ f, f = dm_X44_take)
theorem em_X44_take : m_X44_take = dm_X44_take := Classical.choose_spec (⟨dm_X44_take, rfl⟩ : ∃ f, f = dm_X44_take)
def dm_X44_isFirst (s : jS) (x0 : Int) : Option (Int) :=
  if (jf s 53 x0 5) = 5 then
    if (jf s 53 x0 7) = 40 then
      some (Wz 1)
    else
      if (jf s 53 x0 7) = 45 then
        some (Wz 1)
      else
        if (jf s 53 x0 7) = 126 then
          some (Wz 1)
        else
          if (jf s 53 x0 7) = 37 then
            some (Wz 1)
          else
            some (Wz 0)
  else
    if (jf s 53 x0 5) = 0 then
      some (Wz 0)
    else
      some (Wz 1)
noncomputable def m_X44_isFirst : jS → Int → Option (Int) := Classical.choose (⟨dm_X44_isFirst, rfl⟩ : ∃ f, f = dm_X44_isFirst)
theorem em_X44_isFirst : m_X44_isFirst = dm_X44_isFirst := Classical.choose_spec (⟨dm_X44_isFirst, rfl⟩ : ∃ f, f = dm_X44_isFirst)
def du_X44_count_24 (s : jS) (x0 x1 : Int) : Option (jS × Bool × Int) :=
  (m_X44_wrong s x0 8 x1).bind fun q1 =>
  jck0 q1.2 (some (q1.1, true, q1.2))
noncomputable def u_X44_count_24 : jS → Int → Int → Option (jS × Bool × Int) := Classical.choose (⟨du_X44_count_24, rfl⟩ : ∃ f, f = du_X44_count_24)
theorem eu_X44_count_24 : u_X44_count_24 = du_X44_count_24 := Classical.choose_spec (⟨du_X44_count_24, rfl⟩ : ∃ f, f = du_X44_count_24)
def dm_X44_count (s : jS) (x0 x1 : Int) : Option (jS × Bool × Int) :=
  if (jf s 53 x0 14) = 2000 then
    u_X44_count_24 s x0 x1
  else
    if (W32 ((jf s 53 x0 14) - (jf s 53 x0 15))) = 60 then
      u_X44_count_24 s x0 x1
    else
      jls (jp s 53 x0 14 (W32 ((jf s 53 x0 14) + 1))) fun s1 =>
      some (s1, false, 0)
noncomputable def m_X44_count : jS → Int → Int → Option (jS × Bool × Int) := Classical.choose (⟨dm_X44_count, rfl⟩ : ∃ f, f = dm_X44_count)
theorem em_X44_count : m_X44_count = dm_X44_count := Classical.choose_spec (⟨dm_X44_count, rfl⟩ : ∃ f, f = dm_X44_count)
def dm_J9_init (s : jS) (x0 : Int) : Option (jS × Int) :=
  none
noncomputable def m_J9_init : jS → Int → Option (jS × Int) := Classical.choose (⟨dm_J9_init, rfl⟩ : ∃ f, f = dm_J9_init)
theorem em_J9_init : m_J9_init = dm_J9_init := Classical.choose_spec (⟨dm_J9_init, rfl⟩ : ∃ f, f = dm_J9_init)
def dm_J9_init_2 (s : jS) (x0 x1 : Int) : Option (jS × Int) :=
  none
noncomputable def m_J9_init_2 : jS → Int → Int → Option (jS × Int) := Classical.choose (⟨dm_J9_init_2, rfl⟩ : ∃ f, f = dm_J9_init_2)
theorem em_J9_init_2 : m_J9_init_2 = dm_J9_init_2 := Classical.choose_spec (⟨dm_J9_init_2, rfl⟩ : ∃ f, f = dm_J9_init_2)
def b_J11_signedHashCode_8 (s : jS) (x0 x1 x4 x5 : Int) : Option (List Int ⊕ (Int)) :=
  if x5 < x4 then
    (jldE s 1001 x1 x5).bind fun v1 =>
    jlet (W32 ((W32 (31 * x0)) + (I_and v1 255))) fun v2 =>
    some (.inl [v2, x1, x4, W32 (x5 + 1)])
  else
    jinr (some x0)
def du_J11_signedHashCode_8 (s : jS) (x0 x1 x4 x5 : Int) : Option (Int) := jlpR (jc4 b_J11_signedHashCode_8) [x0, x1, x4, x5] s
noncomputable def u_J11_signedHashCode_8 : jS → Int → Int → Int → Int → Option (Int) := Classical.choose (⟨du_J11_signedHashCode_8, rfl⟩ : ∃ f, f = du_J11_signedHashCode_8)
theorem eu_J11_signedHashCode_8 : u_J11_signedHashCode_8 = du_J11_signedHashCode_8 := Classical.choose_spec (⟨du_J11_signedHashCode_8, rfl⟩ : ∃ f, f = du_J11_signedHashCode_8)
def dm_J11_signedHashCode (s : jS) (x0 x1 x2 x3 : Int) : Option (Int) :=
  jlet (W32 (x2 + x3)) fun v1 =>
  u_J11_signedHashCode_8 s x0 x1 v1 x2
noncomputable def m_J11_signedHashCode : jS → Int → Int → Int → Int → Option (Int) := Classical.choose (⟨dm_J11_signedHashCode, rfl⟩ : ∃ f, f = dm_J11_signedHashCode)
theorem em_J11_signedHashCode : m_J11_signedHashCode = dm_J11_signedHashCode := Classical.choose_spec (⟨dm_J11_signedHashCode, rfl⟩ : ∃ f, f = dm_J11_signedHashCode)
def b_J11_hashCode_8 (s : jS) (x0 x1 x4 x5 : Int) : Option (List Int ⊕ (Int)) :=
  if x5 < x4 then
    (jld s 1005 x1 x5).bind fun v1 =>
    jlet (W32 ((W32 (31 * x0)) + v1)) fun v2 =>
    some (.inl [v2, x1, x4, W32 (x5 + 1)])
  else
    jinr (some x0)
def du_J11_hashCode_8 (s : jS) (x0 x1 x4 x5 : Int) : Option (Int) := jlpR (jc4 b_J11_hashCode_8) [x0, x1, x4, x5] s
noncomputable def u_J11_hashCode_8 : jS → Int → Int → Int → Int → Option (Int) := Classical.choose (⟨du_J11_hashCode_8, rfl⟩ : ∃ f, f = du_J11_hashCode_8)
theorem eu_J11_hashCode_8 : u_J11_hashCode_8 = du_J11_hashCode_8 := Classical.choose_spec (⟨du_J11_hashCode_8, rfl⟩ : ∃ f, f = du_J11_hashCode_8)
def dm_J11_hashCode (s : jS) (x0 x1 x2 x3 : Int) : Option (Int) :=
  jlet (W32 (x2 + x3)) fun v1 =>
  u_J11_hashCode_8 s x0 x1 v1 x2
noncomputable def m_J11_hashCode : jS → Int → Int → Int → Int → Option (Int) := Classical.choose (⟨dm_J11_hashCode, rfl⟩ : ∃ f, f = dm_J11_hashCode)
theorem em_J11_hashCode : m_J11_hashCode = dm_J11_hashCode := Classical.choose_spec (⟨dm_J11_hashCode, rfl⟩ : ∃ f, f = dm_J11_hashCode)
def b_J11_hashCode_2_8 (s : jS) (x0 x1 x4 x5 : Int) : Option (List Int ⊕ (Int)) :=
  if x5 < x4 then
    (jldE s 1001 x1 x5).bind fun v1 =>
    jlet (W32 ((W32 (31 * x0)) + v1)) fun v2 =>
    some (.inl [v2, x1, x4, W32 (x5 + 1)])
  else
    jinr (some x0)
def du_J11_hashCode_2_8 (s : jS) (x0 x1 x4 x5 : Int) : Option (Int) := jlpR (jc4 b_J11_hashCode_2_8) [x0, x1, x4, x5] s
noncomputable def u_J11_hashCode_2_8 : jS → Int → Int → Int → Int → Option (Int) := Classical.choose (⟨du_J11_hashCode_2_8, rfl⟩ : ∃ f, f = du_J11_hashCode_2_8)
theorem eu_J11_hashCode_2_8 : u_J11_hashCode_2_8 = du_J11_hashCode_2_8 := Classical.choose_spec (⟨du_J11_hashCode_2_8, rfl⟩ : ∃ f, f = du_J11_hashCode_2_8)
def dm_J11_hashCode_2 (s : jS) (x0 x1 x2 x3 : Int) : Option (Int) :=
  jlet (W32 (x2 + x3)) fun v1 =>
  u_J11_hashCode_2_8 s x0 x1 v1 x2
noncomputable def m_J11_hashCode_2 : jS → Int → Int → Int → Int → Option (Int) := Classical.choose (⟨dm_J11_hashCode_2, rfl⟩ : ∃ f, f = dm_J11_hashCode_2)
theorem em_J11_hashCode_2 : m_J11_hashCode_2 = dm_J11_hashCode_2 := Classical.choose_spec (⟨dm_J11_hashCode_2, rfl⟩ : ∃ f, f = dm_J11_hashCode_2)
def b_J11_hashCode_3_8 (s : jS) (x0 x1 x4 x5 : Int) : Option (List Int ⊕ (Int)) :=
  if x5 < x4 then
    (jld s 1003 x1 x5).bind fun v1 =>
    jlet (W32 ((W32 (31 * x0)) + v1)) fun v2 =>
    some (.inl [v2, x1, x4, W32 (x5 + 1)])
  else
    jinr (some x0)
def du_J11_hashCode_3_8 (s : jS) (x0 x1 x4 x5 : Int) : Option (Int) := jlpR (jc4 b_J11_hashCode_3_8) [x0, x1, x4, x5] s
noncomputable def u_J11_hashCode_3_8 : jS → Int → Int → Int → Int → Option (Int) := Classical.choose (⟨du_J11_hashCode_3_8, rfl⟩ : ∃ f, f = du_J11_hashCode_3_8)
theorem eu_J11_hashCode_3_8 : u_J11_hashCode_3_8 = du_J11_hashCode_3_8 := Classical.choose_spec (⟨du_J11_hashCode_3_8, rfl⟩ : ∃ f, f = du_J11_hashCode_3_8)
def dm_J11_hashCode_3 (s : jS) (x0 x1 x2 x3 : Int) : Option (Int) :=
  jlet (W32 (x2 + x3)) fun v1 =>
  u_J11_hashCode_3_8 s x0 x1 v1 x2
noncomputable def m_J11_hashCode_3 : jS → Int → Int → Int → Int → Option (Int) := Classical.choose (⟨dm_J11_hashCode_3, rfl⟩ : ∃ f, f = dm_J11_hashCode_3)
theorem em_J11_hashCode_3 : m_J11_hashCode_3 = dm_J11_hashCode_3 := Classical.choose_spec (⟨dm_J11_hashCode_3, rfl⟩ : ∃ f, f = dm_J11_hashCode_3)
def b_J11_hashCode_4_8 (s : jS) (x0 x1 x4 x5 : Int) : Option (List Int ⊕ (Int)) :=
  if x5 < x4 then
    (jld s 1000 x1 x5).bind fun v1 =>
    jlet (W32 ((W32 (31 * x0)) + v1)) fun v2 =>
    some (.inl [v2, x1, x4, W32 (x5 + 1)])
  else
    jinr (some x0)
def du_J11_hashCode_4_8 (s : jS) (x0 x1 x4 x5 : Int) : Option (Int) := jlpR (jc4 b_J11_hashCode_4_8) [x0, x1, x4, x5] s
noncomputable def u_J11_hashCode_4_8 : jS → Int → Int → Int → Int → Option (Int) := Classical.choose (⟨du_J11_hashCode_4_8, rfl⟩ : ∃ f, f = du_J11_hashCode_4_8)
theorem eu_J11_hashCode_4_8 : u_J11_hashCode_4_8 = du_J11_hashCode_4_8 := Classical.choose_spec (⟨du_J11_hashCode_4_8, rfl⟩ : ∃ f, f = du_J11_hashCode_4_8)
def dm_J11_hashCode_4 (s : jS) (x0 x1 x2 x3 : Int) : Option (Int) :=
  jlet (W32 (x2 + x3)) fun v1 =>
  u_J11_hashCode_4_8 s x0 x1 v1 x2
noncomputable def m_J11_hashCode_4 : jS → Int → Int → Int → Int → Option (Int) := Classical.choose (⟨dm_J11_hashCode_4, rfl⟩ : ∃ f, f = dm_J11_hashCode_4)
theorem em_J11_hashCode_4 : m_J11_hashCode_4 = dm_J11_hashCode_4 := Classical.choose_spec (⟨dm_J11_hashCode_4, rfl⟩ : ∃ f, f = dm_J11_hashCode_4)
def dm_J13_copyOf (s : jS) (x0 x1 : Int) : Option (jS × Int) :=
  (jlnE s 1001 x0).bind fun v1 =>
  if x1 = v1 then
    (jcln s x0).bind fun q2 =>
    jkk q2.1 [1001, 4001] q2.2 <|
    some (q2.1, q2.2)
  else
    (jna s 1001 x1 0).bind fun q3 =>
    (jlnE q3.1 1001 x0).bind fun v4 =>
    (jacp q3.1 x0 0 q3.2 0 (jmi v4 x1)).bind fun s5 =>
    some (s5, q3.2)
noncomputable def m_J13_copyOf : jS → Int → Int → Option (jS × Int) := Classical.choose (⟨dm_J13_copyOf, rfl⟩ : ∃ f, f = dm_J13_copyOf)
theorem em_J13_copyOf : m_J13_copyOf = dm_J13_copyOf := Classical.choose_spec (⟨dm_J13_copyOf, rfl⟩ : ∃ f, f = dm_J13_copyOf)
def dm_J15_canEncode (s : jS) (x0 : Int) : Option (Int) :=
  if 255 < x0 then
    some (Wz 0)
  else
    some (Wz 1)
noncomputable def m_J15_canEncode : jS → Int → Option (Int) := Classical.choose (⟨dm_J15_canEncode, rfl⟩ : ∃ f, f = dm_J15_canEncode)
theorem em_J15_canEncode : m_J15_canEncode = dm_J15_canEncode := Classical.choose_spec (⟨dm_J15_canEncode, rfl⟩ : ∃ f, f = dm_J15_canEncode)
def b_J15_equals_9 (s : jS) (x0 x1 x2 : Int) : Option (List Int ⊕ (Int)) :=
  (jlnE s 1001 x0).bind fun v1 =>
  if x2 < v1 then
    (jldE s 1001 x0 x2).bind fun v2 =>
    (jldE s 1001 x1 x2).bind fun v3 =>
    if v2 = v3 then
      some (.inl [x0, x1, W32 (x2 + 1)])
    else
      jinr (some (Wz 0))
  else
    jinr (some (Wz 1))
def du_J15_equals_9 (s : jS) (x0 x1 x2 : Int) : Option (Int) := jlpR (jc3 b_J15_equals_9) [x0, x1, x2] s
noncomputable def u_J15_equals_9 : jS → Int → Int → Int → Option (Int) := Classical.choose (⟨du_J15_equals_9, rfl⟩ : ∃ f, f = du_J15_equals_9)
theorem eu_J15_equals_9 : u_J15_equals_9 = du_J15_equals_9 := Classical.choose_spec (⟨du_J15_equals_9, rfl⟩ : ∃ f, f = du_J15_equals_9)
def dm_J15_equals (s : jS) (x0 x1 : Int) : Option (Int) :=
  (jlnE s 1001 x0).bind fun v1 =>
  (jlnE s 1001 x1).bind fun v2 =>
  if v1 = v2 then
    u_J15_equals_9 s x0 x1 0
  else
    some (Wz 0)
noncomputable def m_J15_equals : jS → Int → Int → Option (Int) := Classical.choose (⟨dm_J15_equals, rfl⟩ : ∃ f, f = dm_J15_equals)
theorem em_J15_equals : m_J15_equals = dm_J15_equals := Classical.choose_spec (⟨dm_J15_equals, rfl⟩ : ∃ f, f = dm_J15_equals)
def du_J16_stringSize_42 (s : jS) (x1 : Int) : Option (Int) :=
  some (W32 (10 + x1))
noncomputable def u_J16_stringSize_42 : jS → Int → Option (Int) := Classical.choose (⟨du_J16_stringSize_42, rfl⟩ : ∃ f, f = du_J16_stringSize_42)
theorem eu_J16_stringSize_42 : u_J16_stringSize_42 = du_J16_stringSize_42 := Classical.choose_spec (⟨du_J16_stringSize_42, rfl⟩ : ∃ f, f = du_J16_stringSize_42)
def du_J16_stringSize_27 (s : jS) (x1 x3 : Int) : Option (Int) :=
  some (W32 (x3 + x1))
noncomputable def u_J16_stringSize_27 : jS → Int → Int → Option (Int) := Classical.choose (⟨du_J16_stringSize_27, rfl⟩ : ∃ f, f = du_J16_stringSize_27)
theorem eu_J16_stringSize_27 : u_J16_stringSize_27 = du_J16_stringSize_27 := Classical.choose_spec (⟨du_J16_stringSize_27, rfl⟩ : ∃ f, f = du_J16_stringSize_27)
def b_J16_stringSize_16 (s : jS) (x0 x1 x2 x3 : Int) : Option (List Int ⊕ (Int)) :=
  if x3 < 10 then
    if x2 < x0 then
      jinr (u_J16_stringSize_27 s x1 x3)
    else
      jlet (W32 (10 * x2)) fun v1 =>
      some (.inl [x0, x1, v1, W32 (x3 + 1)])
  else
    jinr (u_J16_stringSize_42 s x1)
def du_J16_stringSize_16 (s : jS) (x0 x1 x2 x3 : Int) : Option (Int) := jlpR (jc4 b_J16_stringSize_16) [x0, x1, x2, x3] s
noncomputable def u_J16_stringSize_16 : jS → Int → Int → Int → Int → Option (Int) := Classical.choose (⟨du_J16_stringSize_16, rfl⟩ : ∃ f, f = du_J16_stringSize_16)
theorem eu_J16_stringSize_16 : u_J16_stringSize_16 = du_J16_stringSize_16 := Classical.choose_spec (⟨du_J16_stringSize_16, rfl⟩ : ∃ f, f = du_J16_stringSize_16)
def du_J16_stringSize_11 (s : jS) (x0 x1 : Int) : Option (Int) :=
  u_J16_stringSize_16 s x0 x1 (-10) 1
noncomputable def u_J16_stringSize_11 : jS → Int → Int → Option (Int) := Classical.choose (⟨du_J16_stringSize_11, rfl⟩ : ∃ f, f = du_J16_stringSize_11)
theorem eu_J16_stringSize_11 : u_J16_stringSize_11 = du_J16_stringSize_11 := Classical.choose_spec (⟨du_J16_stringSize_11, rfl⟩ : ∃ f, f = du_J16_stringSize_11)
def dm_J16_stringSize (s : jS) (x0 : Int) : Option (Int) :=
  if x0 < 0 then
    u_J16_stringSize_11 s x0 1
  else
    jlet (W32 (-x0)) fun v1 =>
    u_J16_stringSize_11 s v1 0
noncomputable def m_J16_stringSize : jS → Int → Option (Int) := Classical.choose (⟨dm_J16_stringSize, rfl⟩ : ∃ f, f = dm_J16_stringSize)
theorem em_J16_stringSize : m_J16_stringSize = dm_J16_stringSize := Classical.choose_spec (⟨dm_J16_stringSize, rfl⟩ : ∃ f, f = dm_J16_stringSize)
def du_J16_getChars_104 (s : jS) (x2 x5 x6 : Int) : Option (jS × Int) :=
  if x6 = 0 then
    some (s, x5)
  else
    (jsa s 1001 x2 (W32 (x5 + (-1))) (W8 45)).bind fun s1 =>
    some (s1, W32 (x5 + (-1)))
noncomputable def u_J16_getChars_104 : jS → Int → Int → Int → Option (jS × Int) := Classical.choose (⟨du_J16_getChars_104, rfl⟩ : ∃ f, f = du_J16_getChars_104)
theorem eu_J16_getChars_104 : u_J16_getChars_104 = du_J16_getChars_104 := Classical.choose_spec (⟨du_J16_getChars_104, rfl⟩ : ∃ f, f = du_J16_getChars_104)
def du_J16_getChars_72 (s : jS) (x0 x2 x5 x6 : Int) : Option (jS × Int) :=
  (jldE s 1001 (jc s 1000) (W32 (-x0))).bind fun v1 =>
  (jsa s 1001 x2 (W32 (x5 + (-1))) (W8 v1)).bind fun s2 =>
  if x0 < (-9) then
    (jldE s2 1001 (jc s2 1001) (W32 (-x0))).bind fun v3 =>
    (jsa s2 1001 x2 (W32 ((W32 (x5 + (-1))) + (-1))) (W8 v3)).bind fun s4 =>
    u_J16_getChars_104 s4 x2 (W32 ((W32 (x5 + (-1))) + (-1))) x6
  else
    u_J16_getChars_104 s2 x2 (W32 (x5 + (-1))) x6
noncomputable def u_J16_getChars_72 : jS → Int → Int → Int → Int → Option (jS × Int) := Classical.choose (⟨du_J16_getChars_72, rfl⟩ : ∃ f, f = du_J16_getChars_72)
theorem eu_J16_getChars_72 : u_J16_getChars_72 = du_J16_getChars_72 := Classical.choose_spec (⟨du_J16_getChars_72, rfl⟩ : ∃ f, f = du_J16_getChars_72)
def b_J16_getChars_22 (s : jS) (x0 x2 x5 x6 : Int) : Option ((jS × List Int) ⊕ (jS × Int)) :=
  if (-100) < x0 then
    jinr (u_J16_getChars_72 s x0 x2 x5 x6)
  else
    (jdv 100 (I_div x0 100)).bind fun v1 =>
    jlet (W32 ((W32 (v1 * 100)) - x0)) fun v2 =>
    (jldE s 1001 (jc s 1000) v2).bind fun v3 =>
    (jsa s 1001 x2 (W32 (x5 + (-1))) (W8 v3)).bind fun s4 =>
    (jldE s4 1001 (jc s4 1001) v2).bind fun v5 =>
    (jsa s4 1001 x2 (W32 ((W32 (x5 + (-1))) + (-1))) (W8 v5)).bind fun s6 =>
    some (.inl (s6, [v1, x2, W32 ((W32 (x5 + (-1))) + (-1)), x6]))
def du_J16_getChars_22 (s : jS) (x0 x2 x5 x6 : Int) : Option (jS × Int) := jlpW (jc4 b_J16_getChars_22) [x0, x2, x5, x6] s
noncomputable def u_J16_getChars_22 : jS → Int → Int → Int → Int → Option (jS × Int) := Classical.choose (⟨du_J16_getChars_22, rfl⟩ : ∃ f, f = du_J16_getChars_22)
theorem eu_J16_getChars_22 : u_J16_getChars_22 = du_J16_getChars_22 := Classical.choose_spec (⟨du_J16_getChars_22, rfl⟩ : ∃ f, f = du_J16_getChars_22)
def du_J16_getChars_12 (s : jS) (x0 x2 x5 y0 : Int) : Option (jS × Int) :=
  if y0 = 0 then
    jlet (W32 (-x0)) fun v1 =>
    u_J16_getChars_22 s v1 x2 x5 y0
  else
    u_J16_getChars_22 s x0 x2 x5 y0
noncomputable def u_J16_getChars_12 : jS → Int → Int → Int → Int → Option (jS × Int) := Classical.choose (⟨du_J16_getChars_12, rfl⟩ : ∃ f, f = du_J16_getChars_12)
theorem eu_J16_getChars_12 : u_J16_getChars_12 = du_J16_getChars_12 := Classical.choose_spec (⟨du_J16_getChars_12, rfl⟩ : ∃ f, f = du_J16_getChars_12)
def dm_J16_getChars (s : jS) (x0 x1 x2 : Int) : Option (jS × Int) :=
  if x0 < 0 then
    u_J16_getChars_12 s x0 x2 x1 1
  else
    u_J16_getChars_12 s x0 x2 x1 0
noncomputable def m_J16_getChars : jS → Int → Int → Int → Option (jS × Int) := Classical.choose (⟨dm_J16_getChars, rfl⟩ : ∃ f, f = dm_J16_getChars)
theorem em_J16_getChars : m_J16_getChars = dm_J16_getChars := Classical.choose_spec (⟨dm_J16_getChars, rfl⟩ : ∃ f, f = dm_J16_getChars)
def du_J16_numberOfLeadingZeros_73 (s : jS) (x0 x1 : Int) : Option (Int) :=
  some (W32 (x1 - (I_ushr x0 1)))
noncomputable def u_J16_numberOfLeadingZeros_73 : jS → Int → Int → Option (Int) := Classical.choose (⟨du_J16_numberOfLeadingZeros_73, rfl⟩ : ∃ f, f = du_J16_numberOfLeadingZeros_73)
theorem eu_J16_numberOfLeadingZeros_73 : u_J16_numberOfLeadingZeros_73 = du_J16_numberOfLeadingZeros_73 := Classical.choose_spec (⟨du_J16_numberOfLeadingZeros_73, rfl⟩ : ∃ f, f = du_J16_numberOfLeadingZeros_73)
def du_J16_numberOfLeadingZeros_61 (s : jS) (x0 x1 : Int) : Option (Int) :=
  if x0 < 4 then
    u_J16_numberOfLeadingZeros_73 s x0 x1
  else
    jlet (I_ushr x0 2) fun v1 =>
    u_J16_numberOfLeadingZeros_73 s v1 (W32 (x1 + (-2)))
noncomputable def u_J16_numberOfLeadingZeros_61 : jS → Int → Int → Option (Int) := Classical.choose (⟨du_J16_numberOfLeadingZeros_61, rfl⟩ : ∃ f, f = du_J16_numberOfLeadingZeros_61)
theorem eu_J16_numberOfLeadingZeros_61 : u_J16_numberOfLeadingZeros_61 = du_J16_numberOfLeadingZeros_61 := Classical.choose_spec (⟨du_J16_numberOfLeadingZeros_61, rfl⟩ : ∃ f, f = du_J16_numberOfLeadingZeros_61)
def du_J16_numberOfLeadingZeros_48 (s : jS) (x0 x1 : Int) : Option (Int) :=
  if x0 < 16 then
    u_J16_numberOfLeadingZeros_61 s x0 x1
  else
    jlet (I_ushr x0 4) fun v1 =>
    u_J16_numberOfLeadingZeros_61 s v1 (W32 (x1 + (-4)))
noncomputable def u_J16_numberOfLeadingZeros_48 : jS → Int → Int → Option (Int) := Classical.choose (⟨du_J16_numberOfLeadingZeros_48, rfl⟩ : ∃ f, f = du_J16_numberOfLeadingZeros_48)
theorem eu_J16_numberOfLeadingZeros_48 : u_J16_numberOfLeadingZeros_48 = du_J16_numberOfLeadingZeros_48 := Classical.choose_spec (⟨du_J16_numberOfLeadingZeros_48, rfl⟩ : ∃ f, f = du_J16_numberOfLeadingZeros_48)
def du_J16_numberOfLeadingZeros_33 (s : jS) (x0 x1 : Int) : Option (Int) :=
  if x0 < 256 then
    u_J16_numberOfLeadingZeros_48 s x0 x1
  else
    jlet (I_ushr x0 8) fun v1 =>
    u_J16_numberOfLeadingZeros_48 s v1 (W32 (x1 + (-8)))
noncomputable def u_J16_numberOfLeadingZeros_33 : jS → Int → Int → Option (Int) := Classical.choose (⟨du_J16_numberOfLeadingZeros_33, rfl⟩ : ∃ f, f = du_J16_numberOfLeadingZeros_33)
theorem eu_J16_numberOfLeadingZeros_33 : u_J16_numberOfLeadingZeros_33 = du_J16_numberOfLeadingZeros_33 := Classical.choose_spec (⟨du_J16_numberOfLeadingZeros_33, rfl⟩ : ∃ f, f = du_J16_numberOfLeadingZeros_33)
def dm_J16_numberOfLeadingZeros (s : jS) (x0 : Int) : Option (Int) :=
  if 0 < x0 then
    if x0 < 65536 then
      u_J16_numberOfLeadingZeros_33 s x0 31
    else
      jlet (I_ushr x0 16) fun v1 =>
      u_J16_numberOfLeadingZeros_33 s v1 (W32 (31 + (-16)))
  else
    if x0 = 0 then
      some 32
    else
      some 0
noncomputable def m_J16_numberOfLeadingZeros : jS → Int → Option (Int) := Classical.choose (⟨dm_J16_numberOfLeadingZeros, rfl⟩ : ∃ f, f = dm_J16_numberOfLeadingZeros)
theorem em_J16_numberOfLeadingZeros : m_J16_numberOfLeadingZeros = dm_J16_numberOfLeadingZeros := Classical.choose_spec (⟨dm_J16_numberOfLeadingZeros, rfl⟩ : ∃ f, f = dm_J16_numberOfLeadingZeros)
def dm_X45_init (s : jS) (x0 : Int) : Option (jS × Int) :=
  jck0 x0 <|
  some (s, 0)
noncomputable def m_X45_init : jS → Int → Option (jS × Int) := Classical.choose (⟨dm_X45_init, rfl⟩ : ∃ f, f = dm_X45_init)
theorem em_X45_init : m_X45_init = dm_X45_init := Classical.choose_spec (⟨dm_X45_init, rfl⟩ : ∃ f, f = dm_X45_init)
def dm_X46_init (s : jS) (x0 : Int) : Option (jS × Int) :=
  jck0 x0 <|
  jls (jp s 63 x0 1 (-1)) fun s1 =>
  jls (jp s1 63 x0 7 (jc s1 192)) fun s2 =>
  some (s2, 0)
noncomputable def m_X46_init : jS → Int → Option (jS × Int) := Classical.choose (⟨dm_X46_init, rfl⟩ : ∃ f, f = dm_X46_init)
theorem em_X46_init : m_X46_init = dm_X46_init := Classical.choose_spec (⟨dm_X46_init, rfl⟩ : ∃ f, f = dm_X46_init)
def dm_X47_init (s : jS) (x0 : Int) : Option (jS × Int) :=
  jck0 x0 <|
  some (s, 0)
noncomputable def m_X47_init : jS → Int → Option (jS × Int) := Classical.choose (⟨dm_X47_init, rfl⟩ : ∃ f, f = dm_X47_init)
theorem em_X47_init : m_X47_init = dm_X47_init := Classical.choose_spec (⟨dm_X47_init, rfl⟩ : ∃ f, f = dm_X47_init)
def dm_X48_init (s : jS) (x0 x1 x2 : Int) : Option (jS × Int) :=
  (jck0 x0 (m_X47_init s x0)).bind fun q1 =>
  jls (jp q1.1 65 x0 0 x1) fun s2 =>
  jls (jp s2 65 x0 1 x2) fun s3 =>
  some (s3, 0)
noncomputable def m_X48_init : jS → Int → Int → Int → Option (jS × Int) := Classical.choose (⟨dm_X48_init, rfl⟩ : ∃ f, f = dm_X48_init)
theorem em_X48_init : m_X48_init = dm_X48_init := Classical.choose_spec (⟨dm_X48_init, rfl⟩ : ∃ f, f = dm_X48_init)
def dm_X49_init (s : jS) (x0 x1 x2 : Int) : Option (jS × Int) :=
  (jck0 x0 (m_X47_init s x0)).bind fun q1 =>
  jls (jp q1.1 66 x0 0 x1) fun s2 =>
  jls (jp s2 66 x0 1 x2) fun s3 =>
  some (s3, 0)
noncomputable def m_X49_init : jS → Int → Int → Int → Option (jS × Int) := Classical.choose (⟨dm_X49_init, rfl⟩ : ∃ f, f = dm_X49_init)
theorem em_X49_init : m_X49_init = dm_X49_init := Classical.choose_spec (⟨dm_X49_init, rfl⟩ : ∃ f, f = dm_X49_init)
def dm_X49_lay (s : jS) (x0 x1 : Int) : Option (jS × Int) :=
  (jct s 32 x1 (m_X12_item s x1 (jf s 66 x0 0) (jf s 66 x0 1))).bind fun q1 =>
  some (q1.1, 0)
noncomputable def m_X49_lay : jS → Int → Int → Option (jS × Int) := Classical.choose (⟨dm_X49_lay, rfl⟩ : ∃ f, f = dm_X49_lay)
theorem em_X49_lay : m_X49_lay = dm_X49_lay := Classical.choose_spec (⟨dm_X49_lay, rfl⟩ : ∃ f, f = dm_X49_lay)
def dm_X50_init (s : jS) (x0 x1 x2 x3 : Int) : Option (jS × Int) :=
  (jck0 x0 (m_X47_init s x0)).bind fun q1 =>
  jls (jp q1.1 67 x0 0 x1) fun s2 =>
  jls (jp s2 67 x0 1 x2) fun s3 =>
  jls (jp s3 67 x0 2 x3) fun s4 =>
  some (s4, 0)
noncomputable def m_X50_init : jS → Int → Int → Int → Int → Option (jS × Int) := Classical.choose (⟨dm_X50_init, rfl⟩ : ∃ f, f = dm_X50_init)
theorem em_X50_init : m_X50_init = dm_X50_init := Classical.choose_spec (⟨dm_X50_init, rfl⟩ : ∃ f, f = dm_X50_init)
def dm_X51_width (s : jS) (x0 x1 : Int) : Option (Int) :=
  if x0 = 1 then
    some 4
  else
  if x0 = 2 then
    some (-1)
  else
  if x0 = 3 then
    some (-1)
  else
  if x0 = 4 then
    some (-1)
  else
  if x0 = 5 then
    some (-1)
  else
  if x0 = 6 then
    some (-1)
  else
  if x0 = 7 then
    some (-1)
  else
  if x0 = 8 then
    some (-1)
  else
  if x0 = 9 then
    some (-1)
  else
  if x0 = 10 then
    some (-1)
  else
  if x0 = 11 then
    some (-1)
  else
  if x0 = 12 then
    some (-1)
  else
  if x0 = 13 then
    some (-1)
  else
  if x0 = 14 then
    some (-1)
  else
  if x0 = 15 then
    some (-1)
  else
  if x0 = 16 then
    some 4
  else
  if x0 = 17 then
    some 4
  else
  if x0 = 18 then
    some (-1)
  else
  if x0 = 19 then
    some 8
  else
  if x0 = 20 then
    some (-1)
  else
  if x0 = 21 then
    some (-1)
  else
  if x0 = 22 then
    some (-1)
  else
  if x0 = 23 then
    some 4
  else
  if x0 = 24 then
    some 4
  else
  if x0 = 25 then
    some 4
  else
  if x0 = 26 then
    some 4
  else
  if x0 = 27 then
    some 4
  else
  if x0 = 28 then
    some 4
  else
  if x0 = 29 then
    some (-1)
  else
  if x0 = 30 then
    some (-1)
  else
  if x0 = 31 then
    some (-1)
  else
  if x0 = 32 then
    some (-1)
  else
  if x0 = 33 then
    some 1
  else
  if x0 = 34 then
    some 2
  else
  if x0 = 35 then
    some 4
  else
  if x0 = 36 then
    some (-1)
  else
  if x0 = 37 then
    some 1
  else
  if x0 = 38 then
    some 2
  else
  if x0 = 39 then
    some 4
  else
  if x0 = 40 then
    some (-1)
  else
  if x0 = 41 then
    some (-1)
  else
  if x0 = 42 then
    some (-1)
  else
  if x0 = 43 then
    some x1
  else
  if x0 = 44 then
    some 2
  else
  if x0 = 45 then
    some 2
  else
  if x0 = 46 then
    some (-1)
  else
  if x0 = 47 then
    some (-1)
  else
  if x0 = 48 then
    some (-1)
  else
  if x0 = 49 then
    some (-1)
  else
  if x0 = 50 then
    some (-1)
  else
  if x0 = 51 then
    some 0
  else
  some (-1)
noncomputable def m_X51_width : jS → Int → Int → Option (Int) := Classical.choose (⟨dm_X51_width, rfl⟩ : ∃ f, f = dm_X51_width)
theorem em_X51_width : m_X51_width = dm_X51_width := Classical.choose_spec (⟨dm_X51_width, rfl⟩ : ∃ f, f = dm_X51_width)
def dm_X51_isAddend (s : jS) (x0 x1 : Int) : Option (Int) :=
  if x0 = 43 then
    (m_X13_in s x1 0 62).bind fun v1 =>
    if v1 = 0 then
      some (Wz 0)
    else
      (jdv 2 (I_rem x1 2)).bind fun v2 =>
      if v2 = 0 then
        some (Wz 1)
      else
        some (Wz 0)
  else
    some (Wz 1)
noncomputable def m_X51_isAddend : jS → Int → Int → Option (Int) := Classical.choose (⟨dm_X51_isAddend, rfl⟩ : ∃ f, f = dm_X51_isAddend)
theorem em_X51_isAddend : m_X51_isAddend = dm_X51_isAddend := Classical.choose_spec (⟨dm_X51_isAddend, rfl⟩ : ∃ f, f = dm_X51_isAddend)
def dm_X51_isPlain (s : jS) (x0 : Int) : Option (Int) :=
  if x0 = 43 then
    some (Wz 1)
  else
    if x0 = 51 then
      some (Wz 1)
    else
      some (Wz 0)
noncomputable def m_X51_isPlain : jS → Int → Option (Int) := Classical.choose (⟨dm_X51_isPlain, rfl⟩ : ∃ f, f = dm_X51_isPlain)
theorem em_X51_isPlain : m_X51_isPlain = dm_X51_isPlain := Classical.choose_spec (⟨dm_X51_isPlain, rfl⟩ : ∃ f, f = dm_X51_isPlain)
def dm_J17_init (s : jS) (x0 : Int) : Option (jS × Int) :=
  none
noncomputable def m_J17_init : jS → Int → Option (jS × Int) := Classical.choose (⟨dm_J17_init, rfl⟩ : ∃ f, f = dm_J17_init)
theorem em_J17_init : m_J17_init = dm_J17_init := Classical.choose_spec (⟨dm_J17_init, rfl⟩ : ∃ f, f = dm_J17_init)
def dm_X52_init (s : jS) (x0 : Int) : Option (jS × Int) :=
  jck0 x0 <|
  some (s, 0)
noncomputable def m_X52_init : jS → Int → Option (jS × Int) := Classical.choose (⟨dm_X52_init, rfl⟩ : ∃ f, f = dm_X52_init)
theorem em_X52_init : m_X52_init = dm_X52_init := Classical.choose_spec (⟨dm_X52_init, rfl⟩ : ∃ f, f = dm_X52_init)
def dm_X52_renew (s : jS) (x0 x1 x2 : Int) : Option (jS × Int) :=
  jls (jp s 70 x0 0 x1) fun s1 =>
  jls (jp s1 70 x0 1 x2) fun s2 =>
  (jzb 0).bind fun v3 =>
  jls (jp s2 70 x0 4 v3) fun s4 =>
  (jzb 0).bind fun v5 =>
  jls (jp s4 70 x0 5 v5) fun s6 =>
  jls (jp s6 70 x0 6 (-1)) fun s7 =>
  jls (jp s7 70 x0 7 (-1)) fun s8 =>
  some (s8, 0)
noncomputable def m_X52_renew : jS → Int → Int → Int → Option (jS × Int) := Classical.choose (⟨dm_X52_renew, rfl⟩ : ∃ f, f = dm_X52_renew)
theorem em_X52_renew : m_X52_renew = dm_X52_renew := Classical.choose_spec (⟨dm_X52_renew, rfl⟩ : ∃ f, f = dm_X52_renew)
def du_X52_add_23 (s : jS) (x0 x1 : Int) : Option (jS × Int) :=
  jls (jp s 70 x0 7 x1) fun s1 =>
  some (s1, 0)
noncomputable def u_X52_add_23 : jS → Int → Int → Option (jS × Int) := Classical.choose (⟨du_X52_add_23, rfl⟩ : ∃ f, f = du_X52_add_23)
theorem eu_X52_add_23 : u_X52_add_23 = du_X52_add_23 := Classical.choose_spec (⟨du_X52_add_23, rfl⟩ : ∃ f, f = du_X52_add_23)
def dm_X52_add (s : jS) (x0 x1 : Int) : Option (jS × Int) :=
  if (jf s 70 x0 6) < 0 then
    jls (jp s 70 x0 6 x1) fun s1 =>
    u_X52_add_23 s1 x0 x1
  else
    (jwp s [(72, 2), (73, 2), (76, 6), (77, 6)] (jf s 70 x0 7) x1).bind fun s2 =>
    u_X52_add_23 s2 x0 x1
noncomputable def m_X52_add : jS → Int → Int → Option (jS × Int) := Classical.choose (⟨dm_X52_add, rfl⟩ : ∃ f, f = dm_X52_add)
theorem em_X52_add : m_X52_add = dm_X52_add := Classical.choose_spec (⟨dm_X52_add, rfl⟩ : ∃ f, f = dm_X52_add)
def dm_X53_init (s : jS) (x0 : Int) : Option (jS × Int) :=
  jck0 x0 <|
  some (s, 0)
noncomputable def m_X53_init : jS → Int → Option (jS × Int) := Classical.choose (⟨dm_X53_init, rfl⟩ : ∃ f, f = dm_X53_init)
theorem em_X53_init : m_X53_init = dm_X53_init := Classical.choose_spec (⟨dm_X53_init, rfl⟩ : ∃ f, f = dm_X53_init)
def dm_X53_belong (s : jS) (x0 x1 : Int) : Option (jS × Int) :=
  (jwp s [(72, 0), (73, 0), (76, 4), (77, 4)] x0 x1).bind fun s1 =>
  (jwp s1 [(72, 2), (73, 2), (76, 6), (77, 6)] x0 (-1)).bind fun s2 =>
  some (s2, 0)
noncomputable def m_X53_belong : jS → Int → Int → Option (jS × Int) := Classical.choose (⟨dm_X53_belong, rfl⟩ : ∃ f, f = dm_X53_belong)
theorem em_X53_belong : m_X53_belong = dm_X53_belong := Classical.choose_spec (⟨dm_X53_belong, rfl⟩ : ∃ f, f = dm_X53_belong)
def dm_X54_init (s : jS) (x0 : Int) : Option (jS × Int) :=
  (jck0 x0 (m_X53_init s x0)).bind fun q1 =>
  some (q1.1, 0)
noncomputable def m_X54_init : jS → Int → Option (jS × Int) := Classical.choose (⟨dm_X54_init, rfl⟩ : ∃ f, f = dm_X54_init)
theorem em_X54_init : m_X54_init = dm_X54_init := Classical.choose_spec (⟨dm_X54_init, rfl⟩ : ∃ f, f = dm_X54_init)
def dm_X54_renew (s : jS) (x0 x1 : Int) : Option (jS × Int) :=
  jls (jp s 72 x0 3 x1) fun s1 =>
  some (s1, x0)
noncomputable def m_X54_renew : jS → Int → Int → Option (jS × Int) := Classical.choose (⟨dm_X54_renew, rfl⟩ : ∃ f, f = dm_X54_renew)
theorem em_X54_renew : m_X54_renew = dm_X54_renew := Classical.choose_spec (⟨dm_X54_renew, rfl⟩ : ∃ f, f = dm_X54_renew)
def dm_X54_canBe (s : jS) (x0 x1 : Int) : Option (Int) :=
  (m_X36_in s x1 0 (jf s 72 x0 3)).bind fun v1 =>
  some (Wz v1)
noncomputable def m_X54_canBe : jS → Int → Int → Option (Int) := Classical.choose (⟨dm_X54_canBe, rfl⟩ : ∃ f, f = dm_X54_canBe)
theorem em_X54_canBe : m_X54_canBe = dm_X54_canBe := Classical.choose_spec (⟨dm_X54_canBe, rfl⟩ : ∃ f, f = dm_X54_canBe)
def dm_X54_size (s : jS) (x0 : Int) : Option (Int) :=
  some (jf s 72 x0 3)
noncomputable def m_X54_size : jS → Int → Option (Int) := Classical.choose (⟨dm_X54_size, rfl⟩ : ∃ f, f = dm_X54_size)
theorem em_X54_size : m_X54_size = dm_X54_size := Classical.choose_spec (⟨dm_X54_size, rfl⟩ : ∃ f, f = dm_X54_size)
def dm_X54_moving (s : jS) (x0 : Int) : Option (Int) :=
  some (-1)
noncomputable def m_X54_moving : jS → Int → Option (Int) := Classical.choose (⟨dm_X54_moving, rfl⟩ : ∃ f, f = dm_X54_moving)
theorem em_X54_moving : m_X54_moving = dm_X54_moving := Classical.choose_spec (⟨dm_X54_moving, rfl⟩ : ∃ f, f = dm_X54_moving)
def dm_X54_sort (s : jS) (x0 : Int) : Option (Int) :=
  some 0
noncomputable def m_X54_sort : jS → Int → Option (Int) := Classical.choose (⟨dm_X54_sort, rfl⟩ : ∃ f, f = dm_X54_sort)
theorem em_X54_sort : m_X54_sort = dm_X54_sort := Classical.choose_spec (⟨dm_X54_sort, rfl⟩ : ∃ f, f = dm_X54_sort)
def dm_X54_behind (s : jS) (x0 x1 : Int) : Option (Int) :=
  some x1
noncomputable def m_X54_behind : jS → Int → Int → Option (Int) := Classical.choose (⟨dm_X54_behind, rfl⟩ : ∃ f, f = dm_X54_behind)
theorem em_X54_behind : m_X54_behind = dm_X54_behind := Classical.choose_spec (⟨dm_X54_behind, rfl⟩ : ∃ f, f = dm_X54_behind)
def dm_X55_init (s : jS) (x0 : Int) : Option (jS × Int) :=
  (jck0 x0 (m_X53_init s x0)).bind fun q1 =>
  some (q1.1, 0)
noncomputable def m_X55_init : jS → Int → Option (jS × Int) := Classical.choose (⟨dm_X55_init, rfl⟩ : ∃ f, f = dm_X55_init)
theorem em_X55_init : m_X55_init = dm_X55_init := Classical.choose_spec (⟨dm_X55_init, rfl⟩ : ∃ f, f = dm_X55_init)
def dm_X55_renew (s : jS) (x0 x1 x2 : Int) : Option (jS × Int) :=
  jls (jp s 73 x0 3 x1) fun s1 =>
  jls (jp s1 73 x0 4 x2) fun s2 =>
  some (s2, x0)
noncomputable def m_X55_renew : jS → Int → Int → Int → Option (jS × Int) := Classical.choose (⟨dm_X55_renew, rfl⟩ : ∃ f, f = dm_X55_renew)
theorem em_X55_renew : m_X55_renew = dm_X55_renew := Classical.choose_spec (⟨dm_X55_renew, rfl⟩ : ∃ f, f = dm_X55_renew)
def dm_X55_canBe (s : jS) (x0 x1 : Int) : Option (Int) :=
  (m_X36_in s x1 0 1).bind fun v1 =>
  some (Wz v1)
noncomputable def m_X55_canBe : jS → Int → Int → Option (Int) := Classical.choose (⟨dm_X55_canBe, rfl⟩ : ∃ f, f = dm_X55_canBe)
theorem em_X55_canBe : m_X55_canBe = dm_X55_canBe := Classical.choose_spec (⟨dm_X55_canBe, rfl⟩ : ∃ f, f = dm_X55_canBe)
def dm_X55_lack (s : jS) (x0 : Int) : Option (Int) :=
  (m_X36_up s (jf s 73 x0 1) (jf s 73 x0 3)).bind fun v1 =>
  some (W32 (v1 - (jf s 73 x0 1)))
noncomputable def m_X55_lack : jS → Int → Option (Int) := Classical.choose (⟨dm_X55_lack, rfl⟩ : ∃ f, f = dm_X55_lack)
theorem em_X55_lack : m_X55_lack = dm_X55_lack := Classical.choose_spec (⟨dm_X55_lack, rfl⟩ : ∃ f, f = dm_X55_lack)
def dm_X55_moving (s : jS) (x0 : Int) : Option (Int) :=
  some (-1)
noncomputable def m_X55_moving : jS → Int → Option (Int) := Classical.choose (⟨dm_X55_moving, rfl⟩ : ∃ f, f = dm_X55_moving)
theorem em_X55_moving : m_X55_moving = dm_X55_moving := Classical.choose_spec (⟨dm_X55_moving, rfl⟩ : ∃ f, f = dm_X55_moving)
def dm_X55_sort (s : jS) (x0 : Int) : Option (Int) :=
  some 4
noncomputable def m_X55_sort : jS → Int → Option (Int) := Classical.choose (⟨dm_X55_sort, rfl⟩ : ∃ f, f = dm_X55_sort)
theorem em_X55_sort : m_X55_sort = dm_X55_sort := Classical.choose_spec (⟨dm_X55_sort, rfl⟩ : ∃ f, f = dm_X55_sort)
def dm_X55_isShort (s : jS) (x0 : Int) : Option (Int) :=
  (m_X55_lack s x0).bind fun v1 =>
  if (jf s 73 x0 4) < v1 then
    some (Wz 1)
  else
    some (Wz 0)
noncomputable def m_X55_isShort : jS → Int → Option (Int) := Classical.choose (⟨dm_X55_isShort, rfl⟩ : ∃ f, f = dm_X55_isShort)
theorem em_X55_isShort : m_X55_isShort = dm_X55_isShort := Classical.choose_spec (⟨dm_X55_isShort, rfl⟩ : ∃ f, f = dm_X55_isShort)
def dm_X56_init (s : jS) (x0 : Int) : Option (jS × Int) :=
  jck0 x0 <|
  some (s, 0)
noncomputable def m_X56_init : jS → Int → Option (jS × Int) := Classical.choose (⟨dm_X56_init, rfl⟩ : ∃ f, f = dm_X56_init)
theorem em_X56_init : m_X56_init = dm_X56_init := Classical.choose_spec (⟨dm_X56_init, rfl⟩ : ∃ f, f = dm_X56_init)
def dm_X56_isThere (s : jS) (x0 : Int) : Option (Int) :=
  if (jf s 74 x0 0) < 0 then
    some (Wz 0)
  else
    (jrp s [(72, 0), (73, 0), (76, 4), (77, 4)] (jf s 74 x0 0)).bind fun v1 =>
    (jrd s 70 v1 4).bind fun v2 =>
    if v2 = 0 then
      some (Wz 1)
    else
      some (Wz 0)
noncomputable def m_X56_isThere : jS → Int → Option (Int) := Classical.choose (⟨dm_X56_isThere, rfl⟩ : ∃ f, f = dm_X56_isThere)
theorem em_X56_isThere : m_X56_isThere = dm_X56_isThere := Classical.choose_spec (⟨dm_X56_isThere, rfl⟩ : ∃ f, f = dm_X56_isThere)
def dm_X57_init (s : jS) (x0 : Int) : Option (jS × Int) :=
  (jck0 x0 (m_X53_init s x0)).bind fun q1 =>
  some (q1.1, 0)
noncomputable def m_X57_init : jS → Int → Option (jS × Int) := Classical.choose (⟨dm_X57_init, rfl⟩ : ∃ f, f = dm_X57_init)
theorem em_X57_init : m_X57_init = dm_X57_init := Classical.choose_spec (⟨dm_X57_init, rfl⟩ : ∃ f, f = dm_X57_init)
def dm_X57_canBe (s : jS) (x0 x1 : Int) : Option (Int) :=
  (m_X36_in s x1 0 1).bind fun v1 =>
  some (Wz v1)
noncomputable def m_X57_canBe : jS → Int → Int → Option (Int) := Classical.choose (⟨dm_X57_canBe, rfl⟩ : ∃ f, f = dm_X57_canBe)
theorem em_X57_canBe : m_X57_canBe = dm_X57_canBe := Classical.choose_spec (⟨dm_X57_canBe, rfl⟩ : ∃ f, f = dm_X57_canBe)
def dm_X57_size (s : jS) (x0 : Int) : Option (Int) :=
  (jrp s [(76, 2), (77, 2)] x0).bind fun v1 =>
  some v1
noncomputable def m_X57_size : jS → Int → Option (Int) := Classical.choose (⟨dm_X57_size, rfl⟩ : ∃ f, f = dm_X57_size)
theorem em_X57_size : m_X57_size = dm_X57_size := Classical.choose_spec (⟨dm_X57_size, rfl⟩ : ∃ f, f = dm_X57_size)
def dm_X57_moving (s : jS) (x0 : Int) : Option (Int) :=
  some x0
noncomputable def m_X57_moving : jS → Int → Option (Int) := Classical.choose (⟨dm_X57_moving, rfl⟩ : ∃ f, f = dm_X57_moving)
theorem em_X57_moving : m_X57_moving = dm_X57_moving := Classical.choose_spec (⟨dm_X57_moving, rfl⟩ : ∃ f, f = dm_X57_moving)
def dm_X57_hasAim (s : jS) (x0 : Int) : Option (Int) :=
  (jrp s [(76, 0), (77, 0)] x0).bind fun v1 =>
  (jct s 90 v1 (m_X56_isThere s v1)).bind fun v2 =>
  some (Wz v2)
noncomputable def m_X57_hasAim : jS → Int → Option (Int) := Classical.choose (⟨dm_X57_hasAim, rfl⟩ : ∃ f, f = dm_X57_hasAim)
theorem em_X57_hasAim : m_X57_hasAim = dm_X57_hasAim := Classical.choose_spec (⟨dm_X57_hasAim, rfl⟩ : ∃ f, f = dm_X57_hasAim)
def dm_X57_behind (s : jS) (x0 x1 : Int) : Option (Int) :=
  if x1 = 0 then
    some 0
  else
    (jrp s [(76, 2), (77, 2)] x0).bind fun v1 =>
    some v1
noncomputable def m_X57_behind : jS → Int → Int → Option (Int) := Classical.choose (⟨dm_X57_behind, rfl⟩ : ∃ f, f = dm_X57_behind)
theorem em_X57_behind : m_X57_behind = dm_X57_behind := Classical.choose_spec (⟨dm_X57_behind, rfl⟩ : ∃ f, f = dm_X57_behind)
def dm_X58_init (s : jS) (x0 : Int) : Option (jS × Int) :=
  (jck0 x0 (m_X57_init s x0)).bind fun q1 =>
  some (q1.1, 0)
noncomputable def m_X58_init : jS → Int → Option (jS × Int) := Classical.choose (⟨dm_X58_init, rfl⟩ : ∃ f, f = dm_X58_init)
theorem em_X58_init : m_X58_init = dm_X58_init := Classical.choose_spec (⟨dm_X58_init, rfl⟩ : ∃ f, f = dm_X58_init)
def dm_X58_renew (s : jS) (x0 x1 : Int) : Option (jS × Int) :=
  (jzb x1).bind fun v1 =>
  jls (jp s 76 x0 7 v1) fun s2 =>
  some (s2, x0)
noncomputable def m_X58_renew : jS → Int → Int → Option (jS × Int) := Classical.choose (⟨dm_X58_renew, rfl⟩ : ∃ f, f = dm_X58_renew)
theorem em_X58_renew : m_X58_renew = dm_X58_renew := Classical.choose_spec (⟨dm_X58_renew, rfl⟩ : ∃ f, f = dm_X58_renew)
def dm_X58_greatest (s : jS) (x0 : Int) : Option (Int) :=
  some 8
noncomputable def m_X58_greatest : jS → Int → Option (Int) := Classical.choose (⟨dm_X58_greatest, rfl⟩ : ∃ f, f = dm_X58_greatest)
theorem em_X58_greatest : m_X58_greatest = dm_X58_greatest := Classical.choose_spec (⟨dm_X58_greatest, rfl⟩ : ∃ f, f = dm_X58_greatest)
def dm_X58_sort (s : jS) (x0 : Int) : Option (Int) :=
  some 1
noncomputable def m_X58_sort : jS → Int → Option (Int) := Classical.choose (⟨dm_X58_sort, rfl⟩ : ∃ f, f = dm_X58_sort)
theorem em_X58_sort : m_X58_sort = dm_X58_sort := Classical.choose_spec (⟨dm_X58_sort, rfl⟩ : ∃ f, f = dm_X58_sort)
def du_X58_least_46 (s : jS) (x4 : Int) : Option (Int) :=
  (m_X36_in s x4 (-1048576) 1048574).bind fun v1 =>
  if v1 = 0 then
    some 8
  else
    some 4
noncomputable def u_X58_least_46 : jS → Int → Option (Int) := Classical.choose (⟨du_X58_least_46, rfl⟩ : ∃ f, f = du_X58_least_46)
theorem eu_X58_least_46 : u_X58_least_46 = du_X58_least_46 := Classical.choose_spec (⟨du_X58_least_46, rfl⟩ : ∃ f, f = du_X58_least_46)
def dm_X58_least (s : jS) (x0 x1 x3 : Int) : Option (Int) :=
  jlet (W64 (x1 - (jf s 76 x0 5))) fun v1 =>
  if (L_cmp (L_and v1 1) 0) = 0 then
    if (jf s 76 x0 7) = 0 then
      u_X58_least_46 s v1
    else
      (m_X36_in s v1 (-2048) 2046).bind fun v2 =>
      if v2 = 0 then
        u_X58_least_46 s v1
      else
        some 2
  else
    some 8
noncomputable def m_X58_least : jS → Int → Int → Int → Option (Int) := Classical.choose (⟨dm_X58_least, rfl⟩ : ∃ f, f = dm_X58_least)
theorem em_X58_least : m_X58_least = dm_X58_least := Classical.choose_spec (⟨dm_X58_least, rfl⟩ : ∃ f, f = dm_X58_least)
def dm_X59_greatest (s : jS) (x0 : Int) : Option (Int) :=
  some 4
noncomputable def m_X59_greatest : jS → Int → Option (Int) := Classical.choose (⟨dm_X59_greatest, rfl⟩ : ∃ f, f = dm_X59_greatest)
theorem em_X59_greatest : m_X59_greatest = dm_X59_greatest := Classical.choose_spec (⟨dm_X59_greatest, rfl⟩ : ∃ f, f = dm_X59_greatest)
def dm_X59_init (s : jS) (x0 : Int) : Option (jS × Int) :=
  (jck0 x0 (m_X57_init s x0)).bind fun q1 =>
  some (q1.1, 0)
noncomputable def m_X59_init : jS → Int → Option (jS × Int) := Classical.choose (⟨dm_X59_init, rfl⟩ : ∃ f, f = dm_X59_init)
theorem em_X59_init : m_X59_init = dm_X59_init := Classical.choose_spec (⟨dm_X59_init, rfl⟩ : ∃ f, f = dm_X59_init)
def dm_X59_renew (s : jS) (x0 x1 x2 : Int) : Option (jS × Int) :=
  (jzb x1).bind fun v1 =>
  jls (jp s 77 x0 7 v1) fun s2 =>
  (jzb x2).bind fun v3 =>
  jls (jp s2 77 x0 8 v3) fun s4 =>
  some (s4, x0)
noncomputable def m_X59_renew : jS → Int → Int → Int → Option (jS × Int) := Classical.choose (⟨dm_X59_renew, rfl⟩ : ∃ f, f = dm_X59_renew)
theorem em_X59_renew : m_X59_renew = dm_X59_renew := Classical.choose_spec (⟨dm_X59_renew, rfl⟩ : ∃ f, f = dm_X59_renew)
def dm_X59_sort (s : jS) (x0 : Int) : Option (Int) :=
  if (jf s 77 x0 7) = 0 then
    some 3
  else
    some 2
noncomputable def m_X59_sort : jS → Int → Option (Int) := Classical.choose (⟨dm_X59_sort, rfl⟩ : ∃ f, f = dm_X59_sort)
theorem em_X59_sort : m_X59_sort = dm_X59_sort := Classical.choose_spec (⟨dm_X59_sort, rfl⟩ : ∃ f, f = dm_X59_sort)
def dm_X59_least (s : jS) (x0 x1 x3 : Int) : Option (Int) :=
  (m_X36_in s x1 (-2048) 2047).bind fun v1 =>
  if v1 = 0 then
    (m_X36_in s (W64 (x1 - x3)) (-2048) 2047).bind fun v2 =>
    if v2 = 0 then
      if (jf s 77 x0 7) = 0 then
        some 4
      else
        if (jf s 77 x0 8) = 0 then
          some 4
        else
          (m_X36_in s (L_shr (W64 (x1 + 2048)) 12) 1 31).bind fun v3 =>
          if v3 = 0 then
            some 4
          else
            some 2
    else
      some 0
  else
    some 0
noncomputable def m_X59_least : jS → Int → Int → Int → Option (Int) := Classical.choose (⟨dm_X59_least, rfl⟩ : ∃ f, f = dm_X59_least)
theorem em_X59_least : m_X59_least = dm_X59_least := Classical.choose_spec (⟨dm_X59_least, rfl⟩ : ∃ f, f = dm_X59_least)
def dm_J18_init (s : jS) (x0 : Int) : Option (jS × Int) :=
  none
noncomputable def m_J18_init : jS → Int → Option (jS × Int) := Classical.choose (⟨dm_J18_init, rfl⟩ : ∃ f, f = dm_J18_init)
theorem em_J18_init : m_J18_init = dm_J18_init := Classical.choose_spec (⟨dm_J18_init, rfl⟩ : ∃ f, f = dm_J18_init)
abbrev GT_lay : Type := (jS → Int → Int → Option (jS × Int)) × (jS → Int → Int → Option (jS × Int))
def dmp_X47_lay (R : GT_lay) (s : jS) (x0 x1 : Int) : Option (jS × Int) := if 0 ≤ x0 ∧ jK s x0 = 66 then jct s 82 x0 (m_X49_lay s x0 x1) else if 0 ≤ x0 ∧ jK s x0 = 65 then jct s 81 x0 (R.1 s x0 x1) else if 0 ≤ x0 ∧ jK s x0 = 67 then jct s 83 x0 (R.2 s x0 x1) else none
noncomputable def mp_X47_lay : GT_lay → jS → Int → Int → Option (jS × Int) := Classical.choose (⟨dmp_X47_lay, rfl⟩ : ∃ f, f = dmp_X47_lay)
theorem emp_X47_lay : mp_X47_lay = dmp_X47_lay := Classical.choose_spec (⟨dmp_X47_lay, rfl⟩ : ∃ f, f = dmp_X47_lay)
def dmR_X48_lay (R : GT_lay) (s : jS) (x0 x1 : Int) : Option (jS × Int) :=
  (mp_X47_lay R s (jf s 65 x0 1) x1).bind fun q1 =>
  (jct q1.1 32 x1 (m_X12_item q1.1 x1 (jf q1.1 65 x0 0) 0)).bind fun q2 =>
  some (q2.1, 0)
noncomputable def mR_X48_lay : GT_lay → jS → Int → Int → Option (jS × Int) := Classical.choose (⟨dmR_X48_lay, rfl⟩ : ∃ f, f = dmR_X48_lay)
theorem emR_X48_lay : mR_X48_lay = dmR_X48_lay := Classical.choose_spec (⟨dmR_X48_lay, rfl⟩ : ∃ f, f = dmR_X48_lay)
def dmR_X50_lay (R : GT_lay) (s : jS) (x0 x1 : Int) : Option (jS × Int) :=
  (mp_X47_lay R s (jf s 67 x0 1) x1).bind fun q1 =>
  (mp_X47_lay R q1.1 (jf q1.1 67 x0 2) x1).bind fun q2 =>
  (jct q2.1 32 x1 (m_X12_item q2.1 x1 (jf q2.1 67 x0 0) 0)).bind fun q3 =>
  some (q3.1, 0)
noncomputable def mR_X50_lay : GT_lay → jS → Int → Int → Option (jS × Int) := Classical.choose (⟨dmR_X50_lay, rfl⟩ : ∃ f, f = dmR_X50_lay)
theorem emR_X50_lay : mR_X50_lay = dmR_X50_lay := Classical.choose_spec (⟨dmR_X50_lay, rfl⟩ : ∃ f, f = dmR_X50_lay)
noncomputable def gr_lay : Nat → GT_lay
  | 0 => (fun _ _ _ => none, fun _ _ _ => none)
  | n + 1 => (mR_X48_lay (gr_lay n), mR_X50_lay (gr_lay n))
noncomputable def m_X48_lay : (jS → Int → Int → Option (jS × Int)) := Classical.choose (⟨(gr_lay 70).1, rfl⟩ : ∃ f, f = (gr_lay 70).1)
theorem em_X48_lay : m_X48_lay = (gr_lay 70).1 := Classical.choose_spec (⟨(gr_lay 70).1, rfl⟩ : ∃ f, f = (gr_lay 70).1)
noncomputable def m_X50_lay : (jS → Int → Int → Option (jS × Int)) := Classical.choose (⟨(gr_lay 70).2, rfl⟩ : ∃ f, f = (gr_lay 70).2)
theorem em_X50_lay : m_X50_lay = (gr_lay 70).2 := Classical.choose_spec (⟨(gr_lay 70).2, rfl⟩ : ∃ f, f = (gr_lay 70).2)
def dm_X1_feed (s : jS) (x0 x1 x2 x3 x4 x5 : Int) : Option (jS × Int) :=
  (m_X11_feed s (x0 + 258) x1 x2 x3 x4 x5).bind fun q1 =>
  some (q1.1, 0)
noncomputable def m_X1_feed : jS → Int → Int → Int → Int → Int → Int → Option (jS × Int) := Classical.choose (⟨dm_X1_feed, rfl⟩ : ∃ f, f = dm_X1_feed)
theorem em_X1_feed : m_X1_feed = dm_X1_feed := Classical.choose_spec (⟨dm_X1_feed, rfl⟩ : ∃ f, f = dm_X1_feed)
def dm_X1_end (s : jS) (x0 x1 : Int) : Option (jS × Int) :=
  (m_X11_end s (x0 + 258) x1).bind fun q1 =>
  some (q1.1, q1.2)
noncomputable def m_X1_end : jS → Int → Int → Option (jS × Int) := Classical.choose (⟨dm_X1_end, rfl⟩ : ∃ f, f = dm_X1_end)
theorem em_X1_end : m_X1_end = dm_X1_end := Classical.choose_spec (⟨dm_X1_end, rfl⟩ : ∃ f, f = dm_X1_end)
def dm_X1_cut (s : jS) (x0 x1 x2 : Int) : Option (jS × Int) :=
  if x1 = (-1) then
    (m_X22_cut s (x0 + 3992) x2).bind fun q1 =>
    some (q1.1, Wz q1.2)
  else
    (m_X1_isUnit s x1).bind fun v2 =>
    if v2 = 0 then
      some (s, Wz 0)
    else
      (jix 6 x1 ((x0 + 275) + 4041 + 1858 * x1)).bind fun v3 =>
      (m_X13_cut s v3 x2).bind fun q4 =>
      if q4.2 = 0 then
        some (q4.1, Wz 0)
      else
        some (q4.1, Wz 1)
noncomputable def m_X1_cut : jS → Int → Int → Int → Option (jS × Int) := Classical.choose (⟨dm_X1_cut, rfl⟩ : ∃ f, f = dm_X1_cut)
theorem em_X1_cut : m_X1_cut = dm_X1_cut := Classical.choose_spec (⟨dm_X1_cut, rfl⟩ : ∃ f, f = dm_X1_cut)
def dm_X1_size (s : jS) (x0 x1 : Int) : Option (Int) :=
  if x1 = (-1) then
    (m_X22_size s (x0 + 3992)).bind fun v1 =>
    some v1
  else
    (m_X1_isUnit s x1).bind fun v2 =>
    if v2 = 0 then
      some (-1)
    else
      (jix 6 x1 ((x0 + 275) + 4041 + 1858 * x1)).bind fun v3 =>
      (m_X13_size s v3).bind fun v4 =>
      some v4
noncomputable def m_X1_size : jS → Int → Int → Option (Int) := Classical.choose (⟨dm_X1_size, rfl⟩ : ∃ f, f = dm_X1_size)
theorem em_X1_size : m_X1_size = dm_X1_size := Classical.choose_spec (⟨dm_X1_size, rfl⟩ : ∃ f, f = dm_X1_size)
def dm_X1_back (s : jS) (x0 x1 : Int) : Option (jS × Int) :=
  (m_X29_back s (x0 + 4029) x1).bind fun q1 =>
  some (q1.1, q1.2)
noncomputable def m_X1_back : jS → Int → Int → Option (jS × Int) := Classical.choose (⟨dm_X1_back, rfl⟩ : ∃ f, f = dm_X1_back)
theorem em_X1_back : m_X1_back = dm_X1_back := Classical.choose_spec (⟨dm_X1_back, rfl⟩ : ∃ f, f = dm_X1_back)
def dm_X1_set (s : jS) (x0 x1 x2 : Int) : Option (jS × Int) :=
  (m_X29_set s (x0 + 4029) x1 x2).bind fun q1 =>
  some (q1.1, Wz q1.2)
noncomputable def m_X1_set : jS → Int → Int → Int → Option (jS × Int) := Classical.choose (⟨dm_X1_set, rfl⟩ : ∃ f, f = dm_X1_set)
theorem em_X1_set : m_X1_set = dm_X1_set := Classical.choose_spec (⟨dm_X1_set, rfl⟩ : ∃ f, f = dm_X1_set)
def dm_X1_get (s : jS) (x0 x1 : Int) : Option (Int) :=
  (m_X29_get s (x0 + 4029) x1).bind fun v1 =>
  some v1
noncomputable def m_X1_get : jS → Int → Int → Option (Int) := Classical.choose (⟨dm_X1_get, rfl⟩ : ∃ f, f = dm_X1_get)
theorem em_X1_get : m_X1_get = dm_X1_get := Classical.choose_spec (⟨dm_X1_get, rfl⟩ : ∃ f, f = dm_X1_get)
def dm_X1_peek (s : jS) (x0 x1 : Int) : Option (Int) :=
  (m_X29_peek s (x0 + 4029) x1).bind fun v1 =>
  some v1
noncomputable def m_X1_peek : jS → Int → Int → Option (Int) := Classical.choose (⟨dm_X1_peek, rfl⟩ : ∃ f, f = dm_X1_peek)
theorem em_X1_peek : m_X1_peek = dm_X1_peek := Classical.choose_spec (⟨dm_X1_peek, rfl⟩ : ∃ f, f = dm_X1_peek)
def dm_X1_input (s : jS) (x0 x1 x2 : Int) : Option (jS × Int) :=
  (m_X29_input s (x0 + 4029) x1 x2).bind fun q1 =>
  some (q1.1, Wz q1.2)
noncomputable def m_X1_input : jS → Int → Int → Int → Option (jS × Int) := Classical.choose (⟨dm_X1_input, rfl⟩ : ∃ f, f = dm_X1_input)
theorem em_X1_input : m_X1_input = dm_X1_input := Classical.choose_spec (⟨dm_X1_input, rfl⟩ : ∃ f, f = dm_X1_input)
def dm_X1_halt (s : jS) (x0 x1 x2 : Int) : Option (jS × Int) :=
  (m_X29_halt s (x0 + 4029) x1 x2).bind fun q1 =>
  some (q1.1, Wz q1.2)
noncomputable def m_X1_halt : jS → Int → Int → Int → Option (jS × Int) := Classical.choose (⟨dm_X1_halt, rfl⟩ : ∃ f, f = dm_X1_halt)
theorem em_X1_halt : m_X1_halt = dm_X1_halt := Classical.choose_spec (⟨dm_X1_halt, rfl⟩ : ∃ f, f = dm_X1_halt)
def dm_X1_state (s : jS) (x0 x1 : Int) : Option (Int) :=
  (m_X29_state s (x0 + 4029) x1).bind fun v1 =>
  some v1
noncomputable def m_X1_state : jS → Int → Int → Option (Int) := Classical.choose (⟨dm_X1_state, rfl⟩ : ∃ f, f = dm_X1_state)
theorem em_X1_state : m_X1_state = dm_X1_state := Classical.choose_spec (⟨dm_X1_state, rfl⟩ : ∃ f, f = dm_X1_state)
def dm_X1_output (s : jS) (x0 x1 : Int) : Option (Int) :=
  (m_X29_output s (x0 + 4029) x1).bind fun v1 =>
  some v1
noncomputable def m_X1_output : jS → Int → Int → Option (Int) := Classical.choose (⟨dm_X1_output, rfl⟩ : ∃ f, f = dm_X1_output)
theorem em_X1_output : m_X1_output = dm_X1_output := Classical.choose_spec (⟨dm_X1_output, rfl⟩ : ∃ f, f = dm_X1_output)
def dm_X1_byteOrNothing (s : jS) (x0 x1 : Int) : Option (Int) :=
  (m_X29_peek s (x0 + 4029) x1).bind fun v1 =>
  some (jmx 0 v1)
noncomputable def m_X1_byteOrNothing : jS → Int → Int → Option (Int) := Classical.choose (⟨dm_X1_byteOrNothing, rfl⟩ : ∃ f, f = dm_X1_byteOrNothing)
theorem em_X1_byteOrNothing : m_X1_byteOrNothing = dm_X1_byteOrNothing := Classical.choose_spec (⟨dm_X1_byteOrNothing, rfl⟩ : ∃ f, f = dm_X1_byteOrNothing)
def dm_X1_where (s : jS) (x0 x1 x3 : Int) : Option (jS × Bool × Int) :=
  (m_X35_find s (x0 + 4275) x1 x3).bind fun v1 =>
  if v1 = (-1) then
    (jnx s 2078).bind fun q2 =>
    jck0 q2.2 (some (q2.1, true, q2.2))
  else
    (jlt s 1000 ((x0 + 4275) + 40) 600 v1).bind fun v3 =>
    some (s, false, v3)
noncomputable def m_X1_where : jS → Int → Int → Int → Option (jS × Bool × Int) := Classical.choose (⟨dm_X1_where, rfl⟩ : ∃ f, f = dm_X1_where)
theorem em_X1_where : m_X1_where = dm_X1_where := Classical.choose_spec (⟨dm_X1_where, rfl⟩ : ∃ f, f = dm_X1_where)
def dm_X2_made (s : jS) (x0 x1 x2 x3 x4 x5 : Int) : Option (Int) :=
  (jrd s 11 x1 2).bind fun v1 =>
  (jct s 27 x1 (m_X7_put s x1 v1 0 x2)).bind fun v2 =>
  (jct s 27 x1 (m_X7_put s x1 v2 1 x3)).bind fun v3 =>
  (jct s 27 x1 (m_X7_put s x1 v3 2 x4)).bind fun v4 =>
  (jct s 27 x1 (m_X7_put s x1 v4 3 x5)).bind fun v5 =>
  some v5
noncomputable def m_X2_made : jS → Int → Int → Int → Int → Int → Int → Option (Int) := Classical.choose (⟨dm_X2_made, rfl⟩ : ∃ f, f = dm_X2_made)
theorem em_X2_made : m_X2_made = dm_X2_made := Classical.choose_spec (⟨dm_X2_made, rfl⟩ : ∃ f, f = dm_X2_made)
def dmp_X3_all (s : jS) (x0 : Int) : Option (Int) := if 0 ≤ x0 ∧ jK s x0 = 4 then jct s 20 x0 (m_X4_all s x0) else if 0 ≤ x0 ∧ jK s x0 = 5 then jct s 21 x0 (m_X5_all s x0) else if 0 ≤ x0 ∧ jK s x0 = 6 then m_X6_all s x0 else if 0 ≤ x0 ∧ jK s x0 = 12 then m_X6_all s x0 else if 0 ≤ x0 ∧ jK s x0 = 14 then m_X6_all s x0 else none
noncomputable def mp_X3_all : jS → Int → Option (Int) := Classical.choose (⟨dmp_X3_all, rfl⟩ : ∃ f, f = dmp_X3_all)
theorem emp_X3_all : mp_X3_all = dmp_X3_all := Classical.choose_spec (⟨dmp_X3_all, rfl⟩ : ∃ f, f = dmp_X3_all)
def dm_X3_bits (s : jS) (x0 : Int) : Option (Int) :=
  (mp_X3_all s x0).bind fun v1 =>
  (mp_X3_put s x0 0 v1).bind fun v2 =>
  some v2
noncomputable def m_X3_bits : jS → Int → Option (Int) := Classical.choose (⟨dm_X3_bits, rfl⟩ : ∃ f, f = dm_X3_bits)
theorem em_X3_bits : m_X3_bits = dm_X3_bits := Classical.choose_spec (⟨dm_X3_bits, rfl⟩ : ∃ f, f = dm_X3_bits)
def dmp_X6_idle (s : jS) (x0 : Int) : Option (Int) := if 0 ≤ x0 ∧ jK s x0 = 6 then m_X6_idle s x0 else if 0 ≤ x0 ∧ jK s x0 = 12 then m_X6_idle s x0 else if 0 ≤ x0 ∧ jK s x0 = 14 then m_X6_idle s x0 else none
noncomputable def mp_X6_idle : jS → Int → Option (Int) := Classical.choose (⟨dmp_X6_idle, rfl⟩ : ∃ f, f = dmp_X6_idle)
theorem emp_X6_idle : mp_X6_idle = dmp_X6_idle := Classical.choose_spec (⟨dmp_X6_idle, rfl⟩ : ∃ f, f = dmp_X6_idle)
def du_X6_may_41 (s : jS) (x0 x1 y0 y1 : Int) : Option (Int) :=
  if (L_cmp y1 y0) < 0 then
    some (Wz 0)
  else
    (mp_X6_idle s x0).bind fun v1 =>
    if (L_cmp (L_and x1 v1) 0) = 0 then
      some (Wz 1)
    else
      some (Wz 0)
noncomputable def u_X6_may_41 : jS → Int → Int → Int → Int → Option (Int) := Classical.choose (⟨du_X6_may_41, rfl⟩ : ∃ f, f = du_X6_may_41)
theorem eu_X6_may_41 : u_X6_may_41 = du_X6_may_41 := Classical.choose_spec (⟨du_X6_may_41, rfl⟩ : ∃ f, f = du_X6_may_41)
def du_X6_may_18 (s : jS) (x0 x1 y0 y1 y2 : Int) : Option (Int) :=
  jlet (L_shl y2 (W32 (y1 - y0))) fun v1 =>
  if (L_cmp x1 v1) < 0 then
    (jrp s [(6, 1), (12, 1), (14, 1)] x0).bind fun v2 =>
    if v2 = 0 then
      u_X6_may_41 s x0 x1 0 x1
    else
      u_X6_may_41 s x0 x1 (W64 (-v1)) x1
  else
    some (Wz 0)
noncomputable def u_X6_may_18 : jS → Int → Int → Int → Int → Int → Option (Int) := Classical.choose (⟨du_X6_may_18, rfl⟩ : ∃ f, f = du_X6_may_18)
theorem eu_X6_may_18 : u_X6_may_18 = du_X6_may_18 := Classical.choose_spec (⟨du_X6_may_18, rfl⟩ : ∃ f, f = du_X6_may_18)
def dm_X6_may (s : jS) (x0 x1 : Int) : Option (Int) :=
  (jrp s [(6, 0), (12, 0), (14, 0)] x0).bind fun v1 =>
  (jln s 1000 v1).bind fun v2 =>
  (jrp s [(6, 1), (12, 1), (14, 1)] x0).bind fun v3 =>
  if v3 = 0 then
    u_X6_may_18 s x0 x1 0 v2 1
  else
    u_X6_may_18 s x0 x1 1 v2 1
noncomputable def m_X6_may : jS → Int → Int → Option (Int) := Classical.choose (⟨dm_X6_may, rfl⟩ : ∃ f, f = dm_X6_may)
theorem em_X6_may : m_X6_may = dm_X6_may := Classical.choose_spec (⟨dm_X6_may, rfl⟩ : ∃ f, f = dm_X6_may)
def dmp_J2_coder (s : jS) (x0 : Int) : Option (Int) := if 0 ≤ x0 ∧ jK s x0 = 9 then m_J2_coder s x0 else if 0 ≤ x0 ∧ jK s x0 = 3009 then m_J2_coder s x0 else none
noncomputable def mp_J2_coder : jS → Int → Option (Int) := Classical.choose (⟨dmp_J2_coder, rfl⟩ : ∃ f, f = dmp_J2_coder)
theorem emp_J2_coder : mp_J2_coder = dmp_J2_coder := Classical.choose_spec (⟨dmp_J2_coder, rfl⟩ : ∃ f, f = dmp_J2_coder)
def dm_J2_length (s : jS) (x0 : Int) : Option (Int) :=
  (jrp s [(9, 0), (3009, 0)] x0).bind fun v1 =>
  (jlnE s 1001 v1).bind fun v2 =>
  (mp_J2_coder s x0).bind fun v3 =>
  some (I_shr v2 v3)
noncomputable def m_J2_length : jS → Int → Option (Int) := Classical.choose (⟨dm_J2_length, rfl⟩ : ∃ f, f = dm_J2_length)
theorem em_J2_length : m_J2_length = dm_J2_length := Classical.choose_spec (⟨dm_J2_length, rfl⟩ : ∃ f, f = dm_J2_length)
def du_J2_equals_36 (s : jS) (x0 x2 : Int) : Option (Int) :=
  (jrp s [(9, 0), (3009, 0)] x0).bind fun v1 =>
  (jrp s [(9, 0), (3009, 0)] x2).bind fun v2 =>
  (m_J15_equals s v1 v2).bind fun v3 =>
  if v3 = 0 then
    some (Wz 0)
  else
    some (Wz 1)
noncomputable def u_J2_equals_36 : jS → Int → Int → Option (Int) := Classical.choose (⟨du_J2_equals_36, rfl⟩ : ∃ f, f = du_J2_equals_36)
theorem eu_J2_equals_36 : u_J2_equals_36 = du_J2_equals_36 := Classical.choose_spec (⟨du_J2_equals_36, rfl⟩ : ∃ f, f = du_J2_equals_36)
def dm_J2_equals (s : jS) (x0 x1 : Int) : Option (Int) :=
  if x0 = x1 then
    some (Wz 1)
  else
    (jio1 s [9, 3009] [] x1).bind fun v1 =>
    if v1 = 0 then
      some (Wz 0)
    else
      jkk s [9, 3009] x1 <|
      if 1 = 0 then
        u_J2_equals_36 s x0 x1
      else
        (jrp s [(9, 1), (3009, 1)] x0).bind fun v2 =>
        (jrp s [(9, 1), (3009, 1)] x1).bind fun v3 =>
        if v2 = v3 then
          u_J2_equals_36 s x0 x1
        else
          some (Wz 0)
noncomputable def m_J2_equals : jS → Int → Int → Option (Int) := Classical.choose (⟨dm_J2_equals, rfl⟩ : ∃ f, f = dm_J2_equals)
theorem em_J2_equals : m_J2_equals = dm_J2_equals := Classical.choose_spec (⟨dm_J2_equals, rfl⟩ : ∃ f, f = dm_J2_equals)
def dmp_X3_bits (s : jS) (x0 : Int) : Option (Int) := if 0 ≤ x0 ∧ jK s x0 = 4 then m_X3_bits s x0 else if 0 ≤ x0 ∧ jK s x0 = 5 then m_X3_bits s x0 else if 0 ≤ x0 ∧ jK s x0 = 6 then m_X3_bits s x0 else if 0 ≤ x0 ∧ jK s x0 = 12 then m_X3_bits s x0 else if 0 ≤ x0 ∧ jK s x0 = 14 then m_X3_bits s x0 else none
noncomputable def mp_X3_bits : jS → Int → Option (Int) := Classical.choose (⟨dmp_X3_bits, rfl⟩ : ∃ f, f = dmp_X3_bits)
theorem emp_X3_bits : mp_X3_bits = dmp_X3_bits := Classical.choose_spec (⟨dmp_X3_bits, rfl⟩ : ∃ f, f = dmp_X3_bits)
def du_X7_init_113 (s : jS) (x10 y0 y1 : Int) : Option (jS × Int) :=
  jls (jp s 11 y1 3 (I_and y0 (I_xor x10 (-1)))) fun s1 =>
  some (s1, 0)
noncomputable def u_X7_init_113 : jS → Int → Int → Int → Option (jS × Int) := Classical.choose (⟨du_X7_init_113, rfl⟩ : ∃ f, f = du_X7_init_113)
theorem eu_X7_init_113 : u_X7_init_113 = du_X7_init_113 := Classical.choose_spec (⟨du_X7_init_113, rfl⟩ : ∃ f, f = du_X7_init_113)
def du_X7_init_100 (s : jS) (x0 x4 x10 : Int) : Option (jS × Int) :=
  if x4 = 4 then
    u_X7_init_113 s x10 (-1) x0
  else
    u_X7_init_113 s x10 65535 x0
noncomputable def u_X7_init_100 : jS → Int → Int → Int → Option (jS × Int) := Classical.choose (⟨du_X7_init_100, rfl⟩ : ∃ f, f = du_X7_init_100)
theorem eu_X7_init_100 : u_X7_init_100 = du_X7_init_100 := Classical.choose_spec (⟨du_X7_init_100, rfl⟩ : ∃ f, f = du_X7_init_100)
def du_X7_init_91 (s : jS) (x0 x4 x9 x11 y0 y1 : Int) : Option ((jS × List Int) ⊕ (jS × Int)) :=
  jlet (I_or y1 y0) fun v1 =>
  some (.inl (s, [x0, x4, x9, v1, W32 (x11 + 1)]))
noncomputable def u_X7_init_91 : jS → Int → Int → Int → Int → Int → Int → Option ((jS × List Int) ⊕ (jS × Int)) := Classical.choose (⟨du_X7_init_91, rfl⟩ : ∃ f, f = du_X7_init_91)
theorem eu_X7_init_91 : u_X7_init_91 = du_X7_init_91 := Classical.choose_spec (⟨du_X7_init_91, rfl⟩ : ∃ f, f = du_X7_init_91)
def b_X7_init_63 (s : jS) (x0 x4 x9 x10 x11 : Int) : Option ((jS × List Int) ⊕ (jS × Int)) :=
  if x11 < 4 then
    (jld s 1007 x9 x11).bind fun v1 =>
    if v1 < 0 then
      u_X7_init_91 s x0 x4 x9 x11 0 x10
    else
      (jld s 1007 x9 x11).bind fun v2 =>
      (mp_X3_bits s v2).bind fun v3 =>
      u_X7_init_91 s x0 x4 x9 x11 v3 x10
  else
    jinr (u_X7_init_100 s x0 x4 x10)
def du_X7_init_63 (s : jS) (x0 x4 x9 x10 x11 : Int) : Option (jS × Int) := jlpW (jc5 b_X7_init_63) [x0, x4, x9, x10, x11] s
noncomputable def u_X7_init_63 : jS → Int → Int → Int → Int → Int → Option (jS × Int) := Classical.choose (⟨du_X7_init_63, rfl⟩ : ∃ f, f = du_X7_init_63)
theorem eu_X7_init_63 : u_X7_init_63 = du_X7_init_63 := Classical.choose_spec (⟨du_X7_init_63, rfl⟩ : ∃ f, f = du_X7_init_63)
def dm_X7_init (s : jS) (x0 x1 x2 x3 x4 x5 x6 x7 x8 : Int) : Option (jS × Int) :=
  jck0 x0 <|
  jls (jp s 11 x0 0 x1) fun s1 =>
  jls (jp s1 11 x0 1 x2) fun s2 =>
  jls (jp s2 11 x0 2 x3) fun s3 =>
  jls (jp s3 11 x0 4 x4) fun s4 =>
  (jna s4 1007 4 (-1)).bind fun q5 =>
  (jasL q5.1 1007 [4, 5, 6, 12, 14] q5.2 0 x5).bind fun s6 =>
  (jasL s6 1007 [4, 5, 6, 12, 14] q5.2 1 x6).bind fun s7 =>
  (jasL s7 1007 [4, 5, 6, 12, 14] q5.2 2 x7).bind fun s8 =>
  (jasL s8 1007 [4, 5, 6, 12, 14] q5.2 3 x8).bind fun s9 =>
  jls (jp s9 11 x0 5 q5.2) fun s10 =>
  u_X7_init_63 s10 x0 x4 q5.2 0 0
noncomputable def m_X7_init : jS → Int → Int → Int → Int → Int → Int → Int → Int → Int → Option (jS × Int) := Classical.choose (⟨dm_X7_init, rfl⟩ : ∃ f, f = dm_X7_init)
theorem em_X7_init : m_X7_init = dm_X7_init := Classical.choose_spec (⟨dm_X7_init, rfl⟩ : ∃ f, f = dm_X7_init)
def dm_X7_as (s : jS) (x0 x1 x2 x3 x4 : Int) : Option (jS × Int) :=
  (jnw s 13 4 (jdf 13)).bind fun q1 =>
  (jck0 q1.2 (m_X9_init q1.1 q1.2 x1 x2 x3 x4)).bind fun q2 =>
  jls (jp q2.1 11 x0 6 q1.2) fun s3 =>
  some (s3, x0)
noncomputable def m_X7_as : jS → Int → Int → Int → Int → Int → Option (jS × Int) := Classical.choose (⟨dm_X7_as, rfl⟩ : ∃ f, f = dm_X7_as)
theorem em_X7_as : m_X7_as = dm_X7_as := Classical.choose_spec (⟨dm_X7_as, rfl⟩ : ∃ f, f = dm_X7_as)
def dmp_X3_take (s : jS) (x0 x1 : Int) : Option (Int) := if 0 ≤ x0 ∧ jK s x0 = 4 then jct s 20 x0 (m_X4_take s x0 x1) else if 0 ≤ x0 ∧ jK s x0 = 5 then jct s 21 x0 (m_X5_take s x0 x1) else if 0 ≤ x0 ∧ jK s x0 = 6 then m_X6_take s x0 x1 else if 0 ≤ x0 ∧ jK s x0 = 12 then m_X6_take s x0 x1 else if 0 ≤ x0 ∧ jK s x0 = 14 then jct s 30 x0 (m_X10_take s x0 x1) else none
noncomputable def mp_X3_take : jS → Int → Int → Option (Int) := Classical.choose (⟨dmp_X3_take, rfl⟩ : ∃ f, f = dmp_X3_take)
theorem emp_X3_take : mp_X3_take = dmp_X3_take := Classical.choose_spec (⟨dmp_X3_take, rfl⟩ : ∃ f, f = dmp_X3_take)
def dm_X7_part (s : jS) (x0 x1 x2 : Int) : Option (Int) :=
  (jld s 1007 (jf s 11 x0 5) x2).bind fun v1 =>
  if v1 < 0 then
    some 0
  else
    (jld s 1007 (jf s 11 x0 5) x2).bind fun v2 =>
    (mp_X3_take s v2 x1).bind fun v3 =>
    some v3
noncomputable def m_X7_part : jS → Int → Int → Int → Option (Int) := Classical.choose (⟨dm_X7_part, rfl⟩ : ∃ f, f = dm_X7_part)
theorem em_X7_part : m_X7_part = dm_X7_part := Classical.choose_spec (⟨dm_X7_part, rfl⟩ : ∃ f, f = dm_X7_part)
def dmq_X6_may (s : jS) (x0 x1 : Int) : Option (Int) := if 0 ≤ x0 ∧ jK s x0 = 12 then m_X6_may s x0 x1 else none
noncomputable def mq_X6_may : jS → Int → Int → Option (Int) := Classical.choose (⟨dmq_X6_may, rfl⟩ : ∃ f, f = dmq_X6_may)
theorem emq_X6_may : mq_X6_may = dmq_X6_may := Classical.choose_spec (⟨dmq_X6_may, rfl⟩ : ∃ f, f = dmq_X6_may)
def dm_X8_may (s : jS) (x0 x1 : Int) : Option (Int) :=
  if (L_cmp x1 0) = 0 then
    some (Wz 0)
  else
    (mq_X6_may s x0 x1).bind fun v1 =>
    if v1 = 0 then
      some (Wz 0)
    else
      some (Wz 1)
noncomputable def m_X8_may : jS → Int → Int → Option (Int) := Classical.choose (⟨dm_X8_may, rfl⟩ : ∃ f, f = dm_X8_may)
theorem em_X8_may : m_X8_may = dm_X8_may := Classical.choose_spec (⟨dm_X8_may, rfl⟩ : ∃ f, f = dm_X8_may)
def dm_X11_isBegin (s : jS) (x0 : Int) : Option (Int) :=
  (m_X11_isLetter s x0).bind fun v1 =>
  if v1 = 0 then
    if x0 = 95 then
      some (Wz 1)
    else
      if x0 = 46 then
        some (Wz 1)
      else
        some (Wz 0)
  else
    some (Wz 1)
noncomputable def m_X11_isBegin : jS → Int → Option (Int) := Classical.choose (⟨dm_X11_isBegin, rfl⟩ : ∃ f, f = dm_X11_isBegin)
theorem em_X11_isBegin : m_X11_isBegin = dm_X11_isBegin := Classical.choose_spec (⟨dm_X11_isBegin, rfl⟩ : ∃ f, f = dm_X11_isBegin)
def dm_X11_isInside (s : jS) (x0 : Int) : Option (Int) :=
  (m_X11_isBegin s x0).bind fun v1 =>
  if v1 = 0 then
    (m_X11_isDigit s x0).bind fun v2 =>
    if v2 = 0 then
      if x0 = 36 then
        some (Wz 1)
      else
        some (Wz 0)
    else
      some (Wz 1)
  else
    some (Wz 1)
noncomputable def m_X11_isInside : jS → Int → Option (Int) := Classical.choose (⟨dm_X11_isInside, rfl⟩ : ∃ f, f = dm_X11_isInside)
theorem em_X11_isInside : m_X11_isInside = dm_X11_isInside := Classical.choose_spec (⟨dm_X11_isInside, rfl⟩ : ∃ f, f = dm_X11_isInside)
def dmp_J2_equals (s : jS) (x0 x1 : Int) : Option (Int) := if 0 ≤ x0 ∧ jK s x0 = 9 then m_J2_equals s x0 x1 else if 0 ≤ x0 ∧ jK s x0 = 3009 then m_J2_equals s x0 x1 else none
noncomputable def mp_J2_equals : jS → Int → Int → Option (Int) := Classical.choose (⟨dmp_J2_equals, rfl⟩ : ∃ f, f = dmp_J2_equals)
theorem emp_J2_equals : mp_J2_equals = dmp_J2_equals := Classical.choose_spec (⟨dmp_J2_equals, rfl⟩ : ∃ f, f = dmp_J2_equals)
def dm_X11_markOf (s : jS) (x0 : Int) : Option (Int) :=
  (mp_J2_equals s x0 (jc s 188)).bind fun v1 =>
  if v1 = 0 then
    (mp_J2_equals s x0 (jc s 189)).bind fun v2 =>
    if v2 = 0 then
      (mp_J2_equals s x0 (jc s 190)).bind fun v3 =>
      if v3 = 0 then
        (mp_J2_equals s x0 (jc s 191)).bind fun v4 =>
        if v4 = 0 then
          some 0
        else
          some 4
      else
        some 3
    else
      some 2
  else
    some 1
noncomputable def m_X11_markOf : jS → Int → Option (Int) := Classical.choose (⟨dm_X11_markOf, rfl⟩ : ∃ f, f = dm_X11_markOf)
theorem em_X11_markOf : m_X11_markOf = dm_X11_markOf := Classical.choose_spec (⟨dm_X11_markOf, rfl⟩ : ∃ f, f = dm_X11_markOf)
def dm_X11_statement (s : jS) (x0 x1 x2 : Int) : Option (Int) :=
  (m_X11_statementOf s x0 x1).bind fun v1 =>
  if v1 < 0 then
    some (-1)
  else
    if x2 = 0 then
      (jrd s 62 v1 0).bind fun v2 =>
      some v2
    else
    if x2 = 1 then
      (jrd s 62 v1 1).bind fun v3 =>
      some v3
    else
    if x2 = 2 then
      (jrd s 62 v1 2).bind fun v4 =>
      some v4
    else
    if x2 = 3 then
      (jrd s 62 v1 3).bind fun v5 =>
      some v5
    else
    if x2 = 4 then
      (jrd s 62 v1 4).bind fun v6 =>
      some v6
    else
    if x2 = 5 then
      (jrd s 62 v1 5).bind fun v7 =>
      some v7
    else
    some (-1)
noncomputable def m_X11_statement : jS → Int → Int → Int → Option (Int) := Classical.choose (⟨dm_X11_statement, rfl⟩ : ∃ f, f = dm_X11_statement)
theorem em_X11_statement : m_X11_statement = dm_X11_statement := Classical.choose_spec (⟨dm_X11_statement, rfl⟩ : ∃ f, f = dm_X11_statement)
def dmp_J2_length (s : jS) (x0 : Int) : Option (Int) := if 0 ≤ x0 ∧ jK s x0 = 9 then m_J2_length s x0 else if 0 ≤ x0 ∧ jK s x0 = 3009 then m_J2_length s x0 else none
noncomputable def mp_J2_length : jS → Int → Option (Int) := Classical.choose (⟨dmp_J2_length, rfl⟩ : ∃ f, f = dmp_J2_length)
theorem emp_J2_length : mp_J2_length = dmp_J2_length := Classical.choose_spec (⟨dmp_J2_length, rfl⟩ : ∃ f, f = dmp_J2_length)
def dm_X11_operand (s : jS) (x0 x1 x2 : Int) : Option (Int) :=
  (m_X11_operandOf s x0 x1).bind fun v1 =>
  if v1 < 0 then
    some (-1)
  else
    if x2 = 0 then
      (jrd s 63 v1 0).bind fun v2 =>
      some v2
    else
    if x2 = 1 then
      (jrd s 63 v1 1).bind fun v3 =>
      some v3
    else
    if x2 = 2 then
      (jrd s 63 v1 2).bind fun v4 =>
      some v4
    else
    if x2 = 3 then
      (jrd s 63 v1 3).bind fun v5 =>
      some v5
    else
    if x2 = 4 then
      (jrd s 63 v1 4).bind fun v6 =>
      some v6
    else
    if x2 = 5 then
      (jrd s 63 v1 5).bind fun v7 =>
      some v7
    else
    if x2 = 6 then
      (jrd s 63 v1 7).bind fun v8 =>
      (mp_J2_length s v8).bind fun v9 =>
      some v9
    else
    some (-1)
noncomputable def m_X11_operand : jS → Int → Int → Int → Option (Int) := Classical.choose (⟨dm_X11_operand, rfl⟩ : ∃ f, f = dm_X11_operand)
theorem em_X11_operand : m_X11_operand = dm_X11_operand := Classical.choose_spec (⟨dm_X11_operand, rfl⟩ : ∃ f, f = dm_X11_operand)
def b_X12_find_2 (s : jS) (x0 x1 x2 : Int) : Option (List Int ⊕ (Int)) :=
  if x2 < (jf s 16 x0 8) then
    (jlt s 1026 (x0 + 5) 150 x2).bind fun v1 =>
    (mp_J2_equals s v1 x1).bind fun v2 =>
    if v2 = 0 then
      some (.inl [x0, x1, W32 (x2 + 1)])
    else
      jinr (some x2)
  else
    jinr (some (-1))
def du_X12_find_2 (s : jS) (x0 x1 x2 : Int) : Option (Int) := jlpR (jc3 b_X12_find_2) [x0, x1, x2] s
noncomputable def u_X12_find_2 : jS → Int → Int → Int → Option (Int) := Classical.choose (⟨du_X12_find_2, rfl⟩ : ∃ f, f = du_X12_find_2)
theorem eu_X12_find_2 : u_X12_find_2 = du_X12_find_2 := Classical.choose_spec (⟨du_X12_find_2, rfl⟩ : ∃ f, f = du_X12_find_2)
def dm_X12_find (s : jS) (x0 x1 : Int) : Option (Int) :=
  u_X12_find_2 s x0 x1 0
noncomputable def m_X12_find : jS → Int → Int → Option (Int) := Classical.choose (⟨dm_X12_find, rfl⟩ : ∃ f, f = dm_X12_find)
theorem em_X12_find : m_X12_find = dm_X12_find := Classical.choose_spec (⟨dm_X12_find, rfl⟩ : ∃ f, f = dm_X12_find)
def b_X13_feed_30 (s : jS) (x0 x1 x2 x4 : Int) : Option ((jS × List Int) ⊕ (jS × Int)) :=
  if x4 < x1 then
    (m_X19_put1 s (x0 + 1229) (L2i (L_shr x2 (W32 (56 - (W32 (8 * x4))))))).bind fun q1 =>
    some (.inl (q1.1, [x0, x1, x2, W32 (x4 + 1)]))
  else
    jinr (some (s, Wz 1))
def du_X13_feed_30 (s : jS) (x0 x1 x2 x4 : Int) : Option (jS × Int) := jlpW (jc4 b_X13_feed_30) [x0, x1, x2, x4] s
noncomputable def u_X13_feed_30 : jS → Int → Int → Int → Int → Option (jS × Int) := Classical.choose (⟨du_X13_feed_30, rfl⟩ : ∃ f, f = du_X13_feed_30)
theorem eu_X13_feed_30 : u_X13_feed_30 = du_X13_feed_30 := Classical.choose_spec (⟨du_X13_feed_30, rfl⟩ : ∃ f, f = du_X13_feed_30)
def dm_X13_feed (s : jS) (x0 x1 x2 : Int) : Option (jS × Int) :=
  (m_X13_in s x1 1 8).bind fun v1 =>
  if v1 = 0 then
    some (s, Wz 0)
  else
    if 8192 < (W32 ((jf s 23 (x0 + 1229) 1) + x1)) then
      some (s, Wz 0)
    else
      u_X13_feed_30 s x0 x1 x2 0
noncomputable def m_X13_feed : jS → Int → Int → Int → Option (jS × Int) := Classical.choose (⟨dm_X13_feed, rfl⟩ : ∃ f, f = dm_X13_feed)
theorem em_X13_feed : m_X13_feed = dm_X13_feed := Classical.choose_spec (⟨dm_X13_feed, rfl⟩ : ∃ f, f = dm_X13_feed)
def dm_X13_spoil (s : jS) (x0 x1 x2 : Int) : Option (jS × Int) :=
  (m_X13_in s x1 0 (W32 ((jf s 23 (x0 + 1229) 1) - 1))).bind fun v1 =>
  if v1 = 0 then
    some (s, (-1))
  else
    (m_X19_u1 s (x0 + 1229) x1).bind fun v2 =>
    (jst s 1001 ((x0 + 1229) + 1) (jN s ((x0 + 1229) + 1)) x1 (W8 (W8 x2))).bind fun s3 =>
    some (s3, v2)
noncomputable def m_X13_spoil : jS → Int → Int → Int → Option (jS × Int) := Classical.choose (⟨dm_X13_spoil, rfl⟩ : ∃ f, f = dm_X13_spoil)
theorem em_X13_spoil : m_X13_spoil = dm_X13_spoil := Classical.choose_spec (⟨dm_X13_spoil, rfl⟩ : ∃ f, f = dm_X13_spoil)
def dm_X13_byteAt (s : jS) (x0 x1 : Int) : Option (Int) :=
  (m_X13_in s x1 0 (W32 ((jf s 23 (x0 + 1229) 1) - 1))).bind fun v1 =>
  if v1 = 0 then
    some (-1)
  else
    (m_X19_u1 s (x0 + 1229) x1).bind fun v2 =>
    some v2
noncomputable def m_X13_byteAt : jS → Int → Int → Option (Int) := Classical.choose (⟨dm_X13_byteAt, rfl⟩ : ∃ f, f = dm_X13_byteAt)
theorem em_X13_byteAt : m_X13_byteAt = dm_X13_byteAt := Classical.choose_spec (⟨dm_X13_byteAt, rfl⟩ : ∃ f, f = dm_X13_byteAt)
def dm_X13_section (s : jS) (x0 x1 x2 : Int) : Option (Int) :=
  (m_X13_in s x1 0 3).bind fun v1 =>
  if v1 = 0 then
    some (-1)
  else
    (m_X13_in s x2 0 1).bind fun v2 =>
    if v2 = 0 then
      some (-1)
    else
      if x2 = 0 then
        (m_X14_room s (x0 + 614) x1).bind fun v3 =>
        some v3
      else
        (jix 4 x1 (((x0 + 614) + 1) + 4 + 2 * x1)).bind fun v4 =>
        some (jf s 19 v4 2)
noncomputable def m_X13_section : jS → Int → Int → Int → Option (Int) := Classical.choose (⟨dm_X13_section, rfl⟩ : ∃ f, f = dm_X13_section)
theorem em_X13_section : m_X13_section = dm_X13_section := Classical.choose_spec (⟨dm_X13_section, rfl⟩ : ∃ f, f = dm_X13_section)
def dm_X13_symbolAt (s : jS) (x0 x1 x2 : Int) : Option (Int) :=
  (m_X13_in s x1 0 (W32 ((jf s 18 (x0 + 614) 4) - 1))).bind fun v1 =>
  if v1 = 0 then
    some (-1)
  else
    if x2 < 0 then
      some (-1)
    else
      (jix 100 x1 (((x0 + 614) + 3) + 10 + 3 * x1)).bind fun v2 =>
      (m_X16_tell s v2 x2).bind fun v3 =>
      some v3
noncomputable def m_X13_symbolAt : jS → Int → Int → Int → Option (Int) := Classical.choose (⟨dm_X13_symbolAt, rfl⟩ : ∃ f, f = dm_X13_symbolAt)
theorem em_X13_symbolAt : m_X13_symbolAt = dm_X13_symbolAt := Classical.choose_spec (⟨dm_X13_symbolAt, rfl⟩ : ∃ f, f = dm_X13_symbolAt)
def dm_X13_relocationAt (s : jS) (x0 x1 x2 : Int) : Option (Int) :=
  (m_X13_in s x1 0 (W32 ((jf s 18 (x0 + 614) 6) - 1))).bind fun v1 =>
  if v1 = 0 then
    some (-1)
  else
    (jix 300 x1 (((x0 + 614) + 4) + 309 + 1 * x1)).bind fun v2 =>
    (m_X18_tell s v2 x2).bind fun v3 =>
    some v3
noncomputable def m_X13_relocationAt : jS → Int → Int → Int → Option (Int) := Classical.choose (⟨dm_X13_relocationAt, rfl⟩ : ∃ f, f = dm_X13_relocationAt)
theorem em_X13_relocationAt : m_X13_relocationAt = dm_X13_relocationAt := Classical.choose_spec (⟨dm_X13_relocationAt, rfl⟩ : ∃ f, f = dm_X13_relocationAt)
def b_X13_put_40 (s : jS) (x0 x1 x2 x3 x5 : Int) : Option ((jS × List Int) ⊕ (jS × Int)) :=
  if x5 < x2 then
    (jix 4 x1 (((x0 + 1) + 1) + 4 + 2 * x1)).bind fun v1 =>
    (m_X15_add s v1 (L2i (L_shr x3 (W32 (56 - (W32 (8 * x5))))))).bind fun q2 =>
    some (.inl (q2.1, [x0, x1, x2, x3, W32 (x5 + 1)]))
  else
    jinr (some (s, Wz 1))
def du_X13_put_40 (s : jS) (x0 x1 x2 x3 x5 : Int) : Option (jS × Int) := jlpW (jc5 b_X13_put_40) [x0, x1, x2, x3, x5] s
noncomputable def u_X13_put_40 : jS → Int → Int → Int → Int → Int → Option (jS × Int) := Classical.choose (⟨du_X13_put_40, rfl⟩ : ∃ f, f = du_X13_put_40)
theorem eu_X13_put_40 : u_X13_put_40 = du_X13_put_40 := Classical.choose_spec (⟨du_X13_put_40, rfl⟩ : ∃ f, f = du_X13_put_40)
def dm_X13_put (s : jS) (x0 x1 x2 x3 : Int) : Option (jS × Int) :=
  (m_X13_in s x1 0 2).bind fun v1 =>
  if v1 = 0 then
    some (s, Wz 0)
  else
    (m_X13_in s x2 1 8).bind fun v2 =>
    if v2 = 0 then
      some (s, Wz 0)
    else
      (m_X14_room s (x0 + 1) x1).bind fun v3 =>
      if 2048 < (W32 (v3 + x2)) then
        some (s, Wz 0)
      else
        u_X13_put_40 s x0 x1 x2 x3 0
noncomputable def m_X13_put : jS → Int → Int → Int → Int → Option (jS × Int) := Classical.choose (⟨dm_X13_put, rfl⟩ : ∃ f, f = dm_X13_put)
theorem em_X13_put : m_X13_put = dm_X13_put := Classical.choose_spec (⟨dm_X13_put, rfl⟩ : ∃ f, f = dm_X13_put)
def dm_X13_start (s : jS) (x0 x1 : Int) : Option (jS × Int) :=
  if x1 < 2048 then
    (m_X14_start s (x0 + 1) x1).bind fun q1 =>
    if q1.2 = 0 then
      some (q1.1, Wz 0)
    else
      some (q1.1, Wz 1)
  else
    some (s, Wz 0)
noncomputable def m_X13_start : jS → Int → Int → Option (jS × Int) := Classical.choose (⟨dm_X13_start, rfl⟩ : ∃ f, f = dm_X13_start)
theorem em_X13_start : m_X13_start = dm_X13_start := Classical.choose_spec (⟨dm_X13_start, rfl⟩ : ∃ f, f = dm_X13_start)
def dm_X13_letter (s : jS) (x0 x1 : Int) : Option (jS × Int) :=
  (m_X17_add s (x0 + 1227) x1).bind fun q1 =>
  some (q1.1, Wz q1.2)
noncomputable def m_X13_letter : jS → Int → Int → Option (jS × Int) := Classical.choose (⟨dm_X13_letter, rfl⟩ : ∃ f, f = dm_X13_letter)
theorem em_X13_letter : m_X13_letter = dm_X13_letter := Classical.choose_spec (⟨dm_X13_letter, rfl⟩ : ∃ f, f = dm_X13_letter)
def du_X14_shorts_26 (s : jS) (x0 x2 y0 y1 : Int) : Option (List Int ⊕ (Int)) :=
  jlet (W32 (y1 + y0)) fun v1 =>
  some (.inl [x0, v1, W32 (x2 + 1)])
noncomputable def u_X14_shorts_26 : jS → Int → Int → Int → Int → Option (List Int ⊕ (Int)) := Classical.choose (⟨du_X14_shorts_26, rfl⟩ : ∃ f, f = du_X14_shorts_26)
theorem eu_X14_shorts_26 : u_X14_shorts_26 = du_X14_shorts_26 := Classical.choose_spec (⟨du_X14_shorts_26, rfl⟩ : ∃ f, f = du_X14_shorts_26)
def b_X14_shorts_4 (s : jS) (x0 x1 x2 : Int) : Option (List Int ⊕ (Int)) :=
  if x2 < (jf s 18 x0 2) then
    (m_X14_isShort s x0 x2).bind fun v1 =>
    if v1 = 0 then
      u_X14_shorts_26 s x0 x2 0 x1
    else
      u_X14_shorts_26 s x0 x2 1 x1
  else
    jinr (some x1)
def du_X14_shorts_4 (s : jS) (x0 x1 x2 : Int) : Option (Int) := jlpR (jc3 b_X14_shorts_4) [x0, x1, x2] s
noncomputable def u_X14_shorts_4 : jS → Int → Int → Int → Option (Int) := Classical.choose (⟨du_X14_shorts_4, rfl⟩ : ∃ f, f = du_X14_shorts_4)
theorem eu_X14_shorts_4 : u_X14_shorts_4 = du_X14_shorts_4 := Classical.choose_spec (⟨du_X14_shorts_4, rfl⟩ : ∃ f, f = du_X14_shorts_4)
def dm_X14_shorts (s : jS) (x0 : Int) : Option (Int) :=
  u_X14_shorts_4 s x0 0 0
noncomputable def m_X14_shorts : jS → Int → Option (Int) := Classical.choose (⟨dm_X14_shorts, rfl⟩ : ∃ f, f = dm_X14_shorts)
theorem em_X14_shorts : m_X14_shorts = dm_X14_shorts := Classical.choose_spec (⟨dm_X14_shorts, rfl⟩ : ∃ f, f = dm_X14_shorts)
def du_X14_clear_22 (s : jS) (x0 : Int) : Option (jS × Int) :=
  jls (jp s 18 x0 2 0) fun s1 =>
  jls (jp s1 18 x0 4 0) fun s2 =>
  jls (jp s2 18 x0 6 0) fun s3 =>
  some (s3, 0)
noncomputable def u_X14_clear_22 : jS → Int → Option (jS × Int) := Classical.choose (⟨du_X14_clear_22, rfl⟩ : ∃ f, f = du_X14_clear_22)
theorem eu_X14_clear_22 : u_X14_clear_22 = du_X14_clear_22 := Classical.choose_spec (⟨du_X14_clear_22, rfl⟩ : ∃ f, f = du_X14_clear_22)
def b_X14_clear_2 (s : jS) (x0 x1 : Int) : Option ((jS × List Int) ⊕ (jS × Int)) :=
  if x1 < 4 then
    (jix 4 x1 ((x0 + 1) + 4 + 2 * x1)).bind fun v1 =>
    (m_X15_clear s v1).bind fun q2 =>
    some (.inl (q2.1, [x0, W32 (x1 + 1)]))
  else
    jinr (u_X14_clear_22 s x0)
def du_X14_clear_2 (s : jS) (x0 x1 : Int) : Option (jS × Int) := jlpW (jc2 b_X14_clear_2) [x0, x1] s
noncomputable def u_X14_clear_2 : jS → Int → Int → Option (jS × Int) := Classical.choose (⟨du_X14_clear_2, rfl⟩ : ∃ f, f = du_X14_clear_2)
theorem eu_X14_clear_2 : u_X14_clear_2 = du_X14_clear_2 := Classical.choose_spec (⟨du_X14_clear_2, rfl⟩ : ∃ f, f = du_X14_clear_2)
def dm_X14_clear (s : jS) (x0 : Int) : Option (jS × Int) :=
  u_X14_clear_2 s x0 0
noncomputable def m_X14_clear : jS → Int → Option (jS × Int) := Classical.choose (⟨dm_X14_clear, rfl⟩ : ∃ f, f = dm_X14_clear)
theorem em_X14_clear : m_X14_clear = dm_X14_clear := Classical.choose_spec (⟨dm_X14_clear, rfl⟩ : ∃ f, f = dm_X14_clear)
def du_X14_isTaken_37 (s : jS) (x0 x1 x2 x3 : Int) : Option (List Int ⊕ (Int)) :=
  some (.inl [x0, x1, x2, W32 (x3 + 1)])
noncomputable def u_X14_isTaken_37 : jS → Int → Int → Int → Int → Option (List Int ⊕ (Int)) := Classical.choose (⟨du_X14_isTaken_37, rfl⟩ : ∃ f, f = du_X14_isTaken_37)
theorem eu_X14_isTaken_37 : u_X14_isTaken_37 = du_X14_isTaken_37 := Classical.choose_spec (⟨du_X14_isTaken_37, rfl⟩ : ∃ f, f = du_X14_isTaken_37)
def b_X14_isTaken_2 (s : jS) (x0 x1 x2 x3 : Int) : Option (List Int ⊕ (Int)) :=
  if x3 < x2 then
    (jix 100 x3 ((x0 + 3) + 10 + 3 * x3)).bind fun v1 =>
    if (jf s 20 v1 4) = 0 then
      u_X14_isTaken_37 s x0 x1 x2 x3
    else
      (jix 100 x3 ((x0 + 3) + 10 + 3 * x3)).bind fun v2 =>
      (m_X17_is s (v2 + 1) x1).bind fun v3 =>
      if v3 = 0 then
        u_X14_isTaken_37 s x0 x1 x2 x3
      else
        jinr (some (Wz 1))
  else
    jinr (some (Wz 0))
def du_X14_isTaken_2 (s : jS) (x0 x1 x2 x3 : Int) : Option (Int) := jlpR (jc4 b_X14_isTaken_2) [x0, x1, x2, x3] s
noncomputable def u_X14_isTaken_2 : jS → Int → Int → Int → Int → Option (Int) := Classical.choose (⟨du_X14_isTaken_2, rfl⟩ : ∃ f, f = du_X14_isTaken_2)
theorem eu_X14_isTaken_2 : u_X14_isTaken_2 = du_X14_isTaken_2 := Classical.choose_spec (⟨du_X14_isTaken_2, rfl⟩ : ∃ f, f = du_X14_isTaken_2)
def dm_X14_isTaken (s : jS) (x0 x1 x2 : Int) : Option (Int) :=
  u_X14_isTaken_2 s x0 x1 x2 0
noncomputable def m_X14_isTaken : jS → Int → Int → Int → Option (Int) := Classical.choose (⟨dm_X14_isTaken, rfl⟩ : ∃ f, f = dm_X14_isTaken)
theorem em_X14_isTaken : m_X14_isTaken = dm_X14_isTaken := Classical.choose_spec (⟨dm_X14_isTaken, rfl⟩ : ∃ f, f = dm_X14_isTaken)
def du_X14_rank_71 (s : jS) (x0 x1 x3 y0 y1 : Int) : Option (List Int ⊕ (Int)) :=
  jlet (W32 (y1 + y0)) fun v1 =>
  some (.inl [x0, x1, v1, W32 (x3 + 1)])
noncomputable def u_X14_rank_71 : jS → Int → Int → Int → Int → Int → Option (List Int ⊕ (Int)) := Classical.choose (⟨du_X14_rank_71, rfl⟩ : ∃ f, f = du_X14_rank_71)
theorem eu_X14_rank_71 : u_X14_rank_71 = du_X14_rank_71 := Classical.choose_spec (⟨du_X14_rank_71, rfl⟩ : ∃ f, f = du_X14_rank_71)
def du_X14_rank_63 (s : jS) (x0 x1 x3 y0 y1 y2 : Int) : Option (List Int ⊕ (Int)) :=
  if y1 = y0 then
    u_X14_rank_71 s x0 x1 x3 1 y2
  else
    u_X14_rank_71 s x0 x1 x3 0 y2
noncomputable def u_X14_rank_63 : jS → Int → Int → Int → Int → Int → Int → Option (List Int ⊕ (Int)) := Classical.choose (⟨du_X14_rank_63, rfl⟩ : ∃ f, f = du_X14_rank_63)
theorem eu_X14_rank_63 : u_X14_rank_63 = du_X14_rank_63 := Classical.choose_spec (⟨du_X14_rank_63, rfl⟩ : ∃ f, f = du_X14_rank_63)
def du_X14_rank_46 (s : jS) (x0 x1 x3 y0 y1 : Int) : Option (List Int ⊕ (Int)) :=
  (jix 100 x1 ((x0 + 3) + 10 + 3 * x1)).bind fun v1 =>
  if (jf s 20 v1 4) = 0 then
    u_X14_rank_63 s x0 x1 x3 1 y0 y1
  else
    u_X14_rank_63 s x0 x1 x3 0 y0 y1
noncomputable def u_X14_rank_46 : jS → Int → Int → Int → Int → Int → Option (List Int ⊕ (Int)) := Classical.choose (⟨du_X14_rank_46, rfl⟩ : ∃ f, f = du_X14_rank_46)
theorem eu_X14_rank_46 : u_X14_rank_46 = du_X14_rank_46 := Classical.choose_spec (⟨du_X14_rank_46, rfl⟩ : ∃ f, f = du_X14_rank_46)
def b_X14_rank_23 (s : jS) (x0 x1 x2 x3 : Int) : Option (List Int ⊕ (Int)) :=
  if x3 < x1 then
    (jix 100 x3 ((x0 + 3) + 10 + 3 * x3)).bind fun v1 =>
    if (jf s 20 v1 4) = 0 then
      u_X14_rank_46 s x0 x1 x3 1 x2
    else
      u_X14_rank_46 s x0 x1 x3 0 x2
  else
    jinr (some x2)
def du_X14_rank_23 (s : jS) (x0 x1 x2 x3 : Int) : Option (Int) := jlpR (jc4 b_X14_rank_23) [x0, x1, x2, x3] s
noncomputable def u_X14_rank_23 : jS → Int → Int → Int → Int → Option (Int) := Classical.choose (⟨du_X14_rank_23, rfl⟩ : ∃ f, f = du_X14_rank_23)
theorem eu_X14_rank_23 : u_X14_rank_23 = du_X14_rank_23 := Classical.choose_spec (⟨du_X14_rank_23, rfl⟩ : ∃ f, f = du_X14_rank_23)
def du_X14_rank_20 (s : jS) (x0 x1 y0 : Int) : Option (Int) :=
  u_X14_rank_23 s x0 x1 y0 0
noncomputable def u_X14_rank_20 : jS → Int → Int → Int → Option (Int) := Classical.choose (⟨du_X14_rank_20, rfl⟩ : ∃ f, f = du_X14_rank_20)
theorem eu_X14_rank_20 : u_X14_rank_20 = du_X14_rank_20 := Classical.choose_spec (⟨du_X14_rank_20, rfl⟩ : ∃ f, f = du_X14_rank_20)
def dm_X14_rank (s : jS) (x0 x1 : Int) : Option (Int) :=
  (jix 100 x1 ((x0 + 3) + 10 + 3 * x1)).bind fun v1 =>
  if (jf s 20 v1 4) = 0 then
    u_X14_rank_20 s x0 x1 0
  else
    (m_X14_locals s x0).bind fun v2 =>
    u_X14_rank_20 s x0 x1 v2
noncomputable def m_X14_rank : jS → Int → Int → Option (Int) := Classical.choose (⟨dm_X14_rank, rfl⟩ : ∃ f, f = dm_X14_rank)
theorem em_X14_rank : m_X14_rank = dm_X14_rank := Classical.choose_spec (⟨dm_X14_rank, rfl⟩ : ∃ f, f = dm_X14_rank)
def dm_X16_init (s : jS) (x0 : Int) : Option (jS × Int) :=
  jck0 x0 <|
  (jnw s 21 2 (jdf 21)).bind fun q1 =>
  (jck0 q1.2 (m_X17_init q1.1 q1.2)).bind fun q2 =>
  (jwr q2.1 20 x0 0 q1.2).bind fun s3 =>
  some (s3, 0)
noncomputable def m_X16_init : jS → Int → Option (jS × Int) := Classical.choose (⟨dm_X16_init, rfl⟩ : ∃ f, f = dm_X16_init)
theorem em_X16_init : m_X16_init = dm_X16_init := Classical.choose_spec (⟨dm_X16_init, rfl⟩ : ∃ f, f = dm_X16_init)
def dm_X16_set_2 (s : jS) (x0 x1 : Int) : Option (jS × Int) :=
  (jrd s 20 x1 1).bind fun v1 =>
  (jrd s 20 x1 2).bind fun v2 =>
  (jrd s 20 x1 3).bind fun v3 =>
  (jrd s 20 x1 4).bind fun v4 =>
  (jrd s 20 x1 5).bind fun v5 =>
  (m_X16_set s x0 v1 v2 v3 v4 v5).bind fun q6 =>
  (jrd q6.1 20 x1 0).bind fun v7 =>
  (m_X17_set q6.1 (x0 + 1) v7).bind fun q8 =>
  some (q8.1, 0)
noncomputable def m_X16_set_2 : jS → Int → Int → Option (jS × Int) := Classical.choose (⟨dm_X16_set_2, rfl⟩ : ∃ f, f = dm_X16_set_2)
theorem em_X16_set_2 : m_X16_set_2 = dm_X16_set_2 := Classical.choose_spec (⟨dm_X16_set_2, rfl⟩ : ∃ f, f = dm_X16_set_2)
def dm_X18_isWithin (s : jS) (x0 x1 : Int) : Option (Int) :=
  if (jf s 22 x0 1) < 0 then
    some (Wz 0)
  else
    (m_X51_width s (jf s 22 x0 2) (jf s 22 x0 4)).bind fun v1 =>
    if 0 < (L_cmp (W64 ((jf s 22 x0 1) + v1)) x1) then
      some (Wz 0)
    else
      some (Wz 1)
noncomputable def m_X18_isWithin : jS → Int → Int → Option (Int) := Classical.choose (⟨dm_X18_isWithin, rfl⟩ : ∃ f, f = dm_X18_isWithin)
theorem em_X18_isWithin : m_X18_isWithin = dm_X18_isWithin := Classical.choose_spec (⟨dm_X18_isWithin, rfl⟩ : ∃ f, f = dm_X18_isWithin)
def dm_X19_put4 (s : jS) (x0 x1 : Int) : Option (jS × Int) :=
  (m_X19_put2 s x0 x1).bind fun q1 =>
  (m_X19_put2 q1.1 x0 (I_shr x1 16)).bind fun q2 =>
  some (q2.1, 0)
noncomputable def m_X19_put4 : jS → Int → Int → Option (jS × Int) := Classical.choose (⟨dm_X19_put4, rfl⟩ : ∃ f, f = dm_X19_put4)
theorem em_X19_put4 : m_X19_put4 = dm_X19_put4 := Classical.choose_spec (⟨dm_X19_put4, rfl⟩ : ∃ f, f = dm_X19_put4)
def du_X19_string_69 (s : jS) (x0 x4 : Int) : Option (jS × Int) :=
  (m_X19_put1 s x0 0).bind fun q1 =>
  some (q1.1, x4)
noncomputable def u_X19_string_69 : jS → Int → Int → Option (jS × Int) := Classical.choose (⟨du_X19_string_69, rfl⟩ : ∃ f, f = du_X19_string_69)
theorem eu_X19_string_69 : u_X19_string_69 = du_X19_string_69 := Classical.choose_spec (⟨du_X19_string_69, rfl⟩ : ∃ f, f = du_X19_string_69)
def b_X19_string_49 (s : jS) (x0 x1 x2 x4 x5 : Int) : Option ((jS × List Int) ⊕ (jS × Int)) :=
  if x5 < x2 then
    (jld s 1001 x1 x5).bind fun v1 =>
    (m_X19_put1 s x0 v1).bind fun q2 =>
    some (.inl (q2.1, [x0, x1, x2, x4, W32 (x5 + 1)]))
  else
    jinr (u_X19_string_69 s x0 x4)
def du_X19_string_49 (s : jS) (x0 x1 x2 x4 x5 : Int) : Option (jS × Int) := jlpW (jc5 b_X19_string_49) [x0, x1, x2, x4, x5] s
noncomputable def u_X19_string_49 : jS → Int → Int → Int → Int → Int → Option (jS × Int) := Classical.choose (⟨du_X19_string_49, rfl⟩ : ∃ f, f = du_X19_string_49)
theorem eu_X19_string_49 : u_X19_string_49 = du_X19_string_49 := Classical.choose_spec (⟨du_X19_string_49, rfl⟩ : ∃ f, f = du_X19_string_49)
def du_X19_string_38 (s : jS) (x0 x1 x2 x3 : Int) : Option (jS × Int) :=
  jlet (W32 ((jf s 23 x0 1) - x3)) fun v1 =>
  u_X19_string_49 s x0 x1 x2 v1 0
noncomputable def u_X19_string_38 : jS → Int → Int → Int → Int → Option (jS × Int) := Classical.choose (⟨du_X19_string_38, rfl⟩ : ∃ f, f = du_X19_string_38)
theorem eu_X19_string_38 : u_X19_string_38 = du_X19_string_38 := Classical.choose_spec (⟨du_X19_string_38, rfl⟩ : ∃ f, f = du_X19_string_38)
def du_X19_string_27 (s : jS) (x3 x4 : Int) : Option (jS × Int) :=
  some (s, W32 (x4 - x3))
noncomputable def u_X19_string_27 : jS → Int → Int → Option (jS × Int) := Classical.choose (⟨du_X19_string_27, rfl⟩ : ∃ f, f = du_X19_string_27)
theorem eu_X19_string_27 : u_X19_string_27 = du_X19_string_27 := Classical.choose_spec (⟨du_X19_string_27, rfl⟩ : ∃ f, f = du_X19_string_27)
def b_X19_string_3 (s : jS) (x0 x1 x2 x3 x4 : Int) : Option ((jS × List Int) ⊕ (jS × Int)) :=
  if x4 < (jf s 23 x0 1) then
    (m_X19_stands s x0 x1 x2 x4 (jf s 23 x0 1)).bind fun v1 =>
    if v1 = 0 then
      some (.inl (s, [x0, x1, x2, x3, W32 (x4 + 1)]))
    else
      jinr (u_X19_string_27 s x3 x4)
  else
    jinr (u_X19_string_38 s x0 x1 x2 x3)
def du_X19_string_3 (s : jS) (x0 x1 x2 x3 x4 : Int) : Option (jS × Int) := jlpW (jc5 b_X19_string_3) [x0, x1, x2, x3, x4] s
noncomputable def u_X19_string_3 : jS → Int → Int → Int → Int → Int → Option (jS × Int) := Classical.choose (⟨du_X19_string_3, rfl⟩ : ∃ f, f = du_X19_string_3)
theorem eu_X19_string_3 : u_X19_string_3 = du_X19_string_3 := Classical.choose_spec (⟨du_X19_string_3, rfl⟩ : ∃ f, f = du_X19_string_3)
def dm_X19_string (s : jS) (x0 x1 x2 x3 : Int) : Option (jS × Int) :=
  u_X19_string_3 s x0 x1 x2 x3 x3
noncomputable def m_X19_string : jS → Int → Int → Int → Int → Option (jS × Int) := Classical.choose (⟨dm_X19_string, rfl⟩ : ∃ f, f = dm_X19_string)
theorem em_X19_string : m_X19_string = dm_X19_string := Classical.choose_spec (⟨dm_X19_string, rfl⟩ : ∃ f, f = dm_X19_string)
def dm_X19_u4 (s : jS) (x0 x1 : Int) : Option (Int) :=
  (m_X19_s4 s x0 x1).bind fun v1 =>
  some (L_and v1 4294967295)
noncomputable def m_X19_u4 : jS → Int → Int → Option (Int) := Classical.choose (⟨dm_X19_u4, rfl⟩ : ∃ f, f = dm_X19_u4)
theorem em_X19_u4 : m_X19_u4 = dm_X19_u4 := Classical.choose_spec (⟨dm_X19_u4, rfl⟩ : ∃ f, f = dm_X19_u4)
def du_X20_number_52 (s : jS) (x0 x1 x2 y0 y1 y2 : Int) : Option ((jS × List Int) ⊕ (jS × Int)) :=
  jls (jp s 24 y2 6 (W32 (y1 + y0))) fun s1 =>
  some (.inl (s1, [x0, x1, W32 (x2 + 1)]))
noncomputable def u_X20_number_52 : jS → Int → Int → Int → Int → Int → Int → Option ((jS × List Int) ⊕ (jS × Int)) := Classical.choose (⟨du_X20_number_52, rfl⟩ : ∃ f, f = du_X20_number_52)
theorem eu_X20_number_52 : u_X20_number_52 = du_X20_number_52 := Classical.choose_spec (⟨du_X20_number_52, rfl⟩ : ∃ f, f = du_X20_number_52)
def du_X20_number_37 (s : jS) (x0 x1 x2 x3 y0 y1 y2 : Int) : Option ((jS × List Int) ⊕ (jS × Int)) :=
  (jst s 1000 y2 12 y1 y0).bind fun s1 =>
  if x3 = 0 then
    u_X20_number_52 s1 x0 x1 x2 0 (jf s1 24 x0 6) x0
  else
    u_X20_number_52 s1 x0 x1 x2 1 (jf s1 24 x0 6) x0
noncomputable def u_X20_number_37 : jS → Int → Int → Int → Int → Int → Int → Int → Option ((jS × List Int) ⊕ (jS × Int)) := Classical.choose (⟨du_X20_number_37, rfl⟩ : ∃ f, f = du_X20_number_37)
theorem eu_X20_number_37 : u_X20_number_37 = du_X20_number_37 := Classical.choose_spec (⟨du_X20_number_37, rfl⟩ : ∃ f, f = du_X20_number_37)
def b_X20_number_7 (s : jS) (x0 x1 x2 : Int) : Option ((jS × List Int) ⊕ (jS × Int)) :=
  if x2 < 12 then
    (m_X20_isThere s x0 x1 x2).bind fun v1 =>
    if v1 = 0 then
      u_X20_number_37 s x0 x1 x2 v1 0 x2 (x0 + 3)
    else
      u_X20_number_37 s x0 x1 x2 v1 (jf s 24 x0 6) x2 (x0 + 3)
  else
    jinr (some (s, 0))
def du_X20_number_7 (s : jS) (x0 x1 x2 : Int) : Option (jS × Int) := jlpW (jc3 b_X20_number_7) [x0, x1, x2] s
noncomputable def u_X20_number_7 : jS → Int → Int → Int → Option (jS × Int) := Classical.choose (⟨du_X20_number_7, rfl⟩ : ∃ f, f = du_X20_number_7)
theorem eu_X20_number_7 : u_X20_number_7 = du_X20_number_7 := Classical.choose_spec (⟨du_X20_number_7, rfl⟩ : ∃ f, f = du_X20_number_7)
def dm_X20_number (s : jS) (x0 x1 : Int) : Option (jS × Int) :=
  jls (jp s 24 x0 6 1) fun s1 =>
  u_X20_number_7 s1 x0 x1 1
noncomputable def m_X20_number : jS → Int → Int → Option (jS × Int) := Classical.choose (⟨dm_X20_number, rfl⟩ : ∃ f, f = dm_X20_number)
theorem em_X20_number : m_X20_number = dm_X20_number := Classical.choose_spec (⟨dm_X20_number, rfl⟩ : ∃ f, f = dm_X20_number)
def du_X20_header_97 (s : jS) (x0 y0 y1 : Int) : Option (jS × Int) :=
  (m_X19_put4 s y1 y0).bind fun q1 =>
  (m_X19_put2 q1.1 (x0 + 1) 52).bind fun q2 =>
  (m_X19_put4 q2.1 (x0 + 1) 0).bind fun q3 =>
  (m_X19_put2 q3.1 (x0 + 1) 40).bind fun q4 =>
  (m_X19_put2 q4.1 (x0 + 1) (jf q4.1 24 x0 6)).bind fun q5 =>
  (jlt q5.1 1000 (x0 + 3) 12 11).bind fun v6 =>
  (m_X19_put2 q5.1 (x0 + 1) v6).bind fun q7 =>
  some (q7.1, 0)
noncomputable def u_X20_header_97 : jS → Int → Int → Int → Option (jS × Int) := Classical.choose (⟨du_X20_header_97, rfl⟩ : ∃ f, f = du_X20_header_97)
theorem eu_X20_header_97 : u_X20_header_97 = du_X20_header_97 := Classical.choose_spec (⟨du_X20_header_97, rfl⟩ : ∃ f, f = du_X20_header_97)
def du_X20_header_81 (s : jS) (x0 x1 : Int) : Option (jS × Int) :=
  (jct s 34 x1 (m_X14_shorts s x1)).bind fun v1 =>
  if 0 < v1 then
    u_X20_header_97 s x0 1 (x0 + 1)
  else
    u_X20_header_97 s x0 0 (x0 + 1)
noncomputable def u_X20_header_81 : jS → Int → Int → Option (jS × Int) := Classical.choose (⟨du_X20_header_81, rfl⟩ : ∃ f, f = du_X20_header_81)
theorem eu_X20_header_81 : u_X20_header_81 = du_X20_header_81 := Classical.choose_spec (⟨du_X20_header_81, rfl⟩ : ∃ f, f = du_X20_header_81)
def b_X20_header_62 (s : jS) (x0 x1 x2 : Int) : Option ((jS × List Int) ⊕ (jS × Int)) :=
  if x2 < 3 then
    (m_X19_put4 s (x0 + 1) 0).bind fun q1 =>
    some (.inl (q1.1, [x0, x1, W32 (x2 + 1)]))
  else
    jinr (u_X20_header_81 s x0 x1)
def du_X20_header_62 (s : jS) (x0 x1 x2 : Int) : Option (jS × Int) := jlpW (jc3 b_X20_header_62) [x0, x1, x2] s
noncomputable def u_X20_header_62 : jS → Int → Int → Int → Option (jS × Int) := Classical.choose (⟨du_X20_header_62, rfl⟩ : ∃ f, f = du_X20_header_62)
theorem eu_X20_header_62 : u_X20_header_62 = du_X20_header_62 := Classical.choose_spec (⟨du_X20_header_62, rfl⟩ : ∃ f, f = du_X20_header_62)
def dm_X20_header (s : jS) (x0 x1 : Int) : Option (jS × Int) :=
  (m_X19_put4 s (x0 + 1) 1179403647).bind fun q1 =>
  (m_X19_put4 q1.1 (x0 + 1) 65793).bind fun q2 =>
  (m_X19_put4 q2.1 (x0 + 1) 0).bind fun q3 =>
  (m_X19_put4 q3.1 (x0 + 1) 0).bind fun q4 =>
  (m_X19_put2 q4.1 (x0 + 1) 1).bind fun q5 =>
  (m_X19_put2 q5.1 (x0 + 1) 243).bind fun q6 =>
  (m_X19_put4 q6.1 (x0 + 1) 1).bind fun q7 =>
  u_X20_header_62 q7.1 x0 x1 0
noncomputable def m_X20_header : jS → Int → Int → Option (jS × Int) := Classical.choose (⟨dm_X20_header, rfl⟩ : ∃ f, f = dm_X20_header)
theorem em_X20_header : m_X20_header = dm_X20_header := Classical.choose_spec (⟨dm_X20_header, rfl⟩ : ∃ f, f = dm_X20_header)
def du_X20_sections_70 (s : jS) (x0 x1 : Int) : Option (jS × Int) :=
  (jst s 1000 (x0 + 4) 12 4 (jf s 23 (x0 + 1) 1)).bind fun s1 =>
  (jct s1 34 x1 (m_X14_room s1 x1 3)).bind fun v2 =>
  (jst s1 1000 (x0 + 5) 12 4 (W32 ((jf s1 23 (x0 + 1) 1) + v2))).bind fun s3 =>
  (jrd s3 18 x1 0).bind fun v4 =>
  (jld s3 1013 v4 3).bind fun v5 =>
  (jrd s3 19 v5 2).bind fun v6 =>
  (jst s3 1000 (x0 + 6) 12 4 v6).bind fun s7 =>
  some (s7, 0)
noncomputable def u_X20_sections_70 : jS → Int → Int → Option (jS × Int) := Classical.choose (⟨du_X20_sections_70, rfl⟩ : ∃ f, f = du_X20_sections_70)
theorem eu_X20_sections_70 : u_X20_sections_70 = du_X20_sections_70 := Classical.choose_spec (⟨du_X20_sections_70, rfl⟩ : ∃ f, f = du_X20_sections_70)
def du_X20_sections_57 (s : jS) (x0 x1 x2 : Int) : Option ((jS × List Int) ⊕ (jS × Int)) :=
  (m_X20_end s x0 (W32 (x2 + 1))).bind fun q1 =>
  some (.inl (q1.1, [x0, x1, W32 (x2 + 1)]))
noncomputable def u_X20_sections_57 : jS → Int → Int → Int → Option ((jS × List Int) ⊕ (jS × Int)) := Classical.choose (⟨du_X20_sections_57, rfl⟩ : ∃ f, f = du_X20_sections_57)
theorem eu_X20_sections_57 : u_X20_sections_57 = du_X20_sections_57 := Classical.choose_spec (⟨du_X20_sections_57, rfl⟩ : ∃ f, f = du_X20_sections_57)
def b_X20_sections_28 (s : jS) (x0 x1 x2 x3 x4 : Int) : Option ((jS × List Int) ⊕ ((jS × List Int) ⊕ (jS × Int))) :=
  (jrd s 19 x3 1).bind fun v1 =>
  if x4 < v1 then
    (jrd s 19 x3 0).bind fun v2 =>
    (jld s 1001 v2 x4).bind fun v3 =>
    (m_X19_put1 s (x0 + 1) v3).bind fun q4 =>
    some (.inl (q4.1, [x0, x1, x2, x3, W32 (x4 + 1)]))
  else
    jinr (u_X20_sections_57 s x0 x1 x2)
def du_X20_sections_28 (s : jS) (x0 x1 x2 x3 x4 : Int) : Option ((jS × List Int) ⊕ (jS × Int)) := jlpW (jc5 b_X20_sections_28) [x0, x1, x2, x3, x4] s
noncomputable def u_X20_sections_28 : jS → Int → Int → Int → Int → Int → Option ((jS × List Int) ⊕ (jS × Int)) := Classical.choose (⟨du_X20_sections_28, rfl⟩ : ∃ f, f = du_X20_sections_28)
theorem eu_X20_sections_28 : u_X20_sections_28 = du_X20_sections_28 := Classical.choose_spec (⟨du_X20_sections_28, rfl⟩ : ∃ f, f = du_X20_sections_28)
def b_X20_sections_2 (s : jS) (x0 x1 x2 : Int) : Option ((jS × List Int) ⊕ (jS × Int)) :=
  if x2 < 3 then
    (jrd s 18 x1 0).bind fun v1 =>
    (jld s 1013 v1 x2).bind fun v2 =>
    (jrd s 19 v2 2).bind fun v3 =>
    (m_X20_begin s x0 (W32 (x2 + 1)) v3).bind fun q4 =>
    u_X20_sections_28 q4.1 x0 x1 x2 v2 0
  else
    jinr (u_X20_sections_70 s x0 x1)
def du_X20_sections_2 (s : jS) (x0 x1 x2 : Int) : Option (jS × Int) := jlpW (jc3 b_X20_sections_2) [x0, x1, x2] s
noncomputable def u_X20_sections_2 : jS → Int → Int → Int → Option (jS × Int) := Classical.choose (⟨du_X20_sections_2, rfl⟩ : ∃ f, f = du_X20_sections_2)
theorem eu_X20_sections_2 : u_X20_sections_2 = du_X20_sections_2 := Classical.choose_spec (⟨du_X20_sections_2, rfl⟩ : ∃ f, f = du_X20_sections_2)
def dm_X20_sections (s : jS) (x0 x1 : Int) : Option (jS × Int) :=
  u_X20_sections_2 s x0 x1 0
noncomputable def m_X20_sections : jS → Int → Int → Option (jS × Int) := Classical.choose (⟨dm_X20_sections, rfl⟩ : ∃ f, f = dm_X20_sections)
theorem em_X20_sections : m_X20_sections = dm_X20_sections := Classical.choose_spec (⟨dm_X20_sections, rfl⟩ : ∃ f, f = dm_X20_sections)
def du_X20_moves_109 (s : jS) (x0 x2 : Int) : Option (jS × Int) :=
  (m_X20_end s x0 (W32 (6 + x2))).bind fun q1 =>
  some (q1.1, 0)
noncomputable def u_X20_moves_109 : jS → Int → Int → Option (jS × Int) := Classical.choose (⟨du_X20_moves_109, rfl⟩ : ∃ f, f = du_X20_moves_109)
theorem eu_X20_moves_109 : u_X20_moves_109 = du_X20_moves_109 := Classical.choose_spec (⟨du_X20_moves_109, rfl⟩ : ∃ f, f = du_X20_moves_109)
def du_X20_moves_103 (s : jS) (x0 x1 x2 x3 : Int) : Option ((jS × List Int) ⊕ (jS × Int)) :=
  some (.inl (s, [x0, x1, x2, W32 (x3 + 1)]))
noncomputable def u_X20_moves_103 : jS → Int → Int → Int → Int → Option ((jS × List Int) ⊕ (jS × Int)) := Classical.choose (⟨du_X20_moves_103, rfl⟩ : ∃ f, f = du_X20_moves_103)
theorem eu_X20_moves_103 : u_X20_moves_103 = du_X20_moves_103 := Classical.choose_spec (⟨du_X20_moves_103, rfl⟩ : ∃ f, f = du_X20_moves_103)
def du_X20_moves_79 (s : jS) (x0 x1 x2 x3 x4 y0 y1 : Int) : Option ((jS × List Int) ⊕ (jS × Int)) :=
  (jrd s 22 x4 2).bind fun v1 =>
  (m_X19_put4 s y1 (I_or (I_shl y0 8) v1)).bind fun q2 =>
  (jrd q2.1 22 x4 4).bind fun v3 =>
  (m_X19_put4 q2.1 (x0 + 1) v3).bind fun q4 =>
  u_X20_moves_103 q4.1 x0 x1 x2 x3
noncomputable def u_X20_moves_79 : jS → Int → Int → Int → Int → Int → Int → Int → Option ((jS × List Int) ⊕ (jS × Int)) := Classical.choose (⟨du_X20_moves_79, rfl⟩ : ∃ f, f = du_X20_moves_79)
theorem eu_X20_moves_79 : u_X20_moves_79 = du_X20_moves_79 := Classical.choose_spec (⟨du_X20_moves_79, rfl⟩ : ∃ f, f = du_X20_moves_79)
def b_X20_moves_11 (s : jS) (x0 x1 x2 x3 : Int) : Option ((jS × List Int) ⊕ (jS × Int)) :=
  (jrd s 18 x1 6).bind fun v1 =>
  if x3 < v1 then
    (jrd s 18 x1 5).bind fun v2 =>
    (jld s 1012 v2 x3).bind fun v3 =>
    (jrd s 22 v3 0).bind fun v4 =>
    if v4 = x2 then
      (jrd s 22 v3 1).bind fun v5 =>
      (m_X19_put4 s (x0 + 1) v5).bind fun q6 =>
      (jrd q6.1 22 v3 3).bind fun v7 =>
      if v7 = (-1) then
        u_X20_moves_79 q6.1 x0 x1 x2 x3 v3 0 (x0 + 1)
      else
        (jrd q6.1 22 v3 3).bind fun v8 =>
        (jct q6.1 34 x1 (m_X14_rank q6.1 x1 v8)).bind fun v9 =>
        u_X20_moves_79 q6.1 x0 x1 x2 x3 v3 (W32 (1 + v9)) (x0 + 1)
    else
      u_X20_moves_103 s x0 x1 x2 x3
  else
    jinr (u_X20_moves_109 s x0 x2)
def du_X20_moves_11 (s : jS) (x0 x1 x2 x3 : Int) : Option (jS × Int) := jlpW (jc4 b_X20_moves_11) [x0, x1, x2, x3] s
noncomputable def u_X20_moves_11 : jS → Int → Int → Int → Int → Option (jS × Int) := Classical.choose (⟨du_X20_moves_11, rfl⟩ : ∃ f, f = du_X20_moves_11)
theorem eu_X20_moves_11 : u_X20_moves_11 = du_X20_moves_11 := Classical.choose_spec (⟨du_X20_moves_11, rfl⟩ : ∃ f, f = du_X20_moves_11)
def dm_X20_moves (s : jS) (x0 x1 x2 : Int) : Option (jS × Int) :=
  (m_X20_begin s x0 (W32 (6 + x2)) 4).bind fun q1 =>
  u_X20_moves_11 q1.1 x0 x1 x2 0
noncomputable def m_X20_moves : jS → Int → Int → Int → Option (jS × Int) := Classical.choose (⟨dm_X20_moves, rfl⟩ : ∃ f, f = dm_X20_moves)
theorem em_X20_moves : m_X20_moves = dm_X20_moves := Classical.choose_spec (⟨dm_X20_moves, rfl⟩ : ∃ f, f = dm_X20_moves)
def du_X20_symbols_170 (s : jS) (x0 : Int) : Option (jS × Int) :=
  (m_X20_end s x0 9).bind fun q1 =>
  some (q1.1, 0)
noncomputable def u_X20_symbols_170 : jS → Int → Option (jS × Int) := Classical.choose (⟨du_X20_symbols_170, rfl⟩ : ∃ f, f = du_X20_symbols_170)
theorem eu_X20_symbols_170 : u_X20_symbols_170 = du_X20_symbols_170 := Classical.choose_spec (⟨du_X20_symbols_170, rfl⟩ : ∃ f, f = du_X20_symbols_170)
def du_X20_symbols_164 (s : jS) (x0 x1 x2 : Int) : Option ((jS × List Int) ⊕ (jS × Int)) :=
  some (.inl (s, [x0, x1, W32 (x2 + 1)]))
noncomputable def u_X20_symbols_164 : jS → Int → Int → Int → Option ((jS × List Int) ⊕ (jS × Int)) := Classical.choose (⟨du_X20_symbols_164, rfl⟩ : ∃ f, f = du_X20_symbols_164)
theorem eu_X20_symbols_164 : u_X20_symbols_164 = du_X20_symbols_164 := Classical.choose_spec (⟨du_X20_symbols_164, rfl⟩ : ∃ f, f = du_X20_symbols_164)
def du_X20_symbols_158 (s : jS) (x0 x1 x2 x3 : Int) : Option ((jS × List Int) ⊕ ((jS × List Int) ⊕ (jS × Int))) :=
  some (.inl (s, [x0, x1, x2, W32 (x3 + 1)]))
noncomputable def u_X20_symbols_158 : jS → Int → Int → Int → Int → Option ((jS × List Int) ⊕ ((jS × List Int) ⊕ (jS × Int))) := Classical.choose (⟨du_X20_symbols_158, rfl⟩ : ∃ f, f = du_X20_symbols_158)
theorem eu_X20_symbols_158 : u_X20_symbols_158 = du_X20_symbols_158 := Classical.choose_spec (⟨du_X20_symbols_158, rfl⟩ : ∃ f, f = du_X20_symbols_158)
def du_X20_symbols_75 (s : jS) (x0 x1 x2 x3 x4 y0 y1 : Int) : Option ((jS × List Int) ⊕ ((jS × List Int) ⊕ (jS × Int))) :=
  if y1 = y0 then
    (m_X19_put4 s (x0 + 1) 0).bind fun q1 =>
    (jrd q1.1 20 x4 2).bind fun v2 =>
    (m_X19_put4 q1.1 (x0 + 1) v2).bind fun q3 =>
    (jrd q3.1 20 x4 3).bind fun v4 =>
    (m_X19_put4 q3.1 (x0 + 1) v4).bind fun q5 =>
    (jrd q5.1 20 x4 4).bind fun v6 =>
    (jrd q5.1 20 x4 5).bind fun v7 =>
    (m_X19_put1 q5.1 (x0 + 1) (W32 ((W32 (16 * v6)) + v7))).bind fun q8 =>
    (m_X19_put1 q8.1 (x0 + 1) 0).bind fun q9 =>
    (jrd q9.1 20 x4 1).bind fun v10 =>
    (m_X20_whereOf q9.1 x0 v10).bind fun v11 =>
    (m_X19_put2 q9.1 (x0 + 1) v11).bind fun q12 =>
    u_X20_symbols_158 q12.1 x0 x1 x2 x3
  else
    u_X20_symbols_158 s x0 x1 x2 x3
noncomputable def u_X20_symbols_75 : jS → Int → Int → Int → Int → Int → Int → Int → Option ((jS × List Int) ⊕ ((jS × List Int) ⊕ (jS × Int))) := Classical.choose (⟨du_X20_symbols_75, rfl⟩ : ∃ f, f = du_X20_symbols_75)
theorem eu_X20_symbols_75 : u_X20_symbols_75 = du_X20_symbols_75 := Classical.choose_spec (⟨du_X20_symbols_75, rfl⟩ : ∃ f, f = du_X20_symbols_75)
def du_X20_symbols_66 (s : jS) (x0 x1 x2 x3 x4 y0 : Int) : Option ((jS × List Int) ⊕ ((jS × List Int) ⊕ (jS × Int))) :=
  if x2 = 0 then
    u_X20_symbols_75 s x0 x1 x2 x3 x4 1 y0
  else
    u_X20_symbols_75 s x0 x1 x2 x3 x4 0 y0
noncomputable def u_X20_symbols_66 : jS → Int → Int → Int → Int → Int → Int → Option ((jS × List Int) ⊕ ((jS × List Int) ⊕ (jS × Int))) := Classical.choose (⟨du_X20_symbols_66, rfl⟩ : ∃ f, f = du_X20_symbols_66)
theorem eu_X20_symbols_66 : u_X20_symbols_66 = du_X20_symbols_66 := Classical.choose_spec (⟨du_X20_symbols_66, rfl⟩ : ∃ f, f = du_X20_symbols_66)
def b_X20_symbols_37 (s : jS) (x0 x1 x2 x3 : Int) : Option ((jS × List Int) ⊕ ((jS × List Int) ⊕ (jS × Int))) :=
  (jrd s 18 x1 4).bind fun v1 =>
  if x3 < v1 then
    (jrd s 18 x1 3).bind fun v2 =>
    (jld s 1014 v2 x3).bind fun v3 =>
    (jrd s 20 v3 4).bind fun v4 =>
    if v4 = 0 then
      u_X20_symbols_66 s x0 x1 x2 x3 v3 1
    else
      u_X20_symbols_66 s x0 x1 x2 x3 v3 0
  else
    jinr (u_X20_symbols_164 s x0 x1 x2)
def du_X20_symbols_37 (s : jS) (x0 x1 x2 x3 : Int) : Option ((jS × List Int) ⊕ (jS × Int)) := jlpW (jc4 b_X20_symbols_37) [x0, x1, x2, x3] s
noncomputable def u_X20_symbols_37 : jS → Int → Int → Int → Int → Option ((jS × List Int) ⊕ (jS × Int)) := Classical.choose (⟨du_X20_symbols_37, rfl⟩ : ∃ f, f = du_X20_symbols_37)
theorem eu_X20_symbols_37 : u_X20_symbols_37 = du_X20_symbols_37 := Classical.choose_spec (⟨du_X20_symbols_37, rfl⟩ : ∃ f, f = du_X20_symbols_37)
def b_X20_symbols_30 (s : jS) (x0 x1 x2 : Int) : Option ((jS × List Int) ⊕ (jS × Int)) :=
  if x2 < 2 then
    u_X20_symbols_37 s x0 x1 x2 0
  else
    jinr (u_X20_symbols_170 s x0)
def du_X20_symbols_30 (s : jS) (x0 x1 x2 : Int) : Option (jS × Int) := jlpW (jc3 b_X20_symbols_30) [x0, x1, x2] s
noncomputable def u_X20_symbols_30 : jS → Int → Int → Int → Option (jS × Int) := Classical.choose (⟨du_X20_symbols_30, rfl⟩ : ∃ f, f = du_X20_symbols_30)
theorem eu_X20_symbols_30 : u_X20_symbols_30 = du_X20_symbols_30 := Classical.choose_spec (⟨du_X20_symbols_30, rfl⟩ : ∃ f, f = du_X20_symbols_30)
def du_X20_symbols_28 (s : jS) (x0 x1 : Int) : Option (jS × Int) :=
  u_X20_symbols_30 s x0 x1 0
noncomputable def u_X20_symbols_28 : jS → Int → Int → Option (jS × Int) := Classical.choose (⟨du_X20_symbols_28, rfl⟩ : ∃ f, f = du_X20_symbols_28)
theorem eu_X20_symbols_28 : u_X20_symbols_28 = du_X20_symbols_28 := Classical.choose_spec (⟨du_X20_symbols_28, rfl⟩ : ∃ f, f = du_X20_symbols_28)
def b_X20_symbols_9 (s : jS) (x0 x1 x2 : Int) : Option ((jS × List Int) ⊕ (jS × Int)) :=
  if x2 < 4 then
    (m_X19_put4 s (x0 + 1) 0).bind fun q1 =>
    some (.inl (q1.1, [x0, x1, W32 (x2 + 1)]))
  else
    jinr (u_X20_symbols_28 s x0 x1)
def du_X20_symbols_9 (s : jS) (x0 x1 x2 : Int) : Option (jS × Int) := jlpW (jc3 b_X20_symbols_9) [x0, x1, x2] s
noncomputable def u_X20_symbols_9 : jS → Int → Int → Int → Option (jS × Int) := Classical.choose (⟨du_X20_symbols_9, rfl⟩ : ∃ f, f = du_X20_symbols_9)
theorem eu_X20_symbols_9 : u_X20_symbols_9 = du_X20_symbols_9 := Classical.choose_spec (⟨du_X20_symbols_9, rfl⟩ : ∃ f, f = du_X20_symbols_9)
def dm_X20_symbols (s : jS) (x0 x1 : Int) : Option (jS × Int) :=
  (m_X20_begin s x0 9 4).bind fun q1 =>
  u_X20_symbols_9 q1.1 x0 x1 0
noncomputable def m_X20_symbols : jS → Int → Int → Option (jS × Int) := Classical.choose (⟨dm_X20_symbols, rfl⟩ : ∃ f, f = dm_X20_symbols)
theorem em_X20_symbols : m_X20_symbols = dm_X20_symbols := Classical.choose_spec (⟨dm_X20_symbols, rfl⟩ : ∃ f, f = dm_X20_symbols)
def du_X20_strings_129 (s : jS) (x0 : Int) : Option (jS × Int) :=
  (m_X20_end s x0 10).bind fun q1 =>
  some (q1.1, 0)
noncomputable def u_X20_strings_129 : jS → Int → Option (jS × Int) := Classical.choose (⟨du_X20_strings_129, rfl⟩ : ∃ f, f = du_X20_strings_129)
theorem eu_X20_strings_129 : u_X20_strings_129 = du_X20_strings_129 := Classical.choose_spec (⟨du_X20_strings_129, rfl⟩ : ∃ f, f = du_X20_strings_129)
def du_X20_strings_123 (s : jS) (x0 x1 x2 x3 : Int) : Option ((jS × List Int) ⊕ (jS × Int)) :=
  some (.inl (s, [x0, x1, x2, W32 (x3 + 1)]))
noncomputable def u_X20_strings_123 : jS → Int → Int → Int → Int → Option ((jS × List Int) ⊕ (jS × Int)) := Classical.choose (⟨du_X20_strings_123, rfl⟩ : ∃ f, f = du_X20_strings_123)
theorem eu_X20_strings_123 : u_X20_strings_123 = du_X20_strings_123 := Classical.choose_spec (⟨du_X20_strings_123, rfl⟩ : ∃ f, f = du_X20_strings_123)
def du_X20_strings_117 (s : jS) (x0 x1 x2 x3 x4 : Int) : Option ((jS × List Int) ⊕ ((jS × List Int) ⊕ (jS × Int))) :=
  some (.inl (s, [x0, x1, x2, x3, W32 (x4 + 1)]))
noncomputable def u_X20_strings_117 : jS → Int → Int → Int → Int → Int → Option ((jS × List Int) ⊕ ((jS × List Int) ⊕ (jS × Int))) := Classical.choose (⟨du_X20_strings_117, rfl⟩ : ∃ f, f = du_X20_strings_117)
theorem eu_X20_strings_117 : u_X20_strings_117 = du_X20_strings_117 := Classical.choose_spec (⟨du_X20_strings_117, rfl⟩ : ∃ f, f = du_X20_strings_117)
def du_X20_strings_73 (s : jS) (x0 x1 x2 x3 x4 x5 y0 y1 : Int) : Option ((jS × List Int) ⊕ ((jS × List Int) ⊕ (jS × Int))) :=
  if y1 = y0 then
    (jrd s 20 x5 0).bind fun v1 =>
    (jrd s 21 v1 0).bind fun v2 =>
    (jrd s 20 x5 0).bind fun v3 =>
    (jrd s 21 v3 1).bind fun v4 =>
    (jlt s 1000 (x0 + 4) 12 10).bind fun v5 =>
    (m_X19_string s (x0 + 1) v2 v4 v5).bind fun q6 =>
    (m_X20_patch q6.1 x0 (W32 (x2 + 16)) q6.2).bind fun q7 =>
    u_X20_strings_117 q7.1 x0 x1 (W32 (x2 + 16)) x3 x4
  else
    u_X20_strings_117 s x0 x1 x2 x3 x4
noncomputable def u_X20_strings_73 : jS → Int → Int → Int → Int → Int → Int → Int → Int → Option ((jS × List Int) ⊕ ((jS × List Int) ⊕ (jS × Int))) := Classical.choose (⟨du_X20_strings_73, rfl⟩ : ∃ f, f = du_X20_strings_73)
theorem eu_X20_strings_73 : u_X20_strings_73 = du_X20_strings_73 := Classical.choose_spec (⟨du_X20_strings_73, rfl⟩ : ∃ f, f = du_X20_strings_73)
def du_X20_strings_64 (s : jS) (x0 x1 x2 x3 x4 x5 y0 : Int) : Option ((jS × List Int) ⊕ ((jS × List Int) ⊕ (jS × Int))) :=
  if x3 = 0 then
    u_X20_strings_73 s x0 x1 x2 x3 x4 x5 1 y0
  else
    u_X20_strings_73 s x0 x1 x2 x3 x4 x5 0 y0
noncomputable def u_X20_strings_64 : jS → Int → Int → Int → Int → Int → Int → Int → Option ((jS × List Int) ⊕ ((jS × List Int) ⊕ (jS × Int))) := Classical.choose (⟨du_X20_strings_64, rfl⟩ : ∃ f, f = du_X20_strings_64)
theorem eu_X20_strings_64 : u_X20_strings_64 = du_X20_strings_64 := Classical.choose_spec (⟨du_X20_strings_64, rfl⟩ : ∃ f, f = du_X20_strings_64)
def b_X20_strings_33 (s : jS) (x0 x1 x2 x3 x4 : Int) : Option ((jS × List Int) ⊕ ((jS × List Int) ⊕ (jS × Int))) :=
  (jrd s 18 x1 4).bind fun v1 =>
  if x4 < v1 then
    (jrd s 18 x1 3).bind fun v2 =>
    (jld s 1014 v2 x4).bind fun v3 =>
    (jrd s 20 v3 4).bind fun v4 =>
    if v4 = 0 then
      u_X20_strings_64 s x0 x1 x2 x3 x4 v3 1
    else
      u_X20_strings_64 s x0 x1 x2 x3 x4 v3 0
  else
    jinr (u_X20_strings_123 s x0 x1 x2 x3)
def du_X20_strings_33 (s : jS) (x0 x1 x2 x3 x4 : Int) : Option ((jS × List Int) ⊕ (jS × Int)) := jlpW (jc5 b_X20_strings_33) [x0, x1, x2, x3, x4] s
noncomputable def u_X20_strings_33 : jS → Int → Int → Int → Int → Int → Option ((jS × List Int) ⊕ (jS × Int)) := Classical.choose (⟨du_X20_strings_33, rfl⟩ : ∃ f, f = du_X20_strings_33)
theorem eu_X20_strings_33 : u_X20_strings_33 = du_X20_strings_33 := Classical.choose_spec (⟨du_X20_strings_33, rfl⟩ : ∃ f, f = du_X20_strings_33)
def b_X20_strings_25 (s : jS) (x0 x1 x2 x3 : Int) : Option ((jS × List Int) ⊕ (jS × Int)) :=
  if x3 < 2 then
    u_X20_strings_33 s x0 x1 x2 x3 0
  else
    jinr (u_X20_strings_129 s x0)
def du_X20_strings_25 (s : jS) (x0 x1 x2 x3 : Int) : Option (jS × Int) := jlpW (jc4 b_X20_strings_25) [x0, x1, x2, x3] s
noncomputable def u_X20_strings_25 : jS → Int → Int → Int → Int → Option (jS × Int) := Classical.choose (⟨du_X20_strings_25, rfl⟩ : ∃ f, f = du_X20_strings_25)
theorem eu_X20_strings_25 : u_X20_strings_25 = du_X20_strings_25 := Classical.choose_spec (⟨du_X20_strings_25, rfl⟩ : ∃ f, f = du_X20_strings_25)
def dm_X20_strings (s : jS) (x0 x1 : Int) : Option (jS × Int) :=
  (m_X20_begin s x0 10 1).bind fun q1 =>
  (m_X19_put1 q1.1 (x0 + 1) 0).bind fun q2 =>
  (jlt q2.1 1000 (x0 + 4) 12 9).bind fun v3 =>
  u_X20_strings_25 q2.1 x0 x1 v3 0
noncomputable def m_X20_strings : jS → Int → Int → Option (jS × Int) := Classical.choose (⟨dm_X20_strings, rfl⟩ : ∃ f, f = dm_X20_strings)
theorem em_X20_strings : m_X20_strings = dm_X20_strings := Classical.choose_spec (⟨dm_X20_strings, rfl⟩ : ∃ f, f = dm_X20_strings)
def du_X21_header_561 (s : jS) (x0 y0 y1 : Int) : Option (jS × Bool × Int) :=
  (m_X21_need s y1 y0 10 32).bind fun q1 =>
  jth q1.2.1 (some (q1.1, true, q1.2.2)) <|
  (jct q1.1 39 (jf q1.1 25 x0 0) (m_X19_s4 q1.1 (jf q1.1 25 x0 0) 32)).bind fun v2 =>
  jls (jp q1.1 25 x0 2 v2) fun s3 =>
  some (s3, false, 0)
noncomputable def u_X21_header_561 : jS → Int → Int → Int → Option (jS × Bool × Int) := Classical.choose (⟨du_X21_header_561, rfl⟩ : ∃ f, f = du_X21_header_561)
theorem eu_X21_header_561 : u_X21_header_561 = du_X21_header_561 := Classical.choose_spec (⟨du_X21_header_561, rfl⟩ : ∃ f, f = du_X21_header_561)
def du_X21_header_454 (s : jS) (x0 y0 y1 : Int) : Option (jS × Bool × Int) :=
  (m_X21_need s y1 y0 9 46).bind fun q1 =>
  jth q1.2.1 (some (q1.1, true, q1.2.2)) <|
  (jct q1.1 39 (jf q1.1 25 x0 0) (m_X19_u2 q1.1 (jf q1.1 25 x0 0) 48)).bind fun v2 =>
  jls (jp q1.1 25 x0 3 v2) fun s3 =>
  (m_X13_in s3 (jf s3 25 x0 3) 1 16).bind fun v4 =>
  (m_X21_need s3 x0 v4 9 48).bind fun q5 =>
  jth q5.2.1 (some (q5.1, true, q5.2.2)) <|
  (jct q5.1 39 (jf q5.1 25 x0 0) (m_X19_u2 q5.1 (jf q5.1 25 x0 0) 50)).bind fun v6 =>
  jls (jp q5.1 25 x0 4 v6) fun s7 =>
  (m_X13_in s7 (jf s7 25 x0 4) 1 (W32 ((jf s7 25 x0 3) - 1))).bind fun v8 =>
  (m_X21_need s7 x0 v8 9 50).bind fun q9 =>
  jth q9.2.1 (some (q9.1, true, q9.2.2)) <|
  (jct q9.1 39 (jf q9.1 25 x0 0) (m_X19_u4 q9.1 (jf q9.1 25 x0 0) 32)).bind fun v10 =>
  if 0 < (L_cmp (W64 (v10 + (W64 (40 * (jf q9.1 25 x0 3))))) (jf q9.1 25 x0 1)) then
    u_X21_header_561 q9.1 x0 0 x0
  else
    u_X21_header_561 q9.1 x0 1 x0
noncomputable def u_X21_header_454 : jS → Int → Int → Int → Option (jS × Bool × Int) := Classical.choose (⟨du_X21_header_454, rfl⟩ : ∃ f, f = du_X21_header_454)
theorem eu_X21_header_454 : u_X21_header_454 = du_X21_header_454 := Classical.choose_spec (⟨du_X21_header_454, rfl⟩ : ∃ f, f = du_X21_header_454)
def du_X21_header_427 (s : jS) (x0 y0 y1 : Int) : Option (jS × Bool × Int) :=
  (m_X21_need s y1 y0 9 44).bind fun q1 =>
  jth q1.2.1 (some (q1.1, true, q1.2.2)) <|
  (jct q1.1 39 (jf q1.1 25 x0 0) (m_X19_u2 q1.1 (jf q1.1 25 x0 0) 46)).bind fun v2 =>
  if v2 = 40 then
    u_X21_header_454 q1.1 x0 1 x0
  else
    u_X21_header_454 q1.1 x0 0 x0
noncomputable def u_X21_header_427 : jS → Int → Int → Int → Option (jS × Bool × Int) := Classical.choose (⟨du_X21_header_427, rfl⟩ : ∃ f, f = du_X21_header_427)
theorem eu_X21_header_427 : u_X21_header_427 = du_X21_header_427 := Classical.choose_spec (⟨du_X21_header_427, rfl⟩ : ∃ f, f = du_X21_header_427)
def du_X21_header_402 (s : jS) (x0 y0 y1 : Int) : Option (jS × Bool × Int) :=
  (m_X21_need s y1 y0 9 42).bind fun q1 =>
  jth q1.2.1 (some (q1.1, true, q1.2.2)) <|
  (jct q1.1 39 (jf q1.1 25 x0 0) (m_X19_u2 q1.1 (jf q1.1 25 x0 0) 44)).bind fun v2 =>
  if v2 = 0 then
    u_X21_header_427 q1.1 x0 1 x0
  else
    u_X21_header_427 q1.1 x0 0 x0
noncomputable def u_X21_header_402 : jS → Int → Int → Int → Option (jS × Bool × Int) := Classical.choose (⟨du_X21_header_402, rfl⟩ : ∃ f, f = du_X21_header_402)
theorem eu_X21_header_402 : u_X21_header_402 = du_X21_header_402 := Classical.choose_spec (⟨du_X21_header_402, rfl⟩ : ∃ f, f = du_X21_header_402)
def du_X21_header_377 (s : jS) (x0 y0 y1 : Int) : Option (jS × Bool × Int) :=
  (m_X21_need s y1 y0 9 40).bind fun q1 =>
  jth q1.2.1 (some (q1.1, true, q1.2.2)) <|
  (jct q1.1 39 (jf q1.1 25 x0 0) (m_X19_u2 q1.1 (jf q1.1 25 x0 0) 42)).bind fun v2 =>
  if v2 = 0 then
    u_X21_header_402 q1.1 x0 1 x0
  else
    u_X21_header_402 q1.1 x0 0 x0
noncomputable def u_X21_header_377 : jS → Int → Int → Int → Option (jS × Bool × Int) := Classical.choose (⟨du_X21_header_377, rfl⟩ : ∃ f, f = du_X21_header_377)
theorem eu_X21_header_377 : u_X21_header_377 = du_X21_header_377 := Classical.choose_spec (⟨du_X21_header_377, rfl⟩ : ∃ f, f = du_X21_header_377)
def du_X21_header_350 (s : jS) (x0 y0 y1 : Int) : Option (jS × Bool × Int) :=
  (m_X21_need s y1 y0 9 36).bind fun q1 =>
  jth q1.2.1 (some (q1.1, true, q1.2.2)) <|
  (jct q1.1 39 (jf q1.1 25 x0 0) (m_X19_u2 q1.1 (jf q1.1 25 x0 0) 40)).bind fun v2 =>
  if v2 = 52 then
    u_X21_header_377 q1.1 x0 1 x0
  else
    u_X21_header_377 q1.1 x0 0 x0
noncomputable def u_X21_header_350 : jS → Int → Int → Int → Option (jS × Bool × Int) := Classical.choose (⟨du_X21_header_350, rfl⟩ : ∃ f, f = du_X21_header_350)
theorem eu_X21_header_350 : u_X21_header_350 = du_X21_header_350 := Classical.choose_spec (⟨du_X21_header_350, rfl⟩ : ∃ f, f = du_X21_header_350)
def du_X21_header_321 (s : jS) (x0 y0 y1 : Int) : Option (jS × Bool × Int) :=
  (m_X21_need s y1 y0 9 32).bind fun q1 =>
  jth q1.2.1 (some (q1.1, true, q1.2.2)) <|
  (jct q1.1 39 (jf q1.1 25 x0 0) (m_X19_u4 q1.1 (jf q1.1 25 x0 0) 36)).bind fun v2 =>
  if (L_cmp v2 2) < 0 then
    u_X21_header_350 q1.1 x0 1 x0
  else
    u_X21_header_350 q1.1 x0 0 x0
noncomputable def u_X21_header_321 : jS → Int → Int → Int → Option (jS × Bool × Int) := Classical.choose (⟨du_X21_header_321, rfl⟩ : ∃ f, f = du_X21_header_321)
theorem eu_X21_header_321 : u_X21_header_321 = du_X21_header_321 := Classical.choose_spec (⟨du_X21_header_321, rfl⟩ : ∃ f, f = du_X21_header_321)
def du_X21_header_320 (s : jS) (x0 y0 : Int) : Option (jS × Bool × Int) :=
  u_X21_header_321 s x0 0 y0
noncomputable def u_X21_header_320 : jS → Int → Int → Option (jS × Bool × Int) := Classical.choose (⟨du_X21_header_320, rfl⟩ : ∃ f, f = du_X21_header_320)
theorem eu_X21_header_320 : u_X21_header_320 = du_X21_header_320 := Classical.choose_spec (⟨du_X21_header_320, rfl⟩ : ∃ f, f = du_X21_header_320)
def du_X21_header_274 (s : jS) (x0 y0 y1 : Int) : Option (jS × Bool × Int) :=
  (m_X21_need s y1 y0 9 28).bind fun q1 =>
  jth q1.2.1 (some (q1.1, true, q1.2.2)) <|
  (jct q1.1 39 (jf q1.1 25 x0 0) (m_X19_u4 q1.1 (jf q1.1 25 x0 0) 32)).bind fun v2 =>
  (jdv 4 (L_rem v2 4)).bind fun v3 =>
  if (L_cmp v3 0) = 0 then
    (jct q1.1 39 (jf q1.1 25 x0 0) (m_X19_u4 q1.1 (jf q1.1 25 x0 0) 32)).bind fun v4 =>
    if (L_cmp v4 52) < 0 then
      u_X21_header_320 q1.1 x0 x0
    else
      u_X21_header_321 q1.1 x0 1 x0
  else
    u_X21_header_320 q1.1 x0 x0
noncomputable def u_X21_header_274 : jS → Int → Int → Int → Option (jS × Bool × Int) := Classical.choose (⟨du_X21_header_274, rfl⟩ : ∃ f, f = du_X21_header_274)
theorem eu_X21_header_274 : u_X21_header_274 = du_X21_header_274 := Classical.choose_spec (⟨du_X21_header_274, rfl⟩ : ∃ f, f = du_X21_header_274)
def du_X21_header_247 (s : jS) (x0 y0 y1 : Int) : Option (jS × Bool × Int) :=
  (m_X21_need s y1 y0 9 24).bind fun q1 =>
  jth q1.2.1 (some (q1.1, true, q1.2.2)) <|
  (jct q1.1 39 (jf q1.1 25 x0 0) (m_X19_u4 q1.1 (jf q1.1 25 x0 0) 28)).bind fun v2 =>
  if (L_cmp v2 0) = 0 then
    u_X21_header_274 q1.1 x0 1 x0
  else
    u_X21_header_274 q1.1 x0 0 x0
noncomputable def u_X21_header_247 : jS → Int → Int → Int → Option (jS × Bool × Int) := Classical.choose (⟨du_X21_header_247, rfl⟩ : ∃ f, f = du_X21_header_247)
theorem eu_X21_header_247 : u_X21_header_247 = du_X21_header_247 := Classical.choose_spec (⟨du_X21_header_247, rfl⟩ : ∃ f, f = du_X21_header_247)
def du_X21_header_220 (s : jS) (x0 y0 y1 : Int) : Option (jS × Bool × Int) :=
  (m_X21_need s y1 y0 9 20).bind fun q1 =>
  jth q1.2.1 (some (q1.1, true, q1.2.2)) <|
  (jct q1.1 39 (jf q1.1 25 x0 0) (m_X19_u4 q1.1 (jf q1.1 25 x0 0) 24)).bind fun v2 =>
  if (L_cmp v2 0) = 0 then
    u_X21_header_247 q1.1 x0 1 x0
  else
    u_X21_header_247 q1.1 x0 0 x0
noncomputable def u_X21_header_220 : jS → Int → Int → Int → Option (jS × Bool × Int) := Classical.choose (⟨du_X21_header_220, rfl⟩ : ∃ f, f = du_X21_header_220)
theorem eu_X21_header_220 : u_X21_header_220 = du_X21_header_220 := Classical.choose_spec (⟨du_X21_header_220, rfl⟩ : ∃ f, f = du_X21_header_220)
def du_X21_header_193 (s : jS) (x0 y0 y1 : Int) : Option (jS × Bool × Int) :=
  (m_X21_need s y1 y0 8 18).bind fun q1 =>
  jth q1.2.1 (some (q1.1, true, q1.2.2)) <|
  (jct q1.1 39 (jf q1.1 25 x0 0) (m_X19_u4 q1.1 (jf q1.1 25 x0 0) 20)).bind fun v2 =>
  if (L_cmp v2 1) = 0 then
    u_X21_header_220 q1.1 x0 1 x0
  else
    u_X21_header_220 q1.1 x0 0 x0
noncomputable def u_X21_header_193 : jS → Int → Int → Int → Option (jS × Bool × Int) := Classical.choose (⟨du_X21_header_193, rfl⟩ : ∃ f, f = du_X21_header_193)
theorem eu_X21_header_193 : u_X21_header_193 = du_X21_header_193 := Classical.choose_spec (⟨du_X21_header_193, rfl⟩ : ∃ f, f = du_X21_header_193)
def du_X21_header_165 (s : jS) (x0 y0 y1 : Int) : Option (jS × Bool × Int) :=
  (m_X21_need s y1 y0 7 16).bind fun q1 =>
  jth q1.2.1 (some (q1.1, true, q1.2.2)) <|
  (jct q1.1 39 (jf q1.1 25 x0 0) (m_X19_u2 q1.1 (jf q1.1 25 x0 0) 18)).bind fun v2 =>
  if v2 = 243 then
    u_X21_header_193 q1.1 x0 1 x0
  else
    u_X21_header_193 q1.1 x0 0 x0
noncomputable def u_X21_header_165 : jS → Int → Int → Int → Option (jS × Bool × Int) := Classical.choose (⟨du_X21_header_165, rfl⟩ : ∃ f, f = du_X21_header_165)
theorem eu_X21_header_165 : u_X21_header_165 = du_X21_header_165 := Classical.choose_spec (⟨du_X21_header_165, rfl⟩ : ∃ f, f = du_X21_header_165)
def du_X21_header_146 (s : jS) (x0 : Int) : Option (jS × Bool × Int) :=
  (jct s 39 (jf s 25 x0 0) (m_X19_u2 s (jf s 25 x0 0) 16)).bind fun v1 =>
  if v1 = 1 then
    u_X21_header_165 s x0 1 x0
  else
    u_X21_header_165 s x0 0 x0
noncomputable def u_X21_header_146 : jS → Int → Option (jS × Bool × Int) := Classical.choose (⟨du_X21_header_146, rfl⟩ : ∃ f, f = du_X21_header_146)
theorem eu_X21_header_146 : u_X21_header_146 = du_X21_header_146 := Classical.choose_spec (⟨du_X21_header_146, rfl⟩ : ∃ f, f = du_X21_header_146)
def du_X21_header_134 (s : jS) (x0 x1 y0 y1 : Int) : Option ((jS × List Int) ⊕ (jS × Bool × Int)) :=
  (m_X21_need s y1 y0 6 x1).bind fun q1 =>
  jth q1.2.1 (jinr (some (q1.1, true, q1.2.2))) <|
  some (.inl (q1.1, [x0, W32 (x1 + 1)]))
noncomputable def u_X21_header_134 : jS → Int → Int → Int → Int → Option ((jS × List Int) ⊕ (jS × Bool × Int)) := Classical.choose (⟨du_X21_header_134, rfl⟩ : ∃ f, f = du_X21_header_134)
theorem eu_X21_header_134 : u_X21_header_134 = du_X21_header_134 := Classical.choose_spec (⟨du_X21_header_134, rfl⟩ : ∃ f, f = du_X21_header_134)
def b_X21_header_111 (s : jS) (x0 x1 : Int) : Option ((jS × List Int) ⊕ (jS × Bool × Int)) :=
  if x1 < 16 then
    (jct s 39 (jf s 25 x0 0) (m_X19_u1 s (jf s 25 x0 0) x1)).bind fun v1 =>
    if v1 = 0 then
      u_X21_header_134 s x0 x1 1 x0
    else
      u_X21_header_134 s x0 x1 0 x0
  else
    jinr (u_X21_header_146 s x0)
def du_X21_header_111 (s : jS) (x0 x1 : Int) : Option (jS × Bool × Int) := jlpW (jc2 b_X21_header_111) [x0, x1] s
noncomputable def u_X21_header_111 : jS → Int → Int → Option (jS × Bool × Int) := Classical.choose (⟨du_X21_header_111, rfl⟩ : ∃ f, f = du_X21_header_111)
theorem eu_X21_header_111 : u_X21_header_111 = du_X21_header_111 := Classical.choose_spec (⟨du_X21_header_111, rfl⟩ : ∃ f, f = du_X21_header_111)
def du_X21_header_108 (s : jS) (x0 : Int) : Option (jS × Bool × Int) :=
  u_X21_header_111 s x0 7
noncomputable def u_X21_header_108 : jS → Int → Option (jS × Bool × Int) := Classical.choose (⟨du_X21_header_108, rfl⟩ : ∃ f, f = du_X21_header_108)
theorem eu_X21_header_108 : u_X21_header_108 = du_X21_header_108 := Classical.choose_spec (⟨du_X21_header_108, rfl⟩ : ∃ f, f = du_X21_header_108)
def du_X21_header_95 (s : jS) (x0 x1 y0 y1 : Int) : Option ((jS × List Int) ⊕ (jS × Bool × Int)) :=
  (m_X21_need s y1 y0 (W32 (x1 - 1)) x1).bind fun q1 =>
  jth q1.2.1 (jinr (some (q1.1, true, q1.2.2))) <|
  some (.inl (q1.1, [x0, W32 (x1 + 1)]))
noncomputable def u_X21_header_95 : jS → Int → Int → Int → Int → Option ((jS × List Int) ⊕ (jS × Bool × Int)) := Classical.choose (⟨du_X21_header_95, rfl⟩ : ∃ f, f = du_X21_header_95)
theorem eu_X21_header_95 : u_X21_header_95 = du_X21_header_95 := Classical.choose_spec (⟨du_X21_header_95, rfl⟩ : ∃ f, f = du_X21_header_95)
def b_X21_header_71 (s : jS) (x0 x1 : Int) : Option ((jS × List Int) ⊕ (jS × Bool × Int)) :=
  if x1 < 7 then
    (jct s 39 (jf s 25 x0 0) (m_X19_u1 s (jf s 25 x0 0) x1)).bind fun v1 =>
    if v1 = 1 then
      u_X21_header_95 s x0 x1 1 x0
    else
      u_X21_header_95 s x0 x1 0 x0
  else
    jinr (u_X21_header_108 s x0)
def du_X21_header_71 (s : jS) (x0 x1 : Int) : Option (jS × Bool × Int) := jlpW (jc2 b_X21_header_71) [x0, x1] s
noncomputable def u_X21_header_71 : jS → Int → Int → Option (jS × Bool × Int) := Classical.choose (⟨du_X21_header_71, rfl⟩ : ∃ f, f = du_X21_header_71)
theorem eu_X21_header_71 : u_X21_header_71 = du_X21_header_71 := Classical.choose_spec (⟨du_X21_header_71, rfl⟩ : ∃ f, f = du_X21_header_71)
def du_X21_header_69 (s : jS) (x0 : Int) : Option (jS × Bool × Int) :=
  u_X21_header_71 s x0 4
noncomputable def u_X21_header_69 : jS → Int → Option (jS × Bool × Int) := Classical.choose (⟨du_X21_header_69, rfl⟩ : ∃ f, f = du_X21_header_69)
theorem eu_X21_header_69 : u_X21_header_69 = du_X21_header_69 := Classical.choose_spec (⟨du_X21_header_69, rfl⟩ : ∃ f, f = du_X21_header_69)
def du_X21_header_58 (s : jS) (x0 x1 y0 y1 : Int) : Option ((jS × List Int) ⊕ (jS × Bool × Int)) :=
  (m_X21_need s y1 y0 2 x1).bind fun q1 =>
  jth q1.2.1 (jinr (some (q1.1, true, q1.2.2))) <|
  some (.inl (q1.1, [x0, W32 (x1 + 1)]))
noncomputable def u_X21_header_58 : jS → Int → Int → Int → Int → Option ((jS × List Int) ⊕ (jS × Bool × Int)) := Classical.choose (⟨du_X21_header_58, rfl⟩ : ∃ f, f = du_X21_header_58)
theorem eu_X21_header_58 : u_X21_header_58 = du_X21_header_58 := Classical.choose_spec (⟨du_X21_header_58, rfl⟩ : ∃ f, f = du_X21_header_58)
def b_X21_header_25 (s : jS) (x0 x1 : Int) : Option ((jS × List Int) ⊕ (jS × Bool × Int)) :=
  if x1 < 4 then
    (jct s 39 (jf s 25 x0 0) (m_X19_u1 s (jf s 25 x0 0) x1)).bind fun v1 =>
    if v1 = (I_and (I_shr 1179403647 (W32 (8 * x1))) 255) then
      u_X21_header_58 s x0 x1 1 x0
    else
      u_X21_header_58 s x0 x1 0 x0
  else
    jinr (u_X21_header_69 s x0)
def du_X21_header_25 (s : jS) (x0 x1 : Int) : Option (jS × Bool × Int) := jlpW (jc2 b_X21_header_25) [x0, x1] s
noncomputable def u_X21_header_25 : jS → Int → Int → Option (jS × Bool × Int) := Classical.choose (⟨du_X21_header_25, rfl⟩ : ∃ f, f = du_X21_header_25)
theorem eu_X21_header_25 : u_X21_header_25 = du_X21_header_25 := Classical.choose_spec (⟨du_X21_header_25, rfl⟩ : ∃ f, f = du_X21_header_25)
def du_X21_header_15 (s : jS) (x0 y0 y1 : Int) : Option (jS × Bool × Int) :=
  (m_X21_need s y1 y0 1 (jf s 25 x0 1)).bind fun q1 =>
  jth q1.2.1 (some (q1.1, true, q1.2.2)) <|
  u_X21_header_25 q1.1 x0 0
noncomputable def u_X21_header_15 : jS → Int → Int → Int → Option (jS × Bool × Int) := Classical.choose (⟨du_X21_header_15, rfl⟩ : ∃ f, f = du_X21_header_15)
theorem eu_X21_header_15 : u_X21_header_15 = du_X21_header_15 := Classical.choose_spec (⟨du_X21_header_15, rfl⟩ : ∃ f, f = du_X21_header_15)
def dm_X21_header (s : jS) (x0 : Int) : Option (jS × Bool × Int) :=
  if (jf s 25 x0 1) < 52 then
    u_X21_header_15 s x0 0 x0
  else
    u_X21_header_15 s x0 1 x0
noncomputable def m_X21_header : jS → Int → Option (jS × Bool × Int) := Classical.choose (⟨dm_X21_header, rfl⟩ : ∃ f, f = dm_X21_header)
theorem em_X21_header : m_X21_header = dm_X21_header := Classical.choose_spec (⟨dm_X21_header, rfl⟩ : ∃ f, f = dm_X21_header)
def dm_X21_told (s : jS) (x0 x1 x2 : Int) : Option (Int) :=
  (m_X21_field s x0 x1 x2).bind fun v1 =>
  (jct s 39 (jf s 25 x0 0) (m_X19_u4 s (jf s 25 x0 0) v1)).bind fun v2 =>
  some v2
noncomputable def m_X21_told : jS → Int → Int → Int → Option (Int) := Classical.choose (⟨dm_X21_told, rfl⟩ : ∃ f, f = dm_X21_told)
theorem em_X21_told : m_X21_told = dm_X21_told := Classical.choose_spec (⟨dm_X21_told, rfl⟩ : ∃ f, f = dm_X21_told)
def dm_X21_isStored (s : jS) (x0 x1 : Int) : Option (Int) :=
  (m_X21_told s x0 x1 1).bind fun v1 =>
  if (L_cmp v1 8) = 0 then
    some (Wz 0)
  else
    some (Wz 1)
noncomputable def m_X21_isStored : jS → Int → Int → Option (Int) := Classical.choose (⟨dm_X21_isStored, rfl⟩ : ∃ f, f = dm_X21_isStored)
theorem em_X21_isStored : m_X21_isStored = dm_X21_isStored := Classical.choose_spec (⟨dm_X21_isStored, rfl⟩ : ∃ f, f = dm_X21_isStored)
def du_X21_shapes_375 (s : jS) (y0 y1 : Int) : Option (jS × Bool × Int) :=
  (m_X21_need s y1 y0 18 50).bind fun q1 =>
  jth q1.2.1 (some (q1.1, true, q1.2.2)) <|
  some (q1.1, false, 0)
noncomputable def u_X21_shapes_375 : jS → Int → Int → Option (jS × Bool × Int) := Classical.choose (⟨du_X21_shapes_375, rfl⟩ : ∃ f, f = du_X21_shapes_375)
theorem eu_X21_shapes_375 : u_X21_shapes_375 = du_X21_shapes_375 := Classical.choose_spec (⟨du_X21_shapes_375, rfl⟩ : ∃ f, f = du_X21_shapes_375)
def du_X21_shapes_374 (s : jS) (y0 : Int) : Option (jS × Bool × Int) :=
  u_X21_shapes_375 s 0 y0
noncomputable def u_X21_shapes_374 : jS → Int → Option (jS × Bool × Int) := Classical.choose (⟨du_X21_shapes_374, rfl⟩ : ∃ f, f = du_X21_shapes_374)
theorem eu_X21_shapes_374 : u_X21_shapes_374 = du_X21_shapes_374 := Classical.choose_spec (⟨du_X21_shapes_374, rfl⟩ : ∃ f, f = du_X21_shapes_374)
def du_X21_shapes_335 (s : jS) (x0 : Int) : Option (jS × Bool × Int) :=
  (jlt s 1000 (x0 + 1) 12 9).bind fun v1 =>
  if 0 < v1 then
    (jlt s 1000 (x0 + 1) 12 10).bind fun v2 =>
    if 0 < v2 then
      (jlt s 1000 (x0 + 1) 12 11).bind fun v3 =>
      if v3 = (jf s 25 x0 4) then
        u_X21_shapes_375 s 1 x0
      else
        u_X21_shapes_374 s x0
    else
      u_X21_shapes_374 s x0
  else
    u_X21_shapes_374 s x0
noncomputable def u_X21_shapes_335 : jS → Int → Option (jS × Bool × Int) := Classical.choose (⟨du_X21_shapes_335, rfl⟩ : ∃ f, f = du_X21_shapes_335)
theorem eu_X21_shapes_335 : u_X21_shapes_335 = du_X21_shapes_335 := Classical.choose_spec (⟨du_X21_shapes_335, rfl⟩ : ∃ f, f = du_X21_shapes_335)
def du_X21_shapes_317 (s : jS) (x0 x1 y0 y1 : Int) : Option ((jS × List Int) ⊕ (jS × Bool × Int)) :=
  (m_X21_field s x0 x1 9).bind fun v1 =>
  (m_X21_need s y1 y0 17 v1).bind fun q2 =>
  jth q2.2.1 (jinr (some (q2.1, true, q2.2.2))) <|
  some (.inl (q2.1, [x0, W32 (x1 + 1)]))
noncomputable def u_X21_shapes_317 : jS → Int → Int → Int → Int → Option ((jS × List Int) ⊕ (jS × Bool × Int)) := Classical.choose (⟨du_X21_shapes_317, rfl⟩ : ∃ f, f = du_X21_shapes_317)
theorem eu_X21_shapes_317 : u_X21_shapes_317 = du_X21_shapes_317 := Classical.choose_spec (⟨du_X21_shapes_317, rfl⟩ : ∃ f, f = du_X21_shapes_317)
def du_X21_shapes_283 (s : jS) (x0 x1 x2 y0 y1 : Int) : Option ((jS × List Int) ⊕ (jS × Bool × Int)) :=
  (m_X21_field s x0 x1 7).bind fun v1 =>
  (m_X21_need s y1 y0 17 v1).bind fun q2 =>
  jth q2.2.1 (jinr (some (q2.1, true, q2.2.2))) <|
  (m_X21_told q2.1 x0 x1 9).bind fun v3 =>
  (m_X13_eachOf q2.1 x2).bind fun v4 =>
  if (L_cmp v3 v4) = 0 then
    u_X21_shapes_317 q2.1 x0 x1 1 x0
  else
    u_X21_shapes_317 q2.1 x0 x1 0 x0
noncomputable def u_X21_shapes_283 : jS → Int → Int → Int → Int → Int → Option ((jS × List Int) ⊕ (jS × Bool × Int)) := Classical.choose (⟨du_X21_shapes_283, rfl⟩ : ∃ f, f = du_X21_shapes_283)
theorem eu_X21_shapes_283 : u_X21_shapes_283 = du_X21_shapes_283 := Classical.choose_spec (⟨du_X21_shapes_283, rfl⟩ : ∃ f, f = du_X21_shapes_283)
def du_X21_shapes_282 (s : jS) (x0 x1 x2 y0 : Int) : Option ((jS × List Int) ⊕ (jS × Bool × Int)) :=
  u_X21_shapes_283 s x0 x1 x2 0 y0
noncomputable def u_X21_shapes_282 : jS → Int → Int → Int → Int → Option ((jS × List Int) ⊕ (jS × Bool × Int)) := Classical.choose (⟨du_X21_shapes_282, rfl⟩ : ∃ f, f = du_X21_shapes_282)
theorem eu_X21_shapes_282 : u_X21_shapes_282 = du_X21_shapes_282 := Classical.choose_spec (⟨du_X21_shapes_282, rfl⟩ : ∃ f, f = du_X21_shapes_282)
def du_X21_shapes_278 (s : jS) (x0 x1 x2 y0 : Int) : Option ((jS × List Int) ⊕ (jS × Bool × Int)) :=
  u_X21_shapes_283 s x0 x1 x2 1 y0
noncomputable def u_X21_shapes_278 : jS → Int → Int → Int → Int → Option ((jS × List Int) ⊕ (jS × Bool × Int)) := Classical.choose (⟨du_X21_shapes_278, rfl⟩ : ∃ f, f = du_X21_shapes_278)
theorem eu_X21_shapes_278 : u_X21_shapes_278 = du_X21_shapes_278 := Classical.choose_spec (⟨du_X21_shapes_278, rfl⟩ : ∃ f, f = du_X21_shapes_278)
def du_X21_shapes_210 (s : jS) (x0 x1 x2 x4 y0 y1 : Int) : Option ((jS × List Int) ⊕ (jS × Bool × Int)) :=
  (m_X21_field s x0 x1 6).bind fun v1 =>
  (m_X21_need s y1 y0 17 v1).bind fun q2 =>
  jth q2.2.1 (jinr (some (q2.1, true, q2.2.2))) <|
  if x2 = 9 then
    u_X21_shapes_278 q2.1 x0 x1 x2 x0
  else
    if x4 = 0 then
      (m_X21_told q2.1 x0 x1 7).bind fun v3 =>
      if (L_cmp v3 0) = 0 then
        u_X21_shapes_278 q2.1 x0 x1 x2 x0
      else
        u_X21_shapes_282 q2.1 x0 x1 x2 x0
    else
      (jlt q2.1 1000 (x0 + 1) 12 x4).bind fun v4 =>
      if 0 < v4 then
        (m_X21_told q2.1 x0 x1 7).bind fun v5 =>
        (jlt q2.1 1000 (x0 + 1) 12 x4).bind fun v6 =>
        if (L_cmp v5 v6) = 0 then
          u_X21_shapes_278 q2.1 x0 x1 x2 x0
        else
          u_X21_shapes_282 q2.1 x0 x1 x2 x0
      else
        u_X21_shapes_282 q2.1 x0 x1 x2 x0
noncomputable def u_X21_shapes_210 : jS → Int → Int → Int → Int → Int → Int → Option ((jS × List Int) ⊕ (jS × Bool × Int)) := Classical.choose (⟨du_X21_shapes_210, rfl⟩ : ∃ f, f = du_X21_shapes_210)
theorem eu_X21_shapes_210 : u_X21_shapes_210 = du_X21_shapes_210 := Classical.choose_spec (⟨du_X21_shapes_210, rfl⟩ : ∃ f, f = du_X21_shapes_210)
def du_X21_shapes_209 (s : jS) (x0 x1 x2 x4 y0 : Int) : Option ((jS × List Int) ⊕ (jS × Bool × Int)) :=
  u_X21_shapes_210 s x0 x1 x2 x4 0 y0
noncomputable def u_X21_shapes_209 : jS → Int → Int → Int → Int → Int → Option ((jS × List Int) ⊕ (jS × Bool × Int)) := Classical.choose (⟨du_X21_shapes_209, rfl⟩ : ∃ f, f = du_X21_shapes_209)
theorem eu_X21_shapes_209 : u_X21_shapes_209 = du_X21_shapes_209 := Classical.choose_spec (⟨du_X21_shapes_209, rfl⟩ : ∃ f, f = du_X21_shapes_209)
def du_X21_shapes_142 (s : jS) (x0 x1 x2 x3 x4 y0 y1 : Int) : Option ((jS × List Int) ⊕ (jS × Bool × Int)) :=
  (m_X21_field s x0 x1 3).bind fun v1 =>
  (m_X21_need s y1 y0 17 v1).bind fun q2 =>
  jth q2.2.1 (jinr (some (q2.1, true, q2.2.2))) <|
  if x3 = 0 then
    (m_X21_told q2.1 x0 x1 6).bind fun v3 =>
    if (L_cmp v3 0) = 0 then
      u_X21_shapes_210 q2.1 x0 x1 x2 x4 1 x0
    else
      u_X21_shapes_210 q2.1 x0 x1 x2 x4 0 x0
  else
    (jlt q2.1 1000 (x0 + 1) 12 x3).bind fun v4 =>
    if 0 < v4 then
      (m_X21_told q2.1 x0 x1 6).bind fun v5 =>
      (jlt q2.1 1000 (x0 + 1) 12 x3).bind fun v6 =>
      if (L_cmp v5 v6) = 0 then
        u_X21_shapes_210 q2.1 x0 x1 x2 x4 1 x0
      else
        u_X21_shapes_209 q2.1 x0 x1 x2 x4 x0
    else
      u_X21_shapes_209 q2.1 x0 x1 x2 x4 x0
noncomputable def u_X21_shapes_142 : jS → Int → Int → Int → Int → Int → Int → Int → Option ((jS × List Int) ⊕ (jS × Bool × Int)) := Classical.choose (⟨du_X21_shapes_142, rfl⟩ : ∃ f, f = du_X21_shapes_142)
theorem eu_X21_shapes_142 : u_X21_shapes_142 = du_X21_shapes_142 := Classical.choose_spec (⟨du_X21_shapes_142, rfl⟩ : ∃ f, f = du_X21_shapes_142)
def du_X21_shapes_114 (s : jS) (x0 x1 x2 x3 x4 y0 y1 : Int) : Option ((jS × List Int) ⊕ (jS × Bool × Int)) :=
  (m_X21_field s x0 x1 2).bind fun v1 =>
  (m_X21_need s y1 y0 17 v1).bind fun q2 =>
  jth q2.2.1 (jinr (some (q2.1, true, q2.2.2))) <|
  (m_X21_told q2.1 x0 x1 3).bind fun v3 =>
  if (L_cmp v3 0) = 0 then
    u_X21_shapes_142 q2.1 x0 x1 x2 x3 x4 1 x0
  else
    u_X21_shapes_142 q2.1 x0 x1 x2 x3 x4 0 x0
noncomputable def u_X21_shapes_114 : jS → Int → Int → Int → Int → Int → Int → Int → Option ((jS × List Int) ⊕ (jS × Bool × Int)) := Classical.choose (⟨du_X21_shapes_114, rfl⟩ : ∃ f, f = du_X21_shapes_114)
theorem eu_X21_shapes_114 : u_X21_shapes_114 = du_X21_shapes_114 := Classical.choose_spec (⟨du_X21_shapes_114, rfl⟩ : ∃ f, f = du_X21_shapes_114)
def du_X21_shapes_82 (s : jS) (x0 x1 x2 x3 x4 y0 y1 : Int) : Option ((jS × List Int) ⊕ (jS × Bool × Int)) :=
  (m_X21_field s x0 x1 1).bind fun v1 =>
  (m_X21_need s y1 y0 17 v1).bind fun q2 =>
  jth q2.2.1 (jinr (some (q2.1, true, q2.2.2))) <|
  (m_X21_told q2.1 x0 x1 2).bind fun v3 =>
  (m_X13_flagsOf q2.1 x2).bind fun v4 =>
  if (L_cmp v3 v4) = 0 then
    u_X21_shapes_114 q2.1 x0 x1 x2 x3 x4 1 x0
  else
    u_X21_shapes_114 q2.1 x0 x1 x2 x3 x4 0 x0
noncomputable def u_X21_shapes_82 : jS → Int → Int → Int → Int → Int → Int → Int → Option ((jS × List Int) ⊕ (jS × Bool × Int)) := Classical.choose (⟨du_X21_shapes_82, rfl⟩ : ∃ f, f = du_X21_shapes_82)
theorem eu_X21_shapes_82 : u_X21_shapes_82 = du_X21_shapes_82 := Classical.choose_spec (⟨du_X21_shapes_82, rfl⟩ : ∃ f, f = du_X21_shapes_82)
def du_X21_shapes_59 (s : jS) (x0 x1 x2 x3 y0 : Int) : Option ((jS × List Int) ⊕ (jS × Bool × Int)) :=
  (m_X21_told s x0 x1 1).bind fun v1 =>
  (m_X13_sortOf s x2).bind fun v2 =>
  if (L_cmp v1 v2) = 0 then
    u_X21_shapes_82 s x0 x1 x2 x3 y0 1 x0
  else
    u_X21_shapes_82 s x0 x1 x2 x3 y0 0 x0
noncomputable def u_X21_shapes_59 : jS → Int → Int → Int → Int → Int → Option ((jS × List Int) ⊕ (jS × Bool × Int)) := Classical.choose (⟨du_X21_shapes_59, rfl⟩ : ∃ f, f = du_X21_shapes_59)
theorem eu_X21_shapes_59 : u_X21_shapes_59 = du_X21_shapes_59 := Classical.choose_spec (⟨du_X21_shapes_59, rfl⟩ : ∃ f, f = du_X21_shapes_59)
def du_X21_shapes_41 (s : jS) (x0 x1 x2 y0 : Int) : Option ((jS × List Int) ⊕ (jS × Bool × Int)) :=
  (m_X13_isMoves s x2).bind fun v1 =>
  if v1 = 0 then
    u_X21_shapes_59 s x0 x1 x2 y0 0
  else
    u_X21_shapes_59 s x0 x1 x2 y0 (W32 ((W32 (x2 - 6)) + 1))
noncomputable def u_X21_shapes_41 : jS → Int → Int → Int → Int → Option ((jS × List Int) ⊕ (jS × Bool × Int)) := Classical.choose (⟨du_X21_shapes_41, rfl⟩ : ∃ f, f = du_X21_shapes_41)
theorem eu_X21_shapes_41 : u_X21_shapes_41 = du_X21_shapes_41 := Classical.choose_spec (⟨du_X21_shapes_41, rfl⟩ : ∃ f, f = du_X21_shapes_41)
def b_X21_shapes_2 (s : jS) (x0 x1 : Int) : Option ((jS × List Int) ⊕ (jS × Bool × Int)) :=
  if x1 < (jf s 25 x0 3) then
    (jlt s 1000 (x0 + 2) 16 x1).bind fun v1 =>
    (m_X13_isMoves s v1).bind fun v2 =>
    if v2 = 0 then
      if v1 = 9 then
        u_X21_shapes_41 s x0 x1 v1 10
      else
        u_X21_shapes_41 s x0 x1 v1 0
    else
      u_X21_shapes_41 s x0 x1 v1 9
  else
    jinr (u_X21_shapes_335 s x0)
def du_X21_shapes_2 (s : jS) (x0 x1 : Int) : Option (jS × Bool × Int) := jlpW (jc2 b_X21_shapes_2) [x0, x1] s
noncomputable def u_X21_shapes_2 : jS → Int → Int → Option (jS × Bool × Int) := Classical.choose (⟨du_X21_shapes_2, rfl⟩ : ∃ f, f = du_X21_shapes_2)
theorem eu_X21_shapes_2 : u_X21_shapes_2 = du_X21_shapes_2 := Classical.choose_spec (⟨du_X21_shapes_2, rfl⟩ : ∃ f, f = du_X21_shapes_2)
def dm_X21_shapes (s : jS) (x0 : Int) : Option (jS × Bool × Int) :=
  u_X21_shapes_2 s x0 1
noncomputable def m_X21_shapes : jS → Int → Option (jS × Bool × Int) := Classical.choose (⟨dm_X21_shapes, rfl⟩ : ∃ f, f = dm_X21_shapes)
theorem em_X21_shapes : m_X21_shapes = dm_X21_shapes := Classical.choose_spec (⟨dm_X21_shapes, rfl⟩ : ∃ f, f = dm_X21_shapes)
def du_X21_sizes_222 (s : jS) (x0 : Int) : Option (jS × Bool × Int) :=
  (jlt s 1000 (x0 + 1) 12 10).bind fun v1 =>
  (m_X21_strings s x0 v1 20).bind fun q2 =>
  jth q2.2.1 (some (q2.1, true, q2.2.2)) <|
  some (q2.1, false, 0)
noncomputable def u_X21_sizes_222 : jS → Int → Option (jS × Bool × Int) := Classical.choose (⟨du_X21_sizes_222, rfl⟩ : ∃ f, f = du_X21_sizes_222)
theorem eu_X21_sizes_222 : u_X21_sizes_222 = du_X21_sizes_222 := Classical.choose_spec (⟨du_X21_sizes_222, rfl⟩ : ∃ f, f = du_X21_sizes_222)
def du_X21_sizes_202 (s : jS) (x0 x1 x3 x7 : Int) : Option ((jS × List Int) ⊕ (jS × Bool × Int)) :=
  (m_X21_field s x0 x3 5).bind fun v1 =>
  (m_X21_need s x0 x7 19 v1).bind fun q2 =>
  jth q2.2.1 (jinr (some (q2.1, true, q2.2.2))) <|
  some (.inl (q2.1, [x0, x1, W32 (x3 + 1)]))
noncomputable def u_X21_sizes_202 : jS → Int → Int → Int → Int → Option ((jS × List Int) ⊕ (jS × Bool × Int)) := Classical.choose (⟨du_X21_sizes_202, rfl⟩ : ∃ f, f = du_X21_sizes_202)
theorem eu_X21_sizes_202 : u_X21_sizes_202 = du_X21_sizes_202 := Classical.choose_spec (⟨du_X21_sizes_202, rfl⟩ : ∃ f, f = du_X21_sizes_202)
def du_X21_sizes_200 (s : jS) (x0 x1 x3 y0 : Int) : Option ((jS × List Int) ⊕ (jS × Bool × Int)) :=
  u_X21_sizes_202 s x0 x1 x3 y0
noncomputable def u_X21_sizes_200 : jS → Int → Int → Int → Int → Option ((jS × List Int) ⊕ (jS × Bool × Int)) := Classical.choose (⟨du_X21_sizes_200, rfl⟩ : ∃ f, f = du_X21_sizes_200)
theorem eu_X21_sizes_200 : u_X21_sizes_200 = du_X21_sizes_200 := Classical.choose_spec (⟨du_X21_sizes_200, rfl⟩ : ∃ f, f = du_X21_sizes_200)
def du_X21_sizes_199 (s : jS) (x0 x1 x3 : Int) : Option ((jS × List Int) ⊕ (jS × Bool × Int)) :=
  u_X21_sizes_200 s x0 x1 x3 0
noncomputable def u_X21_sizes_199 : jS → Int → Int → Int → Option ((jS × List Int) ⊕ (jS × Bool × Int)) := Classical.choose (⟨du_X21_sizes_199, rfl⟩ : ∃ f, f = du_X21_sizes_199)
theorem eu_X21_sizes_199 : u_X21_sizes_199 = du_X21_sizes_199 := Classical.choose_spec (⟨du_X21_sizes_199, rfl⟩ : ∃ f, f = du_X21_sizes_199)
def du_X21_sizes_154 (s : jS) (x0 x1 x3 y0 : Int) : Option ((jS × List Int) ⊕ (jS × Bool × Int)) :=
  u_X21_sizes_202 s x0 x1 x3 y0
noncomputable def u_X21_sizes_154 : jS → Int → Int → Int → Int → Option ((jS × List Int) ⊕ (jS × Bool × Int)) := Classical.choose (⟨du_X21_sizes_154, rfl⟩ : ∃ f, f = du_X21_sizes_154)
theorem eu_X21_sizes_154 : u_X21_sizes_154 = du_X21_sizes_154 := Classical.choose_spec (⟨du_X21_sizes_154, rfl⟩ : ∃ f, f = du_X21_sizes_154)
def du_X21_sizes_153 (s : jS) (x0 x1 x3 : Int) : Option ((jS × List Int) ⊕ (jS × Bool × Int)) :=
  u_X21_sizes_154 s x0 x1 x3 0
noncomputable def u_X21_sizes_153 : jS → Int → Int → Int → Option ((jS × List Int) ⊕ (jS × Bool × Int)) := Classical.choose (⟨du_X21_sizes_153, rfl⟩ : ∃ f, f = du_X21_sizes_153)
theorem eu_X21_sizes_153 : u_X21_sizes_153 = du_X21_sizes_153 := Classical.choose_spec (⟨du_X21_sizes_153, rfl⟩ : ∃ f, f = du_X21_sizes_153)
def du_X21_sizes_112 (s : jS) (x0 x1 x3 y0 : Int) : Option ((jS × List Int) ⊕ (jS × Bool × Int)) :=
  u_X21_sizes_202 s x0 x1 x3 y0
noncomputable def u_X21_sizes_112 : jS → Int → Int → Int → Int → Option ((jS × List Int) ⊕ (jS × Bool × Int)) := Classical.choose (⟨du_X21_sizes_112, rfl⟩ : ∃ f, f = du_X21_sizes_112)
theorem eu_X21_sizes_112 : u_X21_sizes_112 = du_X21_sizes_112 := Classical.choose_spec (⟨du_X21_sizes_112, rfl⟩ : ∃ f, f = du_X21_sizes_112)
def du_X21_sizes_111 (s : jS) (x0 x1 x3 : Int) : Option ((jS × List Int) ⊕ (jS × Bool × Int)) :=
  u_X21_sizes_112 s x0 x1 x3 0
noncomputable def u_X21_sizes_111 : jS → Int → Int → Int → Option ((jS × List Int) ⊕ (jS × Bool × Int)) := Classical.choose (⟨du_X21_sizes_111, rfl⟩ : ∃ f, f = du_X21_sizes_111)
theorem eu_X21_sizes_111 : u_X21_sizes_111 = du_X21_sizes_111 := Classical.choose_spec (⟨du_X21_sizes_111, rfl⟩ : ∃ f, f = du_X21_sizes_111)
def du_X21_sizes_76 (s : jS) (x0 x1 x3 y0 : Int) : Option ((jS × List Int) ⊕ (jS × Bool × Int)) :=
  u_X21_sizes_202 s x0 x1 x3 y0
noncomputable def u_X21_sizes_76 : jS → Int → Int → Int → Int → Option ((jS × List Int) ⊕ (jS × Bool × Int)) := Classical.choose (⟨du_X21_sizes_76, rfl⟩ : ∃ f, f = du_X21_sizes_76)
theorem eu_X21_sizes_76 : u_X21_sizes_76 = du_X21_sizes_76 := Classical.choose_spec (⟨du_X21_sizes_76, rfl⟩ : ∃ f, f = du_X21_sizes_76)
def du_X21_sizes_51 (s : jS) (x0 x1 x3 y0 : Int) : Option ((jS × List Int) ⊕ (jS × Bool × Int)) :=
  u_X21_sizes_202 s x0 x1 x3 y0
noncomputable def u_X21_sizes_51 : jS → Int → Int → Int → Int → Option ((jS × List Int) ⊕ (jS × Bool × Int)) := Classical.choose (⟨du_X21_sizes_51, rfl⟩ : ∃ f, f = du_X21_sizes_51)
theorem eu_X21_sizes_51 : u_X21_sizes_51 = du_X21_sizes_51 := Classical.choose_spec (⟨du_X21_sizes_51, rfl⟩ : ∃ f, f = du_X21_sizes_51)
def b_X21_sizes_4 (s : jS) (x0 x1 x3 : Int) : Option ((jS × List Int) ⊕ (jS × Bool × Int)) :=
  if x3 < (jf s 25 x0 3) then
    (jlt s 1000 (x0 + 2) 16 x3).bind fun v1 =>
    (m_X21_told s x0 x3 5).bind fun v2 =>
    if v1 < 4 then
      if 0 < (L_cmp v2 2048) then
        u_X21_sizes_51 s x0 x1 x3 0
      else
        u_X21_sizes_51 s x0 x1 x3 1
    else
      if v1 = 4 then
        if 0 < (L_cmp v2 4096) then
          u_X21_sizes_76 s x0 x1 x3 0
        else
          u_X21_sizes_76 s x0 x1 x3 1
      else
        if v1 = 5 then
          (jdv 2 (L_rem v2 2)).bind fun v3 =>
          if (L_cmp v3 0) = 0 then
            if 0 < (L_cmp v2 2048) then
              u_X21_sizes_111 s x0 x1 x3
            else
              u_X21_sizes_112 s x0 x1 x3 1
          else
            u_X21_sizes_111 s x0 x1 x3
        else
          (m_X13_isMoves s v1).bind fun v4 =>
          if v4 = 0 then
            if v1 = 9 then
              (jdv 16 (L_rem v2 16)).bind fun v5 =>
              if (L_cmp v5 0) = 0 then
                if (L_cmp v2 16) < 0 then
                  u_X21_sizes_199 s x0 x1 x3
                else
                  if 0 < (L_cmp v2 1616) then
                    u_X21_sizes_199 s x0 x1 x3
                  else
                    u_X21_sizes_200 s x0 x1 x3 1
              else
                u_X21_sizes_199 s x0 x1 x3
            else
              u_X21_sizes_202 s x0 x1 x3 1
          else
            jlet (W64 (x1 + v2)) fun v6 =>
            (jdv 12 (L_rem v2 12)).bind fun v7 =>
            if (L_cmp v7 0) = 0 then
              if 0 < (L_cmp v6 3600) then
                u_X21_sizes_153 s x0 v6 x3
              else
                u_X21_sizes_154 s x0 v6 x3 1
            else
              u_X21_sizes_153 s x0 v6 x3
  else
    jinr (u_X21_sizes_222 s x0)
def du_X21_sizes_4 (s : jS) (x0 x1 x3 : Int) : Option (jS × Bool × Int) := jlpW (jc3 b_X21_sizes_4) [x0, x1, x3] s
noncomputable def u_X21_sizes_4 : jS → Int → Int → Int → Option (jS × Bool × Int) := Classical.choose (⟨du_X21_sizes_4, rfl⟩ : ∃ f, f = du_X21_sizes_4)
theorem eu_X21_sizes_4 : u_X21_sizes_4 = du_X21_sizes_4 := Classical.choose_spec (⟨du_X21_sizes_4, rfl⟩ : ∃ f, f = du_X21_sizes_4)
def dm_X21_sizes (s : jS) (x0 : Int) : Option (jS × Bool × Int) :=
  u_X21_sizes_4 s x0 0 1
noncomputable def m_X21_sizes : jS → Int → Option (jS × Bool × Int) := Classical.choose (⟨dm_X21_sizes, rfl⟩ : ∃ f, f = dm_X21_sizes)
theorem em_X21_sizes : m_X21_sizes = dm_X21_sizes := Classical.choose_spec (⟨dm_X21_sizes, rfl⟩ : ∃ f, f = dm_X21_sizes)
def du_X21_sections_113 (s : jS) (x0 x1 : Int) : Option ((jS × List Int) ⊕ (jS × Int)) :=
  some (.inl (s, [x0, W32 (x1 + 1)]))
noncomputable def u_X21_sections_113 : jS → Int → Int → Option ((jS × List Int) ⊕ (jS × Int)) := Classical.choose (⟨du_X21_sections_113, rfl⟩ : ∃ f, f = du_X21_sections_113)
theorem eu_X21_sections_113 : u_X21_sections_113 = du_X21_sections_113 := Classical.choose_spec (⟨du_X21_sections_113, rfl⟩ : ∃ f, f = du_X21_sections_113)
def b_X21_sections_70 (s : jS) (x0 x1 x2 x3 x4 : Int) : Option ((jS × List Int) ⊕ ((jS × List Int) ⊕ (jS × Int))) :=
  if x4 < (jf s 19 x3 1) then
    if x1 < 3 then
      (jrd s 23 (jf s 25 x0 0) 0).bind fun v1 =>
      (m_X21_from s x0 x2).bind fun v2 =>
      (jld s 1001 v1 (W32 (v2 + x4))).bind fun v3 =>
      (jst s 1001 (x3 + 1) (jN s (x3 + 1)) x4 (W8 v3)).bind fun s4 =>
      some (.inl (s4, [x0, x1, x2, x3, W32 (x4 + 1)]))
    else
      jinr (u_X21_sections_113 s x0 x1)
  else
    jinr (u_X21_sections_113 s x0 x1)
def du_X21_sections_70 (s : jS) (x0 x1 x2 x3 x4 : Int) : Option ((jS × List Int) ⊕ (jS × Int)) := jlpW (jc5 b_X21_sections_70) [x0, x1, x2, x3, x4] s
noncomputable def u_X21_sections_70 : jS → Int → Int → Int → Int → Int → Option ((jS × List Int) ⊕ (jS × Int)) := Classical.choose (⟨du_X21_sections_70, rfl⟩ : ∃ f, f = du_X21_sections_70)
theorem eu_X21_sections_70 : u_X21_sections_70 = du_X21_sections_70 := Classical.choose_spec (⟨du_X21_sections_70, rfl⟩ : ∃ f, f = du_X21_sections_70)
def b_X21_sections_9 (s : jS) (x0 x1 : Int) : Option ((jS × List Int) ⊕ (jS × Int)) :=
  if x1 < 4 then
    (jlt s 1000 (x0 + 1) 12 (W32 (x1 + 1))).bind fun v1 =>
    if v1 = 0 then
      u_X21_sections_113 s x0 x1
    else
      (jix 4 x1 (((x0 + 3) + 1) + 4 + 2 * x1)).bind fun v2 =>
      (m_X21_field s x0 v1 8).bind fun v3 =>
      (jct s 39 (jf s 25 x0 0) (m_X19_s4 s (jf s 25 x0 0) v3)).bind fun v4 =>
      jls (jp s 19 v2 2 v4) fun s5 =>
      (m_X21_sizeOf s5 x0 v1).bind fun v6 =>
      jls (jp s5 19 v2 1 v6) fun s7 =>
      u_X21_sections_70 s7 x0 x1 v1 v2 0
  else
    jinr (some (s, 0))
def du_X21_sections_9 (s : jS) (x0 x1 : Int) : Option (jS × Int) := jlpW (jc2 b_X21_sections_9) [x0, x1] s
noncomputable def u_X21_sections_9 : jS → Int → Int → Option (jS × Int) := Classical.choose (⟨du_X21_sections_9, rfl⟩ : ∃ f, f = du_X21_sections_9)
theorem eu_X21_sections_9 : u_X21_sections_9 = du_X21_sections_9 := Classical.choose_spec (⟨du_X21_sections_9, rfl⟩ : ∃ f, f = du_X21_sections_9)
def dm_X21_sections (s : jS) (x0 : Int) : Option (jS × Int) :=
  (m_X14_clear s (x0 + 3)).bind fun q1 =>
  u_X21_sections_9 q1.1 x0 0
noncomputable def m_X21_sections : jS → Int → Option (jS × Int) := Classical.choose (⟨dm_X21_sections, rfl⟩ : ∃ f, f = dm_X21_sections)
theorem em_X21_sections : m_X21_sections = dm_X21_sections := Classical.choose_spec (⟨dm_X21_sections, rfl⟩ : ∃ f, f = dm_X21_sections)
def du_X21_readSymbol_396 (s : jS) (x0 x1 y0 y1 : Int) : Option (jS × Bool × Int) :=
  (m_X21_need s y1 y0 27 x1).bind fun q1 =>
  jth q1.2.1 (some (q1.1, true, q1.2.2)) <|
  (jix 100 (jf q1.1 18 (x0 + 3) 4) (((x0 + 3) + 3) + 10 + 3 * (jf q1.1 18 (x0 + 3) 4))).bind fun v2 =>
  (m_X16_set_2 q1.1 v2 (x0 + 616)).bind fun q3 =>
  jls (jp q3.1 18 (x0 + 3) 4 (W32 ((jf q3.1 18 (x0 + 3) 4) + 1))) fun s4 =>
  some (s4, false, 0)
noncomputable def u_X21_readSymbol_396 : jS → Int → Int → Int → Int → Option (jS × Bool × Int) := Classical.choose (⟨du_X21_readSymbol_396, rfl⟩ : ∃ f, f = du_X21_readSymbol_396)
theorem eu_X21_readSymbol_396 : u_X21_readSymbol_396 = du_X21_readSymbol_396 := Classical.choose_spec (⟨du_X21_readSymbol_396, rfl⟩ : ∃ f, f = du_X21_readSymbol_396)
def du_X21_readSymbol_391 (s : jS) (x0 x1 y0 : Int) : Option (jS × Bool × Int) :=
  u_X21_readSymbol_396 s x0 x1 1 y0
noncomputable def u_X21_readSymbol_391 : jS → Int → Int → Int → Option (jS × Bool × Int) := Classical.choose (⟨du_X21_readSymbol_391, rfl⟩ : ∃ f, f = du_X21_readSymbol_391)
theorem eu_X21_readSymbol_391 : u_X21_readSymbol_391 = du_X21_readSymbol_391 := Classical.choose_spec (⟨du_X21_readSymbol_391, rfl⟩ : ∃ f, f = du_X21_readSymbol_391)
def du_X21_readSymbol_353 (s : jS) (x0 x1 y0 y1 y2 y3 : Int) : Option (jS × Bool × Int) :=
  (m_X21_need s y3 y2 y1 y0).bind fun q1 =>
  jth q1.2.1 (some (q1.1, true, q1.2.2)) <|
  if (jf q1.1 20 (x0 + 616) 4) = 0 then
    u_X21_readSymbol_391 q1.1 x0 x1 x0
  else
    (m_X14_isTaken q1.1 (x0 + 3) ((x0 + 616) + 1) (jf q1.1 18 (x0 + 3) 4)).bind fun v2 =>
    if v2 = 0 then
      u_X21_readSymbol_391 q1.1 x0 x1 x0
    else
      u_X21_readSymbol_396 q1.1 x0 x1 0 x0
noncomputable def u_X21_readSymbol_353 : jS → Int → Int → Int → Int → Int → Int → Option (jS × Bool × Int) := Classical.choose (⟨du_X21_readSymbol_353, rfl⟩ : ∃ f, f = du_X21_readSymbol_353)
theorem eu_X21_readSymbol_353 : u_X21_readSymbol_353 = du_X21_readSymbol_353 := Classical.choose_spec (⟨du_X21_readSymbol_353, rfl⟩ : ∃ f, f = du_X21_readSymbol_353)
def du_X21_readSymbol_322 (s : jS) (x0 x1 x6 y0 y1 : Int) : Option (jS × Bool × Int) :=
  if x6 = 1 then
    u_X21_readSymbol_353 s x0 x1 (W32 (x1 + 4)) 26 y0 y1
  else
    if x6 = 2 then
      u_X21_readSymbol_353 s x0 x1 (W32 (x1 + 8)) 26 y0 y1
    else
      u_X21_readSymbol_353 s x0 x1 (W32 (x1 + 12)) 26 y0 y1
noncomputable def u_X21_readSymbol_322 : jS → Int → Int → Int → Int → Int → Option (jS × Bool × Int) := Classical.choose (⟨du_X21_readSymbol_322, rfl⟩ : ∃ f, f = du_X21_readSymbol_322)
theorem eu_X21_readSymbol_322 : u_X21_readSymbol_322 = du_X21_readSymbol_322 := Classical.choose_spec (⟨du_X21_readSymbol_322, rfl⟩ : ∃ f, f = du_X21_readSymbol_322)
def du_X21_readSymbol_311 (s : jS) (x0 x1 x6 : Int) : Option (jS × Bool × Int) :=
  if x6 = 0 then
    u_X21_readSymbol_322 s x0 x1 x6 1 x0
  else
    u_X21_readSymbol_322 s x0 x1 x6 0 x0
noncomputable def u_X21_readSymbol_311 : jS → Int → Int → Int → Option (jS × Bool × Int) := Classical.choose (⟨du_X21_readSymbol_311, rfl⟩ : ∃ f, f = du_X21_readSymbol_311)
theorem eu_X21_readSymbol_311 : u_X21_readSymbol_311 = du_X21_readSymbol_311 := Classical.choose_spec (⟨du_X21_readSymbol_311, rfl⟩ : ∃ f, f = du_X21_readSymbol_311)
def du_X21_readSymbol_309 (s : jS) (x0 x1 y0 : Int) : Option (jS × Bool × Int) :=
  u_X21_readSymbol_311 s x0 x1 y0
noncomputable def u_X21_readSymbol_309 : jS → Int → Int → Int → Option (jS × Bool × Int) := Classical.choose (⟨du_X21_readSymbol_309, rfl⟩ : ∃ f, f = du_X21_readSymbol_309)
theorem eu_X21_readSymbol_309 : u_X21_readSymbol_309 = du_X21_readSymbol_309 := Classical.choose_spec (⟨du_X21_readSymbol_309, rfl⟩ : ∃ f, f = du_X21_readSymbol_309)
def du_X21_readSymbol_184 (s : jS) (x0 x1 x2 x4 y0 y1 : Int) : Option (jS × Bool × Int) :=
  (m_X21_need s y1 y0 25 (W32 (x1 + 14))).bind fun q1 =>
  jth q1.2.1 (some (q1.1, true, q1.2.2)) <|
  (jct q1.1 39 (jf q1.1 25 x0 0) (m_X19_s4 q1.1 (jf q1.1 25 x0 0) (W32 (x1 + 4)))).bind fun v2 =>
  (jct q1.1 39 (jf q1.1 25 x0 0) (m_X19_s4 q1.1 (jf q1.1 25 x0 0) (W32 (x1 + 8)))).bind fun v3 =>
  (m_X16_set q1.1 (x0 + 616) x4 v2 v3 (I_shr x2 4) (I_and x2 15)).bind fun q4 =>
  (m_X13_in q4.1 x4 0 3).bind fun v5 =>
  (m_X16_wrong q4.1 (x0 + 616)).bind fun v6 =>
  if v5 = 0 then
    u_X21_readSymbol_311 q4.1 x0 x1 v6
  else
    if v6 = 1 then
      u_X21_readSymbol_311 q4.1 x0 x1 v6
    else
      (m_X14_room q4.1 (x0 + 3) x4).bind fun v7 =>
      (m_X16_beyond q4.1 (x0 + 616) v7).bind fun v8 =>
      if v8 = 1 then
        u_X21_readSymbol_309 q4.1 x0 x1 1
      else
        if v6 = 0 then
          (m_X14_room q4.1 (x0 + 3) x4).bind fun v9 =>
          (m_X16_beyond q4.1 (x0 + 616) v9).bind fun v10 =>
          u_X21_readSymbol_309 q4.1 x0 x1 v10
        else
          u_X21_readSymbol_309 q4.1 x0 x1 v6
noncomputable def u_X21_readSymbol_184 : jS → Int → Int → Int → Int → Int → Int → Option (jS × Bool × Int) := Classical.choose (⟨du_X21_readSymbol_184, rfl⟩ : ∃ f, f = du_X21_readSymbol_184)
theorem eu_X21_readSymbol_184 : u_X21_readSymbol_184 = du_X21_readSymbol_184 := Classical.choose_spec (⟨du_X21_readSymbol_184, rfl⟩ : ∃ f, f = du_X21_readSymbol_184)
def du_X21_readSymbol_145 (s : jS) (x0 x1 x2 y0 y1 : Int) : Option (jS × Bool × Int) :=
  (m_X21_need s y1 y0 24 (W32 (x1 + 12))).bind fun q1 =>
  jth q1.2.1 (some (q1.1, true, q1.2.2)) <|
  (jct q1.1 39 (jf q1.1 25 x0 0) (m_X19_u2 q1.1 (jf q1.1 25 x0 0) (W32 (x1 + 14)))).bind fun v2 =>
  (m_X21_where q1.1 x0 v2).bind fun v3 =>
  if v3 < 6 then
    u_X21_readSymbol_184 q1.1 x0 x1 x2 v3 1 x0
  else
    u_X21_readSymbol_184 q1.1 x0 x1 x2 v3 0 x0
noncomputable def u_X21_readSymbol_145 : jS → Int → Int → Int → Int → Int → Option (jS × Bool × Int) := Classical.choose (⟨du_X21_readSymbol_145, rfl⟩ : ∃ f, f = du_X21_readSymbol_145)
theorem eu_X21_readSymbol_145 : u_X21_readSymbol_145 = du_X21_readSymbol_145 := Classical.choose_spec (⟨du_X21_readSymbol_145, rfl⟩ : ∃ f, f = du_X21_readSymbol_145)
def du_X21_readSymbol_140 (s : jS) (x0 x1 x2 y0 : Int) : Option (jS × Bool × Int) :=
  u_X21_readSymbol_145 s x0 x1 x2 1 y0
noncomputable def u_X21_readSymbol_140 : jS → Int → Int → Int → Int → Option (jS × Bool × Int) := Classical.choose (⟨du_X21_readSymbol_140, rfl⟩ : ∃ f, f = du_X21_readSymbol_140)
theorem eu_X21_readSymbol_140 : u_X21_readSymbol_140 = du_X21_readSymbol_140 := Classical.choose_spec (⟨du_X21_readSymbol_140, rfl⟩ : ∃ f, f = du_X21_readSymbol_140)
def du_X21_readSymbol_128 (s : jS) (x0 x1 x2 y0 : Int) : Option (jS × Bool × Int) :=
  if 0 < (I_shr x2 4) then
    u_X21_readSymbol_140 s x0 x1 x2 x0
  else
    if y0 = 0 then
      u_X21_readSymbol_140 s x0 x1 x2 x0
    else
      u_X21_readSymbol_145 s x0 x1 x2 0 x0
noncomputable def u_X21_readSymbol_128 : jS → Int → Int → Int → Int → Option (jS × Bool × Int) := Classical.choose (⟨du_X21_readSymbol_128, rfl⟩ : ∃ f, f = du_X21_readSymbol_128)
theorem eu_X21_readSymbol_128 : u_X21_readSymbol_128 = du_X21_readSymbol_128 := Classical.choose_spec (⟨du_X21_readSymbol_128, rfl⟩ : ∃ f, f = du_X21_readSymbol_128)
def du_X21_readSymbol_127 (s : jS) (x0 x1 x2 : Int) : Option (jS × Bool × Int) :=
  u_X21_readSymbol_128 s x0 x1 x2 0
noncomputable def u_X21_readSymbol_127 : jS → Int → Int → Int → Option (jS × Bool × Int) := Classical.choose (⟨du_X21_readSymbol_127, rfl⟩ : ∃ f, f = du_X21_readSymbol_127)
theorem eu_X21_readSymbol_127 : u_X21_readSymbol_127 = du_X21_readSymbol_127 := Classical.choose_spec (⟨du_X21_readSymbol_127, rfl⟩ : ∃ f, f = du_X21_readSymbol_127)
def du_X21_readSymbol_81 (s : jS) (x0 x1 x2 y0 y1 : Int) : Option (jS × Bool × Int) :=
  (m_X21_need s y1 y0 23 (W32 (x1 + 13))).bind fun q1 =>
  jth q1.2.1 (some (q1.1, true, q1.2.2)) <|
  if 0 < (jf q1.1 18 (x0 + 3) 4) then
    (jix 100 (W32 ((jf q1.1 18 (x0 + 3) 4) - 1)) (((x0 + 3) + 3) + 10 + 3 * (W32 ((jf q1.1 18 (x0 + 3) 4) - 1)))).bind fun v2 =>
    if (jf q1.1 20 v2 4) = 0 then
      u_X21_readSymbol_127 q1.1 x0 x1 x2
    else
      u_X21_readSymbol_128 q1.1 x0 x1 x2 1
  else
    u_X21_readSymbol_127 q1.1 x0 x1 x2
noncomputable def u_X21_readSymbol_81 : jS → Int → Int → Int → Int → Int → Option (jS × Bool × Int) := Classical.choose (⟨du_X21_readSymbol_81, rfl⟩ : ∃ f, f = du_X21_readSymbol_81)
theorem eu_X21_readSymbol_81 : u_X21_readSymbol_81 = du_X21_readSymbol_81 := Classical.choose_spec (⟨du_X21_readSymbol_81, rfl⟩ : ∃ f, f = du_X21_readSymbol_81)
def du_X21_readSymbol_52 (s : jS) (x0 x1 x2 y0 y1 : Int) : Option (jS × Bool × Int) :=
  (m_X21_need s y1 y0 23 (W32 (x1 + 12))).bind fun q1 =>
  jth q1.2.1 (some (q1.1, true, q1.2.2)) <|
  (jct q1.1 39 (jf q1.1 25 x0 0) (m_X19_u1 q1.1 (jf q1.1 25 x0 0) (W32 (x1 + 13)))).bind fun v2 =>
  if v2 = 0 then
    u_X21_readSymbol_81 q1.1 x0 x1 x2 1 x0
  else
    u_X21_readSymbol_81 q1.1 x0 x1 x2 0 x0
noncomputable def u_X21_readSymbol_52 : jS → Int → Int → Int → Int → Int → Option (jS × Bool × Int) := Classical.choose (⟨du_X21_readSymbol_52, rfl⟩ : ∃ f, f = du_X21_readSymbol_52)
theorem eu_X21_readSymbol_52 : u_X21_readSymbol_52 = du_X21_readSymbol_52 := Classical.choose_spec (⟨du_X21_readSymbol_52, rfl⟩ : ∃ f, f = du_X21_readSymbol_52)
def du_X21_readSymbol_51 (s : jS) (x0 x1 x2 y0 : Int) : Option (jS × Bool × Int) :=
  u_X21_readSymbol_52 s x0 x1 x2 0 y0
noncomputable def u_X21_readSymbol_51 : jS → Int → Int → Int → Int → Option (jS × Bool × Int) := Classical.choose (⟨du_X21_readSymbol_51, rfl⟩ : ∃ f, f = du_X21_readSymbol_51)
theorem eu_X21_readSymbol_51 : u_X21_readSymbol_51 = du_X21_readSymbol_51 := Classical.choose_spec (⟨du_X21_readSymbol_51, rfl⟩ : ∃ f, f = du_X21_readSymbol_51)
def dm_X21_readSymbol (s : jS) (x0 x1 : Int) : Option (jS × Bool × Int) :=
  (jct s 39 (jf s 25 x0 0) (m_X19_u4 s (jf s 25 x0 0) x1)).bind fun v1 =>
  (m_X21_isName s x0 v1).bind fun q2 =>
  (m_X21_need q2.1 x0 q2.2 22 x1).bind fun q3 =>
  jth q3.2.1 (some (q3.1, true, q3.2.2)) <|
  (jct q3.1 39 (jf q3.1 25 x0 0) (m_X19_u1 q3.1 (jf q3.1 25 x0 0) (W32 (x1 + 12)))).bind fun v4 =>
  if (I_shr v4 4) < 3 then
    if (I_and v4 15) < 3 then
      u_X21_readSymbol_52 q3.1 x0 x1 v4 1 x0
    else
      u_X21_readSymbol_51 q3.1 x0 x1 v4 x0
  else
    u_X21_readSymbol_51 q3.1 x0 x1 v4 x0
noncomputable def m_X21_readSymbol : jS → Int → Int → Option (jS × Bool × Int) := Classical.choose (⟨dm_X21_readSymbol, rfl⟩ : ∃ f, f = dm_X21_readSymbol)
theorem em_X21_readSymbol : m_X21_readSymbol = dm_X21_readSymbol := Classical.choose_spec (⟨dm_X21_readSymbol, rfl⟩ : ∃ f, f = dm_X21_readSymbol)
def du_X21_starts_127 (s : jS) (y0 y1 : Int) : Option (jS × Bool × Int) :=
  (m_X21_need s y1 y0 34 36).bind fun q1 =>
  jth q1.2.1 (some (q1.1, true, q1.2.2)) <|
  some (q1.1, false, 0)
noncomputable def u_X21_starts_127 : jS → Int → Int → Option (jS × Bool × Int) := Classical.choose (⟨du_X21_starts_127, rfl⟩ : ∃ f, f = du_X21_starts_127)
theorem eu_X21_starts_127 : u_X21_starts_127 = du_X21_starts_127 := Classical.choose_spec (⟨du_X21_starts_127, rfl⟩ : ∃ f, f = du_X21_starts_127)
def du_X21_starts_119 (s : jS) (y0 y1 y2 : Int) : Option (jS × Bool × Int) :=
  if y1 = y0 then
    u_X21_starts_127 s 1 y2
  else
    u_X21_starts_127 s 0 y2
noncomputable def u_X21_starts_119 : jS → Int → Int → Int → Option (jS × Bool × Int) := Classical.choose (⟨du_X21_starts_119, rfl⟩ : ∃ f, f = du_X21_starts_119)
theorem eu_X21_starts_119 : u_X21_starts_119 = du_X21_starts_119 := Classical.choose_spec (⟨du_X21_starts_119, rfl⟩ : ∃ f, f = du_X21_starts_119)
def du_X21_starts_104 (s : jS) (x0 y0 y1 : Int) : Option (jS × Bool × Int) :=
  (m_X14_shorts s (x0 + 3)).bind fun v1 =>
  if 0 < v1 then
    u_X21_starts_119 s 1 y0 y1
  else
    u_X21_starts_119 s 0 y0 y1
noncomputable def u_X21_starts_104 : jS → Int → Int → Int → Option (jS × Bool × Int) := Classical.choose (⟨du_X21_starts_104, rfl⟩ : ∃ f, f = du_X21_starts_104)
theorem eu_X21_starts_104 : u_X21_starts_104 = du_X21_starts_104 := Classical.choose_spec (⟨du_X21_starts_104, rfl⟩ : ∃ f, f = du_X21_starts_104)
def du_X21_starts_84 (s : jS) (x0 : Int) : Option (jS × Bool × Int) :=
  (jct s 39 (jf s 25 x0 0) (m_X19_u4 s (jf s 25 x0 0) 36)).bind fun v1 =>
  if (L_cmp v1 1) = 0 then
    u_X21_starts_104 s x0 1 x0
  else
    u_X21_starts_104 s x0 0 x0
noncomputable def u_X21_starts_84 : jS → Int → Option (jS × Bool × Int) := Classical.choose (⟨du_X21_starts_84, rfl⟩ : ∃ f, f = du_X21_starts_84)
theorem eu_X21_starts_84 : u_X21_starts_84 = du_X21_starts_84 := Classical.choose_spec (⟨du_X21_starts_84, rfl⟩ : ∃ f, f = du_X21_starts_84)
def du_X21_starts_66 (s : jS) (x0 x1 x2 y0 y1 : Int) : Option ((jS × List Int) ⊕ (jS × Bool × Int)) :=
  (m_X21_from s x0 x1).bind fun v1 =>
  (m_X21_need s y1 y0 33 (W32 (v1 + x2))).bind fun q2 =>
  jth q2.2.1 (jinr (some (q2.1, true, q2.2.2))) <|
  some (.inl (q2.1, [x0, x1, W32 (x2 + 2)]))
noncomputable def u_X21_starts_66 : jS → Int → Int → Int → Int → Int → Option ((jS × List Int) ⊕ (jS × Bool × Int)) := Classical.choose (⟨du_X21_starts_66, rfl⟩ : ∃ f, f = du_X21_starts_66)
theorem eu_X21_starts_66 : u_X21_starts_66 = du_X21_starts_66 := Classical.choose_spec (⟨du_X21_starts_66, rfl⟩ : ∃ f, f = du_X21_starts_66)
def du_X21_starts_65 (s : jS) (x0 x1 x2 y0 : Int) : Option ((jS × List Int) ⊕ (jS × Bool × Int)) :=
  u_X21_starts_66 s x0 x1 x2 0 y0
noncomputable def u_X21_starts_65 : jS → Int → Int → Int → Int → Option ((jS × List Int) ⊕ (jS × Bool × Int)) := Classical.choose (⟨du_X21_starts_65, rfl⟩ : ∃ f, f = du_X21_starts_65)
theorem eu_X21_starts_65 : u_X21_starts_65 = du_X21_starts_65 := Classical.choose_spec (⟨du_X21_starts_65, rfl⟩ : ∃ f, f = du_X21_starts_65)
def b_X21_starts_9 (s : jS) (x0 x1 x2 : Int) : Option ((jS × List Int) ⊕ (jS × Bool × Int)) :=
  if 0 < x1 then
    (m_X21_sizeOf s x0 x1).bind fun v1 =>
    if x2 < v1 then
      (m_X21_from s x0 x1).bind fun v2 =>
      (jct s 39 (jf s 25 x0 0) (m_X19_u2 s (jf s 25 x0 0) (W32 (v2 + x2)))).bind fun v3 =>
      (m_X14_room s (x0 + 3) 0).bind fun v4 =>
      if v3 < v4 then
        (m_X14_start s (x0 + 3) v3).bind fun q5 =>
        if q5.2 = 0 then
          u_X21_starts_65 q5.1 x0 x1 x2 x0
        else
          u_X21_starts_66 q5.1 x0 x1 x2 1 x0
      else
        u_X21_starts_65 s x0 x1 x2 x0
    else
      jinr (u_X21_starts_84 s x0)
  else
    jinr (u_X21_starts_84 s x0)
def du_X21_starts_9 (s : jS) (x0 x1 x2 : Int) : Option (jS × Bool × Int) := jlpW (jc3 b_X21_starts_9) [x0, x1, x2] s
noncomputable def u_X21_starts_9 : jS → Int → Int → Int → Option (jS × Bool × Int) := Classical.choose (⟨du_X21_starts_9, rfl⟩ : ∃ f, f = du_X21_starts_9)
theorem eu_X21_starts_9 : u_X21_starts_9 = du_X21_starts_9 := Classical.choose_spec (⟨du_X21_starts_9, rfl⟩ : ∃ f, f = du_X21_starts_9)
def dm_X21_starts (s : jS) (x0 : Int) : Option (jS × Bool × Int) :=
  (jlt s 1000 (x0 + 1) 12 5).bind fun v1 =>
  u_X21_starts_9 s x0 v1 0
noncomputable def m_X21_starts : jS → Int → Option (jS × Bool × Int) := Classical.choose (⟨dm_X21_starts, rfl⟩ : ∃ f, f = dm_X21_starts)
theorem em_X21_starts : m_X21_starts = dm_X21_starts := Classical.choose_spec (⟨dm_X21_starts, rfl⟩ : ∃ f, f = dm_X21_starts)
def b_X22_feed_32 (s : jS) (x0 x1 x2 x4 : Int) : Option ((jS × List Int) ⊕ (jS × Int)) :=
  if x4 < x1 then
    (m_X25_put1 s (x0 + 19) (L2i (L_shr x2 (W32 (56 - (W32 (8 * x4))))))).bind fun q1 =>
    some (.inl (q1.1, [x0, x1, x2, W32 (x4 + 1)]))
  else
    jinr (some (s, Wz 1))
def du_X22_feed_32 (s : jS) (x0 x1 x2 x4 : Int) : Option (jS × Int) := jlpW (jc4 b_X22_feed_32) [x0, x1, x2, x4] s
noncomputable def u_X22_feed_32 : jS → Int → Int → Int → Int → Option (jS × Int) := Classical.choose (⟨du_X22_feed_32, rfl⟩ : ∃ f, f = du_X22_feed_32)
theorem eu_X22_feed_32 : u_X22_feed_32 = du_X22_feed_32 := Classical.choose_spec (⟨du_X22_feed_32, rfl⟩ : ∃ f, f = du_X22_feed_32)
def dm_X22_feed (s : jS) (x0 x1 x2 : Int) : Option (jS × Int) :=
  (m_X22_in s x1 1 8).bind fun v1 =>
  if v1 = 0 then
    some (s, Wz 0)
  else
    if 16384 < (W32 ((jf s 29 (x0 + 19) 1) + x1)) then
      some (s, Wz 0)
    else
      u_X22_feed_32 s x0 x1 x2 0
noncomputable def m_X22_feed : jS → Int → Int → Int → Option (jS × Int) := Classical.choose (⟨dm_X22_feed, rfl⟩ : ∃ f, f = dm_X22_feed)
theorem em_X22_feed : m_X22_feed = dm_X22_feed := Classical.choose_spec (⟨dm_X22_feed, rfl⟩ : ∃ f, f = dm_X22_feed)
def dm_X22_spoil (s : jS) (x0 x1 x2 : Int) : Option (jS × Int) :=
  (m_X22_in s x1 0 (W32 ((jf s 29 (x0 + 19) 1) - 1))).bind fun v1 =>
  if v1 = 0 then
    some (s, (-1))
  else
    (m_X25_u1 s (x0 + 19) x1).bind fun v2 =>
    (jst s 1001 ((x0 + 19) + 1) 16384 x1 (W8 (W8 x2))).bind fun s3 =>
    some (s3, v2)
noncomputable def m_X22_spoil : jS → Int → Int → Int → Option (jS × Int) := Classical.choose (⟨dm_X22_spoil, rfl⟩ : ∃ f, f = dm_X22_spoil)
theorem em_X22_spoil : m_X22_spoil = dm_X22_spoil := Classical.choose_spec (⟨dm_X22_spoil, rfl⟩ : ∃ f, f = dm_X22_spoil)
def dm_X22_byteAt (s : jS) (x0 x1 : Int) : Option (Int) :=
  (m_X22_in s x1 0 (W32 ((jf s 29 (x0 + 19) 1) - 1))).bind fun v1 =>
  if v1 = 0 then
    some (-1)
  else
    (m_X25_u1 s (x0 + 19) x1).bind fun v2 =>
    some v2
noncomputable def m_X22_byteAt : jS → Int → Int → Option (Int) := Classical.choose (⟨dm_X22_byteAt, rfl⟩ : ∃ f, f = dm_X22_byteAt)
theorem em_X22_byteAt : m_X22_byteAt = dm_X22_byteAt := Classical.choose_spec (⟨dm_X22_byteAt, rfl⟩ : ∃ f, f = dm_X22_byteAt)
def dm_X22_about (s : jS) (x0 x1 x2 : Int) : Option (Int) :=
  (m_X22_isSegment s x1).bind fun v1 =>
  if v1 = 0 then
    some (-1)
  else
    (jix 3 x1 (((x0 + 10) + 1) + 2 + 2 * x1)).bind fun v2 =>
    (m_X24_tell s v2 x2).bind fun v3 =>
    some v3
noncomputable def m_X22_about : jS → Int → Int → Int → Option (Int) := Classical.choose (⟨dm_X22_about, rfl⟩ : ∃ f, f = dm_X22_about)
theorem em_X22_about : m_X22_about = dm_X22_about := Classical.choose_spec (⟨dm_X22_about, rfl⟩ : ∃ f, f = dm_X22_about)
def dm_X22_clear (s : jS) (x0 : Int) : Option (jS × Int) :=
  (m_X23_clear s (x0 + 1)).bind fun q1 =>
  some (q1.1, 0)
noncomputable def m_X22_clear : jS → Int → Option (jS × Int) := Classical.choose (⟨dm_X22_clear, rfl⟩ : ∃ f, f = dm_X22_clear)
theorem em_X22_clear : m_X22_clear = dm_X22_clear := Classical.choose_spec (⟨dm_X22_clear, rfl⟩ : ∃ f, f = dm_X22_clear)
def du_X22_segment_34 (s : jS) (x0 x1 x2 x3 y0 y1 y2 : Int) : Option (jS × Int) :=
  (m_X22_in s y2 y1 y0).bind fun v1 =>
  if v1 = 0 then
    some (s, Wz 0)
  else
    (jix 3 x1 (((x0 + 1) + 1) + 2 + 2 * x1)).bind fun v2 =>
    (m_X24_lie s v2 x2 x3).bind fun q3 =>
    some (q3.1, Wz 1)
noncomputable def u_X22_segment_34 : jS → Int → Int → Int → Int → Int → Int → Int → Option (jS × Int) := Classical.choose (⟨du_X22_segment_34, rfl⟩ : ∃ f, f = du_X22_segment_34)
theorem eu_X22_segment_34 : u_X22_segment_34 = du_X22_segment_34 := Classical.choose_spec (⟨du_X22_segment_34, rfl⟩ : ∃ f, f = du_X22_segment_34)
def dm_X22_segment (s : jS) (x0 x1 x2 x3 : Int) : Option (jS × Int) :=
  (m_X22_isSegment s x1).bind fun v1 =>
  if v1 = 0 then
    some (s, Wz 0)
  else
    (m_X22_in s x2 0 131071).bind fun v2 =>
    if v2 = 0 then
      some (s, Wz 0)
    else
      if x1 = 2 then
        u_X22_segment_34 s x0 x1 x2 x3 32768 0 x3
      else
        u_X22_segment_34 s x0 x1 x2 x3 0 0 x3
noncomputable def m_X22_segment : jS → Int → Int → Int → Int → Option (jS × Int) := Classical.choose (⟨dm_X22_segment, rfl⟩ : ∃ f, f = dm_X22_segment)
theorem em_X22_segment : m_X22_segment = dm_X22_segment := Classical.choose_spec (⟨dm_X22_segment, rfl⟩ : ∃ f, f = dm_X22_segment)
def b_X22_put_59 (s : jS) (x0 x1 x2 x3 x5 : Int) : Option ((jS × List Int) ⊕ (jS × Int)) :=
  if x5 < x2 then
    (jix 3 x1 (((x0 + 1) + 1) + 2 + 2 * x1)).bind fun v1 =>
    (m_X24_add s v1 (L2i (L_shr x3 (W32 (56 - (W32 (8 * x5))))))).bind fun q2 =>
    some (.inl (q2.1, [x0, x1, x2, x3, W32 (x5 + 1)]))
  else
    jinr (some (s, Wz 1))
def du_X22_put_59 (s : jS) (x0 x1 x2 x3 x5 : Int) : Option (jS × Int) := jlpW (jc5 b_X22_put_59) [x0, x1, x2, x3, x5] s
noncomputable def u_X22_put_59 : jS → Int → Int → Int → Int → Int → Option (jS × Int) := Classical.choose (⟨du_X22_put_59, rfl⟩ : ∃ f, f = du_X22_put_59)
theorem eu_X22_put_59 : u_X22_put_59 = du_X22_put_59 := Classical.choose_spec (⟨du_X22_put_59, rfl⟩ : ∃ f, f = du_X22_put_59)
def dm_X22_put (s : jS) (x0 x1 x2 x3 : Int) : Option (jS × Int) :=
  (m_X22_isSegment s x1).bind fun v1 =>
  if v1 = 0 then
    some (s, Wz 0)
  else
    (jix 3 x1 (((x0 + 1) + 1) + 2 + 2 * x1)).bind fun v2 =>
    if (jf s 28 v2 2) = 0 then
      some (s, Wz 0)
    else
      (m_X22_in s x2 1 8).bind fun v3 =>
      if v3 = 0 then
        some (s, Wz 0)
      else
        (jix 3 x1 (((x0 + 1) + 1) + 2 + 2 * x1)).bind fun v4 =>
        if 4096 < (W32 ((jf s 28 v4 4) + x2)) then
          some (s, Wz 0)
        else
          u_X22_put_59 s x0 x1 x2 x3 0
noncomputable def m_X22_put : jS → Int → Int → Int → Int → Option (jS × Int) := Classical.choose (⟨dm_X22_put, rfl⟩ : ∃ f, f = dm_X22_put)
theorem em_X22_put : m_X22_put = dm_X22_put := Classical.choose_spec (⟨dm_X22_put, rfl⟩ : ∃ f, f = dm_X22_put)
def du_X23_init_48 (s : jS) (x0 : Int) : Option (jS × Int) :=
  (jct s 43 x0 (m_X23_clear s x0)).bind fun q1 =>
  some (q1.1, 0)
noncomputable def u_X23_init_48 : jS → Int → Option (jS × Int) := Classical.choose (⟨du_X23_init_48, rfl⟩ : ∃ f, f = du_X23_init_48)
theorem eu_X23_init_48 : u_X23_init_48 = du_X23_init_48 := Classical.choose_spec (⟨du_X23_init_48, rfl⟩ : ∃ f, f = du_X23_init_48)
def b_X23_init_23 (s : jS) (x0 x1 : Int) : Option ((jS × List Int) ⊕ (jS × Int)) :=
  if x1 < 3 then
    (jrd s 27 x0 0).bind fun v1 =>
    (jnw s 28 6 (jdf 28)).bind fun q2 =>
    (jck0 q2.2 (m_X24_init q2.1 q2.2 x1)).bind fun q3 =>
    (jas q3.1 1009 28 v1 x1 q2.2).bind fun s4 =>
    some (.inl (s4, [x0, W32 (x1 + 1)]))
  else
    jinr (u_X23_init_48 s x0)
def du_X23_init_23 (s : jS) (x0 x1 : Int) : Option (jS × Int) := jlpW (jc2 b_X23_init_23) [x0, x1] s
noncomputable def u_X23_init_23 : jS → Int → Int → Option (jS × Int) := Classical.choose (⟨du_X23_init_23, rfl⟩ : ∃ f, f = du_X23_init_23)
theorem eu_X23_init_23 : u_X23_init_23 = du_X23_init_23 := Classical.choose_spec (⟨du_X23_init_23, rfl⟩ : ∃ f, f = du_X23_init_23)
def dm_X23_init (s : jS) (x0 : Int) : Option (jS × Int) :=
  jck0 x0 <|
  (jna s 1009 3 (-1)).bind fun q1 =>
  (jwr q1.1 27 x0 0 q1.2).bind fun s2 =>
  (jna s2 1002 2048 0).bind fun q3 =>
  (jwr q3.1 27 x0 1 q3.2).bind fun s4 =>
  u_X23_init_23 s4 x0 0
noncomputable def m_X23_init : jS → Int → Option (jS × Int) := Classical.choose (⟨dm_X23_init, rfl⟩ : ∃ f, f = dm_X23_init)
theorem em_X23_init : m_X23_init = dm_X23_init := Classical.choose_spec (⟨dm_X23_init, rfl⟩ : ∃ f, f = dm_X23_init)
def dm_X23_hasText (s : jS) (x0 : Int) : Option (Int) :=
  (m_X23_text s x0).bind fun v1 =>
  (jrd s 28 v1 2).bind fun v2 =>
  if v2 = 0 then
    some (Wz 0)
  else
    (m_X23_text s x0).bind fun v3 =>
    (jrd s 28 v3 4).bind fun v4 =>
    if 0 < v4 then
      (m_X23_text s x0).bind fun v5 =>
      (jrd s 28 v5 4).bind fun v6 =>
      (jdv 2 (I_rem v6 2)).bind fun v7 =>
      if v7 = 0 then
        some (Wz 1)
      else
        some (Wz 0)
    else
      some (Wz 0)
noncomputable def m_X23_hasText : jS → Int → Option (Int) := Classical.choose (⟨dm_X23_hasText, rfl⟩ : ∃ f, f = dm_X23_hasText)
theorem em_X23_hasText : m_X23_hasText = dm_X23_hasText := Classical.choose_spec (⟨dm_X23_hasText, rfl⟩ : ∃ f, f = dm_X23_hasText)
def du_X23_isWithin_40 (s : jS) (x0 x1 : Int) : Option ((jS × List Int) ⊕ (jS × Int)) :=
  some (.inl (s, [x0, W32 (x1 + 1)]))
noncomputable def u_X23_isWithin_40 : jS → Int → Int → Option ((jS × List Int) ⊕ (jS × Int)) := Classical.choose (⟨du_X23_isWithin_40, rfl⟩ : ∃ f, f = du_X23_isWithin_40)
theorem eu_X23_isWithin_40 : u_X23_isWithin_40 = du_X23_isWithin_40 := Classical.choose_spec (⟨du_X23_isWithin_40, rfl⟩ : ∃ f, f = du_X23_isWithin_40)
def b_X23_isWithin_2 (s : jS) (x0 x1 : Int) : Option ((jS × List Int) ⊕ (jS × Int)) :=
  if x1 < 3 then
    jls (jp s 27 x0 5 x1) fun s1 =>
    (jix 3 x1 ((x0 + 1) + 2 + 2 * x1)).bind fun v2 =>
    if (jf s1 28 v2 2) = 0 then
      u_X23_isWithin_40 s1 x0 x1
    else
      (jix 3 x1 ((x0 + 1) + 2 + 2 * x1)).bind fun v3 =>
      (m_X24_end s1 v3).bind fun v4 =>
      if 131072 < v4 then
        jinr (some (s1, Wz 0))
      else
        u_X23_isWithin_40 s1 x0 x1
  else
    jinr (some (s, Wz 1))
def du_X23_isWithin_2 (s : jS) (x0 x1 : Int) : Option (jS × Int) := jlpW (jc2 b_X23_isWithin_2) [x0, x1] s
noncomputable def u_X23_isWithin_2 : jS → Int → Int → Option (jS × Int) := Classical.choose (⟨du_X23_isWithin_2, rfl⟩ : ∃ f, f = du_X23_isWithin_2)
theorem eu_X23_isWithin_2 : u_X23_isWithin_2 = du_X23_isWithin_2 := Classical.choose_spec (⟨du_X23_isWithin_2, rfl⟩ : ∃ f, f = du_X23_isWithin_2)
def dm_X23_isWithin (s : jS) (x0 : Int) : Option (jS × Int) :=
  u_X23_isWithin_2 s x0 0
noncomputable def m_X23_isWithin : jS → Int → Option (jS × Int) := Classical.choose (⟨dm_X23_isWithin, rfl⟩ : ∃ f, f = dm_X23_isWithin)
theorem em_X23_isWithin : m_X23_isWithin = dm_X23_isWithin := Classical.choose_spec (⟨dm_X23_isWithin, rfl⟩ : ∃ f, f = dm_X23_isWithin)
def du_X23_areApart_52 (s : jS) (x0 x1 : Int) : Option ((jS × List Int) ⊕ (jS × Int)) :=
  some (.inl (s, [x0, W32 (x1 + 1)]))
noncomputable def u_X23_areApart_52 : jS → Int → Int → Option ((jS × List Int) ⊕ (jS × Int)) := Classical.choose (⟨du_X23_areApart_52, rfl⟩ : ∃ f, f = du_X23_areApart_52)
theorem eu_X23_areApart_52 : u_X23_areApart_52 = du_X23_areApart_52 := Classical.choose_spec (⟨du_X23_areApart_52, rfl⟩ : ∃ f, f = du_X23_areApart_52)
def b_X23_areApart_11 (s : jS) (x0 x1 x2 : Int) : Option ((jS × List Int) ⊕ ((jS × List Int) ⊕ (jS × Int))) :=
  if x2 < 3 then
    jls (jp s 27 x0 5 x1) fun s1 =>
    jls (jp s1 27 x0 6 x2) fun s2 =>
    (jix 3 x1 ((x0 + 1) + 2 + 2 * x1)).bind fun v3 =>
    (jix 3 x2 ((x0 + 1) + 2 + 2 * x2)).bind fun v4 =>
    (m_X24_meets s2 v3 v4).bind fun v5 =>
    if v5 = 0 then
      some (.inl (s2, [x0, x1, W32 (x2 + 1)]))
    else
      jinr (jinr (some (s2, Wz 0)))
  else
    jinr (u_X23_areApart_52 s x0 x1)
def du_X23_areApart_11 (s : jS) (x0 x1 x2 : Int) : Option ((jS × List Int) ⊕ (jS × Int)) := jlpW (jc3 b_X23_areApart_11) [x0, x1, x2] s
noncomputable def u_X23_areApart_11 : jS → Int → Int → Int → Option ((jS × List Int) ⊕ (jS × Int)) := Classical.choose (⟨du_X23_areApart_11, rfl⟩ : ∃ f, f = du_X23_areApart_11)
theorem eu_X23_areApart_11 : u_X23_areApart_11 = du_X23_areApart_11 := Classical.choose_spec (⟨du_X23_areApart_11, rfl⟩ : ∃ f, f = du_X23_areApart_11)
def b_X23_areApart_2 (s : jS) (x0 x1 : Int) : Option ((jS × List Int) ⊕ (jS × Int)) :=
  if x1 < 3 then
    jlet (W32 (x1 + 1)) fun v1 =>
    u_X23_areApart_11 s x0 x1 v1
  else
    jinr (some (s, Wz 1))
def du_X23_areApart_2 (s : jS) (x0 x1 : Int) : Option (jS × Int) := jlpW (jc2 b_X23_areApart_2) [x0, x1] s
noncomputable def u_X23_areApart_2 : jS → Int → Int → Option (jS × Int) := Classical.choose (⟨du_X23_areApart_2, rfl⟩ : ∃ f, f = du_X23_areApart_2)
theorem eu_X23_areApart_2 : u_X23_areApart_2 = du_X23_areApart_2 := Classical.choose_spec (⟨du_X23_areApart_2, rfl⟩ : ∃ f, f = du_X23_areApart_2)
def dm_X23_areApart (s : jS) (x0 : Int) : Option (jS × Int) :=
  u_X23_areApart_2 s x0 0
noncomputable def m_X23_areApart : jS → Int → Option (jS × Int) := Classical.choose (⟨dm_X23_areApart, rfl⟩ : ∃ f, f = dm_X23_areApart)
theorem em_X23_areApart : m_X23_areApart = dm_X23_areApart := Classical.choose_spec (⟨dm_X23_areApart, rfl⟩ : ∃ f, f = dm_X23_areApart)
def dm_X23_length (s : jS) (x0 x1 : Int) : Option (Int) :=
  (m_X23_isShort s x0 x1).bind fun v1 =>
  if v1 = 0 then
    some 4
  else
    some 2
noncomputable def m_X23_length : jS → Int → Int → Option (Int) := Classical.choose (⟨dm_X23_length, rfl⟩ : ∃ f, f = dm_X23_length)
theorem em_X23_length : m_X23_length = dm_X23_length := Classical.choose_spec (⟨dm_X23_length, rfl⟩ : ∃ f, f = dm_X23_length)
def b_X23_set_46 (s : jS) (x0 x1 x2 : Int) : Option ((jS × List Int) ⊕ (jS × Int)) :=
  if x2 < 2048 then
    (jrd s 27 x1 1).bind fun v1 =>
    (jld s 1002 v1 x2).bind fun v2 =>
    (jst s 1002 (x0 + 2) 2048 x2 (Wz v2)).bind fun s3 =>
    some (.inl (s3, [x0, x1, W32 (x2 + 1)]))
  else
    jinr (some (s, 0))
def du_X23_set_46 (s : jS) (x0 x1 x2 : Int) : Option (jS × Int) := jlpW (jc3 b_X23_set_46) [x0, x1, x2] s
noncomputable def u_X23_set_46 : jS → Int → Int → Int → Option (jS × Int) := Classical.choose (⟨du_X23_set_46, rfl⟩ : ∃ f, f = du_X23_set_46)
theorem eu_X23_set_46 : u_X23_set_46 = du_X23_set_46 := Classical.choose_spec (⟨du_X23_set_46, rfl⟩ : ∃ f, f = du_X23_set_46)
def du_X23_set_44 (s : jS) (x0 x1 : Int) : Option (jS × Int) :=
  u_X23_set_46 s x0 x1 0
noncomputable def u_X23_set_44 : jS → Int → Int → Option (jS × Int) := Classical.choose (⟨du_X23_set_44, rfl⟩ : ∃ f, f = du_X23_set_44)
theorem eu_X23_set_44 : u_X23_set_44 = du_X23_set_44 := Classical.choose_spec (⟨du_X23_set_44, rfl⟩ : ∃ f, f = du_X23_set_44)
def b_X23_set_18 (s : jS) (x0 x1 x2 : Int) : Option ((jS × List Int) ⊕ (jS × Int)) :=
  if x2 < 3 then
    (jix 3 x2 ((x0 + 1) + 2 + 2 * x2)).bind fun v1 =>
    (jrd s 27 x1 0).bind fun v2 =>
    (jld s 1009 v2 x2).bind fun v3 =>
    (m_X24_set s v1 v3).bind fun q4 =>
    some (.inl (q4.1, [x0, x1, W32 (x2 + 1)]))
  else
    jinr (u_X23_set_44 s x0 x1)
def du_X23_set_18 (s : jS) (x0 x1 x2 : Int) : Option (jS × Int) := jlpW (jc3 b_X23_set_18) [x0, x1, x2] s
noncomputable def u_X23_set_18 : jS → Int → Int → Int → Option (jS × Int) := Classical.choose (⟨du_X23_set_18, rfl⟩ : ∃ f, f = du_X23_set_18)
theorem eu_X23_set_18 : u_X23_set_18 = du_X23_set_18 := Classical.choose_spec (⟨du_X23_set_18, rfl⟩ : ∃ f, f = du_X23_set_18)
def dm_X23_set (s : jS) (x0 x1 : Int) : Option (jS × Int) :=
  (jrd s 27 x1 2).bind fun v1 =>
  jls (jp s 27 x0 2 v1) fun s2 =>
  (jrd s2 27 x1 3).bind fun v3 =>
  jls (jp s2 27 x0 3 v3) fun s4 =>
  u_X23_set_18 s4 x0 x1 0
noncomputable def m_X23_set : jS → Int → Int → Option (jS × Int) := Classical.choose (⟨dm_X23_set, rfl⟩ : ∃ f, f = dm_X23_set)
theorem em_X23_set : m_X23_set = dm_X23_set := Classical.choose_spec (⟨dm_X23_set, rfl⟩ : ∃ f, f = dm_X23_set)
def b_X23_at_11 (s : jS) (x1 x2 x3 x4 : Int) : Option (List Int ⊕ (Int)) :=
  if x4 < x3 then
    (jix 3 x4 (x2 + 2 + 2 * x4)).bind fun v1 =>
    (m_X24_has s v1 x1).bind fun v2 =>
    if v2 = 0 then
      some (.inl [x1, x2, x3, W32 (x4 + 1)])
    else
      jinr (some v1)
  else
    jinr (some (-1))
def du_X23_at_11 (s : jS) (x1 x2 x3 x4 : Int) : Option (Int) := jlpR (jc4 b_X23_at_11) [x1, x2, x3, x4] s
noncomputable def u_X23_at_11 : jS → Int → Int → Int → Int → Option (Int) := Classical.choose (⟨du_X23_at_11, rfl⟩ : ∃ f, f = du_X23_at_11)
theorem eu_X23_at_11 : u_X23_at_11 = du_X23_at_11 := Classical.choose_spec (⟨du_X23_at_11, rfl⟩ : ∃ f, f = du_X23_at_11)
def dm_X23_at (s : jS) (x0 x1 : Int) : Option (Int) :=
  u_X23_at_11 s x1 (x0 + 1) 3 0
noncomputable def m_X23_at : jS → Int → Int → Option (Int) := Classical.choose (⟨dm_X23_at, rfl⟩ : ∃ f, f = dm_X23_at)
theorem em_X23_at : m_X23_at = dm_X23_at := Classical.choose_spec (⟨dm_X23_at, rfl⟩ : ∃ f, f = dm_X23_at)
def dm_X25_u4 (s : jS) (x0 x1 : Int) : Option (Int) :=
  (m_X25_s4 s x0 x1).bind fun v1 =>
  some (L_and v1 4294967295)
noncomputable def m_X25_u4 : jS → Int → Int → Option (Int) := Classical.choose (⟨dm_X25_u4, rfl⟩ : ∃ f, f = dm_X25_u4)
theorem em_X25_u4 : m_X25_u4 = dm_X25_u4 := Classical.choose_spec (⟨dm_X25_u4, rfl⟩ : ∃ f, f = dm_X25_u4)
def dm_X25_put4 (s : jS) (x0 x1 : Int) : Option (jS × Int) :=
  (m_X25_put2 s x0 x1).bind fun q1 =>
  (m_X25_put2 q1.1 x0 (I_shr x1 16)).bind fun q2 =>
  some (q2.1, 0)
noncomputable def m_X25_put4 : jS → Int → Int → Option (jS × Int) := Classical.choose (⟨dm_X25_put4, rfl⟩ : ∃ f, f = dm_X25_put4)
theorem em_X25_put4 : m_X25_put4 = dm_X25_put4 := Classical.choose_spec (⟨dm_X25_put4, rfl⟩ : ∃ f, f = dm_X25_put4)
def dm_X26_init (s : jS) (x0 : Int) : Option (jS × Int) :=
  jck0 x0 <|
  (jnw s 29 2 (jdf 29)).bind fun q1 =>
  (jck0 q1.2 (m_X25_init q1.1 q1.2 16384)).bind fun q2 =>
  (jwr q2.1 30 x0 0 q1.2).bind fun s3 =>
  (jnw s3 31 1 (jdf 31)).bind fun q4 =>
  (jct q4.1 47 q4.2 (jck0 q4.2 (m_X27_init q4.1 q4.2))).bind fun q5 =>
  (jwr q5.1 30 x0 1 q4.2).bind fun s6 =>
  some (s6, 0)
noncomputable def m_X26_init : jS → Int → Option (jS × Int) := Classical.choose (⟨dm_X26_init, rfl⟩ : ∃ f, f = dm_X26_init)
theorem em_X26_init : m_X26_init = dm_X26_init := Classical.choose_spec (⟨dm_X26_init, rfl⟩ : ∃ f, f = dm_X26_init)
def du_X26_header_105 (s : jS) (x0 x2 y0 y1 : Int) : Option (jS × Int) :=
  (m_X25_put4 s y1 y0).bind fun q1 =>
  (m_X25_put2 q1.1 (x0 + 1) 52).bind fun q2 =>
  (m_X25_put2 q2.1 (x0 + 1) 32).bind fun q3 =>
  (m_X25_put2 q3.1 (x0 + 1) x2).bind fun q4 =>
  (m_X25_put4 q4.1 (x0 + 1) 0).bind fun q5 =>
  (m_X25_put2 q5.1 (x0 + 1) 0).bind fun q6 =>
  some (q6.1, 0)
noncomputable def u_X26_header_105 : jS → Int → Int → Int → Int → Option (jS × Int) := Classical.choose (⟨du_X26_header_105, rfl⟩ : ∃ f, f = du_X26_header_105)
theorem eu_X26_header_105 : u_X26_header_105 = du_X26_header_105 := Classical.choose_spec (⟨du_X26_header_105, rfl⟩ : ∃ f, f = du_X26_header_105)
def dm_X26_header (s : jS) (x0 x1 x2 : Int) : Option (jS × Int) :=
  (m_X25_put4 s (x0 + 1) 1179403647).bind fun q1 =>
  (m_X25_put4 q1.1 (x0 + 1) 65793).bind fun q2 =>
  (m_X25_put4 q2.1 (x0 + 1) 0).bind fun q3 =>
  (m_X25_put4 q3.1 (x0 + 1) 0).bind fun q4 =>
  (m_X25_put2 q4.1 (x0 + 1) 2).bind fun q5 =>
  (m_X25_put2 q5.1 (x0 + 1) 243).bind fun q6 =>
  (m_X25_put4 q6.1 (x0 + 1) 1).bind fun q7 =>
  (jrd q7.1 27 x1 2).bind fun v8 =>
  (m_X25_put4 q7.1 (x0 + 1) v8).bind fun q9 =>
  (m_X25_put4 q9.1 (x0 + 1) 52).bind fun q10 =>
  (m_X25_put4 q10.1 (x0 + 1) 0).bind fun q11 =>
  (jct q11.1 43 x1 (m_X23_count q11.1 x1 1)).bind fun v12 =>
  if 0 < v12 then
    u_X26_header_105 q11.1 x0 x2 1 (x0 + 1)
  else
    u_X26_header_105 q11.1 x0 x2 0 (x0 + 1)
noncomputable def m_X26_header : jS → Int → Int → Int → Option (jS × Int) := Classical.choose (⟨dm_X26_header, rfl⟩ : ∃ f, f = dm_X26_header)
theorem em_X26_header : m_X26_header = dm_X26_header := Classical.choose_spec (⟨dm_X26_header, rfl⟩ : ∃ f, f = dm_X26_header)
def dm_X26_row (s : jS) (x0 x1 x2 x3 x4 x5 x6 : Int) : Option (jS × Int) :=
  (m_X25_put4 s (x0 + 1) x1).bind fun q1 =>
  (m_X25_put4 q1.1 (x0 + 1) 0).bind fun q2 =>
  (m_X25_put4 q2.1 (x0 + 1) x2).bind fun q3 =>
  (m_X25_put4 q3.1 (x0 + 1) x2).bind fun q4 =>
  (m_X25_put4 q4.1 (x0 + 1) x3).bind fun q5 =>
  (m_X25_put4 q5.1 (x0 + 1) x4).bind fun q6 =>
  (m_X25_put4 q6.1 (x0 + 1) x5).bind fun q7 =>
  (m_X25_put4 q7.1 (x0 + 1) x6).bind fun q8 =>
  some (q8.1, 0)
noncomputable def m_X26_row : jS → Int → Int → Int → Int → Int → Int → Int → Option (jS × Int) := Classical.choose (⟨dm_X26_row, rfl⟩ : ∃ f, f = dm_X26_row)
theorem em_X26_row : m_X26_row = dm_X26_row := Classical.choose_spec (⟨dm_X26_row, rfl⟩ : ∃ f, f = dm_X26_row)
def b_X27_take4_2 (s : jS) (x0 x1 x2 : Int) : Option ((jS × List Int) ⊕ (jS × Int)) :=
  if x2 < 32 then
    (m_X27_take s x0 (I_and (I_shr x1 x2) 255)).bind fun q1 =>
    some (.inl (q1.1, [x0, x1, W32 (x2 + 8)]))
  else
    jinr (some (s, 0))
def du_X27_take4_2 (s : jS) (x0 x1 x2 : Int) : Option (jS × Int) := jlpW (jc3 b_X27_take4_2) [x0, x1, x2] s
noncomputable def u_X27_take4_2 : jS → Int → Int → Int → Option (jS × Int) := Classical.choose (⟨du_X27_take4_2, rfl⟩ : ∃ f, f = du_X27_take4_2)
theorem eu_X27_take4_2 : u_X27_take4_2 = du_X27_take4_2 := Classical.choose_spec (⟨du_X27_take4_2, rfl⟩ : ∃ f, f = du_X27_take4_2)
def dm_X27_take4 (s : jS) (x0 x1 : Int) : Option (jS × Int) :=
  u_X27_take4_2 s x0 x1 0
noncomputable def m_X27_take4 : jS → Int → Int → Option (jS × Int) := Classical.choose (⟨dm_X27_take4, rfl⟩ : ∃ f, f = dm_X27_take4)
theorem em_X27_take4 : m_X27_take4 = dm_X27_take4 := Classical.choose_spec (⟨dm_X27_take4, rfl⟩ : ∃ f, f = dm_X27_take4)
def dm_X28_init (s : jS) (x0 : Int) : Option (jS × Int) :=
  jck0 x0 <|
  (jnw s 27 7 (jdf 27)).bind fun q1 =>
  (jck0 q1.2 (m_X23_init q1.1 q1.2)).bind fun q2 =>
  (jwr q2.1 32 x0 0 q1.2).bind fun s3 =>
  (jnw s3 31 1 (jdf 31)).bind fun q4 =>
  (jct q4.1 47 q4.2 (jck0 q4.2 (m_X27_init q4.1 q4.2))).bind fun q5 =>
  (jwr q5.1 32 x0 1 q4.2).bind fun s6 =>
  (jna s6 1000 3 0).bind fun q7 =>
  (jwr q7.1 32 x0 2 q7.2).bind fun s8 =>
  some (s8, 0)
noncomputable def m_X28_init : jS → Int → Option (jS × Int) := Classical.choose (⟨dm_X28_init, rfl⟩ : ∃ f, f = dm_X28_init)
theorem em_X28_init : m_X28_init = dm_X28_init := Classical.choose_spec (⟨dm_X28_init, rfl⟩ : ∃ f, f = dm_X28_init)
def du_X28_header_489 (s : jS) (x0 y0 y1 : Int) : Option (jS × Bool × Int) :=
  (m_X28_need s y1 y0 10 28).bind fun q1 =>
  jth q1.2.1 (some (q1.1, true, q1.2.2)) <|
  (jct q1.1 45 (jf q1.1 32 x0 3) (m_X25_s4 q1.1 (jf q1.1 32 x0 3) 28)).bind fun v2 =>
  jls (jp q1.1 32 x0 5 v2) fun s3 =>
  some (s3, false, 0)
noncomputable def u_X28_header_489 : jS → Int → Int → Int → Option (jS × Bool × Int) := Classical.choose (⟨du_X28_header_489, rfl⟩ : ∃ f, f = du_X28_header_489)
theorem eu_X28_header_489 : u_X28_header_489 = du_X28_header_489 := Classical.choose_spec (⟨du_X28_header_489, rfl⟩ : ∃ f, f = du_X28_header_489)
def du_X28_header_455 (s : jS) (x0 : Int) : Option (jS × Bool × Int) :=
  (jct s 45 (jf s 32 x0 3) (m_X25_u4 s (jf s 32 x0 3) 28)).bind fun v1 =>
  if 0 < (L_cmp (W64 (v1 + (W64 (32 * (jf s 32 x0 6))))) (jf s 32 x0 4)) then
    u_X28_header_489 s x0 0 x0
  else
    u_X28_header_489 s x0 1 x0
noncomputable def u_X28_header_455 : jS → Int → Option (jS × Bool × Int) := Classical.choose (⟨du_X28_header_455, rfl⟩ : ∃ f, f = du_X28_header_455)
theorem eu_X28_header_455 : u_X28_header_455 = du_X28_header_455 := Classical.choose_spec (⟨du_X28_header_455, rfl⟩ : ∃ f, f = du_X28_header_455)
def du_X28_header_443 (s : jS) (x0 x1 y0 y1 : Int) : Option ((jS × List Int) ⊕ (jS × Bool × Int)) :=
  (m_X28_need s y1 y0 9 x1).bind fun q1 =>
  jth q1.2.1 (jinr (some (q1.1, true, q1.2.2))) <|
  some (.inl (q1.1, [x0, W32 (x1 + 2)]))
noncomputable def u_X28_header_443 : jS → Int → Int → Int → Int → Option ((jS × List Int) ⊕ (jS × Bool × Int)) := Classical.choose (⟨du_X28_header_443, rfl⟩ : ∃ f, f = du_X28_header_443)
theorem eu_X28_header_443 : u_X28_header_443 = du_X28_header_443 := Classical.choose_spec (⟨du_X28_header_443, rfl⟩ : ∃ f, f = du_X28_header_443)
def b_X28_header_420 (s : jS) (x0 x1 : Int) : Option ((jS × List Int) ⊕ (jS × Bool × Int)) :=
  if x1 < 52 then
    (jct s 45 (jf s 32 x0 3) (m_X25_u2 s (jf s 32 x0 3) x1)).bind fun v1 =>
    if v1 = 0 then
      u_X28_header_443 s x0 x1 1 x0
    else
      u_X28_header_443 s x0 x1 0 x0
  else
    jinr (u_X28_header_455 s x0)
def du_X28_header_420 (s : jS) (x0 x1 : Int) : Option (jS × Bool × Int) := jlpW (jc2 b_X28_header_420) [x0, x1] s
noncomputable def u_X28_header_420 : jS → Int → Int → Option (jS × Bool × Int) := Classical.choose (⟨du_X28_header_420, rfl⟩ : ∃ f, f = du_X28_header_420)
theorem eu_X28_header_420 : u_X28_header_420 = du_X28_header_420 := Classical.choose_spec (⟨du_X28_header_420, rfl⟩ : ∃ f, f = du_X28_header_420)
def du_X28_header_377 (s : jS) (x0 y0 y1 : Int) : Option (jS × Bool × Int) :=
  (m_X28_need s y1 y0 9 42).bind fun q1 =>
  jth q1.2.1 (some (q1.1, true, q1.2.2)) <|
  (jct q1.1 45 (jf q1.1 32 x0 3) (m_X25_u2 q1.1 (jf q1.1 32 x0 3) 44)).bind fun v2 =>
  jls (jp q1.1 32 x0 6 v2) fun s3 =>
  (m_X22_in s3 (jf s3 32 x0 6) 1 8).bind fun v4 =>
  (m_X28_need s3 x0 v4 9 44).bind fun q5 =>
  jth q5.2.1 (some (q5.1, true, q5.2.2)) <|
  u_X28_header_420 q5.1 x0 46
noncomputable def u_X28_header_377 : jS → Int → Int → Int → Option (jS × Bool × Int) := Classical.choose (⟨du_X28_header_377, rfl⟩ : ∃ f, f = du_X28_header_377)
theorem eu_X28_header_377 : u_X28_header_377 = du_X28_header_377 := Classical.choose_spec (⟨du_X28_header_377, rfl⟩ : ∃ f, f = du_X28_header_377)
def du_X28_header_350 (s : jS) (x0 y0 y1 : Int) : Option (jS × Bool × Int) :=
  (m_X28_need s y1 y0 9 40).bind fun q1 =>
  jth q1.2.1 (some (q1.1, true, q1.2.2)) <|
  (jct q1.1 45 (jf q1.1 32 x0 3) (m_X25_u2 q1.1 (jf q1.1 32 x0 3) 42)).bind fun v2 =>
  if v2 = 32 then
    u_X28_header_377 q1.1 x0 1 x0
  else
    u_X28_header_377 q1.1 x0 0 x0
noncomputable def u_X28_header_350 : jS → Int → Int → Int → Option (jS × Bool × Int) := Classical.choose (⟨du_X28_header_350, rfl⟩ : ∃ f, f = du_X28_header_350)
theorem eu_X28_header_350 : u_X28_header_350 = du_X28_header_350 := Classical.choose_spec (⟨du_X28_header_350, rfl⟩ : ∃ f, f = du_X28_header_350)
def du_X28_header_323 (s : jS) (x0 y0 y1 : Int) : Option (jS × Bool × Int) :=
  (m_X28_need s y1 y0 9 36).bind fun q1 =>
  jth q1.2.1 (some (q1.1, true, q1.2.2)) <|
  (jct q1.1 45 (jf q1.1 32 x0 3) (m_X25_u2 q1.1 (jf q1.1 32 x0 3) 40)).bind fun v2 =>
  if v2 = 52 then
    u_X28_header_350 q1.1 x0 1 x0
  else
    u_X28_header_350 q1.1 x0 0 x0
noncomputable def u_X28_header_323 : jS → Int → Int → Int → Option (jS × Bool × Int) := Classical.choose (⟨du_X28_header_323, rfl⟩ : ∃ f, f = du_X28_header_323)
theorem eu_X28_header_323 : u_X28_header_323 = du_X28_header_323 := Classical.choose_spec (⟨du_X28_header_323, rfl⟩ : ∃ f, f = du_X28_header_323)
def du_X28_header_294 (s : jS) (x0 y0 y1 : Int) : Option (jS × Bool × Int) :=
  (m_X28_need s y1 y0 9 32).bind fun q1 =>
  jth q1.2.1 (some (q1.1, true, q1.2.2)) <|
  (jct q1.1 45 (jf q1.1 32 x0 3) (m_X25_u4 q1.1 (jf q1.1 32 x0 3) 36)).bind fun v2 =>
  if (L_cmp v2 2) < 0 then
    u_X28_header_323 q1.1 x0 1 x0
  else
    u_X28_header_323 q1.1 x0 0 x0
noncomputable def u_X28_header_294 : jS → Int → Int → Int → Option (jS × Bool × Int) := Classical.choose (⟨du_X28_header_294, rfl⟩ : ∃ f, f = du_X28_header_294)
theorem eu_X28_header_294 : u_X28_header_294 = du_X28_header_294 := Classical.choose_spec (⟨du_X28_header_294, rfl⟩ : ∃ f, f = du_X28_header_294)
def du_X28_header_267 (s : jS) (x0 y0 y1 : Int) : Option (jS × Bool × Int) :=
  (m_X28_need s y1 y0 9 28).bind fun q1 =>
  jth q1.2.1 (some (q1.1, true, q1.2.2)) <|
  (jct q1.1 45 (jf q1.1 32 x0 3) (m_X25_u4 q1.1 (jf q1.1 32 x0 3) 32)).bind fun v2 =>
  if (L_cmp v2 0) = 0 then
    u_X28_header_294 q1.1 x0 1 x0
  else
    u_X28_header_294 q1.1 x0 0 x0
noncomputable def u_X28_header_267 : jS → Int → Int → Int → Option (jS × Bool × Int) := Classical.choose (⟨du_X28_header_267, rfl⟩ : ∃ f, f = du_X28_header_267)
theorem eu_X28_header_267 : u_X28_header_267 = du_X28_header_267 := Classical.choose_spec (⟨du_X28_header_267, rfl⟩ : ∃ f, f = du_X28_header_267)
def du_X28_header_266 (s : jS) (x0 y0 : Int) : Option (jS × Bool × Int) :=
  u_X28_header_267 s x0 0 y0
noncomputable def u_X28_header_266 : jS → Int → Int → Option (jS × Bool × Int) := Classical.choose (⟨du_X28_header_266, rfl⟩ : ∃ f, f = du_X28_header_266)
theorem eu_X28_header_266 : u_X28_header_266 = du_X28_header_266 := Classical.choose_spec (⟨du_X28_header_266, rfl⟩ : ∃ f, f = du_X28_header_266)
def du_X28_header_220 (s : jS) (x0 y0 y1 : Int) : Option (jS × Bool × Int) :=
  (m_X28_need s y1 y0 9 20).bind fun q1 =>
  jth q1.2.1 (some (q1.1, true, q1.2.2)) <|
  (jct q1.1 45 (jf q1.1 32 x0 3) (m_X25_u4 q1.1 (jf q1.1 32 x0 3) 28)).bind fun v2 =>
  (jdv 4 (L_rem v2 4)).bind fun v3 =>
  if (L_cmp v3 0) = 0 then
    (jct q1.1 45 (jf q1.1 32 x0 3) (m_X25_u4 q1.1 (jf q1.1 32 x0 3) 28)).bind fun v4 =>
    if (L_cmp v4 52) < 0 then
      u_X28_header_266 q1.1 x0 x0
    else
      u_X28_header_267 q1.1 x0 1 x0
  else
    u_X28_header_266 q1.1 x0 x0
noncomputable def u_X28_header_220 : jS → Int → Int → Int → Option (jS × Bool × Int) := Classical.choose (⟨du_X28_header_220, rfl⟩ : ∃ f, f = du_X28_header_220)
theorem eu_X28_header_220 : u_X28_header_220 = du_X28_header_220 := Classical.choose_spec (⟨du_X28_header_220, rfl⟩ : ∃ f, f = du_X28_header_220)
def du_X28_header_193 (s : jS) (x0 y0 y1 : Int) : Option (jS × Bool × Int) :=
  (m_X28_need s y1 y0 8 18).bind fun q1 =>
  jth q1.2.1 (some (q1.1, true, q1.2.2)) <|
  (jct q1.1 45 (jf q1.1 32 x0 3) (m_X25_u4 q1.1 (jf q1.1 32 x0 3) 20)).bind fun v2 =>
  if (L_cmp v2 1) = 0 then
    u_X28_header_220 q1.1 x0 1 x0
  else
    u_X28_header_220 q1.1 x0 0 x0
noncomputable def u_X28_header_193 : jS → Int → Int → Int → Option (jS × Bool × Int) := Classical.choose (⟨du_X28_header_193, rfl⟩ : ∃ f, f = du_X28_header_193)
theorem eu_X28_header_193 : u_X28_header_193 = du_X28_header_193 := Classical.choose_spec (⟨du_X28_header_193, rfl⟩ : ∃ f, f = du_X28_header_193)
def du_X28_header_165 (s : jS) (x0 y0 y1 : Int) : Option (jS × Bool × Int) :=
  (m_X28_need s y1 y0 7 16).bind fun q1 =>
  jth q1.2.1 (some (q1.1, true, q1.2.2)) <|
  (jct q1.1 45 (jf q1.1 32 x0 3) (m_X25_u2 q1.1 (jf q1.1 32 x0 3) 18)).bind fun v2 =>
  if v2 = 243 then
    u_X28_header_193 q1.1 x0 1 x0
  else
    u_X28_header_193 q1.1 x0 0 x0
noncomputable def u_X28_header_165 : jS → Int → Int → Int → Option (jS × Bool × Int) := Classical.choose (⟨du_X28_header_165, rfl⟩ : ∃ f, f = du_X28_header_165)
theorem eu_X28_header_165 : u_X28_header_165 = du_X28_header_165 := Classical.choose_spec (⟨du_X28_header_165, rfl⟩ : ∃ f, f = du_X28_header_165)
def du_X28_header_146 (s : jS) (x0 : Int) : Option (jS × Bool × Int) :=
  (jct s 45 (jf s 32 x0 3) (m_X25_u2 s (jf s 32 x0 3) 16)).bind fun v1 =>
  if v1 = 2 then
    u_X28_header_165 s x0 1 x0
  else
    u_X28_header_165 s x0 0 x0
noncomputable def u_X28_header_146 : jS → Int → Option (jS × Bool × Int) := Classical.choose (⟨du_X28_header_146, rfl⟩ : ∃ f, f = du_X28_header_146)
theorem eu_X28_header_146 : u_X28_header_146 = du_X28_header_146 := Classical.choose_spec (⟨du_X28_header_146, rfl⟩ : ∃ f, f = du_X28_header_146)
def du_X28_header_134 (s : jS) (x0 x1 y0 y1 : Int) : Option ((jS × List Int) ⊕ (jS × Bool × Int)) :=
  (m_X28_need s y1 y0 6 x1).bind fun q1 =>
  jth q1.2.1 (jinr (some (q1.1, true, q1.2.2))) <|
  some (.inl (q1.1, [x0, W32 (x1 + 1)]))
noncomputable def u_X28_header_134 : jS → Int → Int → Int → Int → Option ((jS × List Int) ⊕ (jS × Bool × Int)) := Classical.choose (⟨du_X28_header_134, rfl⟩ : ∃ f, f = du_X28_header_134)
theorem eu_X28_header_134 : u_X28_header_134 = du_X28_header_134 := Classical.choose_spec (⟨du_X28_header_134, rfl⟩ : ∃ f, f = du_X28_header_134)
def b_X28_header_111 (s : jS) (x0 x1 : Int) : Option ((jS × List Int) ⊕ (jS × Bool × Int)) :=
  if x1 < 16 then
    (jct s 45 (jf s 32 x0 3) (m_X25_u1 s (jf s 32 x0 3) x1)).bind fun v1 =>
    if v1 = 0 then
      u_X28_header_134 s x0 x1 1 x0
    else
      u_X28_header_134 s x0 x1 0 x0
  else
    jinr (u_X28_header_146 s x0)
def du_X28_header_111 (s : jS) (x0 x1 : Int) : Option (jS × Bool × Int) := jlpW (jc2 b_X28_header_111) [x0, x1] s
noncomputable def u_X28_header_111 : jS → Int → Int → Option (jS × Bool × Int) := Classical.choose (⟨du_X28_header_111, rfl⟩ : ∃ f, f = du_X28_header_111)
theorem eu_X28_header_111 : u_X28_header_111 = du_X28_header_111 := Classical.choose_spec (⟨du_X28_header_111, rfl⟩ : ∃ f, f = du_X28_header_111)
def du_X28_header_108 (s : jS) (x0 : Int) : Option (jS × Bool × Int) :=
  u_X28_header_111 s x0 7
noncomputable def u_X28_header_108 : jS → Int → Option (jS × Bool × Int) := Classical.choose (⟨du_X28_header_108, rfl⟩ : ∃ f, f = du_X28_header_108)
theorem eu_X28_header_108 : u_X28_header_108 = du_X28_header_108 := Classical.choose_spec (⟨du_X28_header_108, rfl⟩ : ∃ f, f = du_X28_header_108)
def du_X28_header_95 (s : jS) (x0 x1 y0 y1 : Int) : Option ((jS × List Int) ⊕ (jS × Bool × Int)) :=
  (m_X28_need s y1 y0 (W32 (x1 - 1)) x1).bind fun q1 =>
  jth q1.2.1 (jinr (some (q1.1, true, q1.2.2))) <|
  some (.inl (q1.1, [x0, W32 (x1 + 1)]))
noncomputable def u_X28_header_95 : jS → Int → Int → Int → Int → Option ((jS × List Int) ⊕ (jS × Bool × Int)) := Classical.choose (⟨du_X28_header_95, rfl⟩ : ∃ f, f = du_X28_header_95)
theorem eu_X28_header_95 : u_X28_header_95 = du_X28_header_95 := Classical.choose_spec (⟨du_X28_header_95, rfl⟩ : ∃ f, f = du_X28_header_95)
def b_X28_header_71 (s : jS) (x0 x1 : Int) : Option ((jS × List Int) ⊕ (jS × Bool × Int)) :=
  if x1 < 7 then
    (jct s 45 (jf s 32 x0 3) (m_X25_u1 s (jf s 32 x0 3) x1)).bind fun v1 =>
    if v1 = 1 then
      u_X28_header_95 s x0 x1 1 x0
    else
      u_X28_header_95 s x0 x1 0 x0
  else
    jinr (u_X28_header_108 s x0)
def du_X28_header_71 (s : jS) (x0 x1 : Int) : Option (jS × Bool × Int) := jlpW (jc2 b_X28_header_71) [x0, x1] s
noncomputable def u_X28_header_71 : jS → Int → Int → Option (jS × Bool × Int) := Classical.choose (⟨du_X28_header_71, rfl⟩ : ∃ f, f = du_X28_header_71)
theorem eu_X28_header_71 : u_X28_header_71 = du_X28_header_71 := Classical.choose_spec (⟨du_X28_header_71, rfl⟩ : ∃ f, f = du_X28_header_71)
def du_X28_header_69 (s : jS) (x0 : Int) : Option (jS × Bool × Int) :=
  u_X28_header_71 s x0 4
noncomputable def u_X28_header_69 : jS → Int → Option (jS × Bool × Int) := Classical.choose (⟨du_X28_header_69, rfl⟩ : ∃ f, f = du_X28_header_69)
theorem eu_X28_header_69 : u_X28_header_69 = du_X28_header_69 := Classical.choose_spec (⟨du_X28_header_69, rfl⟩ : ∃ f, f = du_X28_header_69)
def du_X28_header_58 (s : jS) (x0 x1 y0 y1 : Int) : Option ((jS × List Int) ⊕ (jS × Bool × Int)) :=
  (m_X28_need s y1 y0 2 x1).bind fun q1 =>
  jth q1.2.1 (jinr (some (q1.1, true, q1.2.2))) <|
  some (.inl (q1.1, [x0, W32 (x1 + 1)]))
noncomputable def u_X28_header_58 : jS → Int → Int → Int → Int → Option ((jS × List Int) ⊕ (jS × Bool × Int)) := Classical.choose (⟨du_X28_header_58, rfl⟩ : ∃ f, f = du_X28_header_58)
theorem eu_X28_header_58 : u_X28_header_58 = du_X28_header_58 := Classical.choose_spec (⟨du_X28_header_58, rfl⟩ : ∃ f, f = du_X28_header_58)
def b_X28_header_25 (s : jS) (x0 x1 : Int) : Option ((jS × List Int) ⊕ (jS × Bool × Int)) :=
  if x1 < 4 then
    (jct s 45 (jf s 32 x0 3) (m_X25_u1 s (jf s 32 x0 3) x1)).bind fun v1 =>
    if v1 = (I_and (I_shr 1179403647 (W32 (8 * x1))) 255) then
      u_X28_header_58 s x0 x1 1 x0
    else
      u_X28_header_58 s x0 x1 0 x0
  else
    jinr (u_X28_header_69 s x0)
def du_X28_header_25 (s : jS) (x0 x1 : Int) : Option (jS × Bool × Int) := jlpW (jc2 b_X28_header_25) [x0, x1] s
noncomputable def u_X28_header_25 : jS → Int → Int → Option (jS × Bool × Int) := Classical.choose (⟨du_X28_header_25, rfl⟩ : ∃ f, f = du_X28_header_25)
theorem eu_X28_header_25 : u_X28_header_25 = du_X28_header_25 := Classical.choose_spec (⟨du_X28_header_25, rfl⟩ : ∃ f, f = du_X28_header_25)
def du_X28_header_15 (s : jS) (x0 y0 y1 : Int) : Option (jS × Bool × Int) :=
  (m_X28_need s y1 y0 1 (jf s 32 x0 4)).bind fun q1 =>
  jth q1.2.1 (some (q1.1, true, q1.2.2)) <|
  u_X28_header_25 q1.1 x0 0
noncomputable def u_X28_header_15 : jS → Int → Int → Int → Option (jS × Bool × Int) := Classical.choose (⟨du_X28_header_15, rfl⟩ : ∃ f, f = du_X28_header_15)
theorem eu_X28_header_15 : u_X28_header_15 = du_X28_header_15 := Classical.choose_spec (⟨du_X28_header_15, rfl⟩ : ∃ f, f = du_X28_header_15)
def dm_X28_header (s : jS) (x0 : Int) : Option (jS × Bool × Int) :=
  if (jf s 32 x0 4) < 52 then
    u_X28_header_15 s x0 0 x0
  else
    u_X28_header_15 s x0 1 x0
noncomputable def m_X28_header : jS → Int → Option (jS × Bool × Int) := Classical.choose (⟨dm_X28_header, rfl⟩ : ∃ f, f = dm_X28_header)
theorem em_X28_header : m_X28_header = dm_X28_header := Classical.choose_spec (⟨dm_X28_header, rfl⟩ : ∃ f, f = dm_X28_header)
def dm_X28_number (s : jS) (x0 x1 x2 : Int) : Option (Int) :=
  (m_X28_field s x0 x1 x2).bind fun v1 =>
  (jct s 45 (jf s 32 x0 3) (m_X25_u4 s (jf s 32 x0 3) v1)).bind fun v2 =>
  some v2
noncomputable def m_X28_number : jS → Int → Int → Int → Option (Int) := Classical.choose (⟨dm_X28_number, rfl⟩ : ∃ f, f = dm_X28_number)
theorem em_X28_number : m_X28_number = dm_X28_number := Classical.choose_spec (⟨dm_X28_number, rfl⟩ : ∃ f, f = dm_X28_number)
end
