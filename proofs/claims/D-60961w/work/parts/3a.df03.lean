/-! the functions: printed by gen_meth.py -/
set_option maxRecDepth 100000
noncomputable section
def du_X36_undo_122 (s : jS) (x1 y0 y1 : Int) : Option (jS × Int) :=
  (jzb y0).bind fun v1 =>
  jls (jp s 40 y1 19 v1) fun s2 =>
  some (s2, x1)
noncomputable def u_X36_undo_122 : jS → Int → Int → Int → Option (jS × Int) := Classical.choose (⟨du_X36_undo_122, rfl⟩ : ∃ f, f = du_X36_undo_122)
theorem eu_X36_undo_122 : u_X36_undo_122 = du_X36_undo_122 := Classical.choose_spec (⟨du_X36_undo_122, rfl⟩ : ∃ f, f = du_X36_undo_122)
def du_X36_undo_121 (s : jS) (x1 y0 : Int) : Option (jS × Int) :=
  u_X36_undo_122 s x1 0 y0
noncomputable def u_X36_undo_121 : jS → Int → Int → Option (jS × Int) := Classical.choose (⟨du_X36_undo_121, rfl⟩ : ∃ f, f = du_X36_undo_121)
theorem eu_X36_undo_121 : u_X36_undo_121 = du_X36_undo_121 := Classical.choose_spec (⟨du_X36_undo_121, rfl⟩ : ∃ f, f = du_X36_undo_121)
def du_X36_undo_105 (s : jS) (x0 x1 : Int) : Option (jS × Int) :=
  if (jf s 40 x0 19) = 0 then
    u_X36_undo_121 s x1 x0
  else
    if x1 = 0 then
      u_X36_undo_122 s x1 1 x0
    else
      u_X36_undo_121 s x1 x0
noncomputable def u_X36_undo_105 : jS → Int → Int → Option (jS × Int) := Classical.choose (⟨du_X36_undo_105, rfl⟩ : ∃ f, f = du_X36_undo_105)
theorem eu_X36_undo_105 : u_X36_undo_105 = du_X36_undo_105 := Classical.choose_spec (⟨du_X36_undo_105, rfl⟩ : ∃ f, f = du_X36_undo_105)
def du_X36_undo_99 (s : jS) (x0 x1 x2 : Int) : Option ((jS × List Int) ⊕ (jS × Int)) :=
  some (.inl (s, [x0, x1, W32 (x2 + 1)]))
noncomputable def u_X36_undo_99 : jS → Int → Int → Int → Option ((jS × List Int) ⊕ (jS × Int)) := Classical.choose (⟨du_X36_undo_99, rfl⟩ : ∃ f, f = du_X36_undo_99)
theorem eu_X36_undo_99 : u_X36_undo_99 = du_X36_undo_99 := Classical.choose_spec (⟨du_X36_undo_99, rfl⟩ : ∃ f, f = du_X36_undo_99)
def b_X36_undo_53 (s : jS) (x0 x1 x2 : Int) : Option ((jS × List Int) ⊕ (jS × Int)) :=
  if x2 < (jf s 40 x0 16) then
    (jlt s 1000 (x0 + 11) 256 x2).bind fun v1 =>
    if v1 = 0 then
      u_X36_undo_99 s x0 x1 x2
    else
      (jlt s 1020 (x0 + 2) 256 x2).bind fun v2 =>
      (mp_X53_moving s v2).bind fun v3 =>
      (mp_X57_greatest s v3).bind fun v4 =>
      (jwp s [(76, 2), (77, 2)] v3 v4).bind fun s5 =>
      (jzb 1).bind fun v6 =>
      (jwp s5 [(76, 3), (77, 3)] v3 v6).bind fun s7 =>
      u_X36_undo_99 s7 x0 (W32 (x1 + 1)) x2
  else
    jinr (u_X36_undo_105 s x0 x1)
def du_X36_undo_53 (s : jS) (x0 x1 x2 : Int) : Option (jS × Int) := jlpW (jc3 b_X36_undo_53) [x0, x1, x2] s
noncomputable def u_X36_undo_53 : jS → Int → Int → Int → Option (jS × Int) := Classical.choose (⟨du_X36_undo_53, rfl⟩ : ∃ f, f = du_X36_undo_53)
theorem eu_X36_undo_53 : u_X36_undo_53 = du_X36_undo_53 := Classical.choose_spec (⟨du_X36_undo_53, rfl⟩ : ∃ f, f = du_X36_undo_53)
def du_X36_undo_49 (s : jS) (x0 : Int) : Option (jS × Int) :=
  u_X36_undo_53 s x0 0 0
noncomputable def u_X36_undo_49 : jS → Int → Option (jS × Int) := Classical.choose (⟨du_X36_undo_49, rfl⟩ : ∃ f, f = du_X36_undo_49)
theorem eu_X36_undo_49 : u_X36_undo_49 = du_X36_undo_49 := Classical.choose_spec (⟨du_X36_undo_49, rfl⟩ : ∃ f, f = du_X36_undo_49)
def du_X36_undo_42 (s : jS) (x0 x1 y0 y1 y2 : Int) : Option ((jS × List Int) ⊕ (jS × Int)) :=
  (jst s 1000 y2 256 y1 y0).bind fun s1 =>
  some (.inl (s1, [x0, W32 (x1 + 1)]))
noncomputable def u_X36_undo_42 : jS → Int → Int → Int → Int → Int → Option ((jS × List Int) ⊕ (jS × Int)) := Classical.choose (⟨du_X36_undo_42, rfl⟩ : ∃ f, f = du_X36_undo_42)
theorem eu_X36_undo_42 : u_X36_undo_42 = du_X36_undo_42 := Classical.choose_spec (⟨du_X36_undo_42, rfl⟩ : ∃ f, f = du_X36_undo_42)
def du_X36_undo_37 (s : jS) (x0 x1 y0 y1 : Int) : Option ((jS × List Int) ⊕ (jS × Int)) :=
  u_X36_undo_42 s x0 x1 0 y0 y1
noncomputable def u_X36_undo_37 : jS → Int → Int → Int → Int → Option ((jS × List Int) ⊕ (jS × Int)) := Classical.choose (⟨du_X36_undo_37, rfl⟩ : ∃ f, f = du_X36_undo_37)
theorem eu_X36_undo_37 : u_X36_undo_37 = du_X36_undo_37 := Classical.choose_spec (⟨du_X36_undo_37, rfl⟩ : ∃ f, f = du_X36_undo_37)
def b_X36_undo_6 (s : jS) (x0 x1 : Int) : Option ((jS × List Int) ⊕ (jS × Int)) :=
  if x1 < (jf s 40 x0 16) then
    (m_X36_movingAt s x0 x1).bind fun v1 =>
    if v1 < 0 then
      u_X36_undo_37 s x0 x1 x1 (x0 + 11)
    else
      (m_X36_isHeld s x0 v1).bind fun v2 =>
      if v2 = 0 then
        u_X36_undo_42 s x0 x1 1 x1 (x0 + 11)
      else
        u_X36_undo_37 s x0 x1 x1 (x0 + 11)
  else
    jinr (u_X36_undo_49 s x0)
def du_X36_undo_6 (s : jS) (x0 x1 : Int) : Option (jS × Int) := jlpW (jc2 b_X36_undo_6) [x0, x1] s
noncomputable def u_X36_undo_6 : jS → Int → Int → Option (jS × Int) := Classical.choose (⟨du_X36_undo_6, rfl⟩ : ∃ f, f = du_X36_undo_6)
theorem eu_X36_undo_6 : u_X36_undo_6 = du_X36_undo_6 := Classical.choose_spec (⟨du_X36_undo_6, rfl⟩ : ∃ f, f = du_X36_undo_6)
def dm_X36_undo (s : jS) (x0 : Int) : Option (jS × Int) :=
  (m_X36_lay s x0).bind fun q1 =>
  u_X36_undo_6 q1.1 x0 0
noncomputable def m_X36_undo : jS → Int → Option (jS × Int) := Classical.choose (⟨dm_X36_undo, rfl⟩ : ∃ f, f = dm_X36_undo)
theorem em_X36_undo : m_X36_undo = dm_X36_undo := Classical.choose_spec (⟨dm_X36_undo, rfl⟩ : ∃ f, f = dm_X36_undo)
def du_X2_least_46 (s : jS) (x0 x1 x2 x3 y0 : Int) : Option ((jS × List Int) ⊕ (jS × Int)) :=
  if y0 = (-1) then
    some (.inl (s, [x0, x1, x2, W32 (x3 + 1)]))
  else
    jinr (some (s, y0))
noncomputable def u_X2_least_46 : jS → Int → Int → Int → Int → Int → Option ((jS × List Int) ⊕ (jS × Int)) := Classical.choose (⟨du_X2_least_46, rfl⟩ : ∃ f, f = du_X2_least_46)
theorem eu_X2_least_46 : u_X2_least_46 = du_X2_least_46 := Classical.choose_spec (⟨du_X2_least_46, rfl⟩ : ∃ f, f = du_X2_least_46)
def b_X2_least_3 (s : jS) (x0 x1 x2 x3 : Int) : Option ((jS × List Int) ⊕ (jS × Int)) :=
  if x3 < 75 then
    (jlt s 1008 (x0 + 23) 75 x3).bind fun v1 =>
    (jrd s 11 v1 6).bind fun v2 =>
    (jrd s 13 v2 0).bind fun v3 =>
    if v3 = x1 then
      (jlt s 1008 (x0 + 23) 75 x3).bind fun v4 =>
      (jlt s 1008 (x0 + 23) 75 x1).bind fun v5 =>
      (m_X2_shrunk s x0 v4 v5 x2).bind fun q6 =>
      u_X2_least_46 q6.1 x0 x1 x2 x3 q6.2
    else
      u_X2_least_46 s x0 x1 x2 x3 (-1)
  else
    jinr (some (s, (-1)))
def du_X2_least_3 (s : jS) (x0 x1 x2 x3 : Int) : Option (jS × Int) := jlpW (jc4 b_X2_least_3) [x0, x1, x2, x3] s
noncomputable def u_X2_least_3 : jS → Int → Int → Int → Int → Option (jS × Int) := Classical.choose (⟨du_X2_least_3, rfl⟩ : ∃ f, f = du_X2_least_3)
theorem eu_X2_least_3 : u_X2_least_3 = du_X2_least_3 := Classical.choose_spec (⟨du_X2_least_3, rfl⟩ : ∃ f, f = du_X2_least_3)
def dm_X2_least (s : jS) (x0 x1 x2 : Int) : Option (jS × Int) :=
  u_X2_least_3 s x0 x1 x2 48
noncomputable def m_X2_least : jS → Int → Int → Int → Option (jS × Int) := Classical.choose (⟨dm_X2_least, rfl⟩ : ∃ f, f = dm_X2_least)
theorem em_X2_least : m_X2_least = dm_X2_least := Classical.choose_spec (⟨dm_X2_least, rfl⟩ : ∃ f, f = dm_X2_least)
def dm_X22_read (s : jS) (x0 : Int) : Option (jS × Int) :=
  (m_X28_read s (x0 + 25) (x0 + 19)).bind fun q1 =>
  jls (jp q1.1 26 x0 5 (jf q1.1 32 (x0 + 25) 9)) fun s2 =>
  if q1.2 = 0 then
    (m_X23_set s2 (x0 + 10) ((x0 + 25) + 1)).bind fun q3 =>
    some (q3.1, q1.2)
  else
    some (s2, q1.2)
noncomputable def m_X22_read : jS → Int → Option (jS × Int) := Classical.choose (⟨dm_X22_read, rfl⟩ : ∃ f, f = dm_X22_read)
theorem em_X22_read : m_X22_read = dm_X22_read := Classical.choose_spec (⟨dm_X22_read, rfl⟩ : ∃ f, f = dm_X22_read)
def du_X29_goes_100 (s : jS) (x0 y0 y1 : Int) : Option (jS × Int) :=
  jls (jp s 33 y1 20 y0) fun s1 =>
  jls (jp s1 33 x0 21 (jmi 100 (W32 ((jf s1 33 x0 21) + 1)))) fun s2 =>
  some (s2, Wz 1)
noncomputable def u_X29_goes_100 : jS → Int → Int → Int → Option (jS × Int) := Classical.choose (⟨du_X29_goes_100, rfl⟩ : ∃ f, f = du_X29_goes_100)
theorem eu_X29_goes_100 : u_X29_goes_100 = du_X29_goes_100 := Classical.choose_spec (⟨du_X29_goes_100, rfl⟩ : ∃ f, f = du_X29_goes_100)
def du_X29_goes_62 (s : jS) (x0 : Int) : Option (jS × Int) :=
  (m_X29_does s x0 (x0 + 9)).bind fun q1 =>
  jls (jp q1.1 33 x0 14 (W32 ((jf q1.1 33 x0 14) + 1))) fun s2 =>
  if (jf s2 33 x0 20) = 100 then
    u_X29_goes_100 s2 x0 0 x0
  else
    u_X29_goes_100 s2 x0 (W32 ((jf s2 33 x0 20) + 1)) x0
noncomputable def u_X29_goes_62 : jS → Int → Option (jS × Int) := Classical.choose (⟨du_X29_goes_62, rfl⟩ : ∃ f, f = du_X29_goes_62)
theorem eu_X29_goes_62 : u_X29_goes_62 = du_X29_goes_62 := Classical.choose_spec (⟨du_X29_goes_62, rfl⟩ : ∃ f, f = du_X29_goes_62)
def du_X29_goes_52 (s : jS) (x0 : Int) : Option (jS × Int) :=
  jls (jp s 33 x0 15 (W32 ((jf s 33 x0 15) + 1))) fun s1 =>
  u_X29_goes_62 s1 x0
noncomputable def u_X29_goes_52 : jS → Int → Option (jS × Int) := Classical.choose (⟨du_X29_goes_52, rfl⟩ : ∃ f, f = du_X29_goes_52)
theorem eu_X29_goes_52 : u_X29_goes_52 = du_X29_goes_52 := Classical.choose_spec (⟨du_X29_goes_52, rfl⟩ : ∃ f, f = du_X29_goes_52)
def dm_X29_goes (s : jS) (x0 : Int) : Option (jS × Int) :=
  (m_X29_note s x0).bind fun q1 =>
  jls (jp q1.1 33 x0 11 0) fun s2 =>
  jls (jp s2 33 x0 12 0) fun s3 =>
  (m_X29_taken s3 x0).bind fun q4 =>
  if q4.2 = 0 then
    some (q4.1, Wz 0)
  else
    (m_X29_isAllowed q4.1 x0 (x0 + 9)).bind fun q5 =>
    if q5.2 = 0 then
      some (q5.1, Wz 0)
    else
      if (jf q5.1 33 x0 9) = 0 then
        u_X29_goes_52 q5.1 x0
      else
        (m_X29_isMarked q5.1 x0 (jf q5.1 33 x0 10)).bind fun v6 =>
        if v6 = 0 then
          u_X29_goes_62 q5.1 x0
        else
          u_X29_goes_52 q5.1 x0
noncomputable def m_X29_goes : jS → Int → Option (jS × Int) := Classical.choose (⟨dm_X29_goes, rfl⟩ : ∃ f, f = dm_X29_goes)
theorem em_X29_goes : m_X29_goes = dm_X29_goes := Classical.choose_spec (⟨dm_X29_goes, rfl⟩ : ∃ f, f = dm_X29_goes)
def du_X29_run_128 (s : jS) (x0 x2 : Int) : Option (jS × Int) :=
  some (s, W32 ((jf s 33 x0 15) - x2))
noncomputable def u_X29_run_128 : jS → Int → Int → Option (jS × Int) := Classical.choose (⟨du_X29_run_128, rfl⟩ : ∃ f, f = du_X29_run_128)
theorem eu_X29_run_128 : u_X29_run_128 = du_X29_run_128 := Classical.choose_spec (⟨du_X29_run_128, rfl⟩ : ∃ f, f = du_X29_run_128)
def du_X29_run_109 (s : jS) (x0 x2 : Int) : Option (jS × Int) :=
  some (s, W32 ((jf s 33 x0 15) - x2))
noncomputable def u_X29_run_109 : jS → Int → Int → Option (jS × Int) := Classical.choose (⟨du_X29_run_109, rfl⟩ : ∃ f, f = du_X29_run_109)
theorem eu_X29_run_109 : u_X29_run_109 = du_X29_run_109 := Classical.choose_spec (⟨du_X29_run_109, rfl⟩ : ∃ f, f = du_X29_run_109)
def du_X29_run_50 (s : jS) (x0 x2 : Int) : Option (jS × Int) :=
  (m_X29_fails s x0 9 (jf s 33 x0 10)).bind fun q1 =>
  some (q1.1, W32 ((jf q1.1 33 x0 15) - x2))
noncomputable def u_X29_run_50 : jS → Int → Int → Option (jS × Int) := Classical.choose (⟨du_X29_run_50, rfl⟩ : ∃ f, f = du_X29_run_50)
theorem eu_X29_run_50 : u_X29_run_50 = du_X29_run_50 := Classical.choose_spec (⟨du_X29_run_50, rfl⟩ : ∃ f, f = du_X29_run_50)
def du_X29_run_97 (s : jS) (x0 x1 x2 x3 : Int) : Option ((jS × List Int) ⊕ (jS × Int)) :=
  if (W32 ((jf s 33 x0 14) - x3)) = 20000 then
    jinr (u_X29_run_109 s x0 x2)
  else
    (m_X29_goes s x0).bind fun q1 =>
    some (.inl (q1.1, [x0, x1, x2, x3, 0]))
noncomputable def u_X29_run_97 : jS → Int → Int → Int → Int → Option ((jS × List Int) ⊕ (jS × Int)) := Classical.choose (⟨du_X29_run_97, rfl⟩ : ∃ f, f = du_X29_run_97)
theorem eu_X29_run_97 : u_X29_run_97 = du_X29_run_97 := Classical.choose_spec (⟨du_X29_run_97, rfl⟩ : ∃ f, f = du_X29_run_97)
def du_X29_run_67 (s : jS) (x0 x1 x2 x3 : Int) : Option ((jS × List Int) ⊕ (jS × Int)) :=
  if (W32 ((jf s 33 x0 15) - x2)) = x1 then
    if (jf s 33 x0 9) = 0 then
      jinr (some (s, x1))
    else
      (m_X29_isMarked s x0 (jf s 33 x0 10)).bind fun v1 =>
      if v1 = 0 then
        u_X29_run_97 s x0 x1 x2 x3
      else
        jinr (some (s, x1))
  else
    u_X29_run_97 s x0 x1 x2 x3
noncomputable def u_X29_run_67 : jS → Int → Int → Int → Int → Option ((jS × List Int) ⊕ (jS × Int)) := Classical.choose (⟨du_X29_run_67, rfl⟩ : ∃ f, f = du_X29_run_67)
theorem eu_X29_run_67 : u_X29_run_67 = du_X29_run_67 := Classical.choose_spec (⟨du_X29_run_67, rfl⟩ : ∃ f, f = du_X29_run_67)
def b_X29_run_26 (s : jS) (x0 x1 x2 x3 x4 : Int) : Option ((jS × List Int) ⊕ (jS × Int)) :=
  (m_X29_isEnd s x0).bind fun v1 =>
  if v1 = 0 then
    if x4 = 0 then
      (m_X29_haltAt s x0 (jf s 33 x0 10)).bind fun v2 =>
      if v2 = (-1) then
        u_X29_run_67 s x0 x1 x2 x3
      else
        jinr (u_X29_run_50 s x0 x2)
    else
      u_X29_run_67 s x0 x1 x2 x3
  else
    jinr (u_X29_run_128 s x0 x2)
def du_X29_run_26 (s : jS) (x0 x1 x2 x3 x4 : Int) : Option (jS × Int) := jlpW (jc5 b_X29_run_26) [x0, x1, x2, x3, x4] s
noncomputable def u_X29_run_26 : jS → Int → Int → Int → Int → Int → Option (jS × Int) := Classical.choose (⟨du_X29_run_26, rfl⟩ : ∃ f, f = du_X29_run_26)
theorem eu_X29_run_26 : u_X29_run_26 = du_X29_run_26 := Classical.choose_spec (⟨du_X29_run_26, rfl⟩ : ∃ f, f = du_X29_run_26)
def dm_X29_run (s : jS) (x0 x1 : Int) : Option (jS × Int) :=
  if x1 < 0 then
    some (s, (-1))
  else
    if 2000 < x1 then
      some (s, (-1))
    else
      u_X29_run_26 s x0 x1 (jf s 33 x0 15) (jf s 33 x0 14) 1
noncomputable def m_X29_run : jS → Int → Int → Option (jS × Int) := Classical.choose (⟨dm_X29_run, rfl⟩ : ∃ f, f = dm_X29_run)
theorem em_X29_run : m_X29_run = dm_X29_run := Classical.choose_spec (⟨dm_X29_run, rfl⟩ : ∃ f, f = dm_X29_run)
def du_X33_plain_31 (s : jS) (x0 x1 y0 y1 : Int) : Option (jS × Bool × Int) :=
  (m_X33_needAt s y1 y0 14 x1).bind fun q1 =>
  jth q1.2.1 (some (q1.1, true, q1.2.2)) <|
  (jlt q1.1 1000 (x0 + 20) 800 x1).bind fun v2 =>
  some (q1.1, false, v2)
noncomputable def u_X33_plain_31 : jS → Int → Int → Int → Int → Option (jS × Bool × Int) := Classical.choose (⟨du_X33_plain_31, rfl⟩ : ∃ f, f = du_X33_plain_31)
theorem eu_X33_plain_31 : u_X33_plain_31 = du_X33_plain_31 := Classical.choose_spec (⟨du_X33_plain_31, rfl⟩ : ∃ f, f = du_X33_plain_31)
def du_X33_plain_30 (s : jS) (x0 x1 y0 : Int) : Option (jS × Bool × Int) :=
  u_X33_plain_31 s x0 x1 0 y0
noncomputable def u_X33_plain_30 : jS → Int → Int → Int → Option (jS × Bool × Int) := Classical.choose (⟨du_X33_plain_30, rfl⟩ : ∃ f, f = du_X33_plain_30)
theorem eu_X33_plain_30 : u_X33_plain_30 = du_X33_plain_30 := Classical.choose_spec (⟨du_X33_plain_30, rfl⟩ : ∃ f, f = du_X33_plain_30)
def dm_X33_plain (s : jS) (x0 x1 : Int) : Option (jS × Bool × Int) :=
  (m_X33_value s x0 x1).bind fun q1 =>
  jth q1.2.1 (some (q1.1, true, q1.2.2)) <|
  (jlt q1.1 1000 (x0 + 21) 800 x1).bind fun v2 =>
  if v2 = (-1) then
    (jlt q1.1 1000 (x0 + 22) 800 x1).bind fun v3 =>
    if v3 = (-1) then
      u_X33_plain_31 q1.1 x0 x1 1 x0
    else
      u_X33_plain_30 q1.1 x0 x1 x0
  else
    u_X33_plain_30 q1.1 x0 x1 x0
noncomputable def m_X33_plain : jS → Int → Int → Option (jS × Bool × Int) := Classical.choose (⟨dm_X33_plain, rfl⟩ : ∃ f, f = dm_X33_plain)
theorem em_X33_plain : m_X33_plain = dm_X33_plain := Classical.choose_spec (⟨dm_X33_plain, rfl⟩ : ∃ f, f = dm_X33_plain)
def du_X33_common_114 (s : jS) (x0 x1 x2 x3 y0 y1 : Int) : Option (jS × Bool × Int) :=
  (m_X33_needAt s y1 y0 15 2).bind fun q1 =>
  jth q1.2.1 (some (q1.1, true, q1.2.2)) <|
  (m_X33_define q1.1 x0 x1 5 x3 x2).bind fun q2 =>
  jth q2.2.1 (some (q2.1, true, q2.2.2)) <|
  (jix 100 x1 ((x0 + 1) + 26 + 1 * x1)).bind fun v3 =>
  (jzb 1).bind fun v4 =>
  jls (jp q2.1 38 v3 4 v4) fun s5 =>
  some (s5, false, 0)
noncomputable def u_X33_common_114 : jS → Int → Int → Int → Int → Int → Int → Option (jS × Bool × Int) := Classical.choose (⟨du_X33_common_114, rfl⟩ : ∃ f, f = du_X33_common_114)
theorem eu_X33_common_114 : u_X33_common_114 = du_X33_common_114 := Classical.choose_spec (⟨du_X33_common_114, rfl⟩ : ∃ f, f = du_X33_common_114)
def du_X33_common_113 (s : jS) (x0 x1 x2 x3 y0 : Int) : Option (jS × Bool × Int) :=
  u_X33_common_114 s x0 x1 x2 x3 0 y0
noncomputable def u_X33_common_113 : jS → Int → Int → Int → Int → Int → Option (jS × Bool × Int) := Classical.choose (⟨du_X33_common_113, rfl⟩ : ∃ f, f = du_X33_common_113)
theorem eu_X33_common_113 : u_X33_common_113 = du_X33_common_113 := Classical.choose_spec (⟨du_X33_common_113, rfl⟩ : ∃ f, f = du_X33_common_113)
def du_X33_common_77 (s : jS) (x0 x1 x2 y0 y1 : Int) : Option (jS × Bool × Int) :=
  (m_X33_needAt s y1 y0 15 1).bind fun q1 =>
  jth q1.2.1 (some (q1.1, true, q1.2.2)) <|
  (m_X33_plain q1.1 x0 2).bind fun q2 =>
  jth q2.2.1 (some (q2.1, true, q2.2.2)) <|
  if q2.2.2 < 1 then
    u_X33_common_113 q2.1 x0 x1 x2 q2.2.2 x0
  else
    if 64 < q2.2.2 then
      u_X33_common_113 q2.1 x0 x1 x2 q2.2.2 x0
    else
      if (I_and q2.2.2 (W32 (q2.2.2 - 1))) = 0 then
        u_X33_common_114 q2.1 x0 x1 x2 q2.2.2 1 x0
      else
        u_X33_common_113 q2.1 x0 x1 x2 q2.2.2 x0
noncomputable def u_X33_common_77 : jS → Int → Int → Int → Int → Int → Option (jS × Bool × Int) := Classical.choose (⟨du_X33_common_77, rfl⟩ : ∃ f, f = du_X33_common_77)
theorem eu_X33_common_77 : u_X33_common_77 = du_X33_common_77 := Classical.choose_spec (⟨du_X33_common_77, rfl⟩ : ∃ f, f = du_X33_common_77)
def du_X33_common_76 (s : jS) (x0 x1 x2 y0 : Int) : Option (jS × Bool × Int) :=
  u_X33_common_77 s x0 x1 x2 0 y0
noncomputable def u_X33_common_76 : jS → Int → Int → Int → Int → Option (jS × Bool × Int) := Classical.choose (⟨du_X33_common_76, rfl⟩ : ∃ f, f = du_X33_common_76)
theorem eu_X33_common_76 : u_X33_common_76 = du_X33_common_76 := Classical.choose_spec (⟨du_X33_common_76, rfl⟩ : ∃ f, f = du_X33_common_76)
def du_X33_common_38 (s : jS) (x0 y0 y1 : Int) : Option (jS × Bool × Int) :=
  (m_X33_need s y1 y0 12).bind fun q1 =>
  jth q1.2.1 (some (q1.1, true, q1.2.2)) <|
  (m_X33_nameOf q1.1 x0 0).bind fun v2 =>
  (m_X33_symbolFor q1.1 x0 v2).bind fun q3 =>
  jth q3.2.1 (some (q3.1, true, q3.2.2)) <|
  (m_X33_plain q3.1 x0 1).bind fun q4 =>
  jth q4.2.1 (some (q4.1, true, q4.2.2)) <|
  if q4.2.2 < 1 then
    u_X33_common_76 q4.1 x0 q3.2.2 q4.2.2 x0
  else
    if 4096 < q4.2.2 then
      u_X33_common_76 q4.1 x0 q3.2.2 q4.2.2 x0
    else
      u_X33_common_77 q4.1 x0 q3.2.2 q4.2.2 1 x0
noncomputable def u_X33_common_38 : jS → Int → Int → Int → Option (jS × Bool × Int) := Classical.choose (⟨du_X33_common_38, rfl⟩ : ∃ f, f = du_X33_common_38)
theorem eu_X33_common_38 : u_X33_common_38 = du_X33_common_38 := Classical.choose_spec (⟨du_X33_common_38, rfl⟩ : ∃ f, f = du_X33_common_38)
def du_X33_common_37 (s : jS) (x0 y0 : Int) : Option (jS × Bool × Int) :=
  u_X33_common_38 s x0 0 y0
noncomputable def u_X33_common_37 : jS → Int → Int → Option (jS × Bool × Int) := Classical.choose (⟨du_X33_common_37, rfl⟩ : ∃ f, f = du_X33_common_37)
theorem eu_X33_common_37 : u_X33_common_37 = du_X33_common_37 := Classical.choose_spec (⟨du_X33_common_37, rfl⟩ : ∃ f, f = du_X33_common_37)
def dm_X33_common (s : jS) (x0 : Int) : Option (jS × Bool × Int) :=
  if (jf s 37 x0 35) = 3 then
    (m_X33_isName s x0 0).bind fun v1 =>
    if v1 = 0 then
      u_X33_common_37 s x0 x0
    else
      (m_X33_isExpression s x0 1).bind fun v2 =>
      if v2 = 0 then
        u_X33_common_37 s x0 x0
      else
        (m_X33_isExpression s x0 2).bind fun v3 =>
        if v3 = 0 then
          u_X33_common_37 s x0 x0
        else
          u_X33_common_38 s x0 1 x0
  else
    u_X33_common_37 s x0 x0
noncomputable def m_X33_common : jS → Int → Option (jS × Bool × Int) := Classical.choose (⟨dm_X33_common, rfl⟩ : ∃ f, f = dm_X33_common)
theorem em_X33_common : m_X33_common = dm_X33_common := Classical.choose_spec (⟨dm_X33_common, rfl⟩ : ∃ f, f = dm_X33_common)
def du_X33_zeros_50 (s : jS) (x0 x1 y0 y1 : Int) : Option (jS × Bool × Int) :=
  (m_X33_needAt s y1 y0 15 0).bind fun q1 =>
  jth q1.2.1 (some (q1.1, true, q1.2.2)) <|
  (m_X33_blank q1.1 x0 x1).bind fun q2 =>
  jth q2.2.1 (some (q2.1, true, q2.2.2)) <|
  some (q2.1, false, 0)
noncomputable def u_X33_zeros_50 : jS → Int → Int → Int → Int → Option (jS × Bool × Int) := Classical.choose (⟨du_X33_zeros_50, rfl⟩ : ∃ f, f = du_X33_zeros_50)
theorem eu_X33_zeros_50 : u_X33_zeros_50 = du_X33_zeros_50 := Classical.choose_spec (⟨du_X33_zeros_50, rfl⟩ : ∃ f, f = du_X33_zeros_50)
def du_X33_zeros_49 (s : jS) (x0 x1 y0 : Int) : Option (jS × Bool × Int) :=
  u_X33_zeros_50 s x0 x1 0 y0
noncomputable def u_X33_zeros_49 : jS → Int → Int → Int → Option (jS × Bool × Int) := Classical.choose (⟨du_X33_zeros_49, rfl⟩ : ∃ f, f = du_X33_zeros_49)
theorem eu_X33_zeros_49 : u_X33_zeros_49 = du_X33_zeros_49 := Classical.choose_spec (⟨du_X33_zeros_49, rfl⟩ : ∃ f, f = du_X33_zeros_49)
def du_X33_zeros_22 (s : jS) (x0 y0 y1 : Int) : Option (jS × Bool × Int) :=
  (m_X33_need s y1 y0 12).bind fun q1 =>
  jth q1.2.1 (some (q1.1, true, q1.2.2)) <|
  (m_X33_plain q1.1 x0 0).bind fun q2 =>
  jth q2.2.1 (some (q2.1, true, q2.2.2)) <|
  if q2.2.2 < 0 then
    u_X33_zeros_49 q2.1 x0 q2.2.2 x0
  else
    if 4096 < q2.2.2 then
      u_X33_zeros_49 q2.1 x0 q2.2.2 x0
    else
      u_X33_zeros_50 q2.1 x0 q2.2.2 1 x0
noncomputable def u_X33_zeros_22 : jS → Int → Int → Int → Option (jS × Bool × Int) := Classical.choose (⟨du_X33_zeros_22, rfl⟩ : ∃ f, f = du_X33_zeros_22)
theorem eu_X33_zeros_22 : u_X33_zeros_22 = du_X33_zeros_22 := Classical.choose_spec (⟨du_X33_zeros_22, rfl⟩ : ∃ f, f = du_X33_zeros_22)
def du_X33_zeros_21 (s : jS) (x0 y0 : Int) : Option (jS × Bool × Int) :=
  u_X33_zeros_22 s x0 0 y0
noncomputable def u_X33_zeros_21 : jS → Int → Int → Option (jS × Bool × Int) := Classical.choose (⟨du_X33_zeros_21, rfl⟩ : ∃ f, f = du_X33_zeros_21)
theorem eu_X33_zeros_21 : u_X33_zeros_21 = du_X33_zeros_21 := Classical.choose_spec (⟨du_X33_zeros_21, rfl⟩ : ∃ f, f = du_X33_zeros_21)
def dm_X33_zeros (s : jS) (x0 : Int) : Option (jS × Bool × Int) :=
  if (jf s 37 x0 35) = 1 then
    (m_X33_isExpression s x0 0).bind fun v1 =>
    if v1 = 0 then
      u_X33_zeros_21 s x0 x0
    else
      u_X33_zeros_22 s x0 1 x0
  else
    u_X33_zeros_21 s x0 x0
noncomputable def m_X33_zeros : jS → Int → Option (jS × Bool × Int) := Classical.choose (⟨dm_X33_zeros, rfl⟩ : ∃ f, f = dm_X33_zeros)
theorem em_X33_zeros : m_X33_zeros = dm_X33_zeros := Classical.choose_spec (⟨dm_X33_zeros, rfl⟩ : ∃ f, f = dm_X33_zeros)
def du_X33_align_171 (s : jS) (x0 x3 x4 : Int) : Option (jS × Bool × Int) :=
  (m_X33_move s x0 43 x4 (-1) x3).bind fun q1 =>
  jth q1.2.1 (some (q1.1, true, q1.2.2)) <|
  some (q1.1, false, 0)
noncomputable def u_X33_align_171 : jS → Int → Int → Int → Option (jS × Bool × Int) := Classical.choose (⟨du_X33_align_171, rfl⟩ : ∃ f, f = du_X33_align_171)
theorem eu_X33_align_171 : u_X33_align_171 = du_X33_align_171 := Classical.choose_spec (⟨du_X33_align_171, rfl⟩ : ∃ f, f = du_X33_align_171)
def du_X33_align_159 (s : jS) (x0 x3 x4 : Int) : Option (jS × Bool × Int) :=
  if (I_and x3 2) = 0 then
    u_X33_align_171 s x0 x3 x4
  else
    (m_X33_putNumber s x0 1 2).bind fun q1 =>
    jth q1.2.1 (some (q1.1, true, q1.2.2)) <|
    u_X33_align_171 q1.1 x0 x3 x4
noncomputable def u_X33_align_159 : jS → Int → Int → Int → Option (jS × Bool × Int) := Classical.choose (⟨du_X33_align_159, rfl⟩ : ∃ f, f = du_X33_align_159)
theorem eu_X33_align_159 : u_X33_align_159 = du_X33_align_159 := Classical.choose_spec (⟨du_X33_align_159, rfl⟩ : ∃ f, f = du_X33_align_159)
def b_X33_align_140 (s : jS) (x0 x3 x4 x5 : Int) : Option ((jS × List Int) ⊕ (jS × Bool × Int)) :=
  if x3 < x5 then
    jinr (u_X33_align_159 s x0 x3 x4)
  else
    (m_X33_putNumber s x0 19 4).bind fun q1 =>
    jth q1.2.1 (jinr (some (q1.1, true, q1.2.2))) <|
    some (.inl (q1.1, [x0, x3, x4, W32 (x5 + 4)]))
def du_X33_align_140 (s : jS) (x0 x3 x4 x5 : Int) : Option (jS × Bool × Int) := jlpW (jc4 b_X33_align_140) [x0, x3, x4, x5] s
noncomputable def u_X33_align_140 : jS → Int → Int → Int → Int → Option (jS × Bool × Int) := Classical.choose (⟨du_X33_align_140, rfl⟩ : ∃ f, f = du_X33_align_140)
theorem eu_X33_align_140 : u_X33_align_140 = du_X33_align_140 := Classical.choose_spec (⟨du_X33_align_140, rfl⟩ : ∃ f, f = du_X33_align_140)
def du_X33_align_89 (s : jS) (x0 x1 y0 : Int) : Option (jS × Bool × Int) :=
  if (jf s 37 x0 30) = 0 then
    jlet (W32 ((I_shl 1 x1) - y0)) fun v1 =>
    if 0 < v1 then
      (jlt s 1000 (x0 + 7) 4 0).bind fun v2 =>
      u_X33_align_140 s x0 v1 v2 4
    else
      some (s, false, 0)
  else
    (jlt s 1000 (x0 + 7) 4 (jf s 37 x0 30)).bind fun v3 =>
    (m_X33_blank s x0 (I_and (W32 (-v3)) (W32 ((I_shl 1 x1) - 1)))).bind fun q4 =>
    jth q4.2.1 (some (q4.1, true, q4.2.2)) <|
    some (q4.1, false, 0)
noncomputable def u_X33_align_89 : jS → Int → Int → Int → Option (jS × Bool × Int) := Classical.choose (⟨du_X33_align_89, rfl⟩ : ∃ f, f = du_X33_align_89)
theorem eu_X33_align_89 : u_X33_align_89 = du_X33_align_89 := Classical.choose_spec (⟨du_X33_align_89, rfl⟩ : ∃ f, f = du_X33_align_89)
def du_X33_align_49 (s : jS) (x0 x1 y0 y1 : Int) : Option (jS × Bool × Int) :=
  (m_X33_needAt s y1 y0 15 0).bind fun q1 =>
  jth q1.2.1 (some (q1.1, true, q1.2.2)) <|
  (jlt q1.1 1000 (x0 + 8) 4 (jf q1.1 37 x0 30)).bind fun v2 =>
  (jst q1.1 1000 (x0 + 8) 4 (jf q1.1 37 x0 30) (jmx v2 x1)).bind fun s3 =>
  if (jf s3 37 x0 39) = 0 then
    u_X33_align_89 s3 x0 x1 4
  else
    u_X33_align_89 s3 x0 x1 2
noncomputable def u_X33_align_49 : jS → Int → Int → Int → Int → Option (jS × Bool × Int) := Classical.choose (⟨du_X33_align_49, rfl⟩ : ∃ f, f = du_X33_align_49)
theorem eu_X33_align_49 : u_X33_align_49 = du_X33_align_49 := Classical.choose_spec (⟨du_X33_align_49, rfl⟩ : ∃ f, f = du_X33_align_49)
def du_X33_align_48 (s : jS) (x0 x1 y0 : Int) : Option (jS × Bool × Int) :=
  u_X33_align_49 s x0 x1 0 y0
noncomputable def u_X33_align_48 : jS → Int → Int → Int → Option (jS × Bool × Int) := Classical.choose (⟨du_X33_align_48, rfl⟩ : ∃ f, f = du_X33_align_48)
theorem eu_X33_align_48 : u_X33_align_48 = du_X33_align_48 := Classical.choose_spec (⟨du_X33_align_48, rfl⟩ : ∃ f, f = du_X33_align_48)
def du_X33_align_22 (s : jS) (x0 y0 y1 : Int) : Option (jS × Bool × Int) :=
  (m_X33_need s y1 y0 12).bind fun q1 =>
  jth q1.2.1 (some (q1.1, true, q1.2.2)) <|
  (m_X33_plain q1.1 x0 0).bind fun q2 =>
  jth q2.2.1 (some (q2.1, true, q2.2.2)) <|
  if q2.2.2 < 0 then
    u_X33_align_48 q2.1 x0 q2.2.2 x0
  else
    if 6 < q2.2.2 then
      u_X33_align_48 q2.1 x0 q2.2.2 x0
    else
      u_X33_align_49 q2.1 x0 q2.2.2 1 x0
noncomputable def u_X33_align_22 : jS → Int → Int → Int → Option (jS × Bool × Int) := Classical.choose (⟨du_X33_align_22, rfl⟩ : ∃ f, f = du_X33_align_22)
theorem eu_X33_align_22 : u_X33_align_22 = du_X33_align_22 := Classical.choose_spec (⟨du_X33_align_22, rfl⟩ : ∃ f, f = du_X33_align_22)
def du_X33_align_21 (s : jS) (x0 y0 : Int) : Option (jS × Bool × Int) :=
  u_X33_align_22 s x0 0 y0
noncomputable def u_X33_align_21 : jS → Int → Int → Option (jS × Bool × Int) := Classical.choose (⟨du_X33_align_21, rfl⟩ : ∃ f, f = du_X33_align_21)
theorem eu_X33_align_21 : u_X33_align_21 = du_X33_align_21 := Classical.choose_spec (⟨du_X33_align_21, rfl⟩ : ∃ f, f = du_X33_align_21)
def dm_X33_align (s : jS) (x0 : Int) : Option (jS × Bool × Int) :=
  if (jf s 37 x0 35) = 1 then
    (m_X33_isExpression s x0 0).bind fun v1 =>
    if v1 = 0 then
      u_X33_align_21 s x0 x0
    else
      u_X33_align_22 s x0 1 x0
  else
    u_X33_align_21 s x0 x0
noncomputable def m_X33_align : jS → Int → Option (jS × Bool × Int) := Classical.choose (⟨dm_X33_align, rfl⟩ : ∃ f, f = dm_X33_align)
theorem em_X33_align : m_X33_align = dm_X33_align := Classical.choose_spec (⟨dm_X33_align, rfl⟩ : ∃ f, f = dm_X33_align)
def du_X35_putAt_101 (s : jS) (y0 y1 y2 y3 : Int) : Option (jS × Int) :=
  (m_X36_put s y3 y2 y1 y0).bind fun q1 =>
  some (q1.1, 0)
noncomputable def u_X35_putAt_101 : jS → Int → Int → Int → Int → Option (jS × Int) := Classical.choose (⟨du_X35_putAt_101, rfl⟩ : ∃ f, f = du_X35_putAt_101)
theorem eu_X35_putAt_101 : u_X35_putAt_101 = du_X35_putAt_101 := Classical.choose_spec (⟨du_X35_putAt_101, rfl⟩ : ∃ f, f = du_X35_putAt_101)
def du_X35_putAt_53 (s : jS) (x0 x1 x3 x4 y0 : Int) : Option (jS × Int) :=
  if y0 = 0 then
    (jrd s 20 x3 2).bind fun v1 =>
    (jlt s 1000 (x0 + 25) 256 x4).bind fun v2 =>
    if v1 = v2 then
      u_X35_putAt_101 s 0 x4 x1 (x0 + 1)
    else
      u_X35_putAt_101 s 1 x4 x1 (x0 + 1)
  else
    (jrd s 20 x3 2).bind fun v3 =>
    (jlt s 1000 (x0 + 25) 256 x4).bind fun v4 =>
    u_X35_putAt_101 s (W32 (v3 - v4)) x4 x1 (x0 + 1)
noncomputable def u_X35_putAt_53 : jS → Int → Int → Int → Int → Int → Option (jS × Int) := Classical.choose (⟨du_X35_putAt_53, rfl⟩ : ∃ f, f = du_X35_putAt_53)
theorem eu_X35_putAt_53 : u_X35_putAt_53 = du_X35_putAt_53 := Classical.choose_spec (⟨du_X35_putAt_53, rfl⟩ : ∃ f, f = du_X35_putAt_53)
def dm_X35_putAt (s : jS) (x0 x1 x2 x3 : Int) : Option (jS × Int) :=
  (jrd s 20 x3 1).bind fun v1 =>
  if v1 < 0 then
    some (s, 0)
  else
    (jrd s 20 x3 1).bind fun v2 =>
    if 3 < v2 then
      some (s, 0)
    else
      (jrd s 20 x3 1).bind fun v3 =>
      (m_X35_partOf s x0 x2 v3).bind fun v4 =>
      (jrd s 20 x3 2).bind fun v5 =>
      (m_X35_pieceAt s x0 v4 v5).bind fun v6 =>
      (m_X36_piece s (x0 + 1) v6 0).bind fun q7 =>
      if q7.2 = 0 then
        u_X35_putAt_53 q7.1 x0 x1 x3 v6 1
      else
        u_X35_putAt_53 q7.1 x0 x1 x3 v6 0
noncomputable def m_X35_putAt : jS → Int → Int → Int → Int → Option (jS × Int) := Classical.choose (⟨dm_X35_putAt, rfl⟩ : ∃ f, f = dm_X35_putAt)
theorem em_X35_putAt : m_X35_putAt = dm_X35_putAt := Classical.choose_spec (⟨dm_X35_putAt, rfl⟩ : ∃ f, f = dm_X35_putAt)
def du_X35_copy_208 (s : jS) (x0 x1 : Int) : Option ((jS × List Int) ⊕ (jS × Int)) :=
  some (.inl (s, [x0, W32 (x1 + 1)]))
noncomputable def u_X35_copy_208 : jS → Int → Int → Option ((jS × List Int) ⊕ (jS × Int)) := Classical.choose (⟨du_X35_copy_208, rfl⟩ : ∃ f, f = du_X35_copy_208)
theorem eu_X35_copy_208 : u_X35_copy_208 = du_X35_copy_208 := Classical.choose_spec (⟨du_X35_copy_208, rfl⟩ : ∃ f, f = du_X35_copy_208)
def du_X35_copy_202 (s : jS) (x0 x1 x2 x3 : Int) : Option ((jS × List Int) ⊕ ((jS × List Int) ⊕ (jS × Int))) :=
  some (.inl (s, [x0, x1, x2, W32 (x3 + 1)]))
noncomputable def u_X35_copy_202 : jS → Int → Int → Int → Int → Option ((jS × List Int) ⊕ ((jS × List Int) ⊕ (jS × Int))) := Classical.choose (⟨du_X35_copy_202, rfl⟩ : ∃ f, f = du_X35_copy_202)
theorem eu_X35_copy_202 : u_X35_copy_202 = du_X35_copy_202 := Classical.choose_spec (⟨du_X35_copy_202, rfl⟩ : ∃ f, f = du_X35_copy_202)
def du_X35_copy_196 (s : jS) (x0 x1 x2 x3 x4 x5 x6 : Int) : Option ((jS × List Int) ⊕ ((jS × List Int) ⊕ ((jS × List Int) ⊕ (jS × Int)))) :=
  some (.inl (s, [x0, x1, x2, x3, x4, x5, W32 (x6 + 1)]))
noncomputable def u_X35_copy_196 : jS → Int → Int → Int → Int → Int → Int → Int → Option ((jS × List Int) ⊕ ((jS × List Int) ⊕ ((jS × List Int) ⊕ (jS × Int)))) := Classical.choose (⟨du_X35_copy_196, rfl⟩ : ∃ f, f = du_X35_copy_196)
theorem eu_X35_copy_196 : u_X35_copy_196 = du_X35_copy_196 := Classical.choose_spec (⟨du_X35_copy_196, rfl⟩ : ∃ f, f = du_X35_copy_196)
def b_X35_copy_140 (s : jS) (x0 x1 x2 x3 x4 x5 x6 x7 x8 x9 x10 : Int) : Option ((jS × List Int) ⊕ ((jS × List Int) ⊕ ((jS × List Int) ⊕ ((jS × List Int) ⊕ (jS × Int))))) :=
  if x10 < x9 then
    if x8 = 4 then
      jinr (u_X35_copy_196 s x0 x1 x2 x3 x4 x5 x6)
    else
      (jlt s 1000 (x0 + 26) 256 x6).bind fun v1 =>
      if x9 = v1 then
        (jix 3 x3 ((x0 + 33) + 1 + 1 * x3)).bind fun v2 =>
        (jlt s 1000 (x0 + 25) 256 x6).bind fun v3 =>
        (jlt s 1001 x5 (jN s x5) (W32 (v3 + x10))).bind fun v4 =>
        (jst s 1001 v2 4096 (W32 (x7 + x10)) (W8 v4)).bind fun s5 =>
        some (.inl (s5, [x0, x1, x2, x3, x4, x5, x6, x7, x8, x9, W32 (x10 + 1)]))
      else
        jinr (u_X35_copy_196 s x0 x1 x2 x3 x4 x5 x6)
  else
    jinr (u_X35_copy_196 s x0 x1 x2 x3 x4 x5 x6)
def du_X35_copy_140 (s : jS) (x0 x1 x2 x3 x4 x5 x6 x7 x8 x9 x10 : Int) : Option ((jS × List Int) ⊕ ((jS × List Int) ⊕ ((jS × List Int) ⊕ (jS × Int)))) := jlpW (jc11 b_X35_copy_140) [x0, x1, x2, x3, x4, x5, x6, x7, x8, x9, x10] s
noncomputable def u_X35_copy_140 : jS → Int → Int → Int → Int → Int → Int → Int → Int → Int → Int → Int → Option ((jS × List Int) ⊕ ((jS × List Int) ⊕ ((jS × List Int) ⊕ (jS × Int)))) := Classical.choose (⟨du_X35_copy_140, rfl⟩ : ∃ f, f = du_X35_copy_140)
theorem eu_X35_copy_140 : u_X35_copy_140 = du_X35_copy_140 := Classical.choose_spec (⟨du_X35_copy_140, rfl⟩ : ∃ f, f = du_X35_copy_140)
def du_X35_copy_137 (s : jS) (x0 x1 x2 x3 x4 x5 x6 x7 x8 x9 : Int) : Option ((jS × List Int) ⊕ ((jS × List Int) ⊕ ((jS × List Int) ⊕ (jS × Int)))) :=
  u_X35_copy_140 s x0 x1 x2 x3 x4 x5 x6 x7 x8 x9 0
noncomputable def u_X35_copy_137 : jS → Int → Int → Int → Int → Int → Int → Int → Int → Int → Int → Option ((jS × List Int) ⊕ ((jS × List Int) ⊕ ((jS × List Int) ⊕ (jS × Int)))) := Classical.choose (⟨du_X35_copy_137, rfl⟩ : ∃ f, f = du_X35_copy_137)
theorem eu_X35_copy_137 : u_X35_copy_137 = du_X35_copy_137 := Classical.choose_spec (⟨du_X35_copy_137, rfl⟩ : ∃ f, f = du_X35_copy_137)
def b_X35_copy_59 (s : jS) (x0 x1 x2 x3 x4 x5 x6 : Int) : Option ((jS × List Int) ⊕ ((jS × List Int) ⊕ ((jS × List Int) ⊕ (jS × Int)))) :=
  (jlt s 1000 (x0 + 30) 32 x4).bind fun v1 =>
  if x6 < v1 then
    (m_X36_piece s (x0 + 1) x6 3).bind fun q2 =>
    (m_X36_output q2.1 (x0 + 1) x3 0).bind fun q3 =>
    jlet (W32 (q2.2 - q3.2)) fun v4 =>
    (m_X36_piece q3.1 (x0 + 1) x6 0).bind fun q5 =>
    (m_X36_piece q5.1 (x0 + 1) x6 2).bind fun q6 =>
    if q5.2 = 4 then
      (jix 3 x3 ((x0 + 33) + 1 + 1 * x3)).bind fun v7 =>
      (m_X35_nothing q6.1 x0 v7 v4 q6.2).bind fun q8 =>
      u_X35_copy_137 q8.1 x0 x1 x2 x3 x4 x5 x6 v4 q5.2 q6.2
    else
      u_X35_copy_137 q6.1 x0 x1 x2 x3 x4 x5 x6 v4 q5.2 q6.2
  else
    jinr (u_X35_copy_202 s x0 x1 x2 x3)
def du_X35_copy_59 (s : jS) (x0 x1 x2 x3 x4 x5 x6 : Int) : Option ((jS × List Int) ⊕ ((jS × List Int) ⊕ (jS × Int))) := jlpW (jc7 b_X35_copy_59) [x0, x1, x2, x3, x4, x5, x6] s
noncomputable def u_X35_copy_59 : jS → Int → Int → Int → Int → Int → Int → Int → Option ((jS × List Int) ⊕ ((jS × List Int) ⊕ (jS × Int))) := Classical.choose (⟨du_X35_copy_59, rfl⟩ : ∃ f, f = du_X35_copy_59)
theorem eu_X35_copy_59 : u_X35_copy_59 = du_X35_copy_59 := Classical.choose_spec (⟨du_X35_copy_59, rfl⟩ : ∃ f, f = du_X35_copy_59)
def b_X35_copy_19 (s : jS) (x0 x1 x2 x3 : Int) : Option ((jS × List Int) ⊕ ((jS × List Int) ⊕ (jS × Int))) :=
  if x3 < 3 then
    jlet (W32 ((W32 (4 * x1)) + x3)) fun v1 =>
    (jix 6 x2 ((x0 + (-4000)) + 4041 + 1858 * x2)).bind fun v2 =>
    (jix 4 x3 (((v2 + 614) + 1) + 4 + 2 * x3)).bind fun v3 =>
    (jlt s 1000 (x0 + 29) 32 v1).bind fun v4 =>
    u_X35_copy_59 s x0 x1 x2 x3 v1 (v3 + 1) v4
  else
    jinr (u_X35_copy_208 s x0 x1)
def du_X35_copy_19 (s : jS) (x0 x1 x2 x3 : Int) : Option ((jS × List Int) ⊕ (jS × Int)) := jlpW (jc4 b_X35_copy_19) [x0, x1, x2, x3] s
noncomputable def u_X35_copy_19 : jS → Int → Int → Int → Int → Option ((jS × List Int) ⊕ (jS × Int)) := Classical.choose (⟨du_X35_copy_19, rfl⟩ : ∃ f, f = du_X35_copy_19)
theorem eu_X35_copy_19 : u_X35_copy_19 = du_X35_copy_19 := Classical.choose_spec (⟨du_X35_copy_19, rfl⟩ : ∃ f, f = du_X35_copy_19)
def b_X35_copy_2 (s : jS) (x0 x1 : Int) : Option ((jS × List Int) ⊕ (jS × Int)) :=
  if x1 < (jf s 39 x0 5) then
    (jlt s 1000 (x0 + 13) 6 x1).bind fun v1 =>
    u_X35_copy_19 s x0 x1 v1 0
  else
    jinr (some (s, 0))
def du_X35_copy_2 (s : jS) (x0 x1 : Int) : Option (jS × Int) := jlpW (jc2 b_X35_copy_2) [x0, x1] s
noncomputable def u_X35_copy_2 : jS → Int → Int → Option (jS × Int) := Classical.choose (⟨du_X35_copy_2, rfl⟩ : ∃ f, f = du_X35_copy_2)
theorem eu_X35_copy_2 : u_X35_copy_2 = du_X35_copy_2 := Classical.choose_spec (⟨du_X35_copy_2, rfl⟩ : ∃ f, f = du_X35_copy_2)
def dm_X35_copy (s : jS) (x0 : Int) : Option (jS × Int) :=
  u_X35_copy_2 s x0 0
noncomputable def m_X35_copy : jS → Int → Option (jS × Int) := Classical.choose (⟨dm_X35_copy, rfl⟩ : ∃ f, f = dm_X35_copy)
theorem em_X35_copy : m_X35_copy = dm_X35_copy := Classical.choose_spec (⟨dm_X35_copy, rfl⟩ : ∃ f, f = dm_X35_copy)
def dm_X35_placeOf (s : jS) (x0 x1 x2 x3 : Int) : Option (jS × Int) :=
  (m_X35_partOf s x0 x1 x2).bind fun v1 =>
  (m_X35_pieceAt s x0 v1 x3).bind fun v2 =>
  (m_X36_piece s (x0 + 1) v2 3).bind fun q3 =>
  (m_X36_piece q3.1 (x0 + 1) v2 0).bind fun q4 =>
  if q4.2 = 0 then
    (jlt q4.1 1000 (x0 + 25) 256 v2).bind fun v5 =>
    some (q4.1, W64 ((W64 (q3.2 + x3)) - v5))
  else
    (jlt q4.1 1000 (x0 + 25) 256 v2).bind fun v6 =>
    if x3 = v6 then
      some (q4.1, q3.2)
    else
      (m_X36_piece q4.1 (x0 + 1) v2 2).bind fun q7 =>
      some (q7.1, W32 (q3.2 + q7.2))
noncomputable def m_X35_placeOf : jS → Int → Int → Int → Int → Option (jS × Int) := Classical.choose (⟨dm_X35_placeOf, rfl⟩ : ∃ f, f = dm_X35_placeOf)
theorem em_X35_placeOf : m_X35_placeOf = dm_X35_placeOf := Classical.choose_spec (⟨dm_X35_placeOf, rfl⟩ : ∃ f, f = dm_X35_placeOf)
def dm_X35_placeOf_2 (s : jS) (x0 x1 x2 : Int) : Option (jS × Int) :=
  (jrd s 20 x2 1).bind fun v1 =>
  if v1 = 4 then
    (jrd s 20 x2 2).bind fun v2 =>
    some (s, v2)
  else
    (jrd s 20 x2 1).bind fun v3 =>
    (jrd s 20 x2 2).bind fun v4 =>
    (m_X35_placeOf s x0 x1 v3 v4).bind fun q5 =>
    some (q5.1, q5.2)
noncomputable def m_X35_placeOf_2 : jS → Int → Int → Int → Option (jS × Int) := Classical.choose (⟨dm_X35_placeOf_2, rfl⟩ : ∃ f, f = dm_X35_placeOf_2)
theorem em_X35_placeOf_2 : m_X35_placeOf_2 = dm_X35_placeOf_2 := Classical.choose_spec (⟨dm_X35_placeOf_2, rfl⟩ : ∃ f, f = dm_X35_placeOf_2)
def dm_X35_given (s : jS) (x0 x1 : Int) : Option (jS × Int) :=
  if x1 = 0 then
    (m_X35_gp s x0).bind fun q1 =>
    some (q1.1, q1.2)
  else
  if x1 = 1 then
    (m_X36_output s (x0 + 1) 0 1).bind fun q2 =>
    some (q2.1, q2.2)
  else
  if x1 = 2 then
    (m_X36_output s (x0 + 1) 2 1).bind fun q3 =>
    some (q3.1, q3.2)
  else
  if x1 = 3 then
    (m_X36_output s (x0 + 1) 3 0).bind fun q4 =>
    some (q4.1, q4.2)
  else
  (m_X36_output s (x0 + 1) 3 1).bind fun q5 =>
  some (q5.1, q5.2)
noncomputable def m_X35_given : jS → Int → Int → Option (jS × Int) := Classical.choose (⟨dm_X35_given, rfl⟩ : ∃ f, f = dm_X35_given)
theorem em_X35_given : m_X35_given = dm_X35_given := Classical.choose_spec (⟨dm_X35_given, rfl⟩ : ∃ f, f = dm_X35_given)
def dm_X35_sizeOfPiece (s : jS) (x0 : Int) : Option (jS × Int) :=
  if (jf s 39 x0 37) = (-1) then
    some (s, (-1))
  else
    (m_X36_piece s (x0 + 1) (jf s 39 x0 37) 2).bind fun q1 =>
    some (q1.1, q1.2)
noncomputable def m_X35_sizeOfPiece : jS → Int → Option (jS × Int) := Classical.choose (⟨dm_X35_sizeOfPiece, rfl⟩ : ∃ f, f = dm_X35_sizeOfPiece)
theorem em_X35_sizeOfPiece : m_X35_sizeOfPiece = dm_X35_sizeOfPiece := Classical.choose_spec (⟨dm_X35_sizeOfPiece, rfl⟩ : ∃ f, f = dm_X35_sizeOfPiece)
def du_X35_near_26 (s : jS) (x0 x1 : Int) : Option (jS × Bool × Int) :=
  (m_X35_wanted s x0 23 4).bind fun q1 =>
  jth q1.2.1 (some (q1.1, true, q1.2.2)) <|
  (m_X35_isInt q1.1 x1).bind fun v2 =>
  (m_X35_need q1.1 x0 v2 8).bind fun q3 =>
  jth q3.2.1 (some (q3.1, true, q3.2.2)) <|
  (m_X35_upperOf q3.1 x1).bind fun v4 =>
  (m_X35_fit q3.1 x0 23 4 v4).bind fun q5 =>
  jth q5.2.1 (some (q5.1, true, q5.2.2)) <|
  some (q5.1, false, 0)
noncomputable def u_X35_near_26 : jS → Int → Int → Option (jS × Bool × Int) := Classical.choose (⟨du_X35_near_26, rfl⟩ : ∃ f, f = du_X35_near_26)
theorem eu_X35_near_26 : u_X35_near_26 = du_X35_near_26 := Classical.choose_spec (⟨du_X35_near_26, rfl⟩ : ∃ f, f = du_X35_near_26)
def dm_X35_near (s : jS) (x0 : Int) : Option (jS × Bool × Int) :=
  jlet (W64 ((jf s 39 x0 40) - (jf s 39 x0 41))) fun v1 =>
  if (jf s 39 x0 37) = (-1) then
    u_X35_near_26 s x0 v1
  else
    (m_X35_sizeOfPiece s x0).bind fun q2 =>
    if q2.2 = 0 then
      some (q2.1, false, 0)
    else
      u_X35_near_26 q2.1 x0 v1
noncomputable def m_X35_near : jS → Int → Option (jS × Bool × Int) := Classical.choose (⟨dm_X35_near, rfl⟩ : ∃ f, f = dm_X35_near)
theorem em_X35_near : m_X35_near = dm_X35_near := Classical.choose_spec (⟨dm_X35_near, rfl⟩ : ∃ f, f = dm_X35_near)
def du_X35_upper_29 (s : jS) (x0 x1 : Int) : Option (jS × Bool × Int) :=
  (m_X35_isInt s (jf s 39 x0 40)).bind fun v1 =>
  (m_X35_need s x0 v1 8).bind fun q2 =>
  jth q2.2.1 (some (q2.1, true, q2.2.2)) <|
  if x1 = 4 then
    (m_X35_upperOf q2.1 (jf q2.1 39 x0 40)).bind fun v3 =>
    (m_X35_fit q2.1 x0 26 4 v3).bind fun q4 =>
    jth q4.2.1 (some (q4.1, true, q4.2.2)) <|
    some (q4.1, false, 0)
  else
    if x1 = 2 then
      (m_X35_upperOf q2.1 (jf q2.1 39 x0 40)).bind fun v5 =>
      (m_X2_may q2.1 (x0 + (-4274)) 56 v5).bind fun v6 =>
      (m_X35_need q2.1 x0 v6 8).bind fun q7 =>
      jth q7.2.1 (some (q7.1, true, q7.2.2)) <|
      (jix 3 0 ((x0 + 33) + 1 + 1 * 0)).bind fun v8 =>
      (jix 6 (jf q7.1 39 x0 35) ((x0 + (-4000)) + 4041 + 1858 * (jf q7.1 39 x0 35))).bind fun v9 =>
      (jix 6 (jf q7.1 39 x0 35) ((x0 + (-4000)) + 4041 + 1858 * (jf q7.1 39 x0 35))).bind fun v10 =>
      (jix 300 (jf q7.1 39 x0 36) (((v10 + 614) + 4) + 309 + 1 * (jf q7.1 39 x0 36))).bind fun v11 =>
      (m_X35_wordIn q7.1 (v9 + 614) (jf q7.1 22 v11 1)).bind fun v12 =>
      (m_X2_word q7.1 (x0 + (-4274)) 56 (I_and (I_shr v12 7) 31) 0 0 (L2i v5)).bind fun q13 =>
      jth q13.2.1 (some (q13.1, true, q13.2.2)) <|
      (m_X35_put q13.1 x0 v8 (jf q7.1 39 x0 38) 2 q13.2.2).bind fun q14 =>
      some (q14.1, false, 0)
    else
      some (q2.1, false, 0)
noncomputable def u_X35_upper_29 : jS → Int → Int → Option (jS × Bool × Int) := Classical.choose (⟨du_X35_upper_29, rfl⟩ : ∃ f, f = du_X35_upper_29)
theorem eu_X35_upper_29 : u_X35_upper_29 = du_X35_upper_29 := Classical.choose_spec (⟨du_X35_upper_29, rfl⟩ : ∃ f, f = du_X35_upper_29)
def du_X35_upper_16 (s : jS) (x0 y0 : Int) : Option (jS × Bool × Int) :=
  if y0 = 4 then
    (m_X35_wanted s x0 26 4).bind fun q1 =>
    jth q1.2.1 (some (q1.1, true, q1.2.2)) <|
    u_X35_upper_29 q1.1 x0 y0
  else
    u_X35_upper_29 s x0 y0
noncomputable def u_X35_upper_16 : jS → Int → Int → Option (jS × Bool × Int) := Classical.choose (⟨du_X35_upper_16, rfl⟩ : ∃ f, f = du_X35_upper_16)
theorem eu_X35_upper_16 : u_X35_upper_16 = du_X35_upper_16 := Classical.choose_spec (⟨du_X35_upper_16, rfl⟩ : ∃ f, f = du_X35_upper_16)
def dm_X35_upper (s : jS) (x0 : Int) : Option (jS × Bool × Int) :=
  if (jf s 39 x0 37) = (-1) then
    u_X35_upper_16 s x0 4
  else
    (m_X35_sizeOfPiece s x0).bind fun q1 =>
    u_X35_upper_16 q1.1 x0 q1.2
noncomputable def m_X35_upper : jS → Int → Option (jS × Bool × Int) := Classical.choose (⟨dm_X35_upper, rfl⟩ : ∃ f, f = dm_X35_upper)
theorem em_X35_upper : m_X35_upper = dm_X35_upper := Classical.choose_spec (⟨dm_X35_upper, rfl⟩ : ∃ f, f = dm_X35_upper)
def du_X35_low_110 (s : jS) (x0 x1 : Int) : Option (jS × Bool × Int) :=
  (m_X35_lowerOf s (jf s 39 x0 40)).bind fun v1 =>
  (m_X35_fit s x0 x1 4 v1).bind fun q2 =>
  jth q2.2.1 (some (q2.1, true, q2.2.2)) <|
  some (q2.1, false, 0)
noncomputable def u_X35_low_110 : jS → Int → Int → Option (jS × Bool × Int) := Classical.choose (⟨du_X35_low_110, rfl⟩ : ∃ f, f = du_X35_low_110)
theorem eu_X35_low_110 : u_X35_low_110 = du_X35_low_110 := Classical.choose_spec (⟨du_X35_low_110, rfl⟩ : ∃ f, f = du_X35_low_110)
def du_X35_low_71 (s : jS) (x0 x1 x2 : Int) : Option (jS × Bool × Int) :=
  if x2 = 0 then
    u_X35_low_110 s x0 x1
  else
    (m_X35_gp s x0).bind fun q1 =>
    (m_X35_isLow q1.1 (W64 ((jf s 39 x0 40) - q1.2))).bind fun v2 =>
    if v2 = 0 then
      u_X35_low_110 q1.1 x0 x1
    else
      (m_X35_gp q1.1 x0).bind fun q3 =>
      (m_X35_based q3.1 x0 x1 3 (W64 ((jf q1.1 39 x0 40) - q3.2))).bind fun q4 =>
      jth q4.2.1 (some (q4.1, true, q4.2.2)) <|
      some (q4.1, false, 0)
noncomputable def u_X35_low_71 : jS → Int → Int → Int → Option (jS × Bool × Int) := Classical.choose (⟨du_X35_low_71, rfl⟩ : ∃ f, f = du_X35_low_71)
theorem eu_X35_low_71 : u_X35_low_71 = du_X35_low_71 := Classical.choose_spec (⟨du_X35_low_71, rfl⟩ : ∃ f, f = du_X35_low_71)
def du_X35_low_43 (s : jS) (x0 x1 y0 : Int) : Option (jS × Bool × Int) :=
  if y0 = 0 then
    u_X35_low_71 s x0 x1 y0
  else
    (m_X35_isLow s (jf s 39 x0 40)).bind fun v1 =>
    if v1 = 0 then
      u_X35_low_71 s x0 x1 y0
    else
      (m_X35_based s x0 x1 0 (jf s 39 x0 40)).bind fun q2 =>
      jth q2.2.1 (some (q2.1, true, q2.2.2)) <|
      some (q2.1, false, 0)
noncomputable def u_X35_low_43 : jS → Int → Int → Int → Option (jS × Bool × Int) := Classical.choose (⟨du_X35_low_43, rfl⟩ : ∃ f, f = du_X35_low_43)
theorem eu_X35_low_43 : u_X35_low_43 = du_X35_low_43 := Classical.choose_spec (⟨du_X35_low_43, rfl⟩ : ∃ f, f = du_X35_low_43)
def du_X35_low_42 (s : jS) (x0 x1 : Int) : Option (jS × Bool × Int) :=
  u_X35_low_43 s x0 x1 0
noncomputable def u_X35_low_42 : jS → Int → Int → Option (jS × Bool × Int) := Classical.choose (⟨du_X35_low_42, rfl⟩ : ∃ f, f = du_X35_low_42)
theorem eu_X35_low_42 : u_X35_low_42 = du_X35_low_42 := Classical.choose_spec (⟨du_X35_low_42, rfl⟩ : ∃ f, f = du_X35_low_42)
def dm_X35_low (s : jS) (x0 x1 : Int) : Option (jS × Bool × Int) :=
  if (jf s 39 x0 33) = 0 then
    u_X35_low_42 s x0 x1
  else
    (jix 6 (jf s 39 x0 35) ((x0 + (-4000)) + 4041 + 1858 * (jf s 39 x0 35))).bind fun v1 =>
    (jix 300 (jf s 39 x0 36) (((v1 + 614) + 4) + 309 + 1 * (jf s 39 x0 36))).bind fun v2 =>
    (jlt s 1002 (x0 + 37) 2049 (jf s 22 v2 1)).bind fun v3 =>
    if v3 = 0 then
      u_X35_low_42 s x0 x1
    else
      u_X35_low_43 s x0 x1 1
noncomputable def m_X35_low : jS → Int → Int → Option (jS × Bool × Int) := Classical.choose (⟨dm_X35_low, rfl⟩ : ∃ f, f = dm_X35_low)
theorem em_X35_low : m_X35_low = dm_X35_low := Classical.choose_spec (⟨dm_X35_low, rfl⟩ : ∃ f, f = dm_X35_low)
def b_X36_settle_4 (s : jS) (x0 x1 x2 : Int) : Option ((jS × List Int) ⊕ (jS × Int)) :=
  if 0 < x2 then
    (m_X36_shrink s x0).bind fun q1 =>
    (m_X36_undo q1.1 x0).bind fun q2 =>
    jlet (W32 (x1 + q2.2)) fun v3 =>
    some (.inl (q2.1, [x0, v3, q2.2]))
  else
    jinr (some (s, x1))
def du_X36_settle_4 (s : jS) (x0 x1 x2 : Int) : Option (jS × Int) := jlpW (jc3 b_X36_settle_4) [x0, x1, x2] s
noncomputable def u_X36_settle_4 : jS → Int → Int → Int → Option (jS × Int) := Classical.choose (⟨du_X36_settle_4, rfl⟩ : ∃ f, f = du_X36_settle_4)
theorem eu_X36_settle_4 : u_X36_settle_4 = du_X36_settle_4 := Classical.choose_spec (⟨du_X36_settle_4, rfl⟩ : ∃ f, f = du_X36_settle_4)
def dm_X36_settle (s : jS) (x0 : Int) : Option (jS × Int) :=
  u_X36_settle_4 s x0 0 1
noncomputable def m_X36_settle : jS → Int → Option (jS × Int) := Classical.choose (⟨dm_X36_settle, rfl⟩ : ∃ f, f = dm_X36_settle)
theorem em_X36_settle : m_X36_settle = dm_X36_settle := Classical.choose_spec (⟨dm_X36_settle, rfl⟩ : ∃ f, f = dm_X36_settle)
def du_X1_load_293 (s : jS) (x0 : Int) : Option (jS × Int) :=
  (m_X29_marking s (x0 + 4029) 1).bind fun q1 =>
  (m_X29_set q1.1 (x0 + 4029) 2 131056).bind fun q2 =>
  (m_X22_told q2.1 (x0 + 3992) 0).bind fun q3 =>
  (m_X29_set q3.1 (x0 + 4029) 32 q3.2).bind fun q4 =>
  some (q4.1, 0)
noncomputable def u_X1_load_293 : jS → Int → Option (jS × Int) := Classical.choose (⟨du_X1_load_293, rfl⟩ : ∃ f, f = du_X1_load_293)
theorem eu_X1_load_293 : u_X1_load_293 = du_X1_load_293 := Classical.choose_spec (⟨du_X1_load_293, rfl⟩ : ∃ f, f = du_X1_load_293)
def du_X1_load_287 (s : jS) (x0 x4 x5 : Int) : Option ((jS × List Int) ⊕ (jS × Int)) :=
  some (.inl (s, [x0, x4, W32 (x5 + 2)]))
noncomputable def u_X1_load_287 : jS → Int → Int → Int → Option ((jS × List Int) ⊕ (jS × Int)) := Classical.choose (⟨du_X1_load_287, rfl⟩ : ∃ f, f = du_X1_load_287)
theorem eu_X1_load_287 : u_X1_load_287 = du_X1_load_287 := Classical.choose_spec (⟨du_X1_load_287, rfl⟩ : ∃ f, f = du_X1_load_287)
def b_X1_load_244 (s : jS) (x0 x4 x5 : Int) : Option ((jS × List Int) ⊕ (jS × Int)) :=
  (m_X22_about s (x0 + 3992) 0 2).bind fun v1 =>
  if x5 < v1 then
    (m_X22_marked s (x0 + 3992) (W32 (x4 + x5))).bind fun v2 =>
    if 0 < v2 then
      (m_X29_mark s (x0 + 4029) (W32 (x4 + x5)) 1).bind fun q3 =>
      u_X1_load_287 q3.1 x0 x4 x5
    else
      u_X1_load_287 s x0 x4 x5
  else
    jinr (u_X1_load_293 s x0)
def du_X1_load_244 (s : jS) (x0 x4 x5 : Int) : Option (jS × Int) := jlpW (jc3 b_X1_load_244) [x0, x4, x5] s
noncomputable def u_X1_load_244 : jS → Int → Int → Int → Option (jS × Int) := Classical.choose (⟨du_X1_load_244, rfl⟩ : ∃ f, f = du_X1_load_244)
theorem eu_X1_load_244 : u_X1_load_244 = du_X1_load_244 := Classical.choose_spec (⟨du_X1_load_244, rfl⟩ : ∃ f, f = du_X1_load_244)
def du_X1_load_230 (s : jS) (x0 : Int) : Option (jS × Int) :=
  (m_X22_about s (x0 + 3992) 0 1).bind fun v1 =>
  u_X1_load_244 s x0 v1 0
noncomputable def u_X1_load_230 : jS → Int → Option (jS × Int) := Classical.choose (⟨du_X1_load_230, rfl⟩ : ∃ f, f = du_X1_load_230)
theorem eu_X1_load_230 : u_X1_load_230 = du_X1_load_230 := Classical.choose_spec (⟨du_X1_load_230, rfl⟩ : ∃ f, f = du_X1_load_230)
def du_X1_load_224 (s : jS) (x0 x4 : Int) : Option ((jS × List Int) ⊕ (jS × Int)) :=
  some (.inl (s, [x0, W32 (x4 + 1)]))
noncomputable def u_X1_load_224 : jS → Int → Int → Option ((jS × List Int) ⊕ (jS × Int)) := Classical.choose (⟨du_X1_load_224, rfl⟩ : ∃ f, f = du_X1_load_224)
theorem eu_X1_load_224 : u_X1_load_224 = du_X1_load_224 := Classical.choose_spec (⟨du_X1_load_224, rfl⟩ : ∃ f, f = du_X1_load_224)
def du_X1_load_203 (s : jS) (x0 x4 x5 : Int) : Option ((jS × List Int) ⊕ (jS × Int)) :=
  if x4 = 2 then
    (m_X29_set s (x0 + 4029) 3 (W32 (x5 + 2048))).bind fun q1 =>
    u_X1_load_224 q1.1 x0 x4
  else
    u_X1_load_224 s x0 x4
noncomputable def u_X1_load_203 : jS → Int → Int → Int → Option ((jS × List Int) ⊕ (jS × Int)) := Classical.choose (⟨du_X1_load_203, rfl⟩ : ∃ f, f = du_X1_load_203)
theorem eu_X1_load_203 : u_X1_load_203 = du_X1_load_203 := Classical.choose_spec (⟨du_X1_load_203, rfl⟩ : ∃ f, f = du_X1_load_203)
def b_X1_load_152 (s : jS) (x0 x4 x5 x7 : Int) : Option ((jS × List Int) ⊕ ((jS × List Int) ⊕ (jS × Int))) :=
  (m_X22_about s (x0 + 3992) x4 2).bind fun v1 =>
  if x7 < v1 then
    (m_X22_byteIn s (x0 + 3992) (W32 (x5 + x7))).bind fun v2 =>
    (m_X29_poke s (x0 + 4029) (W32 (x5 + x7)) 1 (L_shl v2 56)).bind fun q3 =>
    some (.inl (q3.1, [x0, x4, x5, W32 (x7 + 1)]))
  else
    jinr (u_X1_load_203 s x0 x4 x5)
def du_X1_load_152 (s : jS) (x0 x4 x5 x7 : Int) : Option ((jS × List Int) ⊕ (jS × Int)) := jlpW (jc4 b_X1_load_152) [x0, x4, x5, x7] s
noncomputable def u_X1_load_152 : jS → Int → Int → Int → Int → Option ((jS × List Int) ⊕ (jS × Int)) := Classical.choose (⟨du_X1_load_152, rfl⟩ : ∃ f, f = du_X1_load_152)
theorem eu_X1_load_152 : u_X1_load_152 = du_X1_load_152 := Classical.choose_spec (⟨du_X1_load_152, rfl⟩ : ∃ f, f = du_X1_load_152)
def du_X1_load_145 (s : jS) (x0 x4 x5 y0 y1 y2 y3 y4 : Int) : Option ((jS × List Int) ⊕ (jS × Int)) :=
  (m_X29_segment s y4 y3 y2 y1 y0).bind fun q1 =>
  u_X1_load_152 q1.1 x0 x4 x5 0
noncomputable def u_X1_load_145 : jS → Int → Int → Int → Int → Int → Int → Int → Int → Option ((jS × List Int) ⊕ (jS × Int)) := Classical.choose (⟨du_X1_load_145, rfl⟩ : ∃ f, f = du_X1_load_145)
theorem eu_X1_load_145 : u_X1_load_145 = du_X1_load_145 := Classical.choose_spec (⟨du_X1_load_145, rfl⟩ : ∃ f, f = du_X1_load_145)
def b_X1_load_58 (s : jS) (x0 x4 : Int) : Option ((jS × List Int) ⊕ (jS × Int)) :=
  if x4 < 3 then
    (m_X22_about s (x0 + 3992) x4 0).bind fun v1 =>
    if v1 = 0 then
      u_X1_load_224 s x0 x4
    else
      (m_X22_about s (x0 + 3992) x4 1).bind fun v2 =>
      (m_X22_about s (x0 + 3992) x4 2).bind fun v3 =>
      (m_X22_about s (x0 + 3992) x4 3).bind fun v4 =>
      jlet (W32 (v3 + v4)) fun v5 =>
      if x4 = 0 then
        u_X1_load_145 s x0 x4 v2 5 v5 v2 x4 (x0 + 4029)
      else
        if x4 = 1 then
          u_X1_load_145 s x0 x4 v2 1 v5 v2 x4 (x0 + 4029)
        else
          u_X1_load_145 s x0 x4 v2 3 v5 v2 x4 (x0 + 4029)
  else
    jinr (u_X1_load_230 s x0)
def du_X1_load_58 (s : jS) (x0 x4 : Int) : Option (jS × Int) := jlpW (jc2 b_X1_load_58) [x0, x4] s
noncomputable def u_X1_load_58 : jS → Int → Int → Option (jS × Int) := Classical.choose (⟨du_X1_load_58, rfl⟩ : ∃ f, f = du_X1_load_58)
theorem eu_X1_load_58 : u_X1_load_58 = du_X1_load_58 := Classical.choose_spec (⟨du_X1_load_58, rfl⟩ : ∃ f, f = du_X1_load_58)
def dm_X1_load (s : jS) (x0 : Int) : Option (jS × Int) :=
  (m_X22_read s (x0 + 3992)).bind fun q1 =>
  (m_X22_place q1.1 (x0 + 3992)).bind fun v2 =>
  jls (jp q1.1 1 x0 11 v2) fun s3 =>
  if q1.2 = 0 then
    (m_X22_told s3 (x0 + 3992) 0).bind fun q4 =>
    (jdv 2 (I_rem q4.2 2)).bind fun v5 =>
    if v5 = 0 then
      (m_X1_renew q4.1 x0).bind fun q6 =>
      u_X1_load_58 q6.1 x0 0
    else
      jls (jp q4.1 1 x0 11 24) fun s7 =>
      some (s7, 31)
  else
    some (s3, q1.2)
noncomputable def m_X1_load : jS → Int → Option (jS × Int) := Classical.choose (⟨dm_X1_load, rfl⟩ : ∃ f, f = dm_X1_load)
theorem em_X1_load : m_X1_load = dm_X1_load := Classical.choose_spec (⟨dm_X1_load, rfl⟩ : ∃ f, f = dm_X1_load)
def dm_X1_run (s : jS) (x0 x1 : Int) : Option (jS × Int) :=
  (m_X29_run s (x0 + 4029) x1).bind fun q1 =>
  some (q1.1, q1.2)
noncomputable def m_X1_run : jS → Int → Int → Option (jS × Int) := Classical.choose (⟨dm_X1_run, rfl⟩ : ∃ f, f = dm_X1_run)
theorem em_X1_run : m_X1_run = dm_X1_run := Classical.choose_spec (⟨dm_X1_run, rfl⟩ : ∃ f, f = dm_X1_run)
def du_X2_shorter_118 (s : jS) (x0 x1 x2 x4 x5 x6 : Int) : Option (jS × Int) :=
  if x2 = 18 then
    (jct s 27 x4 (m_X7_part s x4 x1 3)).bind fun v1 =>
    if v1 = 0 then
      if x5 = 0 then
        some (s, (-1))
      else
        if x6 = 0 then
          some (s, (-1))
        else
          (jlt s 1008 (x0 + 23) 75 27).bind fun v2 =>
          (m_X2_made s x0 v2 x5 0 x6 0).bind fun v3 =>
          (m_X2_least s x0 27 v3).bind fun q4 =>
          some (q4.1, q4.2)
    else
      some (s, (-1))
  else
    some (s, (-1))
noncomputable def u_X2_shorter_118 : jS → Int → Int → Int → Int → Int → Int → Option (jS × Int) := Classical.choose (⟨du_X2_shorter_118, rfl⟩ : ∃ f, f = du_X2_shorter_118)
theorem eu_X2_shorter_118 : u_X2_shorter_118 = du_X2_shorter_118 := Classical.choose_spec (⟨du_X2_shorter_118, rfl⟩ : ∃ f, f = du_X2_shorter_118)
def du_X2_shorter_92 (s : jS) (x0 x1 x2 x4 x5 x6 x7 : Int) : Option (jS × Int) :=
  if x5 = x7 then
    (m_X2_made s x0 x4 x5 x7 x6 0).bind fun v1 =>
    (m_X2_least s x0 x2 v1).bind fun q2 =>
    some (q2.1, q2.2)
  else
    u_X2_shorter_118 s x0 x1 x2 x4 x5 x6
noncomputable def u_X2_shorter_92 : jS → Int → Int → Int → Int → Int → Int → Int → Option (jS × Int) := Classical.choose (⟨du_X2_shorter_92, rfl⟩ : ∃ f, f = du_X2_shorter_92)
theorem eu_X2_shorter_92 : u_X2_shorter_92 = du_X2_shorter_92 := Classical.choose_spec (⟨du_X2_shorter_92, rfl⟩ : ∃ f, f = du_X2_shorter_92)
def dm_X2_shorter (s : jS) (x0 x1 : Int) : Option (jS × Int) :=
  (m_X2_kind s x0 x1).bind fun v1 =>
  if v1 = (-1) then
    some (s, (-1))
  else
    if v1 < 48 then
      (m_X2_least s x0 v1 x1).bind fun q2 =>
      if q2.2 = (-1) then
        (jlt q2.1 1008 (x0 + 23) 75 v1).bind fun v3 =>
        (jct q2.1 27 v3 (m_X7_part q2.1 v3 x1 0)).bind fun v4 =>
        (jct q2.1 27 v3 (m_X7_part q2.1 v3 x1 1)).bind fun v5 =>
        (jct q2.1 27 v3 (m_X7_part q2.1 v3 x1 2)).bind fun v6 =>
        if v1 = 27 then
          u_X2_shorter_92 q2.1 x0 x1 v1 v3 v4 v5 v6
        else
          if v1 = 32 then
            u_X2_shorter_92 q2.1 x0 x1 v1 v3 v4 v5 v6
          else
            if v1 = 35 then
              u_X2_shorter_92 q2.1 x0 x1 v1 v3 v4 v5 v6
            else
              if v1 = 36 then
                u_X2_shorter_92 q2.1 x0 x1 v1 v3 v4 v5 v6
              else
                u_X2_shorter_118 q2.1 x0 x1 v1 v3 v4 v5
      else
        some (q2.1, q2.2)
    else
      some (s, (-1))
noncomputable def m_X2_shorter : jS → Int → Int → Option (jS × Int) := Classical.choose (⟨dm_X2_shorter, rfl⟩ : ∃ f, f = dm_X2_shorter)
theorem em_X2_shorter : m_X2_shorter = dm_X2_shorter := Classical.choose_spec (⟨dm_X2_shorter, rfl⟩ : ∃ f, f = dm_X2_shorter)
def du_X29_step_12 (s : jS) (x0 : Int) : Option (jS × Int) :=
  some (s, jf s 33 x0 11)
noncomputable def u_X29_step_12 : jS → Int → Option (jS × Int) := Classical.choose (⟨du_X29_step_12, rfl⟩ : ∃ f, f = du_X29_step_12)
theorem eu_X29_step_12 : u_X29_step_12 = du_X29_step_12 := Classical.choose_spec (⟨du_X29_step_12, rfl⟩ : ∃ f, f = du_X29_step_12)
def dm_X29_step (s : jS) (x0 : Int) : Option (jS × Int) :=
  (m_X29_isEnd s x0).bind fun v1 =>
  if v1 = 0 then
    (m_X29_goes s x0).bind fun q2 =>
    u_X29_step_12 q2.1 x0
  else
    u_X29_step_12 s x0
noncomputable def m_X29_step : jS → Int → Option (jS × Int) := Classical.choose (⟨dm_X29_step, rfl⟩ : ∃ f, f = dm_X29_step)
theorem em_X29_step : m_X29_step = dm_X29_step := Classical.choose_spec (⟨dm_X29_step, rfl⟩ : ∃ f, f = dm_X29_step)
def du_X33_equal_30 (s : jS) (x0 y0 y1 : Int) : Option (jS × Bool × Int) :=
  (m_X33_need s y1 y0 12).bind fun q1 =>
  jth q1.2.1 (some (q1.1, true, q1.2.2)) <|
  (m_X33_nameOf q1.1 x0 0).bind fun v2 =>
  (m_X33_symbolFor q1.1 x0 v2).bind fun q3 =>
  jth q3.2.1 (some (q3.1, true, q3.2.2)) <|
  (m_X33_plain q3.1 x0 1).bind fun q4 =>
  jth q4.2.1 (some (q4.1, true, q4.2.2)) <|
  (m_X33_define q4.1 x0 q3.2.2 4 q4.2.2 0).bind fun q5 =>
  jth q5.2.1 (some (q5.1, true, q5.2.2)) <|
  some (q5.1, false, 0)
noncomputable def u_X33_equal_30 : jS → Int → Int → Int → Option (jS × Bool × Int) := Classical.choose (⟨du_X33_equal_30, rfl⟩ : ∃ f, f = du_X33_equal_30)
theorem eu_X33_equal_30 : u_X33_equal_30 = du_X33_equal_30 := Classical.choose_spec (⟨du_X33_equal_30, rfl⟩ : ∃ f, f = du_X33_equal_30)
def du_X33_equal_29 (s : jS) (x0 y0 : Int) : Option (jS × Bool × Int) :=
  u_X33_equal_30 s x0 0 y0
noncomputable def u_X33_equal_29 : jS → Int → Int → Option (jS × Bool × Int) := Classical.choose (⟨du_X33_equal_29, rfl⟩ : ∃ f, f = du_X33_equal_29)
theorem eu_X33_equal_29 : u_X33_equal_29 = du_X33_equal_29 := Classical.choose_spec (⟨du_X33_equal_29, rfl⟩ : ∃ f, f = du_X33_equal_29)
def dm_X33_equal (s : jS) (x0 : Int) : Option (jS × Bool × Int) :=
  if (jf s 37 x0 35) = 2 then
    (m_X33_isName s x0 0).bind fun v1 =>
    if v1 = 0 then
      u_X33_equal_29 s x0 x0
    else
      (m_X33_isExpression s x0 1).bind fun v2 =>
      if v2 = 0 then
        u_X33_equal_29 s x0 x0
      else
        u_X33_equal_30 s x0 1 x0
  else
    u_X33_equal_29 s x0 x0
noncomputable def m_X33_equal : jS → Int → Option (jS × Bool × Int) := Classical.choose (⟨dm_X33_equal, rfl⟩ : ∃ f, f = dm_X33_equal)
theorem em_X33_equal : m_X33_equal = dm_X33_equal := Classical.choose_spec (⟨dm_X33_equal, rfl⟩ : ∃ f, f = dm_X33_equal)
def du_X33_word_19 (s : jS) (x0 x1 y0 : Int) : Option (jS × Bool × Int) :=
  if y0 = (-1) then
    (m_X33_putNumber s x0 x1 4).bind fun q1 =>
    jth q1.2.1 (some (q1.1, true, q1.2.2)) <|
    some (q1.1, false, 0)
  else
    (m_X33_putNumber s x0 y0 2).bind fun q2 =>
    jth q2.2.1 (some (q2.1, true, q2.2.2)) <|
    some (q2.1, false, 0)
noncomputable def u_X33_word_19 : jS → Int → Int → Int → Option (jS × Bool × Int) := Classical.choose (⟨du_X33_word_19, rfl⟩ : ∃ f, f = du_X33_word_19)
theorem eu_X33_word_19 : u_X33_word_19 = du_X33_word_19 := Classical.choose_spec (⟨du_X33_word_19, rfl⟩ : ∃ f, f = du_X33_word_19)
def dm_X33_word (s : jS) (x0 x1 : Int) : Option (jS × Bool × Int) :=
  if (jf s 37 x0 39) = 0 then
    u_X33_word_19 s x0 x1 (-1)
  else
    (m_X2_shorter s (x0 + (-4147)) x1).bind fun q1 =>
    u_X33_word_19 q1.1 x0 x1 q1.2
noncomputable def m_X33_word : jS → Int → Int → Option (jS × Bool × Int) := Classical.choose (⟨dm_X33_word, rfl⟩ : ∃ f, f = dm_X33_word)
theorem em_X33_word : m_X33_word = dm_X33_word := Classical.choose_spec (⟨dm_X33_word, rfl⟩ : ∃ f, f = dm_X33_word)
def du_X35_putLabel_73 (s : jS) (x0 x1 x2 x3 x4 : Int) : Option (jS × Int) :=
  if x4 = (-1) then
    (m_X35_symbol s x0 x2 x3).bind fun v1 =>
    (m_X35_putAt s x0 x1 x2 v1).bind fun q2 =>
    some (q2.1, 0)
  else
    (jlt s 1000 (x0 + 17) 600 x4).bind fun v3 =>
    if v3 = 0 then
      (jlt s 1000 (x0 + 18) 600 x4).bind fun v4 =>
      (jlt s 1000 (x0 + 18) 600 x4).bind fun v5 =>
      (jlt s 1000 (x0 + 19) 600 x4).bind fun v6 =>
      (m_X35_symbol s x0 v5 v6).bind fun v7 =>
      (m_X35_putAt s x0 x1 v4 v7).bind fun q8 =>
      some (q8.1, 0)
    else
      some (s, 0)
noncomputable def u_X35_putLabel_73 : jS → Int → Int → Int → Int → Int → Option (jS × Int) := Classical.choose (⟨du_X35_putLabel_73, rfl⟩ : ∃ f, f = du_X35_putLabel_73)
theorem eu_X35_putLabel_73 : u_X35_putLabel_73 = du_X35_putLabel_73 := Classical.choose_spec (⟨du_X35_putLabel_73, rfl⟩ : ∃ f, f = du_X35_putLabel_73)
def dm_X35_putLabel (s : jS) (x0 x1 : Int) : Option (jS × Int) :=
  (jlt s 1000 (x0 + 31) 64 x1).bind fun v1 =>
  (jlt s 1000 (x0 + 32) 64 x1).bind fun v2 =>
  (jlt s 1000 (x0 + 14) 600 (W32 ((W32 (100 * v1)) + v2))).bind fun v3 =>
  if v3 = (-1) then
    u_X35_putLabel_73 s x0 x1 v1 v2 v3
  else
    (jlt s 1000 (x0 + 17) 600 v3).bind fun v4 =>
    if v4 = 1 then
      (jlt s 1000 (x0 + 22) 600 v3).bind fun v5 =>
      (jlt s 1000 (x0 + 29) 32 v5).bind fun v6 =>
      (m_X36_put s (x0 + 1) x1 v6 0).bind fun q7 =>
      some (q7.1, 0)
    else
      u_X35_putLabel_73 s x0 x1 v1 v2 v3
noncomputable def m_X35_putLabel : jS → Int → Int → Option (jS × Int) := Classical.choose (⟨dm_X35_putLabel, rfl⟩ : ∃ f, f = dm_X35_putLabel)
theorem em_X35_putLabel : m_X35_putLabel = dm_X35_putLabel := Classical.choose_spec (⟨dm_X35_putLabel, rfl⟩ : ∃ f, f = dm_X35_putLabel)
def dm_X35_globalPlace (s : jS) (x0 x1 : Int) : Option (jS × Int) :=
  (jlt s 1000 (x0 + 17) 600 x1).bind fun v1 =>
  if v1 = 0 then
    (jlt s 1000 (x0 + 18) 600 x1).bind fun v2 =>
    (jlt s 1000 (x0 + 18) 600 x1).bind fun v3 =>
    (jlt s 1000 (x0 + 19) 600 x1).bind fun v4 =>
    (m_X35_symbol s x0 v3 v4).bind fun v5 =>
    (m_X35_placeOf_2 s x0 v2 v5).bind fun q6 =>
    some (q6.1, q6.2)
  else
  if v1 = 1 then
    (jlt s 1000 (x0 + 22) 600 x1).bind fun v7 =>
    (m_X36_span s (x0 + 1) v7 1).bind fun q8 =>
    some (q8.1, q8.2)
  else
  if v1 = 2 then
    (jlt s 1000 (x0 + 19) 600 x1).bind fun v9 =>
    (m_X35_given s x0 v9).bind fun q10 =>
    some (q10.1, q10.2)
  else
  some (s, 0)
noncomputable def m_X35_globalPlace : jS → Int → Int → Option (jS × Int) := Classical.choose (⟨dm_X35_globalPlace, rfl⟩ : ∃ f, f = dm_X35_globalPlace)
theorem em_X35_globalPlace : m_X35_globalPlace = dm_X35_globalPlace := Classical.choose_spec (⟨dm_X35_globalPlace, rfl⟩ : ∃ f, f = dm_X35_globalPlace)
def du_X35_call_225 (s : jS) (x0 x1 x3 x5 x6 y0 y1 : Int) : Option (jS × Bool × Int) :=
  (m_X35_need s y1 y0 8).bind fun q1 =>
  jth q1.2.1 (some (q1.1, true, q1.2.2)) <|
  (jix 3 0 ((x0 + 33) + 1 + 1 * 0)).bind fun v2 =>
  (m_X2_word q1.1 (x0 + (-4274)) x6 x5 0 0 (L2i x1)).bind fun q3 =>
  jth q3.2.1 (some (q3.1, true, q3.2.2)) <|
  (m_X35_put q3.1 x0 v2 (jf q1.1 39 x0 38) x3 q3.2.2).bind fun q4 =>
  some (q4.1, false, 0)
noncomputable def u_X35_call_225 : jS → Int → Int → Int → Int → Int → Int → Int → Option (jS × Bool × Int) := Classical.choose (⟨du_X35_call_225, rfl⟩ : ∃ f, f = du_X35_call_225)
theorem eu_X35_call_225 : u_X35_call_225 = du_X35_call_225 := Classical.choose_spec (⟨du_X35_call_225, rfl⟩ : ∃ f, f = du_X35_call_225)
def du_X35_call_224 (s : jS) (x0 x1 x3 x5 x6 y0 : Int) : Option (jS × Bool × Int) :=
  u_X35_call_225 s x0 x1 x3 x5 x6 0 y0
noncomputable def u_X35_call_224 : jS → Int → Int → Int → Int → Int → Int → Option (jS × Bool × Int) := Classical.choose (⟨du_X35_call_224, rfl⟩ : ∃ f, f = du_X35_call_224)
theorem eu_X35_call_224 : u_X35_call_224 = du_X35_call_224 := Classical.choose_spec (⟨du_X35_call_224, rfl⟩ : ∃ f, f = du_X35_call_224)
def du_X35_call_197 (s : jS) (x0 x1 x3 x5 y0 : Int) : Option (jS × Bool × Int) :=
  (m_X35_isInt s x1).bind fun v1 =>
  if v1 = 0 then
    u_X35_call_224 s x0 x1 x3 x5 y0 x0
  else
    (m_X2_may s (x0 + (-4274)) y0 x1).bind fun v2 =>
    if v2 = 0 then
      u_X35_call_224 s x0 x1 x3 x5 y0 x0
    else
      u_X35_call_225 s x0 x1 x3 x5 y0 1 x0
noncomputable def u_X35_call_197 : jS → Int → Int → Int → Int → Int → Option (jS × Bool × Int) := Classical.choose (⟨du_X35_call_197, rfl⟩ : ∃ f, f = du_X35_call_197)
theorem eu_X35_call_197 : u_X35_call_197 = du_X35_call_197 := Classical.choose_spec (⟨du_X35_call_197, rfl⟩ : ∃ f, f = du_X35_call_197)
def du_X35_call_98 (s : jS) (x0 x1 x4 y0 y1 : Int) : Option (jS × Bool × Int) :=
  (m_X35_need s y1 y0 7).bind fun q1 =>
  jth q1.2.1 (some (q1.1, true, q1.2.2)) <|
  (jix 3 0 ((x0 + 33) + 1 + 1 * 0)).bind fun v2 =>
  (m_X35_lowerOf q1.1 x1).bind fun v3 =>
  (m_X2_fit q1.1 (x0 + (-4274)) x4 v3).bind fun q4 =>
  jth q4.2.1 (some (q4.1, true, q4.2.2)) <|
  (m_X35_put q4.1 x0 v2 (jf q1.1 39 x0 38) 4 q4.2.2).bind fun q5 =>
  some (q5.1, false, 0)
noncomputable def u_X35_call_98 : jS → Int → Int → Int → Int → Int → Option (jS × Bool × Int) := Classical.choose (⟨du_X35_call_98, rfl⟩ : ∃ f, f = du_X35_call_98)
theorem eu_X35_call_98 : u_X35_call_98 = du_X35_call_98 := Classical.choose_spec (⟨du_X35_call_98, rfl⟩ : ∃ f, f = du_X35_call_98)
def du_X35_call_27 (s : jS) (x0 x1 y0 : Int) : Option (jS × Bool × Int) :=
  if y0 = 8 then
    (m_X35_wanted s x0 19 4).bind fun q1 =>
    jth q1.2.1 (some (q1.1, true, q1.2.2)) <|
    (m_X35_isInt q1.1 x1).bind fun v2 =>
    (m_X35_need q1.1 x0 v2 8).bind fun q3 =>
    jth q3.2.1 (some (q3.1, true, q3.2.2)) <|
    (m_X35_upperOf q3.1 x1).bind fun v4 =>
    (m_X35_fit q3.1 x0 19 4 v4).bind fun q5 =>
    jth q5.2.1 (some (q5.1, true, q5.2.2)) <|
    jls (jp q5.1 39 x0 38 (W32 ((jf q5.1 39 x0 38) + 4))) fun s6 =>
    (m_X35_wordAt s6 x0 4).bind fun v7 =>
    (m_X2_kind s6 (x0 + (-4274)) v7).bind fun v8 =>
    if v8 = 3 then
      u_X35_call_98 s6 x0 x1 v7 1 x0
    else
      u_X35_call_98 s6 x0 x1 v7 0 x0
  else
    (jix 6 (jf s 39 x0 35) ((x0 + (-4000)) + 4041 + 1858 * (jf s 39 x0 35))).bind fun v9 =>
    (jix 300 (jf s 39 x0 36) (((v9 + 614) + 4) + 309 + 1 * (jf s 39 x0 36))).bind fun v10 =>
    (m_X35_wordIn s (v9 + 614) (W32 ((jf s 22 v10 1) + 4))).bind fun v11 =>
    jlet (I_and (I_shr v11 7) 31) fun v12 =>
    if y0 = 4 then
      u_X35_call_197 s x0 x1 y0 v12 2
    else
      if v12 = 1 then
        u_X35_call_197 s x0 x1 y0 v12 53
      else
        u_X35_call_197 s x0 x1 y0 v12 64
noncomputable def u_X35_call_27 : jS → Int → Int → Int → Option (jS × Bool × Int) := Classical.choose (⟨du_X35_call_27, rfl⟩ : ∃ f, f = du_X35_call_27)
theorem eu_X35_call_27 : u_X35_call_27 = du_X35_call_27 := Classical.choose_spec (⟨du_X35_call_27, rfl⟩ : ∃ f, f = du_X35_call_27)
def dm_X35_call (s : jS) (x0 : Int) : Option (jS × Bool × Int) :=
  jlet (W64 ((jf s 39 x0 40) - (jf s 39 x0 41))) fun v1 =>
  if (jf s 39 x0 37) = (-1) then
    u_X35_call_27 s x0 v1 8
  else
    (m_X35_sizeOfPiece s x0).bind fun q2 =>
    u_X35_call_27 q2.1 x0 v1 q2.2
noncomputable def m_X35_call : jS → Int → Option (jS × Bool × Int) := Classical.choose (⟨dm_X35_call, rfl⟩ : ∃ f, f = dm_X35_call)
theorem em_X35_call : m_X35_call = dm_X35_call := Classical.choose_spec (⟨dm_X35_call, rfl⟩ : ∃ f, f = dm_X35_call)
def du_X35_draw_239 (s : jS) (x0 : Int) : Option (jS × Bool × Int) :=
  (m_X22_write s (x0 + (-283))).bind fun q1 =>
  if q1.2 < 0 then
    (m_X35_wrong q1.1 x0 9 (-1) q1.2).bind fun q2 =>
    jck0 q2.2 (some (q2.1, true, q2.2))
  else
    some (q1.1, false, 0)
noncomputable def u_X35_draw_239 : jS → Int → Option (jS × Bool × Int) := Classical.choose (⟨du_X35_draw_239, rfl⟩ : ∃ f, f = du_X35_draw_239)
theorem eu_X35_draw_239 : u_X35_draw_239 = du_X35_draw_239 := Classical.choose_spec (⟨du_X35_draw_239, rfl⟩ : ∃ f, f = du_X35_draw_239)
def du_X35_draw_233 (s : jS) (x0 x4 x5 : Int) : Option ((jS × List Int) ⊕ (jS × Bool × Int)) :=
  some (.inl (s, [x0, x4, W32 (x5 + 1)]))
noncomputable def u_X35_draw_233 : jS → Int → Int → Int → Option ((jS × List Int) ⊕ (jS × Bool × Int)) := Classical.choose (⟨du_X35_draw_233, rfl⟩ : ∃ f, f = du_X35_draw_233)
theorem eu_X35_draw_233 : u_X35_draw_233 = du_X35_draw_233 := Classical.choose_spec (⟨du_X35_draw_233, rfl⟩ : ∃ f, f = du_X35_draw_233)
def du_X35_draw_227 (s : jS) (x0 x4 x5 x6 : Int) : Option ((jS × List Int) ⊕ ((jS × List Int) ⊕ (jS × Bool × Int))) :=
  some (.inl (s, [x0, x4, x5, W32 (x6 + 1)]))
noncomputable def u_X35_draw_227 : jS → Int → Int → Int → Int → Option ((jS × List Int) ⊕ ((jS × List Int) ⊕ (jS × Bool × Int))) := Classical.choose (⟨du_X35_draw_227, rfl⟩ : ∃ f, f = du_X35_draw_227)
theorem eu_X35_draw_227 : u_X35_draw_227 = du_X35_draw_227 := Classical.choose_spec (⟨du_X35_draw_227, rfl⟩ : ∃ f, f = du_X35_draw_227)
def b_X35_draw_145 (s : jS) (x0 x4 x5 x6 : Int) : Option ((jS × List Int) ⊕ ((jS × List Int) ⊕ (jS × Bool × Int))) :=
  (jlt s 1000 (x0 + 13) 6 x5).bind fun v1 =>
  (jix 6 v1 ((x0 + (-4000)) + 4041 + 1858 * v1)).bind fun v2 =>
  (m_X13_count s v2 0).bind fun v3 =>
  if x6 < v3 then
    (jlt s 1000 (x0 + 13) 6 x5).bind fun v4 =>
    (jlt s 1000 (x0 + 13) 6 x5).bind fun v5 =>
    (jix 6 v5 ((x0 + (-4000)) + 4041 + 1858 * v5)).bind fun v6 =>
    (m_X13_startAt s v6 x6).bind fun v7 =>
    (m_X35_placeOf s x0 v4 0 v7).bind fun q8 =>
    (m_X36_output q8.1 (x0 + 1) 0 0).bind fun q9 =>
    jlet (L2i (W64 (q8.2 - q9.2))) fun v10 =>
    if v10 < x4 then
      (m_X22_mark q9.1 (x0 + (-283)) v10 1).bind fun q11 =>
      u_X35_draw_227 q11.1 x0 x4 x5 x6
    else
      u_X35_draw_227 q9.1 x0 x4 x5 x6
  else
    jinr (u_X35_draw_233 s x0 x4 x5)
def du_X35_draw_145 (s : jS) (x0 x4 x5 x6 : Int) : Option ((jS × List Int) ⊕ (jS × Bool × Int)) := jlpW (jc4 b_X35_draw_145) [x0, x4, x5, x6] s
noncomputable def u_X35_draw_145 : jS → Int → Int → Int → Int → Option ((jS × List Int) ⊕ (jS × Bool × Int)) := Classical.choose (⟨du_X35_draw_145, rfl⟩ : ∃ f, f = du_X35_draw_145)
theorem eu_X35_draw_145 : u_X35_draw_145 = du_X35_draw_145 := Classical.choose_spec (⟨du_X35_draw_145, rfl⟩ : ∃ f, f = du_X35_draw_145)
def b_X35_draw_133 (s : jS) (x0 x4 x5 : Int) : Option ((jS × List Int) ⊕ (jS × Bool × Int)) :=
  if x5 < (jf s 39 x0 5) then
    u_X35_draw_145 s x0 x4 x5 0
  else
    jinr (u_X35_draw_239 s x0)
def du_X35_draw_133 (s : jS) (x0 x4 x5 : Int) : Option (jS × Bool × Int) := jlpW (jc3 b_X35_draw_133) [x0, x4, x5] s
noncomputable def u_X35_draw_133 : jS → Int → Int → Int → Option (jS × Bool × Int) := Classical.choose (⟨du_X35_draw_133, rfl⟩ : ∃ f, f = du_X35_draw_133)
theorem eu_X35_draw_133 : u_X35_draw_133 = du_X35_draw_133 := Classical.choose_spec (⟨du_X35_draw_133, rfl⟩ : ∃ f, f = du_X35_draw_133)
def du_X35_draw_109 (s : jS) (x0 : Int) : Option (jS × Bool × Int) :=
  (m_X36_output s (x0 + 1) 0 1).bind fun q1 =>
  (m_X36_output q1.1 (x0 + 1) 0 0).bind fun q2 =>
  jlet (W32 (q1.2 - q2.2)) fun v3 =>
  u_X35_draw_133 q2.1 x0 v3 0
noncomputable def u_X35_draw_109 : jS → Int → Option (jS × Bool × Int) := Classical.choose (⟨du_X35_draw_109, rfl⟩ : ∃ f, f = du_X35_draw_109)
theorem eu_X35_draw_109 : u_X35_draw_109 = du_X35_draw_109 := Classical.choose_spec (⟨du_X35_draw_109, rfl⟩ : ∃ f, f = du_X35_draw_109)
def du_X35_draw_62 (s : jS) (x0 : Int) : Option (jS × Bool × Int) :=
  (m_X36_output s (x0 + 1) 3 1).bind fun q1 =>
  (m_X36_output q1.1 (x0 + 1) 2 1).bind fun q2 =>
  jlet (W32 (q1.2 - q2.2)) fun v3 =>
  (m_X36_output q2.1 (x0 + 1) 3 1).bind fun q4 =>
  (m_X36_output q4.1 (x0 + 1) 2 0).bind fun q5 =>
  if q5.2 < q4.2 then
    (m_X35_segment q5.1 x0 2 v3).bind fun q6 =>
    u_X35_draw_109 q6.1 x0
  else
    u_X35_draw_109 q5.1 x0
noncomputable def u_X35_draw_62 : jS → Int → Option (jS × Bool × Int) := Classical.choose (⟨du_X35_draw_62, rfl⟩ : ∃ f, f = du_X35_draw_62)
theorem eu_X35_draw_62 : u_X35_draw_62 = du_X35_draw_62 := Classical.choose_spec (⟨du_X35_draw_62, rfl⟩ : ∃ f, f = du_X35_draw_62)
def dm_X35_draw (s : jS) (x0 x1 : Int) : Option (jS × Bool × Int) :=
  (m_X22_clear s (x0 + (-283))).bind fun q1 =>
  (m_X22_page q1.1 (x0 + (-283)) 4).bind fun q2 =>
  (m_X35_globalPlace q2.1 x0 x1).bind fun q3 =>
  (m_X22_entry q3.1 (x0 + (-283)) (L2i q3.2)).bind fun q4 =>
  (m_X35_segment q4.1 x0 0 0).bind fun q5 =>
  (m_X36_output q5.1 (x0 + 1) 1 1).bind fun q6 =>
  (m_X36_output q6.1 (x0 + 1) 1 0).bind fun q7 =>
  if q7.2 < q6.2 then
    (m_X35_segment q7.1 x0 1 0).bind fun q8 =>
    u_X35_draw_62 q8.1 x0
  else
    u_X35_draw_62 q7.1 x0
noncomputable def m_X35_draw : jS → Int → Int → Option (jS × Bool × Int) := Classical.choose (⟨dm_X35_draw, rfl⟩ : ∃ f, f = dm_X35_draw)
theorem em_X35_draw : m_X35_draw = dm_X35_draw := Classical.choose_spec (⟨dm_X35_draw, rfl⟩ : ∃ f, f = dm_X35_draw)
def du_X35_keep_81 (s : jS) (x0 x1 : Int) : Option ((jS × List Int) ⊕ (jS × Int)) :=
  (m_X35_globalPlace s x0 x1).bind fun q1 =>
  (jst q1.1 1000 (x0 + 40) 600 x1 (L2i q1.2)).bind fun s2 =>
  some (.inl (s2, [x0, W32 (x1 + 1)]))
noncomputable def u_X35_keep_81 : jS → Int → Int → Option ((jS × List Int) ⊕ (jS × Int)) := Classical.choose (⟨du_X35_keep_81, rfl⟩ : ∃ f, f = du_X35_keep_81)
theorem eu_X35_keep_81 : u_X35_keep_81 = du_X35_keep_81 := Classical.choose_spec (⟨du_X35_keep_81, rfl⟩ : ∃ f, f = du_X35_keep_81)
def b_X35_keep_50 (s : jS) (x0 x1 x2 x3 : Int) : Option ((jS × List Int) ⊕ ((jS × List Int) ⊕ (jS × Int))) :=
  (jrd s 21 x2 1).bind fun v1 =>
  if x3 < v1 then
    (jrd s 21 x2 0).bind fun v2 =>
    (jld s 1001 v2 x3).bind fun v3 =>
    (jst s 1001 (x0 + 38) 9600 (W32 ((W32 (16 * x1)) + x3)) (W8 v3)).bind fun s4 =>
    some (.inl (s4, [x0, x1, x2, W32 (x3 + 1)]))
  else
    jinr (u_X35_keep_81 s x0 x1)
def du_X35_keep_50 (s : jS) (x0 x1 x2 x3 : Int) : Option ((jS × List Int) ⊕ (jS × Int)) := jlpW (jc4 b_X35_keep_50) [x0, x1, x2, x3] s
noncomputable def u_X35_keep_50 : jS → Int → Int → Int → Int → Option ((jS × List Int) ⊕ (jS × Int)) := Classical.choose (⟨du_X35_keep_50, rfl⟩ : ∃ f, f = du_X35_keep_50)
theorem eu_X35_keep_50 : u_X35_keep_50 = du_X35_keep_50 := Classical.choose_spec (⟨du_X35_keep_50, rfl⟩ : ∃ f, f = du_X35_keep_50)
def b_X35_keep_10 (s : jS) (x0 x1 : Int) : Option ((jS × List Int) ⊕ (jS × Int)) :=
  if x1 < (jf s 39 x0 20) then
    (jlt s 1000 (x0 + 15) 600 x1).bind fun v1 =>
    (jlt s 1000 (x0 + 16) 600 x1).bind fun v2 =>
    (m_X35_symbol s x0 v1 v2).bind fun v3 =>
    (jrd s 20 v3 0).bind fun v4 =>
    (jrd s 21 v4 1).bind fun v5 =>
    (jst s 1000 (x0 + 39) 600 x1 v5).bind fun s6 =>
    u_X35_keep_50 s6 x0 x1 v4 0
  else
    jinr (some (s, 0))
def du_X35_keep_10 (s : jS) (x0 x1 : Int) : Option (jS × Int) := jlpW (jc2 b_X35_keep_10) [x0, x1] s
noncomputable def u_X35_keep_10 : jS → Int → Int → Option (jS × Int) := Classical.choose (⟨du_X35_keep_10, rfl⟩ : ∃ f, f = du_X35_keep_10)
theorem eu_X35_keep_10 : u_X35_keep_10 = du_X35_keep_10 := Classical.choose_spec (⟨du_X35_keep_10, rfl⟩ : ∃ f, f = du_X35_keep_10)
def dm_X35_keep (s : jS) (x0 : Int) : Option (jS × Int) :=
  jls (jp s 39 x0 45 (jf s 39 x0 20)) fun s1 =>
  u_X35_keep_10 s1 x0 0
noncomputable def m_X35_keep : jS → Int → Option (jS × Int) := Classical.choose (⟨dm_X35_keep, rfl⟩ : ∃ f, f = dm_X35_keep)
theorem em_X35_keep : m_X35_keep = dm_X35_keep := Classical.choose_spec (⟨dm_X35_keep, rfl⟩ : ∃ f, f = dm_X35_keep)
def dm_X1_step (s : jS) (x0 : Int) : Option (jS × Int) :=
  (m_X29_step s (x0 + 4029)).bind fun q1 =>
  some (q1.1, q1.2)
noncomputable def m_X1_step : jS → Int → Option (jS × Int) := Classical.choose (⟨dm_X1_step, rfl⟩ : ∃ f, f = dm_X1_step)
theorem em_X1_step : m_X1_step = dm_X1_step := Classical.choose_spec (⟨dm_X1_step, rfl⟩ : ∃ f, f = dm_X1_step)
def dm_X33_sum (s : jS) (x0 x1 x2 x3 x4 : Int) : Option (jS × Bool × Int) :=
  (m_X2_word s (x0 + (-4147)) x1 x2 x3 0 x4).bind fun q1 =>
  jth q1.2.1 (some (q1.1, true, q1.2.2)) <|
  (m_X33_word q1.1 x0 q1.2.2).bind fun q2 =>
  jth q2.2.1 (some (q2.1, true, q2.2.2)) <|
  some (q2.1, false, 0)
noncomputable def m_X33_sum : jS → Int → Int → Int → Int → Int → Option (jS × Bool × Int) := Classical.choose (⟨dm_X33_sum, rfl⟩ : ∃ f, f = dm_X33_sum)
theorem em_X33_sum : m_X33_sum = dm_X33_sum := Classical.choose_spec (⟨dm_X33_sum, rfl⟩ : ∃ f, f = dm_X33_sum)
def b_X35_layOut_252 (s : jS) (x0 x1 : Int) : Option ((jS × List Int) ⊕ (jS × Bool × Int)) :=
  if x1 < (jf s 39 x0 31) then
    (m_X35_putLabel s x0 x1).bind fun q1 =>
    some (.inl (q1.1, [x0, W32 (x1 + 1)]))
  else
    jinr (some (s, false, 0))
def du_X35_layOut_252 (s : jS) (x0 x1 : Int) : Option (jS × Bool × Int) := jlpW (jc2 b_X35_layOut_252) [x0, x1] s
noncomputable def u_X35_layOut_252 : jS → Int → Int → Option (jS × Bool × Int) := Classical.choose (⟨du_X35_layOut_252, rfl⟩ : ∃ f, f = du_X35_layOut_252)
theorem eu_X35_layOut_252 : u_X35_layOut_252 = du_X35_layOut_252 := Classical.choose_spec (⟨du_X35_layOut_252, rfl⟩ : ∃ f, f = du_X35_layOut_252)
def du_X35_layOut_250 (s : jS) (x0 : Int) : Option (jS × Bool × Int) :=
  u_X35_layOut_252 s x0 0
noncomputable def u_X35_layOut_250 : jS → Int → Option (jS × Bool × Int) := Classical.choose (⟨du_X35_layOut_250, rfl⟩ : ∃ f, f = du_X35_layOut_250)
theorem eu_X35_layOut_250 : u_X35_layOut_250 = du_X35_layOut_250 := Classical.choose_spec (⟨du_X35_layOut_250, rfl⟩ : ∃ f, f = du_X35_layOut_250)
def du_X35_layOut_244 (s : jS) (x0 x1 : Int) : Option ((jS × List Int) ⊕ (jS × Bool × Int)) :=
  some (.inl (s, [x0, W32 (x1 + 1)]))
noncomputable def u_X35_layOut_244 : jS → Int → Int → Option ((jS × List Int) ⊕ (jS × Bool × Int)) := Classical.choose (⟨du_X35_layOut_244, rfl⟩ : ∃ f, f = du_X35_layOut_244)
theorem eu_X35_layOut_244 : u_X35_layOut_244 = du_X35_layOut_244 := Classical.choose_spec (⟨du_X35_layOut_244, rfl⟩ : ∃ f, f = du_X35_layOut_244)
def b_X35_layOut_168 (s : jS) (x0 x1 : Int) : Option ((jS × List Int) ⊕ (jS × Bool × Int)) :=
  if x1 < (jf s 39 x0 20) then
    (jlt s 1000 (x0 + 17) 600 x1).bind fun v1 =>
    if v1 = 1 then
      (jlt s 1000 (x0 + 21) 600 x1).bind fun v2 =>
      (m_X35_part s x0 3 v2).bind fun q3 =>
      jth q3.2.1 (jinr (some (q3.1, true, q3.2.2))) <|
      (jst q3.1 1000 (x0 + 22) 600 x1 q3.2.2).bind fun s4 =>
      (jlt s4 1000 (x0 + 22) 600 x1).bind fun v5 =>
      (jlt s4 1000 (x0 + 20) 600 x1).bind fun v6 =>
      (m_X36_plain s4 (x0 + 1) v5 v6).bind fun q7 =>
      (jlt q7.1 1000 (x0 + 22) 600 x1).bind fun v8 =>
      (jlt q7.1 1000 (x0 + 20) 600 x1).bind fun v9 =>
      (m_X35_piece q7.1 x0 q7.2 v8 (-1) 0 v9 (-1)).bind fun q10 =>
      jth q10.2.1 (jinr (some (q10.1, true, q10.2.2))) <|
      u_X35_layOut_244 q10.1 x0 x1
    else
      u_X35_layOut_244 s x0 x1
  else
    jinr (u_X35_layOut_250 s x0)
def du_X35_layOut_168 (s : jS) (x0 x1 : Int) : Option (jS × Bool × Int) := jlpW (jc2 b_X35_layOut_168) [x0, x1] s
noncomputable def u_X35_layOut_168 : jS → Int → Int → Option (jS × Bool × Int) := Classical.choose (⟨du_X35_layOut_168, rfl⟩ : ∃ f, f = du_X35_layOut_168)
theorem eu_X35_layOut_168 : u_X35_layOut_168 = du_X35_layOut_168 := Classical.choose_spec (⟨du_X35_layOut_168, rfl⟩ : ∃ f, f = du_X35_layOut_168)
def du_X35_layOut_166 (s : jS) (x0 : Int) : Option (jS × Bool × Int) :=
  u_X35_layOut_168 s x0 0
noncomputable def u_X35_layOut_166 : jS → Int → Option (jS × Bool × Int) := Classical.choose (⟨du_X35_layOut_166, rfl⟩ : ∃ f, f = du_X35_layOut_166)
theorem eu_X35_layOut_166 : u_X35_layOut_166 = du_X35_layOut_166 := Classical.choose_spec (⟨du_X35_layOut_166, rfl⟩ : ∃ f, f = du_X35_layOut_166)
def du_X35_layOut_160 (s : jS) (x0 x1 : Int) : Option ((jS × List Int) ⊕ (jS × Bool × Int)) :=
  some (.inl (s, [x0, W32 (x1 + 1)]))
noncomputable def u_X35_layOut_160 : jS → Int → Int → Option ((jS × List Int) ⊕ (jS × Bool × Int)) := Classical.choose (⟨du_X35_layOut_160, rfl⟩ : ∃ f, f = du_X35_layOut_160)
theorem eu_X35_layOut_160 : u_X35_layOut_160 = du_X35_layOut_160 := Classical.choose_spec (⟨du_X35_layOut_160, rfl⟩ : ∃ f, f = du_X35_layOut_160)
def du_X35_layOut_154 (s : jS) (x0 x1 x2 x3 : Int) : Option ((jS × List Int) ⊕ ((jS × List Int) ⊕ (jS × Bool × Int))) :=
  some (.inl (s, [x0, x1, x2, W32 (x3 + 1)]))
noncomputable def u_X35_layOut_154 : jS → Int → Int → Int → Int → Option ((jS × List Int) ⊕ ((jS × List Int) ⊕ (jS × Bool × Int))) := Classical.choose (⟨du_X35_layOut_154, rfl⟩ : ∃ f, f = du_X35_layOut_154)
theorem eu_X35_layOut_154 : u_X35_layOut_154 = du_X35_layOut_154 := Classical.choose_spec (⟨du_X35_layOut_154, rfl⟩ : ∃ f, f = du_X35_layOut_154)
def b_X35_layOut_79 (s : jS) (x0 x1 x2 x3 : Int) : Option ((jS × List Int) ⊕ ((jS × List Int) ⊕ (jS × Bool × Int))) :=
  if x3 < 4 then
    (jix 6 x2 ((x0 + (-4000)) + 4041 + 1858 * x2)).bind fun v1 =>
    (jix 4 x3 (((v1 + 614) + 1) + 4 + 2 * x3)).bind fun v2 =>
    (m_X35_part s x0 x3 (jf s 19 v2 2)).bind fun q3 =>
    jth q3.2.1 (jinr (jinr (some (q3.1, true, q3.2.2)))) <|
    if x3 = 0 then
      (m_X35_textPieces q3.1 x0 q3.2.2 x2).bind fun q4 =>
      jth q4.2.1 (jinr (jinr (some (q4.1, true, q4.2.2)))) <|
      u_X35_layOut_154 q4.1 x0 x1 x2 x3
    else
      (m_X36_plain q3.1 (x0 + 1) q3.2.2 (jf q3.1 19 v2 1)).bind fun q5 =>
      (m_X35_piece q5.1 x0 q5.2 q3.2.2 x2 0 (jf q5.1 19 v2 1) (-1)).bind fun q6 =>
      jth q6.2.1 (jinr (jinr (some (q6.1, true, q6.2.2)))) <|
      u_X35_layOut_154 q6.1 x0 x1 x2 x3
  else
    jinr (u_X35_layOut_160 s x0 x1)
def du_X35_layOut_79 (s : jS) (x0 x1 x2 x3 : Int) : Option ((jS × List Int) ⊕ (jS × Bool × Int)) := jlpW (jc4 b_X35_layOut_79) [x0, x1, x2, x3] s
noncomputable def u_X35_layOut_79 : jS → Int → Int → Int → Int → Option ((jS × List Int) ⊕ (jS × Bool × Int)) := Classical.choose (⟨du_X35_layOut_79, rfl⟩ : ∃ f, f = du_X35_layOut_79)
theorem eu_X35_layOut_79 : u_X35_layOut_79 = du_X35_layOut_79 := Classical.choose_spec (⟨du_X35_layOut_79, rfl⟩ : ∃ f, f = du_X35_layOut_79)
def b_X35_layOut_62 (s : jS) (x0 x1 : Int) : Option ((jS × List Int) ⊕ (jS × Bool × Int)) :=
  if x1 < (jf s 39 x0 5) then
    (jlt s 1000 (x0 + 13) 6 x1).bind fun v1 =>
    u_X35_layOut_79 s x0 x1 v1 0
  else
    jinr (u_X35_layOut_166 s x0)
def du_X35_layOut_62 (s : jS) (x0 x1 : Int) : Option (jS × Bool × Int) := jlpW (jc2 b_X35_layOut_62) [x0, x1] s
noncomputable def u_X35_layOut_62 : jS → Int → Int → Option (jS × Bool × Int) := Classical.choose (⟨du_X35_layOut_62, rfl⟩ : ∃ f, f = du_X35_layOut_62)
theorem eu_X35_layOut_62 : u_X35_layOut_62 = du_X35_layOut_62 := Classical.choose_spec (⟨du_X35_layOut_62, rfl⟩ : ∃ f, f = du_X35_layOut_62)
def du_X35_layOut_60 (s : jS) (x0 : Int) : Option (jS × Bool × Int) :=
  u_X35_layOut_62 s x0 0
noncomputable def u_X35_layOut_60 : jS → Int → Option (jS × Bool × Int) := Classical.choose (⟨du_X35_layOut_60, rfl⟩ : ∃ f, f = du_X35_layOut_60)
theorem eu_X35_layOut_60 : u_X35_layOut_60 = du_X35_layOut_60 := Classical.choose_spec (⟨du_X35_layOut_60, rfl⟩ : ∃ f, f = du_X35_layOut_60)
def du_X35_layOut_50 (s : jS) (x0 x1 y0 y1 y2 : Int) : Option ((jS × List Int) ⊕ (jS × Bool × Int)) :=
  (m_X36_align s y2 y1 y0).bind fun q1 =>
  some (.inl (q1.1, [x0, W32 (x1 + 1)]))
noncomputable def u_X35_layOut_50 : jS → Int → Int → Int → Int → Int → Option ((jS × List Int) ⊕ (jS × Bool × Int)) := Classical.choose (⟨du_X35_layOut_50, rfl⟩ : ∃ f, f = du_X35_layOut_50)
theorem eu_X35_layOut_50 : u_X35_layOut_50 = du_X35_layOut_50 := Classical.choose_spec (⟨du_X35_layOut_50, rfl⟩ : ∃ f, f = du_X35_layOut_50)
def b_X35_layOut_30 (s : jS) (x0 x1 : Int) : Option ((jS × List Int) ⊕ (jS × Bool × Int)) :=
  if x1 < 4 then
    if x1 = 3 then
      u_X35_layOut_50 s x0 x1 0 x1 (x0 + 1)
    else
      u_X35_layOut_50 s x0 x1 4 x1 (x0 + 1)
  else
    jinr (u_X35_layOut_60 s x0)
def du_X35_layOut_30 (s : jS) (x0 x1 : Int) : Option (jS × Bool × Int) := jlpW (jc2 b_X35_layOut_30) [x0, x1] s
noncomputable def u_X35_layOut_30 : jS → Int → Int → Option (jS × Bool × Int) := Classical.choose (⟨du_X35_layOut_30, rfl⟩ : ∃ f, f = du_X35_layOut_30)
theorem eu_X35_layOut_30 : u_X35_layOut_30 = du_X35_layOut_30 := Classical.choose_spec (⟨du_X35_layOut_30, rfl⟩ : ∃ f, f = du_X35_layOut_30)
def dm_X35_layOut (s : jS) (x0 : Int) : Option (jS × Bool × Int) :=
  (m_X36_renew s (x0 + 1)).bind fun q1 =>
  jls (jp q1.1 39 x0 29 0) fun s2 =>
  jls (jp s2 39 x0 31 0) fun s3 =>
  (m_X36_base s3 (x0 + 1) 65536).bind fun q4 =>
  u_X35_layOut_30 q4.1 x0 0
noncomputable def m_X35_layOut : jS → Int → Option (jS × Bool × Int) := Classical.choose (⟨dm_X35_layOut, rfl⟩ : ∃ f, f = dm_X35_layOut)
theorem em_X35_layOut : m_X35_layOut = dm_X35_layOut := Classical.choose_spec (⟨dm_X35_layOut, rfl⟩ : ∃ f, f = dm_X35_layOut)
def dm_X35_valueOf (s : jS) (x0 x1 x2 : Int) : Option (jS × Int) :=
  (jlt s 1000 (x0 + 14) 600 (W32 ((W32 (100 * x1)) + x2))).bind fun v1 =>
  if v1 = (-1) then
    (m_X35_symbol s x0 x1 x2).bind fun v2 =>
    (m_X35_placeOf_2 s x0 x1 v2).bind fun q3 =>
    some (q3.1, q3.2)
  else
    (m_X35_globalPlace s x0 v1).bind fun q4 =>
    some (q4.1, q4.2)
noncomputable def m_X35_valueOf : jS → Int → Int → Int → Option (jS × Int) := Classical.choose (⟨dm_X35_valueOf, rfl⟩ : ∃ f, f = dm_X35_valueOf)
theorem em_X35_valueOf : m_X35_valueOf = dm_X35_valueOf := Classical.choose_spec (⟨dm_X35_valueOf, rfl⟩ : ∃ f, f = dm_X35_valueOf)
def du_X35_rest_320 (s : jS) (x0 x1 x6 x8 : Int) : Option (jS × Bool × Int) :=
  (jrd s 20 x6 2).bind fun v1 =>
  (m_X35_placeOf s x0 (jf s 39 x0 35) 0 v1).bind fun q2 =>
  (m_X35_lowerOf q2.1 (W64 (x8 - q2.2))).bind fun v3 =>
  (m_X35_fit q2.1 x0 x1 4 v3).bind fun q4 =>
  jth q4.2.1 (some (q4.1, true, q4.2.2)) <|
  some (q4.1, false, 0)
noncomputable def u_X35_rest_320 : jS → Int → Int → Int → Int → Option (jS × Bool × Int) := Classical.choose (⟨du_X35_rest_320, rfl⟩ : ∃ f, f = du_X35_rest_320)
theorem eu_X35_rest_320 : u_X35_rest_320 = du_X35_rest_320 := Classical.choose_spec (⟨du_X35_rest_320, rfl⟩ : ∃ f, f = du_X35_rest_320)
def du_X35_rest_224 (s : jS) (x0 x1 x2 x6 x7 y0 y1 : Int) : Option (jS × Bool × Int) :=
  (m_X35_need s y1 y0 7).bind fun q1 =>
  jth q1.2.1 (some (q1.1, true, q1.2.2)) <|
  (jix 300 x7 ((x2 + 4) + 309 + 1 * x7)).bind fun v2 =>
  (m_X35_valueOf q1.1 x0 (jf q1.1 39 x0 35) (jf q1.1 22 v2 3)).bind fun q3 =>
  (jix 300 x7 ((x2 + 4) + 309 + 1 * x7)).bind fun v4 =>
  jlet (W64 (q3.2 + (jf q3.1 22 v4 4))) fun v5 =>
  (m_X35_partOf q3.1 x0 (jf q3.1 39 x0 35) 0).bind fun v6 =>
  (jrd q3.1 20 x6 2).bind fun v7 =>
  (m_X35_pieceAt q3.1 x0 v6 v7).bind fun v8 =>
  (m_X36_piece q3.1 (x0 + 1) v8 0).bind fun q9 =>
  if q9.2 = 3 then
    (jlt q9.1 1000 (x0 + 27) 256 v8).bind fun v10 =>
    if v10 = x7 then
      (m_X36_piece q9.1 (x0 + 1) v8 2).bind fun q11 =>
      if 0 < q11.2 then
        u_X35_rest_320 q11.1 x0 x1 x6 v5
      else
        (m_X35_isLow q11.1 v5).bind fun v12 =>
        if v12 = 0 then
          (m_X35_gp q11.1 x0).bind fun q13 =>
          (m_X35_based q13.1 x0 x1 3 (W64 (v5 - q13.2))).bind fun q14 =>
          jth q14.2.1 (some (q14.1, true, q14.2.2)) <|
          some (q14.1, false, 0)
        else
          (m_X35_based q11.1 x0 x1 0 v5).bind fun q15 =>
          jth q15.2.1 (some (q15.1, true, q15.2.2)) <|
          some (q15.1, false, 0)
    else
      u_X35_rest_320 q9.1 x0 x1 x6 v5
  else
    u_X35_rest_320 q9.1 x0 x1 x6 v5
noncomputable def u_X35_rest_224 : jS → Int → Int → Int → Int → Int → Int → Int → Option (jS × Bool × Int) := Classical.choose (⟨du_X35_rest_224, rfl⟩ : ∃ f, f = du_X35_rest_224)
theorem eu_X35_rest_224 : u_X35_rest_224 = du_X35_rest_224 := Classical.choose_spec (⟨du_X35_rest_224, rfl⟩ : ∃ f, f = du_X35_rest_224)
def du_X35_rest_212 (s : jS) (x0 x1 x2 x6 x7 : Int) : Option (jS × Bool × Int) :=
  if x7 = (-1) then
    u_X35_rest_224 s x0 x1 x2 x6 x7 0 x0
  else
    u_X35_rest_224 s x0 x1 x2 x6 x7 1 x0
noncomputable def u_X35_rest_212 : jS → Int → Int → Int → Int → Int → Option (jS × Bool × Int) := Classical.choose (⟨du_X35_rest_212, rfl⟩ : ∃ f, f = du_X35_rest_212)
theorem eu_X35_rest_212 : u_X35_rest_212 = du_X35_rest_212 := Classical.choose_spec (⟨du_X35_rest_212, rfl⟩ : ∃ f, f = du_X35_rest_212)
def du_X35_rest_206 (s : jS) (x0 x1 x2 x6 x7 x8 : Int) : Option ((jS × List Int) ⊕ (jS × Bool × Int)) :=
  some (.inl (s, [x0, x1, x2, x6, x7, W32 (x8 + (-1))]))
noncomputable def u_X35_rest_206 : jS → Int → Int → Int → Int → Int → Int → Option ((jS × List Int) ⊕ (jS × Bool × Int)) := Classical.choose (⟨du_X35_rest_206, rfl⟩ : ∃ f, f = du_X35_rest_206)
theorem eu_X35_rest_206 : u_X35_rest_206 = du_X35_rest_206 := Classical.choose_spec (⟨du_X35_rest_206, rfl⟩ : ∃ f, f = du_X35_rest_206)
def b_X35_rest_164 (s : jS) (x0 x1 x2 x6 x7 x8 : Int) : Option ((jS × List Int) ⊕ (jS × Bool × Int)) :=
  if x8 < 0 then
    jinr (u_X35_rest_212 s x0 x1 x2 x6 x7)
  else
    (jix 300 x8 ((x2 + 4) + 309 + 1 * x8)).bind fun v1 =>
    if (jf s 22 v1 2) = 23 then
      (jix 300 x8 ((x2 + 4) + 309 + 1 * x8)).bind fun v2 =>
      (jrd s 20 x6 2).bind fun v3 =>
      if (jf s 22 v2 1) = v3 then
        u_X35_rest_206 s x0 x1 x2 x6 x8 x8
      else
        u_X35_rest_206 s x0 x1 x2 x6 x7 x8
    else
      u_X35_rest_206 s x0 x1 x2 x6 x7 x8
def du_X35_rest_164 (s : jS) (x0 x1 x2 x6 x7 x8 : Int) : Option (jS × Bool × Int) := jlpW (jc6 b_X35_rest_164) [x0, x1, x2, x6, x7, x8] s
noncomputable def u_X35_rest_164 : jS → Int → Int → Int → Int → Int → Int → Option (jS × Bool × Int) := Classical.choose (⟨du_X35_rest_164, rfl⟩ : ∃ f, f = du_X35_rest_164)
theorem eu_X35_rest_164 : u_X35_rest_164 = du_X35_rest_164 := Classical.choose_spec (⟨du_X35_rest_164, rfl⟩ : ∃ f, f = du_X35_rest_164)
def du_X35_rest_148 (s : jS) (x0 x1 x2 x6 y0 y1 : Int) : Option (jS × Bool × Int) :=
  (m_X35_need s y1 y0 7).bind fun q1 =>
  jth q1.2.1 (some (q1.1, true, q1.2.2)) <|
  jlet (W32 ((jf q1.1 18 x2 6) - 1)) fun v2 =>
  u_X35_rest_164 q1.1 x0 x1 x2 x6 (-1) v2
noncomputable def u_X35_rest_148 : jS → Int → Int → Int → Int → Int → Int → Option (jS × Bool × Int) := Classical.choose (⟨du_X35_rest_148, rfl⟩ : ∃ f, f = du_X35_rest_148)
theorem eu_X35_rest_148 : u_X35_rest_148 = du_X35_rest_148 := Classical.choose_spec (⟨du_X35_rest_148, rfl⟩ : ∃ f, f = du_X35_rest_148)
def du_X35_rest_147 (s : jS) (x0 x1 x2 x6 y0 : Int) : Option (jS × Bool × Int) :=
  u_X35_rest_148 s x0 x1 x2 x6 0 y0
noncomputable def u_X35_rest_147 : jS → Int → Int → Int → Int → Int → Option (jS × Bool × Int) := Classical.choose (⟨du_X35_rest_147, rfl⟩ : ∃ f, f = du_X35_rest_147)
theorem eu_X35_rest_147 : u_X35_rest_147 = du_X35_rest_147 := Classical.choose_spec (⟨du_X35_rest_147, rfl⟩ : ∃ f, f = du_X35_rest_147)
def du_X35_rest_120 (s : jS) (x0 x1 x2 y0 : Int) : Option (jS × Bool × Int) :=
  if y0 < 0 then
    u_X35_rest_147 s x0 x1 x2 y0 x0
  else
    (jrd s 20 y0 1).bind fun v1 =>
    if v1 = 0 then
      if (jf s 39 x0 39) = 0 then
        u_X35_rest_148 s x0 x1 x2 y0 1 x0
      else
        u_X35_rest_147 s x0 x1 x2 y0 x0
    else
      u_X35_rest_147 s x0 x1 x2 y0 x0
noncomputable def u_X35_rest_120 : jS → Int → Int → Int → Int → Option (jS × Bool × Int) := Classical.choose (⟨du_X35_rest_120, rfl⟩ : ∃ f, f = du_X35_rest_120)
theorem eu_X35_rest_120 : u_X35_rest_120 = du_X35_rest_120 := Classical.choose_spec (⟨du_X35_rest_120, rfl⟩ : ∃ f, f = du_X35_rest_120)
def du_X35_rest_76 (s : jS) (x0 x1 x2 x3 x4 y0 : Int) : Option (jS × Bool × Int) :=
  if y0 = 0 then
    u_X35_rest_120 s x0 x1 x2 (-1)
  else
    if x4 = (-1) then
      (m_X35_symbol s x0 (jf s 39 x0 35) x3).bind fun v1 =>
      u_X35_rest_120 s x0 x1 x2 v1
    else
      (jlt s 1000 (x0 + 19) 600 x4).bind fun v2 =>
      (m_X35_symbol s x0 (jf s 39 x0 35) v2).bind fun v3 =>
      u_X35_rest_120 s x0 x1 x2 v3
noncomputable def u_X35_rest_76 : jS → Int → Int → Int → Int → Int → Int → Option (jS × Bool × Int) := Classical.choose (⟨du_X35_rest_76, rfl⟩ : ∃ f, f = du_X35_rest_76)
theorem eu_X35_rest_76 : u_X35_rest_76 = du_X35_rest_76 := Classical.choose_spec (⟨du_X35_rest_76, rfl⟩ : ∃ f, f = du_X35_rest_76)
def du_X35_rest_75 (s : jS) (x0 x1 x2 x3 x4 : Int) : Option (jS × Bool × Int) :=
  u_X35_rest_76 s x0 x1 x2 x3 x4 0
noncomputable def u_X35_rest_75 : jS → Int → Int → Int → Int → Int → Option (jS × Bool × Int) := Classical.choose (⟨du_X35_rest_75, rfl⟩ : ∃ f, f = du_X35_rest_75)
theorem eu_X35_rest_75 : u_X35_rest_75 = du_X35_rest_75 := Classical.choose_spec (⟨du_X35_rest_75, rfl⟩ : ∃ f, f = du_X35_rest_75)
def du_X35_rest_71 (s : jS) (x0 x1 x2 x3 x4 : Int) : Option (jS × Bool × Int) :=
  u_X35_rest_76 s x0 x1 x2 x3 x4 1
noncomputable def u_X35_rest_71 : jS → Int → Int → Int → Int → Int → Option (jS × Bool × Int) := Classical.choose (⟨du_X35_rest_71, rfl⟩ : ∃ f, f = du_X35_rest_71)
theorem eu_X35_rest_71 : u_X35_rest_71 = du_X35_rest_71 := Classical.choose_spec (⟨du_X35_rest_71, rfl⟩ : ∃ f, f = du_X35_rest_71)
def dm_X35_rest (s : jS) (x0 x1 : Int) : Option (jS × Bool × Int) :=
  (jix 6 (jf s 39 x0 35) ((x0 + (-4000)) + 4041 + 1858 * (jf s 39 x0 35))).bind fun v1 =>
  (jix 300 (jf s 39 x0 36) (((v1 + 614) + 4) + 309 + 1 * (jf s 39 x0 36))).bind fun v2 =>
  (jlt s 1000 (x0 + 14) 600 (W32 ((W32 (100 * (jf s 39 x0 35))) + (jf s 22 v2 3)))).bind fun v3 =>
  if v3 = (-1) then
    u_X35_rest_71 s x0 x1 (v1 + 614) (jf s 22 v2 3) v3
  else
    (m_X35_how s x0 v3).bind fun v4 =>
    if v4 = 0 then
      (jlt s 1000 (x0 + 18) 600 v3).bind fun v5 =>
      if v5 = (jf s 39 x0 35) then
        u_X35_rest_71 s x0 x1 (v1 + 614) (jf s 22 v2 3) v3
      else
        u_X35_rest_75 s x0 x1 (v1 + 614) (jf s 22 v2 3) v3
    else
      u_X35_rest_75 s x0 x1 (v1 + 614) (jf s 22 v2 3) v3
noncomputable def m_X35_rest : jS → Int → Int → Option (jS × Bool × Int) := Classical.choose (⟨dm_X35_rest, rfl⟩ : ∃ f, f = dm_X35_rest)
theorem em_X35_rest : m_X35_rest = dm_X35_rest := Classical.choose_spec (⟨dm_X35_rest, rfl⟩ : ∃ f, f = dm_X35_rest)
def du_X35_relocate_471 (s : jS) (x0 x1 x3 : Int) : Option (jS × Bool × Int) :=
  (jix 3 x3 ((x0 + 33) + 1 + 1 * x3)).bind fun v1 =>
  (jrd s 22 x1 2).bind fun v2 =>
  (m_X35_sumUp s x0 v1 v2).bind fun q3 =>
  some (q3.1, false, 0)
noncomputable def u_X35_relocate_471 : jS → Int → Int → Int → Option (jS × Bool × Int) := Classical.choose (⟨du_X35_relocate_471, rfl⟩ : ∃ f, f = du_X35_relocate_471)
theorem eu_X35_relocate_471 : u_X35_relocate_471 = du_X35_relocate_471 := Classical.choose_spec (⟨du_X35_relocate_471, rfl⟩ : ∃ f, f = du_X35_relocate_471)
def du_X35_relocate_462 (s : jS) (x0 x1 : Int) : Option (jS × Bool × Int) :=
  (jrd s 22 x1 2).bind fun v1 =>
  (m_X35_rest s x0 v1).bind fun q2 =>
  jth q2.2.1 (some (q2.1, true, q2.2.2)) <|
  some (q2.1, false, 0)
noncomputable def u_X35_relocate_462 : jS → Int → Int → Option (jS × Bool × Int) := Classical.choose (⟨du_X35_relocate_462, rfl⟩ : ∃ f, f = du_X35_relocate_462)
theorem eu_X35_relocate_462 : u_X35_relocate_462 = du_X35_relocate_462 := Classical.choose_spec (⟨du_X35_relocate_462, rfl⟩ : ∃ f, f = du_X35_relocate_462)
def du_X35_relocate_453 (s : jS) (x0 x1 : Int) : Option (jS × Bool × Int) :=
  (jrd s 22 x1 2).bind fun v1 =>
  (m_X35_low s x0 v1).bind fun q2 =>
  jth q2.2.1 (some (q2.1, true, q2.2.2)) <|
  some (q2.1, false, 0)
noncomputable def u_X35_relocate_453 : jS → Int → Int → Option (jS × Bool × Int) := Classical.choose (⟨du_X35_relocate_453, rfl⟩ : ∃ f, f = du_X35_relocate_453)
theorem eu_X35_relocate_453 : u_X35_relocate_453 = du_X35_relocate_453 := Classical.choose_spec (⟨du_X35_relocate_453, rfl⟩ : ∃ f, f = du_X35_relocate_453)
def du_X35_relocate_419 (s : jS) (x0 x1 : Int) : Option (jS × Bool × Int) :=
  (jrd s 22 x1 2).bind fun v1 =>
  (m_X35_fit s x0 v1 2 (W64 ((jf s 39 x0 40) - (jf s 39 x0 41)))).bind fun q2 =>
  jth q2.2.1 (some (q2.1, true, q2.2.2)) <|
  some (q2.1, false, 0)
noncomputable def u_X35_relocate_419 : jS → Int → Int → Option (jS × Bool × Int) := Classical.choose (⟨du_X35_relocate_419, rfl⟩ : ∃ f, f = du_X35_relocate_419)
theorem eu_X35_relocate_419 : u_X35_relocate_419 = du_X35_relocate_419 := Classical.choose_spec (⟨du_X35_relocate_419, rfl⟩ : ∃ f, f = du_X35_relocate_419)
def du_X35_relocate_400 (s : jS) (x0 x1 : Int) : Option (jS × Bool × Int) :=
  (jrd s 22 x1 2).bind fun v1 =>
  (m_X35_fit s x0 v1 4 (W64 ((jf s 39 x0 40) - (jf s 39 x0 41)))).bind fun q2 =>
  jth q2.2.1 (some (q2.1, true, q2.2.2)) <|
  some (q2.1, false, 0)
noncomputable def u_X35_relocate_400 : jS → Int → Int → Option (jS × Bool × Int) := Classical.choose (⟨du_X35_relocate_400, rfl⟩ : ∃ f, f = du_X35_relocate_400)
theorem eu_X35_relocate_400 : u_X35_relocate_400 = du_X35_relocate_400 := Classical.choose_spec (⟨du_X35_relocate_400, rfl⟩ : ∃ f, f = du_X35_relocate_400)
def du_X35_relocate_170 (s : jS) (x0 x1 x2 x3 : Int) : Option (jS × Bool × Int) :=
  (jrd s 22 x1 1).bind fun v1 =>
  (m_X35_placeOf s x0 (jf s 39 x0 35) x3 v1).bind fun q2 =>
  jls (jp q2.1 39 x0 41 q2.2) fun s3 =>
  (m_X36_output s3 (x0 + 1) x3 0).bind fun q4 =>
  jls (jp q4.1 39 x0 38 (L2i (W64 ((jf s3 39 x0 41) - q4.2)))) fun s5 =>
  (jrd s5 22 x1 2).bind fun v6 =>
  if v6 = 43 then
    (jix 3 x3 ((x0 + 33) + 1 + 1 * x3)).bind fun v7 =>
    (m_X35_nothing s5 x0 v7 (jf s5 39 x0 38) x2).bind fun q8 =>
    some (q8.1, false, 0)
  else
    (jrd s5 22 x1 4).bind fun v9 =>
    jls (jp s5 39 x0 39 v9) fun s10 =>
    (jrd s10 22 x1 3).bind fun v11 =>
    (m_X35_valueOf s10 x0 (jf s10 39 x0 35) v11).bind fun q12 =>
    (jrd q12.1 22 x1 4).bind fun v13 =>
    jls (jp q12.1 39 x0 40 (W64 (q12.2 + v13))) fun s14 =>
    (jrd s14 22 x1 2).bind fun v15 =>
    if v15 = 16 then
      u_X35_relocate_400 s14 x0 x1
    else
    if v15 = 17 then
      u_X35_relocate_400 s14 x0 x1
    else
    if v15 = 18 then
      u_X35_relocate_471 s14 x0 x1 x3
    else
    if v15 = 19 then
      (m_X35_call s14 x0).bind fun q16 =>
      jth q16.2.1 (some (q16.1, true, q16.2.2)) <|
      some (q16.1, false, 0)
    else
    if v15 = 20 then
      u_X35_relocate_471 s14 x0 x1 x3
    else
    if v15 = 21 then
      u_X35_relocate_471 s14 x0 x1 x3
    else
    if v15 = 22 then
      u_X35_relocate_471 s14 x0 x1 x3
    else
    if v15 = 23 then
      (m_X35_near s14 x0).bind fun q17 =>
      jth q17.2.1 (some (q17.1, true, q17.2.2)) <|
      some (q17.1, false, 0)
    else
    if v15 = 24 then
      u_X35_relocate_462 s14 x0 x1
    else
    if v15 = 25 then
      u_X35_relocate_462 s14 x0 x1
    else
    if v15 = 26 then
      (m_X35_upper s14 x0).bind fun q18 =>
      jth q18.2.1 (some (q18.1, true, q18.2.2)) <|
      some (q18.1, false, 0)
    else
    if v15 = 27 then
      u_X35_relocate_453 s14 x0 x1
    else
    if v15 = 28 then
      u_X35_relocate_453 s14 x0 x1
    else
    if v15 = 29 then
      u_X35_relocate_471 s14 x0 x1 x3
    else
    if v15 = 30 then
      u_X35_relocate_471 s14 x0 x1 x3
    else
    if v15 = 31 then
      u_X35_relocate_471 s14 x0 x1 x3
    else
    if v15 = 32 then
      u_X35_relocate_471 s14 x0 x1 x3
    else
    if v15 = 33 then
      u_X35_relocate_471 s14 x0 x1 x3
    else
    if v15 = 34 then
      u_X35_relocate_471 s14 x0 x1 x3
    else
    if v15 = 35 then
      u_X35_relocate_471 s14 x0 x1 x3
    else
    if v15 = 36 then
      u_X35_relocate_471 s14 x0 x1 x3
    else
    if v15 = 37 then
      u_X35_relocate_471 s14 x0 x1 x3
    else
    if v15 = 38 then
      u_X35_relocate_471 s14 x0 x1 x3
    else
    if v15 = 39 then
      u_X35_relocate_471 s14 x0 x1 x3
    else
    if v15 = 40 then
      u_X35_relocate_471 s14 x0 x1 x3
    else
    if v15 = 41 then
      u_X35_relocate_471 s14 x0 x1 x3
    else
    if v15 = 42 then
      u_X35_relocate_471 s14 x0 x1 x3
    else
    if v15 = 43 then
      u_X35_relocate_471 s14 x0 x1 x3
    else
    if v15 = 44 then
      u_X35_relocate_419 s14 x0 x1
    else
    if v15 = 45 then
      u_X35_relocate_419 s14 x0 x1
    else
    u_X35_relocate_471 s14 x0 x1 x3
noncomputable def u_X35_relocate_170 : jS → Int → Int → Int → Int → Option (jS × Bool × Int) := Classical.choose (⟨du_X35_relocate_170, rfl⟩ : ∃ f, f = du_X35_relocate_170)
theorem eu_X35_relocate_170 : u_X35_relocate_170 = du_X35_relocate_170 := Classical.choose_spec (⟨du_X35_relocate_170, rfl⟩ : ∃ f, f = du_X35_relocate_170)
def du_X35_relocate_150 (s : jS) (x0 x1 x2 x3 x5 y0 y1 : Int) : Option (jS × Bool × Int) :=
  (m_X35_need s y1 y0 7).bind fun q1 =>
  jth q1.2.1 (some (q1.1, true, q1.2.2)) <|
  if x5 = 0 then
    u_X35_relocate_170 q1.1 x0 x1 x2 x3
  else
    (jrd q1.1 22 x1 2).bind fun v2 =>
    if v2 = 43 then
      some (q1.1, false, 0)
    else
      u_X35_relocate_170 q1.1 x0 x1 x2 x3
noncomputable def u_X35_relocate_150 : jS → Int → Int → Int → Int → Int → Int → Int → Option (jS × Bool × Int) := Classical.choose (⟨du_X35_relocate_150, rfl⟩ : ∃ f, f = du_X35_relocate_150)
theorem eu_X35_relocate_150 : u_X35_relocate_150 = du_X35_relocate_150 := Classical.choose_spec (⟨du_X35_relocate_150, rfl⟩ : ∃ f, f = du_X35_relocate_150)
def du_X35_relocate_149 (s : jS) (x0 x1 x2 x3 x5 y0 : Int) : Option (jS × Bool × Int) :=
  u_X35_relocate_150 s x0 x1 x2 x3 x5 0 y0
noncomputable def u_X35_relocate_149 : jS → Int → Int → Int → Int → Int → Int → Option (jS × Bool × Int) := Classical.choose (⟨du_X35_relocate_149, rfl⟩ : ∃ f, f = du_X35_relocate_149)
theorem eu_X35_relocate_149 : u_X35_relocate_149 = du_X35_relocate_149 := Classical.choose_spec (⟨du_X35_relocate_149, rfl⟩ : ∃ f, f = du_X35_relocate_149)
def du_X35_relocate_145 (s : jS) (x0 x1 x2 x3 x5 y0 : Int) : Option (jS × Bool × Int) :=
  u_X35_relocate_150 s x0 x1 x2 x3 x5 1 y0
noncomputable def u_X35_relocate_145 : jS → Int → Int → Int → Int → Int → Int → Option (jS × Bool × Int) := Classical.choose (⟨du_X35_relocate_145, rfl⟩ : ∃ f, f = du_X35_relocate_145)
theorem eu_X35_relocate_145 : u_X35_relocate_145 = du_X35_relocate_145 := Classical.choose_spec (⟨du_X35_relocate_145, rfl⟩ : ∃ f, f = du_X35_relocate_145)
def du_X35_relocate_99 (s : jS) (x0 x1 x2 x3 x4 x5 y0 y1 : Int) : Option (jS × Bool × Int) :=
  jls (jp s 39 y1 37 y0) fun s1 =>
  if x5 = 0 then
    (m_X36_piece s1 (x0 + 1) x4 0).bind fun q2 =>
    if q2.2 = 0 then
      (jrd q2.1 22 x1 1).bind fun v3 =>
      (jlt q2.1 1000 (x0 + 25) 256 x4).bind fun v4 =>
      (jlt q2.1 1000 (x0 + 26) 256 x4).bind fun v5 =>
      if (W32 (v4 + v5)) < (W32 (v3 + x2)) then
        u_X35_relocate_149 q2.1 x0 x1 x2 x3 x5 x0
      else
        u_X35_relocate_145 q2.1 x0 x1 x2 x3 x5 x0
    else
      u_X35_relocate_149 q2.1 x0 x1 x2 x3 x5 x0
  else
    u_X35_relocate_145 s1 x0 x1 x2 x3 x5 x0
noncomputable def u_X35_relocate_99 : jS → Int → Int → Int → Int → Int → Int → Int → Int → Option (jS × Bool × Int) := Classical.choose (⟨du_X35_relocate_99, rfl⟩ : ∃ f, f = du_X35_relocate_99)
theorem eu_X35_relocate_99 : u_X35_relocate_99 = du_X35_relocate_99 := Classical.choose_spec (⟨du_X35_relocate_99, rfl⟩ : ∃ f, f = du_X35_relocate_99)
def du_X35_relocate_85 (s : jS) (x0 x1 x2 x3 x4 y0 : Int) : Option (jS × Bool × Int) :=
  if y0 = 0 then
    u_X35_relocate_99 s x0 x1 x2 x3 x4 y0 (-1) x0
  else
    u_X35_relocate_99 s x0 x1 x2 x3 x4 y0 x4 x0
noncomputable def u_X35_relocate_85 : jS → Int → Int → Int → Int → Int → Int → Option (jS × Bool × Int) := Classical.choose (⟨du_X35_relocate_85, rfl⟩ : ∃ f, f = du_X35_relocate_85)
theorem eu_X35_relocate_85 : u_X35_relocate_85 = du_X35_relocate_85 := Classical.choose_spec (⟨du_X35_relocate_85, rfl⟩ : ∃ f, f = du_X35_relocate_85)
def du_X35_relocate_84 (s : jS) (x0 x1 x2 x3 x4 : Int) : Option (jS × Bool × Int) :=
  u_X35_relocate_85 s x0 x1 x2 x3 x4 0
noncomputable def u_X35_relocate_84 : jS → Int → Int → Int → Int → Int → Option (jS × Bool × Int) := Classical.choose (⟨du_X35_relocate_84, rfl⟩ : ∃ f, f = du_X35_relocate_84)
theorem eu_X35_relocate_84 : u_X35_relocate_84 = du_X35_relocate_84 := Classical.choose_spec (⟨du_X35_relocate_84, rfl⟩ : ∃ f, f = du_X35_relocate_84)
def du_X35_relocate_26 (s : jS) (x0 x1 : Int) : Option (jS × Bool × Int) :=
  (jrd s 22 x1 2).bind fun v1 =>
  (jrd s 22 x1 4).bind fun v2 =>
  (m_X51_width s v1 v2).bind fun v3 =>
  (jrd s 22 x1 0).bind fun v4 =>
  (m_X35_partOf s x0 (jf s 39 x0 35) v4).bind fun v5 =>
  (jrd s 22 x1 1).bind fun v6 =>
  (m_X35_pieceAt s x0 v5 v6).bind fun v7 =>
  (jlt s 1000 (x0 + 27) 256 v7).bind fun v8 =>
  if v8 = (jf s 39 x0 36) then
    if v4 = 0 then
      u_X35_relocate_85 s x0 x1 v3 v4 v7 1
    else
      u_X35_relocate_84 s x0 x1 v3 v4 v7
  else
    u_X35_relocate_84 s x0 x1 v3 v4 v7
noncomputable def u_X35_relocate_26 : jS → Int → Int → Option (jS × Bool × Int) := Classical.choose (⟨du_X35_relocate_26, rfl⟩ : ∃ f, f = du_X35_relocate_26)
theorem eu_X35_relocate_26 : u_X35_relocate_26 = du_X35_relocate_26 := Classical.choose_spec (⟨du_X35_relocate_26, rfl⟩ : ∃ f, f = du_X35_relocate_26)
def dm_X35_relocate (s : jS) (x0 x1 : Int) : Option (jS × Bool × Int) :=
  (jrd s 22 x1 2).bind fun v1 =>
  if v1 = 51 then
    some (s, false, 0)
  else
    (jrd s 22 x1 2).bind fun v2 =>
    if v2 = 43 then
      (jrd s 22 x1 4).bind fun v3 =>
      if v3 = 0 then
        some (s, false, 0)
      else
        u_X35_relocate_26 s x0 x1
    else
      u_X35_relocate_26 s x0 x1
noncomputable def m_X35_relocate : jS → Int → Int → Option (jS × Bool × Int) := Classical.choose (⟨dm_X35_relocate, rfl⟩ : ∃ f, f = dm_X35_relocate)
theorem em_X35_relocate : m_X35_relocate = dm_X35_relocate := Classical.choose_spec (⟨dm_X35_relocate, rfl⟩ : ∃ f, f = dm_X35_relocate)
def du_X35_relocateAll_98 (s : jS) (x0 x1 : Int) : Option ((jS × List Int) ⊕ (jS × Bool × Int)) :=
  some (.inl (s, [x0, W32 (x1 + 1)]))
noncomputable def u_X35_relocateAll_98 : jS → Int → Int → Option ((jS × List Int) ⊕ (jS × Bool × Int)) := Classical.choose (⟨du_X35_relocateAll_98, rfl⟩ : ∃ f, f = du_X35_relocateAll_98)
theorem eu_X35_relocateAll_98 : u_X35_relocateAll_98 = du_X35_relocateAll_98 := Classical.choose_spec (⟨du_X35_relocateAll_98, rfl⟩ : ∃ f, f = du_X35_relocateAll_98)
def b_X35_relocateAll_41 (s : jS) (x0 x1 : Int) : Option ((jS × List Int) ⊕ ((jS × List Int) ⊕ (jS × Bool × Int))) :=
  (jix 6 (jf s 39 x0 35) ((x0 + (-4000)) + 4041 + 1858 * (jf s 39 x0 35))).bind fun v1 =>
  (m_X13_count s v1 2).bind fun v2 =>
  if (jf s 39 x0 36) < v2 then
    (jix 6 (jf s 39 x0 35) ((x0 + (-4000)) + 4041 + 1858 * (jf s 39 x0 35))).bind fun v3 =>
    (jix 300 (jf s 39 x0 36) (((v3 + 614) + 4) + 309 + 1 * (jf s 39 x0 36))).bind fun v4 =>
    (m_X35_relocate s x0 v4).bind fun q5 =>
    jth q5.2.1 (jinr (jinr (some (q5.1, true, q5.2.2)))) <|
    jls (jp q5.1 39 x0 36 (W32 ((jf q5.1 39 x0 36) + 1))) fun s6 =>
    some (.inl (s6, [x0, x1]))
  else
    jinr (u_X35_relocateAll_98 s x0 x1)
def du_X35_relocateAll_41 (s : jS) (x0 x1 : Int) : Option ((jS × List Int) ⊕ (jS × Bool × Int)) := jlpW (jc2 b_X35_relocateAll_41) [x0, x1] s
noncomputable def u_X35_relocateAll_41 : jS → Int → Int → Option ((jS × List Int) ⊕ (jS × Bool × Int)) := Classical.choose (⟨du_X35_relocateAll_41, rfl⟩ : ∃ f, f = du_X35_relocateAll_41)
theorem eu_X35_relocateAll_41 : u_X35_relocateAll_41 = du_X35_relocateAll_41 := Classical.choose_spec (⟨du_X35_relocateAll_41, rfl⟩ : ∃ f, f = du_X35_relocateAll_41)
def b_X35_relocateAll_2 (s : jS) (x0 x1 : Int) : Option ((jS × List Int) ⊕ (jS × Bool × Int)) :=
  if x1 < (jf s 39 x0 5) then
    (jlt s 1000 (x0 + 13) 6 x1).bind fun v1 =>
    jls (jp s 39 x0 35 v1) fun s2 =>
    (jix 6 (jf s2 39 x0 35) ((x0 + (-4000)) + 4041 + 1858 * (jf s2 39 x0 35))).bind fun v3 =>
    (m_X35_relax s2 x0 (v3 + 614)).bind fun q4 =>
    jls (jp q4.1 39 x0 36 0) fun s5 =>
    u_X35_relocateAll_41 s5 x0 x1
  else
    jinr (some (s, false, 0))
def du_X35_relocateAll_2 (s : jS) (x0 x1 : Int) : Option (jS × Bool × Int) := jlpW (jc2 b_X35_relocateAll_2) [x0, x1] s
noncomputable def u_X35_relocateAll_2 : jS → Int → Int → Option (jS × Bool × Int) := Classical.choose (⟨du_X35_relocateAll_2, rfl⟩ : ∃ f, f = du_X35_relocateAll_2)
theorem eu_X35_relocateAll_2 : u_X35_relocateAll_2 = du_X35_relocateAll_2 := Classical.choose_spec (⟨du_X35_relocateAll_2, rfl⟩ : ∃ f, f = du_X35_relocateAll_2)
def dm_X35_relocateAll (s : jS) (x0 : Int) : Option (jS × Bool × Int) :=
  u_X35_relocateAll_2 s x0 0
noncomputable def m_X35_relocateAll : jS → Int → Option (jS × Bool × Int) := Classical.choose (⟨dm_X35_relocateAll, rfl⟩ : ∃ f, f = dm_X35_relocateAll)
theorem em_X35_relocateAll : m_X35_relocateAll = dm_X35_relocateAll := Classical.choose_spec (⟨dm_X35_relocateAll, rfl⟩ : ∃ f, f = dm_X35_relocateAll)
def dm_J3_newBytesLength (s : jS) (x0 : Int) : Option (Int) :=
  if x0 < 0 then
    none
  else
    if x0 < 1073741823 then
      some (I_shl x0 1)
    else
      none
noncomputable def m_J3_newBytesLength : jS → Int → Option (Int) := Classical.choose (⟨dm_J3_newBytesLength, rfl⟩ : ∃ f, f = dm_J3_newBytesLength)
theorem em_J3_newBytesLength : m_J3_newBytesLength = dm_J3_newBytesLength := Classical.choose_spec (⟨dm_J3_newBytesLength, rfl⟩ : ∃ f, f = dm_J3_newBytesLength)
def dm_J3_newBytesFor (s : jS) (x0 : Int) : Option (jS × Int) :=
  (m_J3_newBytesLength s x0).bind fun v1 =>
  (jna s 1001 v1 0).bind fun q2 =>
  some (q2.1, q2.2)
noncomputable def m_J3_newBytesFor : jS → Int → Option (jS × Int) := Classical.choose (⟨dm_J3_newBytesFor, rfl⟩ : ∃ f, f = dm_J3_newBytesFor)
theorem em_J3_newBytesFor : m_J3_newBytesFor = dm_J3_newBytesFor := Classical.choose_spec (⟨dm_J3_newBytesFor, rfl⟩ : ∃ f, f = dm_J3_newBytesFor)
def dm_J0_init (s : jS) (x0 x1 : Int) : Option (jS × Int) :=
  jck0 x0 <|
  if 1 = 0 then
    (m_J3_newBytesFor s x1).bind fun q1 =>
    jls (jp q1.1 8 x0 0 q1.2) fun s2 =>
    (jbb 1).bind fun v3 =>
    (jwp s2 [(8, 1)] x0 v3).bind fun s4 =>
    some (s4, 0)
  else
    (jna s 1001 x1 0).bind fun q5 =>
    jls (jp q5.1 8 x0 0 q5.2) fun s6 =>
    (jbb 0).bind fun v7 =>
    (jwp s6 [(8, 1)] x0 v7).bind fun s8 =>
    some (s8, 0)
noncomputable def m_J0_init : jS → Int → Int → Option (jS × Int) := Classical.choose (⟨dm_J0_init, rfl⟩ : ∃ f, f = dm_J0_init)
theorem em_J0_init : m_J0_init = dm_J0_init := Classical.choose_spec (⟨dm_J0_init, rfl⟩ : ∃ f, f = dm_J0_init)
def dm_J1_init (s : jS) (x0 : Int) : Option (jS × Int) :=
  (jck0 x0 (m_J0_init s x0 16)).bind fun q1 =>
  some (q1.1, 0)
noncomputable def m_J1_init : jS → Int → Option (jS × Int) := Classical.choose (⟨dm_J1_init, rfl⟩ : ∃ f, f = dm_J1_init)
theorem em_J1_init : m_J1_init = dm_J1_init := Classical.choose_spec (⟨dm_J1_init, rfl⟩ : ∃ f, f = dm_J1_init)
def dm_J1_init_2 (s : jS) (x0 x1 : Int) : Option (jS × Int) :=
  (jck0 x0 (m_J0_init s x0 x1)).bind fun q1 =>
  some (q1.1, 0)
noncomputable def m_J1_init_2 : jS → Int → Int → Option (jS × Int) := Classical.choose (⟨dm_J1_init_2, rfl⟩ : ∃ f, f = dm_J1_init_2)
theorem em_J1_init_2 : m_J1_init_2 = dm_J1_init_2 := Classical.choose_spec (⟨dm_J1_init_2, rfl⟩ : ∃ f, f = dm_J1_init_2)
def dm_X11_init (s : jS) (x0 : Int) : Option (jS × Int) :=
  jck0 x0 <|
  (jna s 1001 20 0).bind fun q1 =>
  (jwr q1.1 15 x0 0 q1.2).bind fun s2 =>
  (jna s2 1001 3000 0).bind fun q3 =>
  (jwr q3.1 15 x0 1 q3.2).bind fun s4 =>
  (jwr s4 15 x0 4 (-1)).bind fun s5 =>
  (jnw s5 16 9 (jdf 16)).bind fun q6 =>
  (jck0 q6.2 (m_X12_init q6.1 q6.2)).bind fun q7 =>
  (jwr q7.1 15 x0 5 q6.2).bind fun s8 =>
  (jnw s8 16 9 (jdf 16)).bind fun q9 =>
  (jck0 q9.2 (m_X12_init q9.1 q9.2)).bind fun q10 =>
  (jwr q10.1 15 x0 6 q9.2).bind fun s11 =>
  (jnw s11 8 4 (jdf 8)).bind fun q12 =>
  (jct q12.1 24 q12.2 (jck0 q12.2 (m_J1_init q12.1 q12.2))).bind fun q13 =>
  (jwr q13.1 15 x0 7 q12.2).bind fun s14 =>
  some (s14, 0)
noncomputable def m_X11_init : jS → Int → Option (jS × Int) := Classical.choose (⟨dm_X11_init, rfl⟩ : ∃ f, f = dm_X11_init)
theorem em_X11_init : m_X11_init = dm_X11_init := Classical.choose_spec (⟨dm_X11_init, rfl⟩ : ∃ f, f = dm_X11_init)
def dm_X44_init (s : jS) (x0 x1 x2 x3 : Int) : Option (jS × Int) :=
  jck0 x0 <|
  jls (jp s 53 x0 9 (jc s 193)) fun s1 =>
  (jnw s1 8 4 (jdf 8)).bind fun q2 =>
  (jck0 q2.2 (m_J1_init q2.1 q2.2)).bind fun q3 =>
  jls (jp q3.1 53 x0 11 q2.2) fun s4 =>
  jls (jp s4 53 x0 0 x1) fun s5 =>
  jls (jp s5 53 x0 1 x2) fun s6 =>
  jls (jp s6 53 x0 10 x3) fun s7 =>
  (jct s7 32 x3 (m_X12_clear s7 x3)).bind fun q8 =>
  some (q8.1, 0)
noncomputable def m_X44_init : jS → Int → Int → Int → Int → Option (jS × Int) := Classical.choose (⟨dm_X44_init, rfl⟩ : ∃ f, f = dm_X44_init)
theorem em_X44_init : m_X44_init = dm_X44_init := Classical.choose_spec (⟨dm_X44_init, rfl⟩ : ∃ f, f = dm_X44_init)
def dm_X2_init (s : jS) (x0 : Int) : Option (jS × Int) :=
  jck0 x0 <|
  (jnw s 4 2 (jdf 4)).bind fun q1 =>
  (jct q1.1 20 q1.2 (jck0 q1.2 (m_X4_init q1.1 q1.2 7 0))).bind fun q2 =>
  (jwr q2.1 2 x0 0 q1.2).bind fun s3 =>
  (jnw s3 4 2 (jdf 4)).bind fun q4 =>
  (jct q4.1 20 q4.2 (jck0 q4.2 (m_X4_init q4.1 q4.2 15 0))).bind fun q5 =>
  (jwr q5.1 2 x0 1 q4.2).bind fun s6 =>
  (jnw s6 4 2 (jdf 4)).bind fun q7 =>
  (jct q7.1 20 q7.2 (jck0 q7.2 (m_X4_init q7.1 q7.2 20 0))).bind fun q8 =>
  (jwr q8.1 2 x0 2 q7.2).bind fun s9 =>
  (jnw s9 4 2 (jdf 4)).bind fun q10 =>
  (jct q10.1 20 q10.2 (jck0 q10.2 (m_X4_init q10.1 q10.2 7 1))).bind fun q11 =>
  (jwr q11.1 2 x0 3 q10.2).bind fun s12 =>
  (jnw s12 4 2 (jdf 4)).bind fun q13 =>
  (jct q13.1 20 q13.2 (jck0 q13.2 (m_X4_init q13.1 q13.2 2 1))).bind fun q14 =>
  (jwr q14.1 2 x0 4 q13.2).bind fun s15 =>
  (jnw s15 4 2 (jdf 4)).bind fun q16 =>
  (jct q16.1 20 q16.2 (jck0 q16.2 (m_X4_init q16.1 q16.2 2 0))).bind fun q17 =>
  (jwr q17.1 2 x0 5 q16.2).bind fun s18 =>
  (jnw s18 4 2 (jdf 4)).bind fun q19 =>
  (jct q19.1 20 q19.2 (jck0 q19.2 (m_X4_init q19.1 q19.2 7 5))).bind fun q20 =>
  (jwr q20.1 2 x0 6 q19.2).bind fun s21 =>
  (jnw s21 5 1 (jdf 5)).bind fun q22 =>
  (jct q22.1 21 q22.2 (jck0 q22.2 (m_X5_init q22.1 q22.2 2))).bind fun q23 =>
  (jwr q23.1 2 x0 7 q22.2).bind fun s24 =>
  (jnw s24 5 1 (jdf 5)).bind fun q25 =>
  (jct q25.1 21 q25.2 (jck0 q25.2 (m_X5_init q25.1 q25.2 7))).bind fun q26 =>
  (jwr q26.1 2 x0 8 q25.2).bind fun s27 =>
  (jnw s27 6 2 (jdf 6)).bind fun q28 =>
  (m_X2_down q28.1 11 0).bind fun q29 =>
  (m_X2_places q29.1 12 31 q29.2).bind fun q30 =>
  (jck0 q28.2 (m_X6_init q30.1 q28.2 q30.2 1)).bind fun q31 =>
  (jwr q31.1 2 x0 9 q28.2).bind fun s32 =>
  (jnw s32 6 2 (jdf 6)).bind fun q33 =>
  (m_X2_down q33.1 11 5).bind fun q34 =>
  (m_X2_down q34.1 4 0).bind fun q35 =>
  (m_X2_places_2 q35.1 12 31 q34.2 11 q35.2).bind fun q36 =>
  (jck0 q33.2 (m_X6_init q36.1 q33.2 q36.2 1)).bind fun q37 =>
  (jwr q37.1 2 x0 10 q33.2).bind fun s38 =>
  (jnw s38 6 2 (jdf 6)).bind fun q39 =>
  (m_X2_down q39.1 4 0).bind fun q40 =>
  (m_X2_places q40.1 5 24 q40.2).bind fun q41 =>
  (jck0 q39.2 (m_X6_init q41.1 q39.2 q41.2 0)).bind fun q42 =>
  (jwr q42.1 2 x0 11 q39.2).bind fun s43 =>
  (jnw s43 6 2 (jdf 6)).bind fun q44 =>
  (m_X2_down q44.1 19 0).bind fun q45 =>
  (m_X2_places q45.1 20 31 q45.2).bind fun q46 =>
  (jck0 q44.2 (m_X6_init q46.1 q44.2 q46.2 0)).bind fun q47 =>
  (jwr q47.1 2 x0 12 q44.2).bind fun s48 =>
  (jna s48 1008 75 (-1)).bind fun q49 =>
  (jwr q49.1 2 x0 13 q49.2).bind fun s50 =>
  (jna s50 1000 4 0).bind fun q51 =>
  (jwr q51.1 2 x0 14 q51.2).bind fun s52 =>
  (jna s52 1000 3 0).bind fun q53 =>
  (jwr q53.1 2 x0 15 q53.2).bind fun s54 =>
  (jnw s54 8 4 (jdf 8)).bind fun q55 =>
  (jct q55.1 24 q55.2 (jck0 q55.2 (m_J1_init q55.1 q55.2))).bind fun q56 =>
  (jwr q56.1 2 x0 16 q55.2).bind fun s57 =>
  (jct s57 18 x0 (m_X2_longs s57 x0)).bind fun q58 =>
  (jct q58.1 18 x0 (m_X2_shorts q58.1 x0)).bind fun q59 =>
  some (q59.1, 0)
noncomputable def m_X2_init : jS → Int → Option (jS × Int) := Classical.choose (⟨dm_X2_init, rfl⟩ : ∃ f, f = dm_X2_init)
theorem em_X2_init : m_X2_init = dm_X2_init := Classical.choose_spec (⟨dm_X2_init, rfl⟩ : ∃ f, f = dm_X2_init)
def b_X1_init_137 (s : jS) (x0 x1 : Int) : Option ((jS × List Int) ⊕ (jS × Int)) :=
  if x1 < 6 then
    (jrd s 1 x0 2).bind fun v1 =>
    (jnw s 17 7 (jdf 17)).bind fun q2 =>
    (jck0 q2.2 (m_X13_init q2.1 q2.2)).bind fun q3 =>
    (jas q3.1 1011 17 v1 x1 q2.2).bind fun s4 =>
    some (.inl (s4, [x0, W32 (x1 + 1)]))
  else
    jinr (some (s, 0))
def du_X1_init_137 (s : jS) (x0 x1 : Int) : Option (jS × Int) := jlpW (jc2 b_X1_init_137) [x0, x1] s
noncomputable def u_X1_init_137 : jS → Int → Int → Option (jS × Int) := Classical.choose (⟨du_X1_init_137, rfl⟩ : ∃ f, f = du_X1_init_137)
theorem eu_X1_init_137 : u_X1_init_137 = du_X1_init_137 := Classical.choose_spec (⟨du_X1_init_137, rfl⟩ : ∃ f, f = du_X1_init_137)
def dm_X1_init (s : jS) (x0 : Int) : Option (jS × Int) :=
  jck0 x0 <|
  (jnw s 2 17 (jdf 2)).bind fun q1 =>
  (jck0 q1.2 (m_X2_init q1.1 q1.2)).bind fun q2 =>
  (jwr q2.1 1 x0 0 q1.2).bind fun s3 =>
  (jnw s3 15 8 (jdf 15)).bind fun q4 =>
  (jck0 q4.2 (m_X11_init q4.1 q4.2)).bind fun q5 =>
  (jwr q5.1 1 x0 1 q4.2).bind fun s6 =>
  (jna s6 1011 6 (-1)).bind fun q7 =>
  (jwr q7.1 1 x0 2 q7.2).bind fun s8 =>
  (jnw s8 17 7 (jdf 17)).bind fun q9 =>
  (jck0 q9.2 (m_X13_init q9.1 q9.2)).bind fun q10 =>
  (jwr q10.1 1 x0 3 q9.2).bind fun s11 =>
  (jnw s11 17 7 (jdf 17)).bind fun q12 =>
  (jck0 q12.2 (m_X13_init q12.1 q12.2)).bind fun q13 =>
  (jwr q13.1 1 x0 4 q12.2).bind fun s14 =>
  (jnw s14 26 6 (jdf 26)).bind fun q15 =>
  (jck0 q15.2 (m_X22_init q15.1 q15.2)).bind fun q16 =>
  (jwr q16.1 1 x0 5 q15.2).bind fun s17 =>
  (jnw s17 33 23 (jdf 33)).bind fun q18 =>
  (jck0 q18.2 (m_X29_init q18.1 q18.2)).bind fun q19 =>
  (jwr q19.1 1 x0 6 q18.2).bind fun s20 =>
  (jnw s20 37 43 (jdf 37)).bind fun q21 =>
  (jrd q21.1 1 x0 0).bind fun v22 =>
  (jrd q21.1 1 x0 1).bind fun v23 =>
  (jrd q21.1 1 x0 3).bind fun v24 =>
  (jck0 q21.2 (m_X33_init q21.1 q21.2 v22 v23 v24)).bind fun q25 =>
  (jwr q25.1 1 x0 7 q21.2).bind fun s26 =>
  (jnw s26 39 48 (jdf 39)).bind fun q27 =>
  (jrd q27.1 1 x0 2).bind fun v28 =>
  (jrd q27.1 1 x0 0).bind fun v29 =>
  (jrd q27.1 1 x0 5).bind fun v30 =>
  (jck0 q27.2 (m_X35_init q27.1 q27.2 v28 v29 v30)).bind fun q31 =>
  (jwr q31.1 1 x0 8 q27.2).bind fun s32 =>
  (jwr s32 1 x0 10 (-1)).bind fun s33 =>
  (jwr s33 1 x0 11 (-1)).bind fun s34 =>
  u_X1_init_137 s34 x0 0
noncomputable def m_X1_init : jS → Int → Option (jS × Int) := Classical.choose (⟨dm_X1_init, rfl⟩ : ∃ f, f = dm_X1_init)
theorem em_X1_init : m_X1_init = dm_X1_init := Classical.choose_spec (⟨dm_X1_init, rfl⟩ : ∃ f, f = dm_X1_init)
def du_J3_putChar_28 (s : jS) (x0 x1 x2 : Int) : Option (jS × Int) :=
  jlet (I_shl x1 1) fun v1 =>
  (jsa s 1001 x0 v1 (W8 (W8 (I_shr x2 0)))).bind fun s2 =>
  (jsa s2 1001 x0 (W32 (v1 + 1)) (W8 (W8 (I_shr x2 8)))).bind fun s3 =>
  some (s3, 0)
noncomputable def u_J3_putChar_28 : jS → Int → Int → Int → Option (jS × Int) := Classical.choose (⟨du_J3_putChar_28, rfl⟩ : ∃ f, f = du_J3_putChar_28)
theorem eu_J3_putChar_28 : u_J3_putChar_28 = du_J3_putChar_28 := Classical.choose_spec (⟨du_J3_putChar_28, rfl⟩ : ∃ f, f = du_J3_putChar_28)
def du_J3_putChar_18 (s : jS) : Option (jS × Int) :=
  none
noncomputable def u_J3_putChar_18 : jS → Option (jS × Int) := Classical.choose (⟨du_J3_putChar_18, rfl⟩ : ∃ f, f = du_J3_putChar_18)
theorem eu_J3_putChar_18 : u_J3_putChar_18 = du_J3_putChar_18 := Classical.choose_spec (⟨du_J3_putChar_18, rfl⟩ : ∃ f, f = du_J3_putChar_18)
def dm_J3_putChar (s : jS) (x0 x1 x2 : Int) : Option (jS × Int) :=
  if 1 = 0 then
    if x1 < 0 then
      u_J3_putChar_18 s 
    else
      (m_J3_length s x0).bind fun v1 =>
      if x1 < v1 then
        u_J3_putChar_28 s x0 x1 x2
      else
        u_J3_putChar_18 s 
  else
    u_J3_putChar_28 s x0 x1 x2
noncomputable def m_J3_putChar : jS → Int → Int → Int → Option (jS × Int) := Classical.choose (⟨dm_J3_putChar, rfl⟩ : ∃ f, f = dm_J3_putChar)
theorem em_J3_putChar : m_J3_putChar = dm_J3_putChar := Classical.choose_spec (⟨dm_J3_putChar, rfl⟩ : ∃ f, f = dm_J3_putChar)
def du_J3_getChars_2_112 (s : jS) (x2 x5 x6 : Int) : Option (jS × Int) :=
  if x6 = 0 then
    some (s, x5)
  else
    (m_J3_putChar s x2 (W32 (x5 + (-1))) 45).bind fun q1 =>
    some (q1.1, W32 (x5 + (-1)))
noncomputable def u_J3_getChars_2_112 : jS → Int → Int → Int → Option (jS × Int) := Classical.choose (⟨du_J3_getChars_2_112, rfl⟩ : ∃ f, f = du_J3_getChars_2_112)
theorem eu_J3_getChars_2_112 : u_J3_getChars_2_112 = du_J3_getChars_2_112 := Classical.choose_spec (⟨du_J3_getChars_2_112, rfl⟩ : ∃ f, f = du_J3_getChars_2_112)
def du_J3_getChars_2_76 (s : jS) (x0 x2 x5 x6 : Int) : Option (jS × Int) :=
  (jldE s 1001 (jc s 1000) (W32 (-x0))).bind fun v1 =>
  (m_J3_putChar s x2 (W32 (x5 + (-1))) v1).bind fun q2 =>
  if x0 < (-9) then
    (jldE q2.1 1001 (jc q2.1 1001) (W32 (-x0))).bind fun v3 =>
    (m_J3_putChar q2.1 x2 (W32 ((W32 (x5 + (-1))) + (-1))) v3).bind fun q4 =>
    u_J3_getChars_2_112 q4.1 x2 (W32 ((W32 (x5 + (-1))) + (-1))) x6
  else
    u_J3_getChars_2_112 q2.1 x2 (W32 (x5 + (-1))) x6
noncomputable def u_J3_getChars_2_76 : jS → Int → Int → Int → Int → Option (jS × Int) := Classical.choose (⟨du_J3_getChars_2_76, rfl⟩ : ∃ f, f = du_J3_getChars_2_76)
theorem eu_J3_getChars_2_76 : u_J3_getChars_2_76 = du_J3_getChars_2_76 := Classical.choose_spec (⟨du_J3_getChars_2_76, rfl⟩ : ∃ f, f = du_J3_getChars_2_76)
def b_J3_getChars_2_22 (s : jS) (x0 x2 x5 x6 : Int) : Option ((jS × List Int) ⊕ (jS × Int)) :=
  if (-100) < x0 then
    jinr (u_J3_getChars_2_76 s x0 x2 x5 x6)
  else
    (jdv 100 (I_div x0 100)).bind fun v1 =>
    jlet (W32 ((W32 (v1 * 100)) - x0)) fun v2 =>
    (jldE s 1001 (jc s 1000) v2).bind fun v3 =>
    (m_J3_putChar s x2 (W32 (x5 + (-1))) v3).bind fun q4 =>
    (jldE q4.1 1001 (jc q4.1 1001) v2).bind fun v5 =>
    (m_J3_putChar q4.1 x2 (W32 ((W32 (x5 + (-1))) + (-1))) v5).bind fun q6 =>
    some (.inl (q6.1, [v1, x2, W32 ((W32 (x5 + (-1))) + (-1)), x6]))
def du_J3_getChars_2_22 (s : jS) (x0 x2 x5 x6 : Int) : Option (jS × Int) := jlpW (jc4 b_J3_getChars_2_22) [x0, x2, x5, x6] s
noncomputable def u_J3_getChars_2_22 : jS → Int → Int → Int → Int → Option (jS × Int) := Classical.choose (⟨du_J3_getChars_2_22, rfl⟩ : ∃ f, f = du_J3_getChars_2_22)
theorem eu_J3_getChars_2_22 : u_J3_getChars_2_22 = du_J3_getChars_2_22 := Classical.choose_spec (⟨du_J3_getChars_2_22, rfl⟩ : ∃ f, f = du_J3_getChars_2_22)
def du_J3_getChars_2_12 (s : jS) (x0 x2 x5 y0 : Int) : Option (jS × Int) :=
  if y0 = 0 then
    jlet (W32 (-x0)) fun v1 =>
    u_J3_getChars_2_22 s v1 x2 x5 y0
  else
    u_J3_getChars_2_22 s x0 x2 x5 y0
noncomputable def u_J3_getChars_2_12 : jS → Int → Int → Int → Int → Option (jS × Int) := Classical.choose (⟨du_J3_getChars_2_12, rfl⟩ : ∃ f, f = du_J3_getChars_2_12)
theorem eu_J3_getChars_2_12 : u_J3_getChars_2_12 = du_J3_getChars_2_12 := Classical.choose_spec (⟨du_J3_getChars_2_12, rfl⟩ : ∃ f, f = du_J3_getChars_2_12)
def dm_J3_getChars_2 (s : jS) (x0 x1 x2 : Int) : Option (jS × Int) :=
  if x0 < 0 then
    u_J3_getChars_2_12 s x0 x2 x1 1
  else
    u_J3_getChars_2_12 s x0 x2 x1 0
noncomputable def m_J3_getChars_2 : jS → Int → Int → Int → Option (jS × Int) := Classical.choose (⟨dm_J3_getChars_2, rfl⟩ : ∃ f, f = dm_J3_getChars_2)
theorem em_J3_getChars_2 : m_J3_getChars_2 = dm_J3_getChars_2 := Classical.choose_spec (⟨dm_J3_getChars_2, rfl⟩ : ∃ f, f = dm_J3_getChars_2)
def du_J3_getChar_28 (s : jS) (x0 x1 : Int) : Option (Int) :=
  jlet (I_shl x1 1) fun v1 =>
  (jldE s 1001 x0 v1).bind fun v2 =>
  (jldE s 1001 x0 (W32 (v1 + 1))).bind fun v3 =>
  some (Wc (Wc (I_or (I_shl (I_and v2 255) 0) (I_shl (I_and v3 255) 8))))
noncomputable def u_J3_getChar_28 : jS → Int → Int → Option (Int) := Classical.choose (⟨du_J3_getChar_28, rfl⟩ : ∃ f, f = du_J3_getChar_28)
theorem eu_J3_getChar_28 : u_J3_getChar_28 = du_J3_getChar_28 := Classical.choose_spec (⟨du_J3_getChar_28, rfl⟩ : ∃ f, f = du_J3_getChar_28)
def du_J3_getChar_18 (s : jS) : Option (Int) :=
  none
noncomputable def u_J3_getChar_18 : jS → Option (Int) := Classical.choose (⟨du_J3_getChar_18, rfl⟩ : ∃ f, f = du_J3_getChar_18)
theorem eu_J3_getChar_18 : u_J3_getChar_18 = du_J3_getChar_18 := Classical.choose_spec (⟨du_J3_getChar_18, rfl⟩ : ∃ f, f = du_J3_getChar_18)
def dm_J3_getChar (s : jS) (x0 x1 : Int) : Option (Int) :=
  if 1 = 0 then
    if x1 < 0 then
      u_J3_getChar_18 s 
    else
      (m_J3_length s x0).bind fun v1 =>
      if x1 < v1 then
        u_J3_getChar_28 s x0 x1
      else
        u_J3_getChar_18 s 
  else
    u_J3_getChar_28 s x0 x1
noncomputable def m_J3_getChar : jS → Int → Int → Option (Int) := Classical.choose (⟨dm_J3_getChar, rfl⟩ : ∃ f, f = dm_J3_getChar)
theorem em_J3_getChar : m_J3_getChar = dm_J3_getChar := Classical.choose_spec (⟨dm_J3_getChar, rfl⟩ : ∃ f, f = dm_J3_getChar)
def dm_J20_getUTF16Char (s : jS) (x0 x1 x2 : Int) : Option (Int) :=
  (m_J3_getChar s x1 x2).bind fun v1 =>
  some (Wc v1)
noncomputable def m_J20_getUTF16Char : jS → Int → Int → Int → Option (Int) := Classical.choose (⟨dm_J20_getUTF16Char, rfl⟩ : ∃ f, f = dm_J20_getUTF16Char)
theorem em_J20_getUTF16Char : m_J20_getUTF16Char = dm_J20_getUTF16Char := Classical.choose_spec (⟨dm_J20_getUTF16Char, rfl⟩ : ∃ f, f = dm_J20_getUTF16Char)
def dm_J4_init (s : jS) (x0 : Int) : Option (jS × Int) :=
  jck0 x0 <|
  jls (jp s 48 x0 0 x0) fun s1 =>
  jls (jp s1 48 x0 1 (jc s1 1003)) fun s2 =>
  jls (jp s2 48 x0 2 (jc s2 1004)) fun s3 =>
  none
noncomputable def m_J4_init : jS → Int → Option (jS × Int) := Classical.choose (⟨dm_J4_init, rfl⟩ : ∃ f, f = dm_J4_init)
theorem em_J4_init : m_J4_init = dm_J4_init := Classical.choose_spec (⟨dm_J4_init, rfl⟩ : ∃ f, f = dm_J4_init)
def dm_J4_init_2 (s : jS) (x0 x1 : Int) : Option (jS × Int) :=
  jck0 x0 <|
  jls (jp s 48 x0 0 x0) fun s1 =>
  jls (jp s1 48 x0 1 (jc s1 1003)) fun s2 =>
  jls (jp s2 48 x0 2 (jc s2 1004)) fun s3 =>
  none
noncomputable def m_J4_init_2 : jS → Int → Int → Option (jS × Int) := Classical.choose (⟨dm_J4_init_2, rfl⟩ : ∃ f, f = dm_J4_init_2)
theorem em_J4_init_2 : m_J4_init_2 = dm_J4_init_2 := Classical.choose_spec (⟨dm_J4_init_2, rfl⟩ : ∃ f, f = dm_J4_init_2)
def dm_J11_hugeLength (s : jS) (x0 x1 : Int) : Option (Int) :=
  jlet (W32 (x0 + x1)) fun v1 =>
  if v1 < 0 then
    none
  else
    if 2147483639 < v1 then
      some v1
    else
      some 2147483639
noncomputable def m_J11_hugeLength : jS → Int → Int → Option (Int) := Classical.choose (⟨dm_J11_hugeLength, rfl⟩ : ∃ f, f = dm_J11_hugeLength)
theorem em_J11_hugeLength : m_J11_hugeLength = dm_J11_hugeLength := Classical.choose_spec (⟨dm_J11_hugeLength, rfl⟩ : ∃ f, f = dm_J11_hugeLength)
def du_J11_newLength_21 (s : jS) (x0 x1 : Int) : Option (Int) :=
  (m_J11_hugeLength s x0 x1).bind fun v1 =>
  some v1
noncomputable def u_J11_newLength_21 : jS → Int → Int → Option (Int) := Classical.choose (⟨du_J11_newLength_21, rfl⟩ : ∃ f, f = du_J11_newLength_21)
theorem eu_J11_newLength_21 : u_J11_newLength_21 = du_J11_newLength_21 := Classical.choose_spec (⟨du_J11_newLength_21, rfl⟩ : ∃ f, f = du_J11_newLength_21)
def dm_J11_newLength (s : jS) (x0 x1 x2 : Int) : Option (Int) :=
  jlet (W32 (x0 + (jmx x1 x2))) fun v1 =>
  if 0 < v1 then
    if 2147483639 < v1 then
      u_J11_newLength_21 s x0 x1
    else
      some v1
  else
    u_J11_newLength_21 s x0 x1
noncomputable def m_J11_newLength : jS → Int → Int → Int → Option (Int) := Classical.choose (⟨dm_J11_newLength, rfl⟩ : ∃ f, f = dm_J11_newLength)
theorem em_J11_newLength : m_J11_newLength = dm_J11_newLength := Classical.choose_spec (⟨dm_J11_newLength, rfl⟩ : ∃ f, f = dm_J11_newLength)
def dm_J0_newCapacity (s : jS) (x0 x1 : Int) : Option (Int) :=
  (jlnE s 1001 (jf s 8 x0 0)).bind fun v1 =>
  jlet (I_shl x1 (jf s 8 x0 1)) fun v2 =>
  jlet (W32 (v2 - v1)) fun v3 =>
  (m_J11_newLength s v1 v3 (W32 (v1 + (I_shl 2 (jf s 8 x0 1))))).bind fun v4 =>
  if v4 = 2147483647 then
    none
  else
    some (I_shr v4 (jf s 8 x0 1))
noncomputable def m_J0_newCapacity : jS → Int → Int → Option (Int) := Classical.choose (⟨dm_J0_newCapacity, rfl⟩ : ∃ f, f = dm_J0_newCapacity)
theorem em_J0_newCapacity : m_J0_newCapacity = dm_J0_newCapacity := Classical.choose_spec (⟨dm_J0_newCapacity, rfl⟩ : ∃ f, f = dm_J0_newCapacity)
def dmp_J0_newCapacity (s : jS) (x0 x1 : Int) : Option (Int) := if 0 ≤ x0 ∧ jK s x0 = 8 then m_J0_newCapacity s x0 x1 else none
noncomputable def mp_J0_newCapacity : jS → Int → Int → Option (Int) := Classical.choose (⟨dmp_J0_newCapacity, rfl⟩ : ∃ f, f = dmp_J0_newCapacity)
theorem emp_J0_newCapacity : mp_J0_newCapacity = dmp_J0_newCapacity := Classical.choose_spec (⟨dmp_J0_newCapacity, rfl⟩ : ∃ f, f = dmp_J0_newCapacity)
def dm_J0_ensureCapacityInternal (s : jS) (x0 x1 : Int) : Option (jS × Int) :=
  (jlnE s 1001 (jf s 8 x0 0)).bind fun v1 =>
  jlet (I_shr v1 (jf s 8 x0 1)) fun v2 =>
  if 0 < (W32 (x1 - v2)) then
    (mp_J0_newCapacity s x0 x1).bind fun v3 =>
    (m_J13_copyOf s (jf s 8 x0 0) (I_shl v3 (jf s 8 x0 1))).bind fun q4 =>
    jls (jp q4.1 8 x0 0 q4.2) fun s5 =>
    some (s5, 0)
  else
    some (s, 0)
noncomputable def m_J0_ensureCapacityInternal : jS → Int → Int → Option (jS × Int) := Classical.choose (⟨dm_J0_ensureCapacityInternal, rfl⟩ : ∃ f, f = dm_J0_ensureCapacityInternal)
theorem em_J0_ensureCapacityInternal : m_J0_ensureCapacityInternal = dm_J0_ensureCapacityInternal := Classical.choose_spec (⟨dm_J0_ensureCapacityInternal, rfl⟩ : ∃ f, f = dm_J0_ensureCapacityInternal)
def dm_J11_utf16hashCode (s : jS) (x0 x1 x2 x3 : Int) : Option (Int) :=
  jlet (W32 (x2 + x3)) fun v1 =>
  if x2 < v1 then
    none
  else
    some x0
noncomputable def m_J11_utf16hashCode : jS → Int → Int → Int → Int → Option (Int) := Classical.choose (⟨dm_J11_utf16hashCode, rfl⟩ : ∃ f, f = dm_J11_utf16hashCode)
theorem em_J11_utf16hashCode : m_J11_utf16hashCode = dm_J11_utf16hashCode := Classical.choose_spec (⟨dm_J11_utf16hashCode, rfl⟩ : ∃ f, f = dm_J11_utf16hashCode)
def du_J14_checkFromToIndex_14 (s : jS) (x0 x1 x2 x3 : Int) : Option (Int) :=
  none
noncomputable def u_J14_checkFromToIndex_14 : jS → Int → Int → Int → Int → Option (Int) := Classical.choose (⟨du_J14_checkFromToIndex_14, rfl⟩ : ∃ f, f = du_J14_checkFromToIndex_14)
theorem eu_J14_checkFromToIndex_14 : u_J14_checkFromToIndex_14 = du_J14_checkFromToIndex_14 := Classical.choose_spec (⟨du_J14_checkFromToIndex_14, rfl⟩ : ∃ f, f = du_J14_checkFromToIndex_14)
def dm_J14_checkFromToIndex (s : jS) (x0 x1 x2 x3 : Int) : Option (Int) :=
  if x0 < 0 then
    u_J14_checkFromToIndex_14 s x0 x1 x2 x3
  else
    if x1 < x0 then
      u_J14_checkFromToIndex_14 s x0 x1 x2 x3
    else
      if x2 < x1 then
        u_J14_checkFromToIndex_14 s x0 x1 x2 x3
      else
        some x0
noncomputable def m_J14_checkFromToIndex : jS → Int → Int → Int → Int → Option (Int) := Classical.choose (⟨dm_J14_checkFromToIndex, rfl⟩ : ∃ f, f = dm_J14_checkFromToIndex)
theorem em_J14_checkFromToIndex : m_J14_checkFromToIndex = dm_J14_checkFromToIndex := Classical.choose_spec (⟨dm_J14_checkFromToIndex, rfl⟩ : ∃ f, f = dm_J14_checkFromToIndex)
def dm_J2_checkBoundsBeginEnd (s : jS) (x0 x1 x2 : Int) : Option (Int) :=
  (m_J14_checkFromToIndex s x0 x1 x2 (jc s 1002)).bind fun v1 =>
  some 0
noncomputable def m_J2_checkBoundsBeginEnd : jS → Int → Int → Int → Option (Int) := Classical.choose (⟨dm_J2_checkBoundsBeginEnd, rfl⟩ : ∃ f, f = dm_J2_checkBoundsBeginEnd)
theorem em_J2_checkBoundsBeginEnd : m_J2_checkBoundsBeginEnd = dm_J2_checkBoundsBeginEnd := Classical.choose_spec (⟨dm_J2_checkBoundsBeginEnd, rfl⟩ : ∃ f, f = dm_J2_checkBoundsBeginEnd)
def dm_J3_checkBoundsBeginEnd (s : jS) (x0 x1 x2 : Int) : Option (Int) :=
  (m_J3_length s x2).bind fun v1 =>
  (m_J2_checkBoundsBeginEnd s x0 x1 v1).bind fun _ =>
  some 0
noncomputable def m_J3_checkBoundsBeginEnd : jS → Int → Int → Int → Option (Int) := Classical.choose (⟨dm_J3_checkBoundsBeginEnd, rfl⟩ : ∃ f, f = dm_J3_checkBoundsBeginEnd)
theorem em_J3_checkBoundsBeginEnd : m_J3_checkBoundsBeginEnd = dm_J3_checkBoundsBeginEnd := Classical.choose_spec (⟨dm_J3_checkBoundsBeginEnd, rfl⟩ : ∃ f, f = dm_J3_checkBoundsBeginEnd)
def dm_J3_putCharsAt (s : jS) (x0 x1 x2 x3 x4 x5 : Int) : Option (jS × Int) :=
  jlet (W32 (x1 + 4)) fun v1 =>
  (m_J3_checkBoundsBeginEnd s x1 v1 x0).bind fun _ =>
  (m_J3_putChar s x0 x1 x2).bind fun q3 =>
  (m_J3_putChar q3.1 x0 (W32 (x1 + 1)) x3).bind fun q4 =>
  (m_J3_putChar q4.1 x0 (W32 ((W32 (x1 + 1)) + 1)) x4).bind fun q5 =>
  (m_J3_putChar q5.1 x0 (W32 ((W32 ((W32 (x1 + 1)) + 1)) + 1)) x5).bind fun q6 =>
  if 1 = 0 then
    if (W32 ((W32 ((W32 ((W32 (x1 + 1)) + 1)) + 1)) + 1)) = v1 then
      some (q6.1, v1)
    else
      none
  else
    some (q6.1, v1)
noncomputable def m_J3_putCharsAt : jS → Int → Int → Int → Int → Int → Int → Option (jS × Int) := Classical.choose (⟨dm_J3_putCharsAt, rfl⟩ : ∃ f, f = dm_J3_putCharsAt)
theorem em_J3_putCharsAt : m_J3_putCharsAt = dm_J3_putCharsAt := Classical.choose_spec (⟨dm_J3_putCharsAt, rfl⟩ : ∃ f, f = dm_J3_putCharsAt)
def dmp_J0_ensureCapacityInternal (s : jS) (x0 x1 : Int) : Option (jS × Int) := if 0 ≤ x0 ∧ jK s x0 = 8 then m_J0_ensureCapacityInternal s x0 x1 else none
noncomputable def mp_J0_ensureCapacityInternal : jS → Int → Int → Option (jS × Int) := Classical.choose (⟨dmp_J0_ensureCapacityInternal, rfl⟩ : ∃ f, f = dmp_J0_ensureCapacityInternal)
theorem emp_J0_ensureCapacityInternal : mp_J0_ensureCapacityInternal = dmp_J0_ensureCapacityInternal := Classical.choose_spec (⟨dmp_J0_ensureCapacityInternal, rfl⟩ : ∃ f, f = dmp_J0_ensureCapacityInternal)
def dmp_J0_isLatin1 (s : jS) (x0 : Int) : Option (Int) := if 0 ≤ x0 ∧ jK s x0 = 8 then m_J0_isLatin1 s x0 else none
noncomputable def mp_J0_isLatin1 : jS → Int → Option (Int) := Classical.choose (⟨dmp_J0_isLatin1, rfl⟩ : ∃ f, f = dmp_J0_isLatin1)
theorem emp_J0_isLatin1 : mp_J0_isLatin1 = dmp_J0_isLatin1 := Classical.choose_spec (⟨dmp_J0_isLatin1, rfl⟩ : ∃ f, f = dmp_J0_isLatin1)
def du_J0_appendNull_76 (s : jS) (x0 x1 : Int) : Option (jS × Int) :=
  jls (jp s 8 x0 3 x1) fun s1 =>
  some (s1, x0)
noncomputable def u_J0_appendNull_76 : jS → Int → Int → Option (jS × Int) := Classical.choose (⟨du_J0_appendNull_76, rfl⟩ : ∃ f, f = du_J0_appendNull_76)
theorem eu_J0_appendNull_76 : u_J0_appendNull_76 = du_J0_appendNull_76 := Classical.choose_spec (⟨du_J0_appendNull_76, rfl⟩ : ∃ f, f = du_J0_appendNull_76)
def dm_J0_appendNull (s : jS) (x0 : Int) : Option (jS × Int) :=
  (mp_J0_ensureCapacityInternal s x0 (W32 ((jf s 8 x0 3) + 4))).bind fun q1 =>
  (mp_J0_isLatin1 q1.1 x0).bind fun v2 =>
  if v2 = 0 then
    (m_J3_putCharsAt q1.1 (jf q1.1 8 x0 0) (jf q1.1 8 x0 3) 110 117 108 108).bind fun q3 =>
    u_J0_appendNull_76 q3.1 x0 q3.2
  else
    (jsa q1.1 1001 (jf q1.1 8 x0 0) (jf q1.1 8 x0 3) (W8 110)).bind fun s4 =>
    (jsa s4 1001 (jf q1.1 8 x0 0) (W32 ((jf q1.1 8 x0 3) + 1)) (W8 117)).bind fun s5 =>
    (jsa s5 1001 (jf q1.1 8 x0 0) (W32 ((W32 ((jf q1.1 8 x0 3) + 1)) + 1)) (W8 108)).bind fun s6 =>
    (jsa s6 1001 (jf q1.1 8 x0 0) (W32 ((W32 ((W32 ((jf q1.1 8 x0 3) + 1)) + 1)) + 1)) (W8 108)).bind fun s7 =>
    u_J0_appendNull_76 s7 x0 (W32 ((W32 ((W32 ((W32 ((jf q1.1 8 x0 3) + 1)) + 1)) + 1)) + 1))
noncomputable def m_J0_appendNull : jS → Int → Option (jS × Int) := Classical.choose (⟨dm_J0_appendNull, rfl⟩ : ∃ f, f = dm_J0_appendNull)
theorem em_J0_appendNull : m_J0_appendNull = dm_J0_appendNull := Classical.choose_spec (⟨dm_J0_appendNull, rfl⟩ : ∃ f, f = dm_J0_appendNull)
def dm_J3_getChars (s : jS) (x0 x1 x2 x3 : Int) : Option (jS × Int) :=
  (m_J3_checkBoundsBeginEnd s x1 x2 x3).bind fun _ =>
  (m_J3_getChars_2 s x0 x2 x3).bind fun q2 =>
  if 1 = 0 then
    if x1 = q2.2 then
      some (q2.1, q2.2)
    else
      none
  else
    some (q2.1, q2.2)
noncomputable def m_J3_getChars : jS → Int → Int → Int → Int → Option (jS × Int) := Classical.choose (⟨dm_J3_getChars, rfl⟩ : ∃ f, f = dm_J3_getChars)
theorem em_J3_getChars : m_J3_getChars = dm_J3_getChars := Classical.choose_spec (⟨dm_J3_getChars, rfl⟩ : ∃ f, f = dm_J3_getChars)
def du_J0_append_2_48 (s : jS) (x0 x3 : Int) : Option (jS × Int) :=
  jls (jp s 8 x0 3 x3) fun s1 =>
  some (s1, x0)
noncomputable def u_J0_append_2_48 : jS → Int → Int → Option (jS × Int) := Classical.choose (⟨du_J0_append_2_48, rfl⟩ : ∃ f, f = du_J0_append_2_48)
theorem eu_J0_append_2_48 : u_J0_append_2_48 = du_J0_append_2_48 := Classical.choose_spec (⟨du_J0_append_2_48, rfl⟩ : ∃ f, f = du_J0_append_2_48)
def dm_J0_append_2 (s : jS) (x0 x1 : Int) : Option (jS × Int) :=
  (m_J16_stringSize s x1).bind fun v1 =>
  jlet (W32 ((jf s 8 x0 3) + v1)) fun v2 =>
  (mp_J0_ensureCapacityInternal s x0 v2).bind fun q3 =>
  (mp_J0_isLatin1 q3.1 x0).bind fun v4 =>
  if v4 = 0 then
    (m_J3_getChars q3.1 x1 (jf s 8 x0 3) v2 (jf q3.1 8 x0 0)).bind fun q5 =>
    u_J0_append_2_48 q5.1 x0 v2
  else
    (m_J16_getChars q3.1 x1 v2 (jf q3.1 8 x0 0)).bind fun q6 =>
    u_J0_append_2_48 q6.1 x0 v2
noncomputable def m_J0_append_2 : jS → Int → Int → Option (jS × Int) := Classical.choose (⟨dm_J0_append_2, rfl⟩ : ∃ f, f = dm_J0_append_2)
theorem em_J0_append_2 : m_J0_append_2 = dm_J0_append_2 := Classical.choose_spec (⟨dm_J0_append_2, rfl⟩ : ∃ f, f = dm_J0_append_2)
def dmq_J0_append (s : jS) (x0 x1 : Int) : Option (jS × Int) := if 0 ≤ x0 ∧ jK s x0 = 8 then m_J0_append_2 s x0 x1 else none
noncomputable def mq_J0_append : jS → Int → Int → Option (jS × Int) := Classical.choose (⟨dmq_J0_append, rfl⟩ : ∃ f, f = dmq_J0_append)
theorem emq_J0_append : mq_J0_append = dmq_J0_append := Classical.choose_spec (⟨dmq_J0_append, rfl⟩ : ∃ f, f = dmq_J0_append)
def dm_J1_append_2 (s : jS) (x0 x1 : Int) : Option (jS × Int) :=
  (mq_J0_append s x0 x1).bind fun q1 =>
  some (q1.1, x0)
noncomputable def m_J1_append_2 : jS → Int → Int → Option (jS × Int) := Classical.choose (⟨dm_J1_append_2, rfl⟩ : ∃ f, f = dm_J1_append_2)
theorem em_J1_append_2 : m_J1_append_2 = dm_J1_append_2 := Classical.choose_spec (⟨dm_J1_append_2, rfl⟩ : ∃ f, f = dm_J1_append_2)
def du_J14_checkFromIndexSize_15 (s : jS) (x0 x1 x2 x3 : Int) : Option (Int) :=
  none
noncomputable def u_J14_checkFromIndexSize_15 : jS → Int → Int → Int → Int → Option (Int) := Classical.choose (⟨du_J14_checkFromIndexSize_15, rfl⟩ : ∃ f, f = du_J14_checkFromIndexSize_15)
theorem eu_J14_checkFromIndexSize_15 : u_J14_checkFromIndexSize_15 = du_J14_checkFromIndexSize_15 := Classical.choose_spec (⟨du_J14_checkFromIndexSize_15, rfl⟩ : ∃ f, f = du_J14_checkFromIndexSize_15)
def dm_J14_checkFromIndexSize (s : jS) (x0 x1 x2 x3 : Int) : Option (Int) :=
  if (I_or (I_or x2 x0) x1) < 0 then
    u_J14_checkFromIndexSize_15 s x0 x1 x2 x3
  else
    if (W32 (x2 - x0)) < x1 then
      u_J14_checkFromIndexSize_15 s x0 x1 x2 x3
    else
      some x0
noncomputable def m_J14_checkFromIndexSize : jS → Int → Int → Int → Int → Option (Int) := Classical.choose (⟨dm_J14_checkFromIndexSize, rfl⟩ : ∃ f, f = dm_J14_checkFromIndexSize)
theorem em_J14_checkFromIndexSize : m_J14_checkFromIndexSize = dm_J14_checkFromIndexSize := Classical.choose_spec (⟨dm_J14_checkFromIndexSize, rfl⟩ : ∃ f, f = dm_J14_checkFromIndexSize)
def dm_J2_checkBoundsOffCount (s : jS) (x0 x1 x2 : Int) : Option (Int) :=
  (m_J14_checkFromIndexSize s x0 x1 x2 (jc s 1002)).bind fun v1 =>
  some v1
noncomputable def m_J2_checkBoundsOffCount : jS → Int → Int → Int → Option (Int) := Classical.choose (⟨dm_J2_checkBoundsOffCount, rfl⟩ : ∃ f, f = dm_J2_checkBoundsOffCount)
theorem em_J2_checkBoundsOffCount : m_J2_checkBoundsOffCount = dm_J2_checkBoundsOffCount := Classical.choose_spec (⟨dm_J2_checkBoundsOffCount, rfl⟩ : ∃ f, f = dm_J2_checkBoundsOffCount)
def dm_J3_checkBoundsOffCount (s : jS) (x0 x1 x2 : Int) : Option (Int) :=
  (m_J3_length s x2).bind fun v1 =>
  (m_J2_checkBoundsOffCount s x0 x1 v1).bind fun v2 =>
  some 0
noncomputable def m_J3_checkBoundsOffCount : jS → Int → Int → Int → Option (Int) := Classical.choose (⟨dm_J3_checkBoundsOffCount, rfl⟩ : ∃ f, f = dm_J3_checkBoundsOffCount)
theorem em_J3_checkBoundsOffCount : m_J3_checkBoundsOffCount = dm_J3_checkBoundsOffCount := Classical.choose_spec (⟨dm_J3_checkBoundsOffCount, rfl⟩ : ∃ f, f = dm_J3_checkBoundsOffCount)
def b_J3_compress_2_10 (s : jS) (x0 x1 x2 x3 x4 x5 : Int) : Option ((jS × List Int) ⊕ (jS × Int)) :=
  if x5 < x4 then
    (m_J3_getChar s x0 x1).bind fun v1 =>
    if 255 < v1 then
      jinr (some (s, x5))
    else
      (jsa s 1001 x2 x3 (W8 (W8 v1))).bind fun s2 =>
      some (.inl (s2, [x0, W32 (x1 + 1), x2, W32 (x3 + 1), x4, W32 (x5 + 1)]))
  else
    jinr (some (s, x4))
def du_J3_compress_2_10 (s : jS) (x0 x1 x2 x3 x4 x5 : Int) : Option (jS × Int) := jlpW (jc6 b_J3_compress_2_10) [x0, x1, x2, x3, x4, x5] s
noncomputable def u_J3_compress_2_10 : jS → Int → Int → Int → Int → Int → Int → Option (jS × Int) := Classical.choose (⟨du_J3_compress_2_10, rfl⟩ : ∃ f, f = du_J3_compress_2_10)
theorem eu_J3_compress_2_10 : u_J3_compress_2_10 = du_J3_compress_2_10 := Classical.choose_spec (⟨du_J3_compress_2_10, rfl⟩ : ∃ f, f = du_J3_compress_2_10)
def dm_J3_compress_2 (s : jS) (x0 x1 x2 x3 x4 : Int) : Option (jS × Int) :=
  (m_J3_checkBoundsOffCount s x1 x4 x0).bind fun _ =>
  u_J3_compress_2_10 s x0 x1 x2 x3 x4 0
noncomputable def m_J3_compress_2 : jS → Int → Int → Int → Int → Int → Option (jS × Int) := Classical.choose (⟨dm_J3_compress_2, rfl⟩ : ∃ f, f = dm_J3_compress_2)
theorem em_J3_compress_2 : m_J3_compress_2 = dm_J3_compress_2 := Classical.choose_spec (⟨dm_J3_compress_2, rfl⟩ : ∃ f, f = dm_J3_compress_2)
def b_J3_inflate_10 (s : jS) (x0 x1 x2 x3 x4 x5 : Int) : Option ((jS × List Int) ⊕ (jS × Int)) :=
  if x5 < x4 then
    (jldE s 1001 x0 x1).bind fun v1 =>
    (m_J3_putChar s x2 x3 (I_and v1 255)).bind fun q2 =>
    some (.inl (q2.1, [x0, W32 (x1 + 1), x2, W32 (x3 + 1), x4, W32 (x5 + 1)]))
  else
    jinr (some (s, 0))
def du_J3_inflate_10 (s : jS) (x0 x1 x2 x3 x4 x5 : Int) : Option (jS × Int) := jlpW (jc6 b_J3_inflate_10) [x0, x1, x2, x3, x4, x5] s
noncomputable def u_J3_inflate_10 : jS → Int → Int → Int → Int → Int → Int → Option (jS × Int) := Classical.choose (⟨du_J3_inflate_10, rfl⟩ : ∃ f, f = du_J3_inflate_10)
theorem eu_J3_inflate_10 : u_J3_inflate_10 = du_J3_inflate_10 := Classical.choose_spec (⟨du_J3_inflate_10, rfl⟩ : ∃ f, f = du_J3_inflate_10)
def dm_J3_inflate (s : jS) (x0 x1 x2 x3 x4 : Int) : Option (jS × Int) :=
  (m_J3_checkBoundsOffCount s x3 x4 x2).bind fun _ =>
  u_J3_inflate_10 s x0 x1 x2 x3 x4 0
noncomputable def m_J3_inflate : jS → Int → Int → Int → Int → Int → Option (jS × Int) := Classical.choose (⟨dm_J3_inflate, rfl⟩ : ∃ f, f = dm_J3_inflate)
theorem em_J3_inflate : m_J3_inflate = dm_J3_inflate := Classical.choose_spec (⟨dm_J3_inflate, rfl⟩ : ∃ f, f = dm_J3_inflate)
def dm_J15_inflate (s : jS) (x0 x1 x2 x3 x4 : Int) : Option (jS × Int) :=
  (m_J3_inflate s x0 x1 x2 x3 x4).bind fun q1 =>
  some (q1.1, 0)
noncomputable def m_J15_inflate : jS → Int → Int → Int → Int → Int → Option (jS × Int) := Classical.choose (⟨dm_J15_inflate, rfl⟩ : ∃ f, f = dm_J15_inflate)
theorem em_J15_inflate : m_J15_inflate = dm_J15_inflate := Classical.choose_spec (⟨dm_J15_inflate, rfl⟩ : ∃ f, f = dm_J15_inflate)
def dm_J0_inflate (s : jS) (x0 : Int) : Option (jS × Int) :=
  (mp_J0_isLatin1 s x0).bind fun v1 =>
  if v1 = 0 then
    some (s, 0)
  else
    (jlnE s 1001 (jf s 8 x0 0)).bind fun v2 =>
    (m_J3_newBytesFor s v2).bind fun q3 =>
    (m_J15_inflate q3.1 (jf q3.1 8 x0 0) 0 q3.2 0 (jf q3.1 8 x0 3)).bind fun q4 =>
    jls (jp q4.1 8 x0 0 q3.2) fun s5 =>
    (jbb 1).bind fun v6 =>
    (jwp s5 [(8, 1)] x0 v6).bind fun s7 =>
    some (s7, 0)
noncomputable def m_J0_inflate : jS → Int → Option (jS × Int) := Classical.choose (⟨dm_J0_inflate, rfl⟩ : ∃ f, f = dm_J0_inflate)
theorem em_J0_inflate : m_J0_inflate = dm_J0_inflate := Classical.choose_spec (⟨dm_J0_inflate, rfl⟩ : ∃ f, f = dm_J0_inflate)
def dm_J2_getBytes (s : jS) (x0 x1 x2 x3 : Int) : Option (jS × Int) :=
  (mp_J2_coder s x0).bind fun v1 =>
  if v1 = x3 then
    (jrp s [(9, 0), (3009, 0)] x0).bind fun v2 =>
    (jrp s [(9, 0), (3009, 0)] x0).bind fun v3 =>
    (jlnE s 1001 v3).bind fun v4 =>
    (jacp s v2 0 x1 (I_shl x2 x3) v4).bind fun s5 =>
    some (s5, 0)
  else
    (jrp s [(9, 0), (3009, 0)] x0).bind fun v6 =>
    (jrp s [(9, 0), (3009, 0)] x0).bind fun v7 =>
    (jlnE s 1001 v7).bind fun v8 =>
    (m_J15_inflate s v6 0 x1 x2 v8).bind fun q9 =>
    some (q9.1, 0)
noncomputable def m_J2_getBytes : jS → Int → Int → Int → Int → Option (jS × Int) := Classical.choose (⟨dm_J2_getBytes, rfl⟩ : ∃ f, f = dm_J2_getBytes)
theorem em_J2_getBytes : m_J2_getBytes = dm_J2_getBytes := Classical.choose_spec (⟨dm_J2_getBytes, rfl⟩ : ∃ f, f = dm_J2_getBytes)
def dmp_J0_inflate (s : jS) (x0 : Int) : Option (jS × Int) := if 0 ≤ x0 ∧ jK s x0 = 8 then m_J0_inflate s x0 else none
noncomputable def mp_J0_inflate : jS → Int → Option (jS × Int) := Classical.choose (⟨dmp_J0_inflate, rfl⟩ : ∃ f, f = dmp_J0_inflate)
theorem emp_J0_inflate : mp_J0_inflate = dmp_J0_inflate := Classical.choose_spec (⟨dmp_J0_inflate, rfl⟩ : ∃ f, f = dmp_J0_inflate)
def dm_J0_inflateIfNeededFor (s : jS) (x0 x1 : Int) : Option (jS × Int) :=
  if 1 = 0 then
    some (s, 0)
  else
    (mp_J2_coder s x1).bind fun v1 =>
    if (jf s 8 x0 1) = v1 then
      some (s, 0)
    else
      (mp_J0_inflate s x0).bind fun q2 =>
      some (q2.1, 0)
noncomputable def m_J0_inflateIfNeededFor : jS → Int → Int → Option (jS × Int) := Classical.choose (⟨dm_J0_inflateIfNeededFor, rfl⟩ : ∃ f, f = dm_J0_inflateIfNeededFor)
theorem em_J0_inflateIfNeededFor : m_J0_inflateIfNeededFor = dm_J0_inflateIfNeededFor := Classical.choose_spec (⟨dm_J0_inflateIfNeededFor, rfl⟩ : ∃ f, f = dm_J0_inflateIfNeededFor)
def dmp_J0_inflateIfNeededFor (s : jS) (x0 x1 : Int) : Option (jS × Int) := if 0 ≤ x0 ∧ jK s x0 = 8 then m_J0_inflateIfNeededFor s x0 x1 else none
noncomputable def mp_J0_inflateIfNeededFor : jS → Int → Int → Option (jS × Int) := Classical.choose (⟨dmp_J0_inflateIfNeededFor, rfl⟩ : ∃ f, f = dmp_J0_inflateIfNeededFor)
theorem emp_J0_inflateIfNeededFor : mp_J0_inflateIfNeededFor = dmp_J0_inflateIfNeededFor := Classical.choose_spec (⟨dmp_J0_inflateIfNeededFor, rfl⟩ : ∃ f, f = dmp_J0_inflateIfNeededFor)
def dmp_J2_getBytes (s : jS) (x0 x1 x2 x3 : Int) : Option (jS × Int) := if 0 ≤ x0 ∧ jK s x0 = 9 then m_J2_getBytes s x0 x1 x2 x3 else if 0 ≤ x0 ∧ jK s x0 = 3009 then m_J2_getBytes s x0 x1 x2 x3 else none
noncomputable def mp_J2_getBytes : jS → Int → Int → Int → Int → Option (jS × Int) := Classical.choose (⟨dmp_J2_getBytes, rfl⟩ : ∃ f, f = dmp_J2_getBytes)
theorem emp_J2_getBytes : mp_J2_getBytes = dmp_J2_getBytes := Classical.choose_spec (⟨dmp_J2_getBytes, rfl⟩ : ∃ f, f = dmp_J2_getBytes)
def dm_J0_putStringAt (s : jS) (x0 x1 x2 : Int) : Option (jS × Int) :=
  (mp_J0_inflateIfNeededFor s x0 x2).bind fun q1 =>
  (mp_J2_getBytes q1.1 x2 (jf q1.1 8 x0 0) x1 (jf q1.1 8 x0 1)).bind fun q2 =>
  some (q2.1, 0)
noncomputable def m_J0_putStringAt : jS → Int → Int → Int → Option (jS × Int) := Classical.choose (⟨dm_J0_putStringAt, rfl⟩ : ∃ f, f = dm_J0_putStringAt)
theorem em_J0_putStringAt : m_J0_putStringAt = dm_J0_putStringAt := Classical.choose_spec (⟨dm_J0_putStringAt, rfl⟩ : ∃ f, f = dm_J0_putStringAt)
def dmp_J0_appendNull (s : jS) (x0 : Int) : Option (jS × Int) := if 0 ≤ x0 ∧ jK s x0 = 8 then m_J0_appendNull s x0 else none
noncomputable def mp_J0_appendNull : jS → Int → Option (jS × Int) := Classical.choose (⟨dmp_J0_appendNull, rfl⟩ : ∃ f, f = dmp_J0_appendNull)
theorem emp_J0_appendNull : mp_J0_appendNull = dmp_J0_appendNull := Classical.choose_spec (⟨dmp_J0_appendNull, rfl⟩ : ∃ f, f = dmp_J0_appendNull)
def dmp_J0_putStringAt (s : jS) (x0 x1 x2 : Int) : Option (jS × Int) := if 0 ≤ x0 ∧ jK s x0 = 8 then m_J0_putStringAt s x0 x1 x2 else none
noncomputable def mp_J0_putStringAt : jS → Int → Int → Int → Option (jS × Int) := Classical.choose (⟨dmp_J0_putStringAt, rfl⟩ : ∃ f, f = dmp_J0_putStringAt)
theorem emp_J0_putStringAt : mp_J0_putStringAt = dmp_J0_putStringAt := Classical.choose_spec (⟨dmp_J0_putStringAt, rfl⟩ : ∃ f, f = dmp_J0_putStringAt)
def dm_J0_append (s : jS) (x0 x1 : Int) : Option (jS × Int) :=
  if x1 < 0 then
    (mp_J0_appendNull s x0).bind fun q1 =>
    some (q1.1, q1.2)
  else
    (mp_J2_length s x1).bind fun v2 =>
    (mp_J0_ensureCapacityInternal s x0 (W32 ((jf s 8 x0 3) + v2))).bind fun q3 =>
    (mp_J0_putStringAt q3.1 x0 (jf q3.1 8 x0 3) x1).bind fun q4 =>
    jls (jp q4.1 8 x0 3 (W32 ((jf q4.1 8 x0 3) + v2))) fun s5 =>
    some (s5, x0)
noncomputable def m_J0_append : jS → Int → Int → Option (jS × Int) := Classical.choose (⟨dm_J0_append, rfl⟩ : ∃ f, f = dm_J0_append)
theorem em_J0_append : m_J0_append = dm_J0_append := Classical.choose_spec (⟨dm_J0_append, rfl⟩ : ∃ f, f = dm_J0_append)
def dmq_J0_append_2 (s : jS) (x0 x1 : Int) : Option (jS × Int) := if 0 ≤ x0 ∧ jK s x0 = 8 then m_J0_append s x0 x1 else none
noncomputable def mq_J0_append_2 : jS → Int → Int → Option (jS × Int) := Classical.choose (⟨dmq_J0_append_2, rfl⟩ : ∃ f, f = dmq_J0_append_2)
theorem emq_J0_append_2 : mq_J0_append_2 = dmq_J0_append_2 := Classical.choose_spec (⟨dmq_J0_append_2, rfl⟩ : ∃ f, f = dmq_J0_append_2)
def dm_J1_append (s : jS) (x0 x1 : Int) : Option (jS × Int) :=
  (mq_J0_append_2 s x0 x1).bind fun q1 =>
  some (q1.1, x0)
noncomputable def m_J1_append : jS → Int → Int → Option (jS × Int) := Classical.choose (⟨dm_J1_append, rfl⟩ : ∃ f, f = dm_J1_append)
theorem em_J1_append : m_J1_append = dm_J1_append := Classical.choose_spec (⟨dm_J1_append, rfl⟩ : ∃ f, f = dm_J1_append)
def du_J11_vectorizedHashCode_129 (s : jS) (x4 : Int) : Option (jS × Int) :=
  (jnw s 54 6 (jdf 54)).bind fun q1 =>
  (jnw q1.1 8 4 (jdf 8)).bind fun q2 =>
  (jck0 q2.2 (m_J1_init q2.1 q2.2)).bind fun q3 =>
  (m_J1_append q3.1 q2.2 (jc q3.1 201)).bind fun q4 =>
  (jct q4.1 24 q4.2 (m_J1_append_2 q4.1 q4.2 x4)).bind fun q5 =>
  none
noncomputable def u_J11_vectorizedHashCode_129 : jS → Int → Option (jS × Int) := Classical.choose (⟨du_J11_vectorizedHashCode_129, rfl⟩ : ∃ f, f = du_J11_vectorizedHashCode_129)
theorem eu_J11_vectorizedHashCode_129 : u_J11_vectorizedHashCode_129 = du_J11_vectorizedHashCode_129 := Classical.choose_spec (⟨du_J11_vectorizedHashCode_129, rfl⟩ : ∃ f, f = du_J11_vectorizedHashCode_129)
def dm_J11_vectorizedHashCode (s : jS) (x0 x1 x2 x3 x4 : Int) : Option (jS × Int) :=
  if x4 = 4 then
    jkk s [1001, 4001] x0 <|
    (m_J11_signedHashCode s x3 x0 x1 x2).bind fun v1 =>
    some (s, v1)
  else
  if x4 = 5 then
    (jio1 s [1001, 4001] [] x0).bind fun v2 =>
    if v2 = 0 then
      none
    else
      jkk s [1001, 4001] x0 <|
      (m_J11_utf16hashCode s x3 x0 x1 x2).bind fun v3 =>
      some (s, v3)
  else
  if x4 = 6 then
    u_J11_vectorizedHashCode_129 s x4
  else
  if x4 = 7 then
    u_J11_vectorizedHashCode_129 s x4
  else
  if x4 = 8 then
    jkk s [1001, 4001] x0 <|
    (m_J11_hashCode_2 s x3 x0 x1 x2).bind fun v4 =>
    some (s, v4)
  else
  if x4 = 9 then
    none
  else
  if x4 = 10 then
    none
  else
  u_J11_vectorizedHashCode_129 s x4
noncomputable def m_J11_vectorizedHashCode : jS → Int → Int → Int → Int → Int → Option (jS × Int) := Classical.choose (⟨dm_J11_vectorizedHashCode, rfl⟩ : ∃ f, f = dm_J11_vectorizedHashCode)
theorem em_J11_vectorizedHashCode : m_J11_vectorizedHashCode = dm_J11_vectorizedHashCode := Classical.choose_spec (⟨dm_J11_vectorizedHashCode, rfl⟩ : ∃ f, f = dm_J11_vectorizedHashCode)
def dm_J13_checkLength (s : jS) (x0 x1 : Int) : Option (jS × Int) :=
  if x1 < x0 then
    (jnw s 54 6 (jdf 54)).bind fun q1 =>
    (jnw q1.1 8 4 (jdf 8)).bind fun q2 =>
    (jck0 q2.2 (m_J1_init q2.1 q2.2)).bind fun q3 =>
    (m_J1_append_2 q3.1 q2.2 x0).bind fun q4 =>
    (jct q4.1 24 q4.2 (m_J1_append q4.1 q4.2 (jc q4.1 200))).bind fun q5 =>
    (jct q5.1 24 q5.2 (m_J1_append_2 q5.1 q5.2 x1)).bind fun q6 =>
    none
  else
    some (s, 0)
noncomputable def m_J13_checkLength : jS → Int → Int → Option (jS × Int) := Classical.choose (⟨dm_J13_checkLength, rfl⟩ : ∃ f, f = dm_J13_checkLength)
theorem em_J13_checkLength : m_J13_checkLength = dm_J13_checkLength := Classical.choose_spec (⟨dm_J13_checkLength, rfl⟩ : ∃ f, f = dm_J13_checkLength)
def dm_J15_hashCode (s : jS) (x0 : Int) : Option (jS × Int) :=
  (jlnE s 1001 x0).bind fun v1 =>
  if v1 = 0 then
    some (s, 0)
  else
  if v1 = 1 then
    (jldE s 1001 x0 0).bind fun v2 =>
    some (s, I_and v2 255)
  else
  (jlnE s 1001 x0).bind fun v3 =>
  (m_J11_vectorizedHashCode s x0 0 v3 0 4).bind fun q4 =>
  some (q4.1, q4.2)
noncomputable def m_J15_hashCode : jS → Int → Option (jS × Int) := Classical.choose (⟨dm_J15_hashCode, rfl⟩ : ∃ f, f = dm_J15_hashCode)
theorem em_J15_hashCode : m_J15_hashCode = dm_J15_hashCode := Classical.choose_spec (⟨dm_J15_hashCode, rfl⟩ : ∃ f, f = dm_J15_hashCode)
def dm_J3_hashCode (s : jS) (x0 : Int) : Option (jS × Int) :=
  (jlnE s 1001 x0).bind fun v1 =>
  if v1 = 0 then
    some (s, 0)
  else
  if v1 = 2 then
    (m_J3_getChar s x0 0).bind fun v2 =>
    some (s, v2)
  else
  (jlnE s 1001 x0).bind fun v3 =>
  (m_J11_vectorizedHashCode s x0 0 (I_shr v3 1) 0 5).bind fun q4 =>
  some (q4.1, q4.2)
noncomputable def m_J3_hashCode : jS → Int → Option (jS × Int) := Classical.choose (⟨dm_J3_hashCode, rfl⟩ : ∃ f, f = dm_J3_hashCode)
theorem em_J3_hashCode : m_J3_hashCode = dm_J3_hashCode := Classical.choose_spec (⟨dm_J3_hashCode, rfl⟩ : ∃ f, f = dm_J3_hashCode)
def dm_J13_copyOfRangeByte (s : jS) (x0 x1 x2 : Int) : Option (jS × Int) :=
  (m_J13_checkLength s x1 x2).bind fun q1 =>
  jlet (W32 (x2 - x1)) fun v2 =>
  (jna q1.1 1001 v2 0).bind fun q3 =>
  (jlnE q3.1 1001 x0).bind fun v4 =>
  (jacp q3.1 x0 x1 q3.2 0 (jmi (W32 (v4 - x1)) v2)).bind fun s5 =>
  some (s5, q3.2)
noncomputable def m_J13_copyOfRangeByte : jS → Int → Int → Int → Option (jS × Int) := Classical.choose (⟨dm_J13_copyOfRangeByte, rfl⟩ : ∃ f, f = dm_J13_copyOfRangeByte)
theorem em_J13_copyOfRangeByte : m_J13_copyOfRangeByte = dm_J13_copyOfRangeByte := Classical.choose_spec (⟨dm_J13_copyOfRangeByte, rfl⟩ : ∃ f, f = dm_J13_copyOfRangeByte)
def dmp_J2_isLatin1 (s : jS) (x0 : Int) : Option (Int) := if 0 ≤ x0 ∧ jK s x0 = 9 then m_J2_isLatin1 s x0 else if 0 ≤ x0 ∧ jK s x0 = 3009 then m_J2_isLatin1 s x0 else none
noncomputable def mp_J2_isLatin1 : jS → Int → Option (Int) := Classical.choose (⟨dmp_J2_isLatin1, rfl⟩ : ∃ f, f = dmp_J2_isLatin1)
theorem emp_J2_isLatin1 : mp_J2_isLatin1 = dmp_J2_isLatin1 := Classical.choose_spec (⟨dmp_J2_isLatin1, rfl⟩ : ∃ f, f = dmp_J2_isLatin1)
def du_J2_hashCode_40 (s : jS) (x0 y0 : Int) : Option (jS × Int) :=
  if y0 = 0 then
    (jzb 1).bind fun v1 =>
    (jwp s [(9, 3)] x0 v1).bind fun s2 =>
    some (s2, y0)
  else
    (jwp s [(9, 2)] x0 y0).bind fun s3 =>
    some (s3, y0)
noncomputable def u_J2_hashCode_40 : jS → Int → Int → Option (jS × Int) := Classical.choose (⟨du_J2_hashCode_40, rfl⟩ : ∃ f, f = du_J2_hashCode_40)
theorem eu_J2_hashCode_40 : u_J2_hashCode_40 = du_J2_hashCode_40 := Classical.choose_spec (⟨du_J2_hashCode_40, rfl⟩ : ∃ f, f = du_J2_hashCode_40)
def dm_J2_hashCode (s : jS) (x0 : Int) : Option (jS × Int) :=
  (jrp s [(9, 2), (3009, 2)] x0).bind fun v1 =>
  if v1 = 0 then
    (jrp s [(9, 3), (3009, 3)] x0).bind fun v2 =>
    if v2 = 0 then
      (mp_J2_isLatin1 s x0).bind fun v3 =>
      if v3 = 0 then
        (jrp s [(9, 0), (3009, 0)] x0).bind fun v4 =>
        (m_J3_hashCode s v4).bind fun q5 =>
        u_J2_hashCode_40 q5.1 x0 q5.2
      else
        (jrp s [(9, 0), (3009, 0)] x0).bind fun v6 =>
        (m_J15_hashCode s v6).bind fun q7 =>
        u_J2_hashCode_40 q7.1 x0 q7.2
    else
      some (s, v1)
  else
    some (s, v1)
noncomputable def m_J2_hashCode : jS → Int → Option (jS × Int) := Classical.choose (⟨dm_J2_hashCode, rfl⟩ : ∃ f, f = dm_J2_hashCode)
theorem em_J2_hashCode : m_J2_hashCode = dm_J2_hashCode := Classical.choose_spec (⟨dm_J2_hashCode, rfl⟩ : ∃ f, f = dm_J2_hashCode)
def dmp_J2_hashCode (s : jS) (x0 : Int) : Option (jS × Int) := if 0 ≤ x0 ∧ jK s x0 = 9 then m_J2_hashCode s x0 else if 0 ≤ x0 ∧ jK s x0 = 3009 then m_J2_hashCode s x0 else none
noncomputable def mp_J2_hashCode : jS → Int → Option (jS × Int) := Classical.choose (⟨dmp_J2_hashCode, rfl⟩ : ∃ f, f = dmp_J2_hashCode)
theorem emp_J2_hashCode : mp_J2_hashCode = dmp_J2_hashCode := Classical.choose_spec (⟨dmp_J2_hashCode, rfl⟩ : ∃ f, f = dmp_J2_hashCode)
def du_X33_option_330 (s : jS) (x0 y0 y1 : Int) : Option (jS × Bool × Int) :=
  (m_X33_need s y1 y0 17).bind fun q1 =>
  jth q1.2.1 (some (q1.1, true, q1.2.2)) <|
  jls (jp q1.1 37 x0 29 (W32 ((jf q1.1 37 x0 29) - 1))) fun s2 =>
  (jlt s2 1002 (x0 + 18) 8 (jf s2 37 x0 29)).bind fun v3 =>
  (jzb v3).bind fun v4 =>
  jls (jp s2 37 x0 39 v4) fun s5 =>
  (jlt s5 1002 (x0 + 19) 8 (jf s5 37 x0 29)).bind fun v6 =>
  (jzb v6).bind fun v7 =>
  jls (jp s5 37 x0 40 v7) fun s8 =>
  some (s8, false, 0)
noncomputable def u_X33_option_330 : jS → Int → Int → Int → Option (jS × Bool × Int) := Classical.choose (⟨du_X33_option_330, rfl⟩ : ∃ f, f = du_X33_option_330)
theorem eu_X33_option_330 : u_X33_option_330 = du_X33_option_330 := Classical.choose_spec (⟨du_X33_option_330, rfl⟩ : ∃ f, f = du_X33_option_330)
def du_X33_option_275 (s : jS) (x0 y0 y1 : Int) : Option (jS × Bool × Int) :=
  (m_X33_need s y1 y0 17).bind fun q1 =>
  jth q1.2.1 (some (q1.1, true, q1.2.2)) <|
  (jst q1.1 1002 (x0 + 18) 8 (jf q1.1 37 x0 29) (Wz (jf q1.1 37 x0 39))).bind fun s2 =>
  (jst s2 1002 (x0 + 19) 8 (jf s2 37 x0 29) (Wz (jf s2 37 x0 40))).bind fun s3 =>
  jls (jp s3 37 x0 29 (W32 ((jf s3 37 x0 29) + 1))) fun s4 =>
  some (s4, false, 0)
noncomputable def u_X33_option_275 : jS → Int → Int → Int → Option (jS × Bool × Int) := Classical.choose (⟨du_X33_option_275, rfl⟩ : ∃ f, f = du_X33_option_275)
theorem eu_X33_option_275 : u_X33_option_275 = du_X33_option_275 := Classical.choose_spec (⟨du_X33_option_275, rfl⟩ : ∃ f, f = du_X33_option_275)
def du_X33_option_195 (s : jS) (x0 x2 : Int) : Option (jS × Bool × Int) :=
  if x2 = 0 then
    (jzb 1).bind fun v1 =>
    jls (jp s 37 x0 39 v1) fun s2 =>
    some (s2, false, 0)
  else
  if x2 = 1 then
    (jzb 0).bind fun v3 =>
    jls (jp s 37 x0 39 v3) fun s4 =>
    some (s4, false, 0)
  else
  if x2 = 2 then
    (jzb 1).bind fun v5 =>
    jls (jp s 37 x0 40 v5) fun s6 =>
    some (s6, false, 0)
  else
  if x2 = 3 then
    (jzb 0).bind fun v7 =>
    jls (jp s 37 x0 40 v7) fun s8 =>
    some (s8, false, 0)
  else
  if x2 = 4 then
    if (jf s 37 x0 29) < 8 then
      u_X33_option_275 s x0 1 x0
    else
      u_X33_option_275 s x0 0 x0
  else
  if x2 = 5 then
    if 0 < (jf s 37 x0 29) then
      u_X33_option_330 s x0 1 x0
    else
      u_X33_option_330 s x0 0 x0
  else
  (m_X33_need s x0 0 12).bind fun q9 =>
  jth q9.2.1 (some (q9.1, true, q9.2.2)) <|
  some (q9.1, false, 0)
noncomputable def u_X33_option_195 : jS → Int → Int → Option (jS × Bool × Int) := Classical.choose (⟨du_X33_option_195, rfl⟩ : ∃ f, f = du_X33_option_195)
theorem eu_X33_option_195 : u_X33_option_195 = du_X33_option_195 := Classical.choose_spec (⟨du_X33_option_195, rfl⟩ : ∃ f, f = du_X33_option_195)
def du_X33_option_22 (s : jS) (x0 y0 y1 : Int) : Option (jS × Bool × Int) :=
  (m_X33_need s y1 y0 12).bind fun q1 =>
  jth q1.2.1 (some (q1.1, true, q1.2.2)) <|
  (jrd q1.1 16 (jf q1.1 15 (x0 + (-3890)) 5) 4).bind fun v2 =>
  (m_X33_nameOf q1.1 x0 0).bind fun v3 =>
  (jld q1.1 1026 v2 v3).bind fun v4 =>
  (mp_J2_hashCode q1.1 v4).bind fun q5 =>
  if q5.2 = 111185 then
    (mp_J2_equals q5.1 v4 (jc q5.1 21)).bind fun v6 =>
    if v6 = 0 then
      u_X33_option_195 q5.1 x0 (-1)
    else
      u_X33_option_195 q5.1 x0 5
  else
  if q5.2 = 113311 then
    (mp_J2_equals q5.1 v4 (jc q5.1 16)).bind fun v7 =>
    if v7 = 0 then
      u_X33_option_195 q5.1 x0 (-1)
    else
      u_X33_option_195 q5.1 x0 0
  else
  if q5.2 = 3452698 then
    (mp_J2_equals q5.1 v4 (jc q5.1 20)).bind fun v8 =>
    if v8 = 0 then
      u_X33_option_195 q5.1 x0 (-1)
    else
      u_X33_option_195 q5.1 x0 4
  else
  if q5.2 = 105007422 then
    (mp_J2_equals q5.1 v4 (jc q5.1 17)).bind fun v9 =>
    if v9 = 0 then
      u_X33_option_195 q5.1 x0 (-1)
    else
      u_X33_option_195 q5.1 x0 1
  else
  if q5.2 = 108397200 then
    (mp_J2_equals q5.1 v4 (jc q5.1 18)).bind fun v10 =>
    if v10 = 0 then
      u_X33_option_195 q5.1 x0 (-1)
    else
      u_X33_option_195 q5.1 x0 2
  else
  if q5.2 = 2127390063 then
    (mp_J2_equals q5.1 v4 (jc q5.1 19)).bind fun v11 =>
    if v11 = 0 then
      u_X33_option_195 q5.1 x0 (-1)
    else
      u_X33_option_195 q5.1 x0 3
  else
  u_X33_option_195 q5.1 x0 (-1)
noncomputable def u_X33_option_22 : jS → Int → Int → Int → Option (jS × Bool × Int) := Classical.choose (⟨du_X33_option_22, rfl⟩ : ∃ f, f = du_X33_option_22)
theorem eu_X33_option_22 : u_X33_option_22 = du_X33_option_22 := Classical.choose_spec (⟨du_X33_option_22, rfl⟩ : ∃ f, f = du_X33_option_22)
def du_X33_option_21 (s : jS) (x0 y0 : Int) : Option (jS × Bool × Int) :=
  u_X33_option_22 s x0 0 y0
noncomputable def u_X33_option_21 : jS → Int → Int → Option (jS × Bool × Int) := Classical.choose (⟨du_X33_option_21, rfl⟩ : ∃ f, f = du_X33_option_21)
theorem eu_X33_option_21 : u_X33_option_21 = du_X33_option_21 := Classical.choose_spec (⟨du_X33_option_21, rfl⟩ : ∃ f, f = du_X33_option_21)
def dm_X33_option (s : jS) (x0 : Int) : Option (jS × Bool × Int) :=
  if (jf s 37 x0 35) = 1 then
    (m_X33_isName s x0 0).bind fun v1 =>
    if v1 = 0 then
      u_X33_option_21 s x0 x0
    else
      u_X33_option_22 s x0 1 x0
  else
    u_X33_option_21 s x0 x0
noncomputable def m_X33_option : jS → Int → Option (jS × Bool × Int) := Classical.choose (⟨dm_X33_option, rfl⟩ : ∃ f, f = dm_X33_option)
theorem em_X33_option : m_X33_option = dm_X33_option := Classical.choose_spec (⟨dm_X33_option, rfl⟩ : ∃ f, f = dm_X33_option)
def du_X33_otherOf_611 (s : jS) (x3 : Int) : Option (jS × Int) :=
  if x3 = 0 then
    some (s, 1)
  else
  if x3 = 1 then
    some (s, 2)
  else
  if x3 = 2 then
    some (s, 3)
  else
  if x3 = 3 then
    some (s, 4)
  else
  if x3 = 4 then
    some (s, 5)
  else
  if x3 = 5 then
    some (s, 6)
  else
  if x3 = 6 then
    some (s, 7)
  else
  if x3 = 7 then
    some (s, 8)
  else
  if x3 = 8 then
    some (s, 9)
  else
  if x3 = 9 then
    some (s, 10)
  else
  if x3 = 10 then
    some (s, 11)
  else
  if x3 = 11 then
    some (s, 12)
  else
  if x3 = 12 then
    some (s, 13)
  else
  if x3 = 13 then
    some (s, 14)
  else
  if x3 = 14 then
    some (s, 15)
  else
  if x3 = 15 then
    some (s, 16)
  else
  if x3 = 16 then
    some (s, 17)
  else
  if x3 = 17 then
    some (s, 18)
  else
  if x3 = 18 then
    some (s, 19)
  else
  if x3 = 19 then
    some (s, 20)
  else
  if x3 = 20 then
    some (s, 21)
  else
  if x3 = 21 then
    some (s, 22)
  else
  if x3 = 22 then
    some (s, 23)
  else
  if x3 = 23 then
    some (s, 24)
  else
  if x3 = 24 then
    some (s, 25)
  else
  some (s, 0)
noncomputable def u_X33_otherOf_611 : jS → Int → Option (jS × Int) := Classical.choose (⟨du_X33_otherOf_611, rfl⟩ : ∃ f, f = du_X33_otherOf_611)
theorem eu_X33_otherOf_611 : u_X33_otherOf_611 = du_X33_otherOf_611 := Classical.choose_spec (⟨du_X33_otherOf_611, rfl⟩ : ∃ f, f = du_X33_otherOf_611)
def dm_X33_otherOf (s : jS) (x0 x1 : Int) : Option (jS × Int) :=
  (mp_J2_hashCode s x1).bind fun q1 =>
  if q1.2 = 106 then
    (mp_J2_equals q1.1 x1 (jc q1.1 42)).bind fun v2 =>
    if v2 = 0 then
      u_X33_otherOf_611 q1.1 (-1)
    else
      u_X33_otherOf_611 q1.1 20
  else
  if q1.2 = 3400 then
    (mp_J2_equals q1.1 x1 (jc q1.1 43)).bind fun v3 =>
    if v3 = 0 then
      u_X33_otherOf_611 q1.1 (-1)
    else
      u_X33_otherOf_611 q1.1 21
  else
  if q1.2 = 3445 then
    (mp_J2_equals q1.1 x1 (jc q1.1 24)).bind fun v4 =>
    if v4 = 0 then
      u_X33_otherOf_611 q1.1 (-1)
    else
      u_X33_otherOf_611 q1.1 2
  else
  if q1.2 = 3453 then
    (mp_J2_equals q1.1 x1 (jc q1.1 23)).bind fun v5 =>
    if v5 = 0 then
      u_X33_otherOf_611 q1.1 (-1)
    else
      u_X33_otherOf_611 q1.1 1
  else
  if q1.2 = 3497 then
    (mp_J2_equals q1.1 x1 (jc q1.1 25)).bind fun v6 =>
    if v6 = 0 then
      u_X33_otherOf_611 q1.1 (-1)
    else
      u_X33_otherOf_611 q1.1 3
  else
  if q1.2 = 97487 then
    (mp_J2_equals q1.1 x1 (jc q1.1 38)).bind fun v7 =>
    if v7 = 0 then
      u_X33_otherOf_611 q1.1 (-1)
    else
      u_X33_otherOf_611 q1.1 16
  else
  if q1.2 = 97627 then
    (mp_J2_equals q1.1 x1 (jc q1.1 39)).bind fun v8 =>
    if v8 = 0 then
      u_X33_otherOf_611 q1.1 (-1)
    else
      u_X33_otherOf_611 q1.1 17
  else
  if q1.2 = 108944 then
    (mp_J2_equals q1.1 x1 (jc q1.1 27)).bind fun v9 =>
    if v9 = 0 then
      u_X33_otherOf_611 q1.1 (-1)
    else
      u_X33_otherOf_611 q1.1 5
  else
  if q1.2 = 109263 then
    (mp_J2_equals q1.1 x1 (jc q1.1 22)).bind fun v10 =>
    if v10 = 0 then
      u_X33_otherOf_611 q1.1 (-1)
    else
      u_X33_otherOf_611 q1.1 0
  else
  if q1.2 = 109267 then
    (mp_J2_equals q1.1 x1 (jc q1.1 26)).bind fun v11 =>
    if v11 = 0 then
      u_X33_otherOf_611 q1.1 (-1)
    else
      u_X33_otherOf_611 q1.1 4
  else
  if q1.2 = 112801 then
    (mp_J2_equals q1.1 x1 (jc q1.1 44)).bind fun v12 =>
    if v12 = 0 then
      u_X33_otherOf_611 q1.1 (-1)
    else
      u_X33_otherOf_611 q1.1 22
  else
  if q1.2 = 3020204 then
    (mp_J2_equals q1.1 x1 (jc q1.1 32)).bind fun v13 =>
    if v13 = 0 then
      u_X33_otherOf_611 q1.1 (-1)
    else
      u_X33_otherOf_611 q1.1 10
  else
  if q1.2 = 3021754 then
    (mp_J2_equals q1.1 x1 (jc q1.1 34)).bind fun v14 =>
    if v14 = 0 then
      u_X33_otherOf_611 q1.1 (-1)
    else
      u_X33_otherOf_611 q1.1 12
  else
  if q1.2 = 3022214 then
    (mp_J2_equals q1.1 x1 (jc q1.1 40)).bind fun v15 =>
    if v15 = 0 then
      u_X33_otherOf_611 q1.1 (-1)
    else
      u_X33_otherOf_611 q1.1 18
  else
  if q1.2 = 3022219 then
    (mp_J2_equals q1.1 x1 (jc q1.1 37)).bind fun v16 =>
    if v16 = 0 then
      u_X33_otherOf_611 q1.1 (-1)
    else
      u_X33_otherOf_611 q1.1 15
  else
  if q1.2 = 3026554 then
    (mp_J2_equals q1.1 x1 (jc q1.1 41)).bind fun v17 =>
    if v17 = 0 then
      u_X33_otherOf_611 q1.1 (-1)
    else
      u_X33_otherOf_611 q1.1 19
  else
  if q1.2 = 3026559 then
    (mp_J2_equals q1.1 x1 (jc q1.1 36)).bind fun v18 =>
    if v18 = 0 then
      u_X33_otherOf_611 q1.1 (-1)
    else
      u_X33_otherOf_611 q1.1 14
  else
  if q1.2 = 3027024 then
    (mp_J2_equals q1.1 x1 (jc q1.1 35)).bind fun v19 =>
    if v19 = 0 then
      u_X33_otherOf_611 q1.1 (-1)
    else
      u_X33_otherOf_611 q1.1 13
  else
  if q1.2 = 3028481 then
    (mp_J2_equals q1.1 x1 (jc q1.1 33)).bind fun v20 =>
    if v20 = 0 then
      u_X33_otherOf_611 q1.1 (-1)
    else
      u_X33_otherOf_611 q1.1 11
  else
  if q1.2 = 3045982 then
    (mp_J2_equals q1.1 x1 (jc q1.1 45)).bind fun v21 =>
    if v21 = 0 then
      u_X33_otherOf_611 q1.1 (-1)
    else
      u_X33_otherOf_611 q1.1 23
  else
  if q1.2 = 3526651 then
    (mp_J2_equals q1.1 x1 (jc q1.1 28)).bind fun v22 =>
    if v22 = 0 then
      u_X33_otherOf_611 q1.1 (-1)
    else
      u_X33_otherOf_611 q1.1 6
  else
  if q1.2 = 3528666 then
    (mp_J2_equals q1.1 x1 (jc q1.1 31)).bind fun v23 =>
    if v23 = 0 then
      u_X33_otherOf_611 q1.1 (-1)
    else
      u_X33_otherOf_611 q1.1 9
  else
  if q1.2 = 3533471 then
    (mp_J2_equals q1.1 x1 (jc q1.1 30)).bind fun v24 =>
    if v24 = 0 then
      u_X33_otherOf_611 q1.1 (-1)
    else
      u_X33_otherOf_611 q1.1 8
  else
  if q1.2 = 3534928 then
    (mp_J2_equals q1.1 x1 (jc q1.1 29)).bind fun v25 =>
    if v25 = 0 then
      u_X33_otherOf_611 q1.1 (-1)
    else
      u_X33_otherOf_611 q1.1 7
  else
  if q1.2 = 3552336 then
    (mp_J2_equals q1.1 x1 (jc q1.1 46)).bind fun v26 =>
    if v26 = 0 then
      u_X33_otherOf_611 q1.1 (-1)
    else
      u_X33_otherOf_611 q1.1 24
  else
  u_X33_otherOf_611 q1.1 (-1)
noncomputable def m_X33_otherOf : jS → Int → Int → Option (jS × Int) := Classical.choose (⟨dm_X33_otherOf, rfl⟩ : ∃ f, f = dm_X33_otherOf)
theorem em_X33_otherOf : m_X33_otherOf = dm_X33_otherOf := Classical.choose_spec (⟨dm_X33_otherOf, rfl⟩ : ∃ f, f = dm_X33_otherOf)
def du_J13_copyOfRange_10 (s : jS) (x0 x1 x2 : Int) : Option (jS × Int) :=
  (m_J13_copyOfRangeByte s x0 x1 x2).bind fun q1 =>
  some (q1.1, q1.2)
noncomputable def u_J13_copyOfRange_10 : jS → Int → Int → Int → Option (jS × Int) := Classical.choose (⟨du_J13_copyOfRange_10, rfl⟩ : ∃ f, f = du_J13_copyOfRange_10)
theorem eu_J13_copyOfRange_10 : u_J13_copyOfRange_10 = du_J13_copyOfRange_10 := Classical.choose_spec (⟨du_J13_copyOfRange_10, rfl⟩ : ∃ f, f = du_J13_copyOfRange_10)
def dm_J13_copyOfRange (s : jS) (x0 x1 x2 : Int) : Option (jS × Int) :=
  if x1 = 0 then
    (jlnE s 1001 x0).bind fun v1 =>
    if x2 = v1 then
      (jcln s x0).bind fun q2 =>
      jkk q2.1 [1001, 4001] q2.2 <|
      some (q2.1, q2.2)
    else
      u_J13_copyOfRange_10 s x0 x1 x2
  else
    u_J13_copyOfRange_10 s x0 x1 x2
noncomputable def m_J13_copyOfRange : jS → Int → Int → Int → Option (jS × Int) := Classical.choose (⟨dm_J13_copyOfRange, rfl⟩ : ∃ f, f = dm_J13_copyOfRange)
theorem em_J13_copyOfRange : m_J13_copyOfRange = dm_J13_copyOfRange := Classical.choose_spec (⟨dm_J13_copyOfRange, rfl⟩ : ∃ f, f = dm_J13_copyOfRange)
def dm_J3_compress (s : jS) (x0 x1 x2 : Int) : Option (jS × Int) :=
  (jna s 1001 x2 0).bind fun q1 =>
  (m_J3_compress_2 q1.1 x0 x1 q1.2 0 x2).bind fun q2 =>
  if q2.2 = x2 then
    some (q2.1, q1.2)
  else
    (m_J3_newBytesLength q2.1 (W32 (x1 + x2))).bind fun v3 =>
    (m_J13_copyOfRange q2.1 x0 (I_shl x1 1) v3).bind fun q4 =>
    (m_J3_getChar q4.1 q4.2 q2.2).bind fun v5 =>
    if 255 < v5 then
      some (q4.1, q4.2)
    else
      (m_J3_compress_2 q4.1 q4.2 0 q1.2 0 x2).bind fun q6 =>
      if q6.2 = x2 then
        some (q6.1, q1.2)
      else
        some (q6.1, q4.2)
noncomputable def m_J3_compress : jS → Int → Int → Int → Option (jS × Int) := Classical.choose (⟨dm_J3_compress, rfl⟩ : ∃ f, f = dm_J3_compress)
theorem em_J3_compress : m_J3_compress = dm_J3_compress := Classical.choose_spec (⟨dm_J3_compress, rfl⟩ : ∃ f, f = dm_J3_compress)
def dmp_J0_getValue (s : jS) (x0 : Int) : Option (Int) := if 0 ≤ x0 ∧ jK s x0 = 8 then m_J0_getValue s x0 else none
noncomputable def mp_J0_getValue : jS → Int → Option (Int) := Classical.choose (⟨dmp_J0_getValue, rfl⟩ : ∃ f, f = dmp_J0_getValue)
theorem emp_J0_getValue : mp_J0_getValue = dmp_J0_getValue := Classical.choose_spec (⟨dmp_J0_getValue, rfl⟩ : ∃ f, f = dmp_J0_getValue)
def dmp_J0_length (s : jS) (x0 : Int) : Option (Int) := if 0 ≤ x0 ∧ jK s x0 = 8 then m_J1_length s x0 else none
noncomputable def mp_J0_length : jS → Int → Option (Int) := Classical.choose (⟨dmp_J0_length, rfl⟩ : ∃ f, f = dmp_J0_length)
theorem emp_J0_length : mp_J0_length = dmp_J0_length := Classical.choose_spec (⟨dmp_J0_length, rfl⟩ : ∃ f, f = dmp_J0_length)
def du_J2_init_2_79 (s : jS) (x0 x3 x4 : Int) : Option (jS × Int) :=
  (jbb 1).bind fun v1 =>
  (jwp s [(9, 1)] x0 v1).bind fun s2 =>
  (m_J13_copyOfRange s2 x3 0 (I_shl x4 1)).bind fun q3 =>
  (jwp q3.1 [(9, 0)] x0 q3.2).bind fun s4 =>
  some (s4, 0)
noncomputable def u_J2_init_2_79 : jS → Int → Int → Int → Option (jS × Int) := Classical.choose (⟨du_J2_init_2_79, rfl⟩ : ∃ f, f = du_J2_init_2_79)
theorem eu_J2_init_2_79 : u_J2_init_2_79 = du_J2_init_2_79 := Classical.choose_spec (⟨du_J2_init_2_79, rfl⟩ : ∃ f, f = du_J2_init_2_79)
def dm_J2_init_2 (s : jS) (x0 x1 x2 : Int) : Option (jS × Int) :=
  jck0 x0 <|
  (jct s 24 x1 (mp_J0_getValue s x1)).bind fun v1 =>
  (jct s 24 x1 (mp_J0_length s x1)).bind fun v2 =>
  (jct s 24 x1 (mp_J0_isLatin1 s x1)).bind fun v3 =>
  if v3 = 0 then
    if 1 = 0 then
      u_J2_init_2_79 s x0 v1 v2
    else
      (jrp s [(8, 2)] x1).bind fun v4 =>
      if v4 = 0 then
        u_J2_init_2_79 s x0 v1 v2
      else
        (m_J3_compress s v1 0 v2).bind fun q5 =>
        (jwp q5.1 [(9, 0)] x0 q5.2).bind fun s6 =>
        (jrp s6 [(9, 0), (3009, 0)] x0).bind fun v7 =>
        (m_J3_coderFromArrayLen s6 v7 v2).bind fun v8 =>
        (jbb v8).bind fun v9 =>
        (jwp s6 [(9, 1)] x0 v9).bind fun s10 =>
        some (s10, 0)
  else
    (jbb 0).bind fun v11 =>
    (jwp s [(9, 1)] x0 v11).bind fun s12 =>
    (m_J13_copyOfRange s12 v1 0 v2).bind fun q13 =>
    (jwp q13.1 [(9, 0)] x0 q13.2).bind fun s14 =>
    some (s14, 0)
noncomputable def m_J2_init_2 : jS → Int → Int → Int → Option (jS × Int) := Classical.choose (⟨dm_J2_init_2, rfl⟩ : ∃ f, f = dm_J2_init_2)
theorem em_J2_init_2 : m_J2_init_2 = dm_J2_init_2 := Classical.choose_spec (⟨dm_J2_init_2, rfl⟩ : ∃ f, f = dm_J2_init_2)
def dm_J2_init (s : jS) (x0 x1 : Int) : Option (jS × Int) :=
  (jck0 x0 (m_J2_init_2 s x0 x1 (-1))).bind fun q1 =>
  some (q1.1, 0)
noncomputable def m_J2_init : jS → Int → Int → Option (jS × Int) := Classical.choose (⟨dm_J2_init, rfl⟩ : ∃ f, f = dm_J2_init)
theorem em_J2_init : m_J2_init = dm_J2_init := Classical.choose_spec (⟨dm_J2_init, rfl⟩ : ∃ f, f = dm_J2_init)
def dm_J1_toString (s : jS) (x0 : Int) : Option (jS × Int) :=
  (jnw s 9 4 (jdf 9)).bind fun q1 =>
  (jck0 q1.2 (m_J2_init q1.1 q1.2 x0)).bind fun q2 =>
  some (q2.1, q1.2)
noncomputable def m_J1_toString : jS → Int → Option (jS × Int) := Classical.choose (⟨dm_J1_toString, rfl⟩ : ∃ f, f = dm_J1_toString)
theorem em_J1_toString : m_J1_toString = dm_J1_toString := Classical.choose_spec (⟨dm_J1_toString, rfl⟩ : ∃ f, f = dm_J1_toString)
def dm_J8_init (s : jS) (x0 x1 : Int) : Option (jS × Int) :=
  (jnw s 8 4 (jdf 8)).bind fun q1 =>
  (jck0 q1.2 (m_J1_init q1.1 q1.2)).bind fun q2 =>
  (m_J1_append q2.1 q1.2 (jc q2.1 195)).bind fun q3 =>
  (jct q3.1 24 q3.2 (m_J1_append_2 q3.1 q3.2 x1)).bind fun q4 =>
  (jct q4.1 24 q4.2 (m_J1_toString q4.1 q4.2)).bind fun q5 =>
  none
noncomputable def m_J8_init : jS → Int → Int → Option (jS × Int) := Classical.choose (⟨dm_J8_init, rfl⟩ : ∃ f, f = dm_J8_init)
theorem em_J8_init : m_J8_init = dm_J8_init := Classical.choose_spec (⟨dm_J8_init, rfl⟩ : ∃ f, f = dm_J8_init)
def dm_J10_init (s : jS) (x0 x1 : Int) : Option (jS × Int) :=
  (jnw s 8 4 (jdf 8)).bind fun q1 =>
  (jck0 q1.2 (m_J1_init q1.1 q1.2)).bind fun q2 =>
  (m_J1_append q2.1 q1.2 (jc q2.1 196)).bind fun q3 =>
  (jct q3.1 24 q3.2 (m_J1_append_2 q3.1 q3.2 x1)).bind fun q4 =>
  (jct q4.1 24 q4.2 (m_J1_toString q4.1 q4.2)).bind fun q5 =>
  none
noncomputable def m_J10_init : jS → Int → Int → Option (jS × Int) := Classical.choose (⟨dm_J10_init, rfl⟩ : ∃ f, f = dm_J10_init)
theorem em_J10_init : m_J10_init = dm_J10_init := Classical.choose_spec (⟨dm_J10_init, rfl⟩ : ∃ f, f = dm_J10_init)
def dm_J13_rangeCheck (s : jS) (x0 x1 x2 : Int) : Option (jS × Int) :=
  if x2 < x1 then
    (jnw s 54 6 (jdf 54)).bind fun q1 =>
    (jnw q1.1 8 4 (jdf 8)).bind fun q2 =>
    (jck0 q2.2 (m_J1_init q2.1 q2.2)).bind fun q3 =>
    (m_J1_append q3.1 q2.2 (jc q3.1 197)).bind fun q4 =>
    (jct q4.1 24 q4.2 (m_J1_append_2 q4.1 q4.2 x1)).bind fun q5 =>
    (jct q5.1 24 q5.2 (m_J1_append q5.1 q5.2 (jc q5.1 198))).bind fun q6 =>
    (jct q6.1 24 q6.2 (m_J1_append_2 q6.1 q6.2 x2)).bind fun q7 =>
    (jct q7.1 24 q7.2 (m_J1_append q7.1 q7.2 (jc q7.1 199))).bind fun q8 =>
    (jct q8.1 24 q8.2 (m_J1_toString q8.1 q8.2)).bind fun q9 =>
    none
  else
    if x1 < 0 then
      (jnw s 52 6 (jdf 52)).bind fun q10 =>
      none
    else
      if x0 < x2 then
        (jnw s 52 6 (jdf 52)).bind fun q11 =>
        none
      else
        some (s, 0)
noncomputable def m_J13_rangeCheck : jS → Int → Int → Int → Option (jS × Int) := Classical.choose (⟨dm_J13_rangeCheck, rfl⟩ : ∃ f, f = dm_J13_rangeCheck)
theorem em_J13_rangeCheck : m_J13_rangeCheck = dm_J13_rangeCheck := Classical.choose_spec (⟨dm_J13_rangeCheck, rfl⟩ : ∃ f, f = dm_J13_rangeCheck)
def dm_X2_register (s : jS) (x0 : Int) : Option (jS × Int) :=
  if x0 < 5 then
    if x0 = 0 then
      some (s, jc s 148)
    else
      if x0 = 1 then
        some (s, jc s 149)
      else
        if x0 = 2 then
          some (s, jc s 150)
        else
          if x0 = 3 then
            some (s, jc s 151)
          else
            some (s, jc s 152)
  else
    if x0 < 8 then
      (jnw s 8 4 (jdf 8)).bind fun q1 =>
      (jck0 q1.2 (m_J1_init q1.1 q1.2)).bind fun q2 =>
      (m_J1_append q2.1 q1.2 (jc q2.1 153)).bind fun q3 =>
      (jct q3.1 24 q3.2 (m_J1_append_2 q3.1 q3.2 (W32 (x0 - 5)))).bind fun q4 =>
      (jct q4.1 24 q4.2 (m_J1_toString q4.1 q4.2)).bind fun q5 =>
      some (q5.1, q5.2)
    else
      if x0 < 10 then
        (jnw s 8 4 (jdf 8)).bind fun q6 =>
        (jck0 q6.2 (m_J1_init q6.1 q6.2)).bind fun q7 =>
        (m_J1_append q7.1 q6.2 (jc q7.1 154)).bind fun q8 =>
        (jct q8.1 24 q8.2 (m_J1_append_2 q8.1 q8.2 (W32 (x0 - 8)))).bind fun q9 =>
        (jct q9.1 24 q9.2 (m_J1_toString q9.1 q9.2)).bind fun q10 =>
        some (q10.1, q10.2)
      else
        if x0 < 18 then
          (jnw s 8 4 (jdf 8)).bind fun q11 =>
          (jck0 q11.2 (m_J1_init q11.1 q11.2)).bind fun q12 =>
          (m_J1_append q12.1 q11.2 (jc q12.1 155)).bind fun q13 =>
          (jct q13.1 24 q13.2 (m_J1_append_2 q13.1 q13.2 (W32 (x0 - 10)))).bind fun q14 =>
          (jct q14.1 24 q14.2 (m_J1_toString q14.1 q14.2)).bind fun q15 =>
          some (q15.1, q15.2)
        else
          if x0 < 28 then
            (jnw s 8 4 (jdf 8)).bind fun q16 =>
            (jck0 q16.2 (m_J1_init q16.1 q16.2)).bind fun q17 =>
            (m_J1_append q17.1 q16.2 (jc q17.1 154)).bind fun q18 =>
            (jct q18.1 24 q18.2 (m_J1_append_2 q18.1 q18.2 (W32 (x0 - 16)))).bind fun q19 =>
            (jct q19.1 24 q19.2 (m_J1_toString q19.1 q19.2)).bind fun q20 =>
            some (q20.1, q20.2)
          else
            (jnw s 8 4 (jdf 8)).bind fun q21 =>
            (jck0 q21.2 (m_J1_init q21.1 q21.2)).bind fun q22 =>
            (m_J1_append q22.1 q21.2 (jc q22.1 153)).bind fun q23 =>
            (jct q23.1 24 q23.2 (m_J1_append_2 q23.1 q23.2 (W32 (x0 - 25)))).bind fun q24 =>
            (jct q24.1 24 q24.2 (m_J1_toString q24.1 q24.2)).bind fun q25 =>
            some (q25.1, q25.2)
noncomputable def m_X2_register : jS → Int → Option (jS × Int) := Classical.choose (⟨dm_X2_register, rfl⟩ : ∃ f, f = dm_X2_register)
theorem em_X2_register : m_X2_register = dm_X2_register := Classical.choose_spec (⟨dm_X2_register, rfl⟩ : ∃ f, f = dm_X2_register)
def b_J13_fill_10 (s : jS) (x0 x2 x3 x4 : Int) : Option ((jS × List Int) ⊕ (jS × Int)) :=
  if x4 < x2 then
    (jsa s 1001 x0 x4 (W8 x3)).bind fun s1 =>
    some (.inl (s1, [x0, x2, x3, W32 (x4 + 1)]))
  else
    jinr (some (s, 0))
def du_J13_fill_10 (s : jS) (x0 x2 x3 x4 : Int) : Option (jS × Int) := jlpW (jc4 b_J13_fill_10) [x0, x2, x3, x4] s
noncomputable def u_J13_fill_10 : jS → Int → Int → Int → Int → Option (jS × Int) := Classical.choose (⟨du_J13_fill_10, rfl⟩ : ∃ f, f = du_J13_fill_10)
theorem eu_J13_fill_10 : u_J13_fill_10 = du_J13_fill_10 := Classical.choose_spec (⟨du_J13_fill_10, rfl⟩ : ∃ f, f = du_J13_fill_10)
def dm_J13_fill (s : jS) (x0 x1 x2 x3 : Int) : Option (jS × Int) :=
  (jlnE s 1001 x0).bind fun v1 =>
  (m_J13_rangeCheck s v1 x1 x2).bind fun q2 =>
  u_J13_fill_10 q2.1 x0 x2 x3 x1
noncomputable def m_J13_fill : jS → Int → Int → Int → Int → Option (jS × Int) := Classical.choose (⟨dm_J13_fill, rfl⟩ : ∃ f, f = dm_J13_fill)
theorem em_J13_fill : m_J13_fill = dm_J13_fill := Classical.choose_spec (⟨dm_J13_fill, rfl⟩ : ∃ f, f = dm_J13_fill)
def dm_J15_fillNull (s : jS) (x0 x1 x2 : Int) : Option (jS × Int) :=
  (m_J13_fill s x0 x1 x2 0).bind fun q1 =>
  some (q1.1, 0)
noncomputable def m_J15_fillNull : jS → Int → Int → Int → Option (jS × Int) := Classical.choose (⟨dm_J15_fillNull, rfl⟩ : ∃ f, f = dm_J15_fillNull)
theorem em_J15_fillNull : m_J15_fillNull = dm_J15_fillNull := Classical.choose_spec (⟨dm_J15_fillNull, rfl⟩ : ∃ f, f = dm_J15_fillNull)
def dm_J3_fillNull (s : jS) (x0 x1 x2 : Int) : Option (jS × Int) :=
  (m_J13_fill s x0 (I_shl x1 1) (I_shl x2 1) 0).bind fun q1 =>
  some (q1.1, 0)
noncomputable def m_J3_fillNull : jS → Int → Int → Int → Option (jS × Int) := Classical.choose (⟨dm_J3_fillNull, rfl⟩ : ∃ f, f = dm_J3_fillNull)
theorem em_J3_fillNull : m_J3_fillNull = dm_J3_fillNull := Classical.choose_spec (⟨dm_J3_fillNull, rfl⟩ : ∃ f, f = dm_J3_fillNull)
def du_J0_setLength_76 (s : jS) (x0 x1 : Int) : Option (jS × Bool × Int) :=
  jls (jp s 8 x0 3 x1) fun s1 =>
  some (s1, false, 0)
noncomputable def u_J0_setLength_76 : jS → Int → Int → Option (jS × Bool × Int) := Classical.choose (⟨du_J0_setLength_76, rfl⟩ : ∃ f, f = du_J0_setLength_76)
theorem eu_J0_setLength_76 : u_J0_setLength_76 = du_J0_setLength_76 := Classical.choose_spec (⟨du_J0_setLength_76, rfl⟩ : ∃ f, f = du_J0_setLength_76)
def dm_J0_setLength (s : jS) (x0 x1 : Int) : Option (jS × Bool × Int) :=
  if x1 < 0 then
    (jnw s 55 6 (jdf 55)).bind fun q1 =>
    (jck0 q1.2 (m_J10_init q1.1 q1.2 x1)).bind fun q2 =>
    jck0 q1.2 (some (q2.1, true, q1.2))
  else
    (mp_J0_ensureCapacityInternal s x0 x1).bind fun q3 =>
    if (jf q3.1 8 x0 3) < x1 then
      (mp_J0_isLatin1 q3.1 x0).bind fun v4 =>
      if v4 = 0 then
        (m_J3_fillNull q3.1 (jf q3.1 8 x0 0) (jf q3.1 8 x0 3) x1).bind fun q5 =>
        u_J0_setLength_76 q5.1 x0 x1
      else
        (m_J15_fillNull q3.1 (jf q3.1 8 x0 0) (jf q3.1 8 x0 3) x1).bind fun q6 =>
        u_J0_setLength_76 q6.1 x0 x1
    else
      if x1 < (jf q3.1 8 x0 3) then
        (jzb 1).bind fun v7 =>
        jls (jp q3.1 8 x0 2 v7) fun s8 =>
        u_J0_setLength_76 s8 x0 x1
      else
        u_J0_setLength_76 q3.1 x0 x1
noncomputable def m_J0_setLength : jS → Int → Int → Option (jS × Bool × Int) := Classical.choose (⟨dm_J0_setLength, rfl⟩ : ∃ f, f = dm_J0_setLength)
theorem em_J0_setLength : m_J0_setLength = dm_J0_setLength := Classical.choose_spec (⟨dm_J0_setLength, rfl⟩ : ∃ f, f = dm_J0_setLength)
def dmq_J0_setLength (s : jS) (x0 x1 : Int) : Option (jS × Bool × Int) := if 0 ≤ x0 ∧ jK s x0 = 8 then m_J0_setLength s x0 x1 else none
noncomputable def mq_J0_setLength : jS → Int → Int → Option (jS × Bool × Int) := Classical.choose (⟨dmq_J0_setLength, rfl⟩ : ∃ f, f = dmq_J0_setLength)
theorem emq_J0_setLength : mq_J0_setLength = dmq_J0_setLength := Classical.choose_spec (⟨dmq_J0_setLength, rfl⟩ : ∃ f, f = dmq_J0_setLength)
def dm_J1_setLength (s : jS) (x0 x1 : Int) : Option (jS × Bool × Int) :=
  (mq_J0_setLength s x0 x1).bind fun q1 =>
  jth q1.2.1 (some (q1.1, true, q1.2.2)) <|
  some (q1.1, false, 0)
noncomputable def m_J1_setLength : jS → Int → Int → Option (jS × Bool × Int) := Classical.choose (⟨dm_J1_setLength, rfl⟩ : ∃ f, f = dm_J1_setLength)
theorem em_J1_setLength : m_J1_setLength = dm_J1_setLength := Classical.choose_spec (⟨dm_J1_setLength, rfl⟩ : ∃ f, f = dm_J1_setLength)
def du_J14_checkIndex_9 (s : jS) (x0 x1 x2 : Int) : Option (Int) :=
  none
noncomputable def u_J14_checkIndex_9 : jS → Int → Int → Int → Option (Int) := Classical.choose (⟨du_J14_checkIndex_9, rfl⟩ : ∃ f, f = du_J14_checkIndex_9)
theorem eu_J14_checkIndex_9 : u_J14_checkIndex_9 = du_J14_checkIndex_9 := Classical.choose_spec (⟨du_J14_checkIndex_9, rfl⟩ : ∃ f, f = du_J14_checkIndex_9)
def dm_J14_checkIndex (s : jS) (x0 x1 x2 : Int) : Option (Int) :=
  if x0 < 0 then
    u_J14_checkIndex_9 s x0 x1 x2
  else
    if x0 < x1 then
      some x0
    else
      u_J14_checkIndex_9 s x0 x1 x2
noncomputable def m_J14_checkIndex : jS → Int → Int → Int → Option (Int) := Classical.choose (⟨dm_J14_checkIndex, rfl⟩ : ∃ f, f = dm_J14_checkIndex)
theorem em_J14_checkIndex : m_J14_checkIndex = dm_J14_checkIndex := Classical.choose_spec (⟨dm_J14_checkIndex, rfl⟩ : ∃ f, f = dm_J14_checkIndex)
def dm_J2_checkIndex (s : jS) (x0 x1 : Int) : Option (Int) :=
  (m_J14_checkIndex s x0 x1 (jc s 1002)).bind fun v1 =>
  some 0
noncomputable def m_J2_checkIndex : jS → Int → Int → Option (Int) := Classical.choose (⟨dm_J2_checkIndex, rfl⟩ : ∃ f, f = dm_J2_checkIndex)
theorem em_J2_checkIndex : m_J2_checkIndex = dm_J2_checkIndex := Classical.choose_spec (⟨dm_J2_checkIndex, rfl⟩ : ∃ f, f = dm_J2_checkIndex)
def dm_J3_checkIndex (s : jS) (x0 x1 : Int) : Option (Int) :=
  (m_J3_length s x1).bind fun v1 =>
  (m_J2_checkIndex s x0 v1).bind fun _ =>
  some 0
noncomputable def m_J3_checkIndex : jS → Int → Int → Option (Int) := Classical.choose (⟨dm_J3_checkIndex, rfl⟩ : ∃ f, f = dm_J3_checkIndex)
theorem em_J3_checkIndex : m_J3_checkIndex = dm_J3_checkIndex := Classical.choose_spec (⟨dm_J3_checkIndex, rfl⟩ : ∃ f, f = dm_J3_checkIndex)
def dm_J3_charAt (s : jS) (x0 x1 : Int) : Option (Int) :=
  (m_J3_checkIndex s x1 x0).bind fun _ =>
  (m_J3_getChar s x0 x1).bind fun v2 =>
  some (Wc v2)
noncomputable def m_J3_charAt : jS → Int → Int → Option (Int) := Classical.choose (⟨dm_J3_charAt, rfl⟩ : ∃ f, f = dm_J3_charAt)
theorem em_J3_charAt : m_J3_charAt = dm_J3_charAt := Classical.choose_spec (⟨dm_J3_charAt, rfl⟩ : ∃ f, f = dm_J3_charAt)
def dm_J15_charAt (s : jS) (x0 x1 : Int) : Option (Int) :=
  (jlnE s 1001 x0).bind fun v1 =>
  (m_J2_checkIndex s x1 v1).bind fun _ =>
  (jldE s 1001 x0 x1).bind fun v3 =>
  some (Wc (Wc (I_and v3 255)))
noncomputable def m_J15_charAt : jS → Int → Int → Option (Int) := Classical.choose (⟨dm_J15_charAt, rfl⟩ : ∃ f, f = dm_J15_charAt)
theorem em_J15_charAt : m_J15_charAt = dm_J15_charAt := Classical.choose_spec (⟨dm_J15_charAt, rfl⟩ : ∃ f, f = dm_J15_charAt)
def dm_J0_charAt (s : jS) (x0 x1 : Int) : Option (Int) :=
  (jlnE s 1001 (jf s 8 x0 0)).bind fun v1 =>
  (m_J2_checkIndex s x1 (jmi (jf s 8 x0 3) (I_shr v1 (jf s 8 x0 1)))).bind fun _ =>
  if (jf s 8 x0 1) = 0 then
    (jldE s 1001 (jf s 8 x0 0) x1).bind fun v3 =>
    some (Wc (Wc (I_and v3 255)))
  else
    (m_J3_getChar s (jf s 8 x0 0) x1).bind fun v4 =>
    some (Wc v4)
noncomputable def m_J0_charAt : jS → Int → Int → Option (Int) := Classical.choose (⟨dm_J0_charAt, rfl⟩ : ∃ f, f = dm_J0_charAt)
theorem em_J0_charAt : m_J0_charAt = dm_J0_charAt := Classical.choose_spec (⟨dm_J0_charAt, rfl⟩ : ∃ f, f = dm_J0_charAt)
def dmq_J0_charAt (s : jS) (x0 x1 : Int) : Option (Int) := if 0 ≤ x0 ∧ jK s x0 = 8 then m_J0_charAt s x0 x1 else none
noncomputable def mq_J0_charAt : jS → Int → Int → Option (Int) := Classical.choose (⟨dmq_J0_charAt, rfl⟩ : ∃ f, f = dmq_J0_charAt)
theorem emq_J0_charAt : mq_J0_charAt = dmq_J0_charAt := Classical.choose_spec (⟨dmq_J0_charAt, rfl⟩ : ∃ f, f = dmq_J0_charAt)
def dm_J1_charAt (s : jS) (x0 x1 : Int) : Option (Int) :=
  (mq_J0_charAt s x0 x1).bind fun v1 =>
  some (Wc v1)
noncomputable def m_J1_charAt : jS → Int → Int → Option (Int) := Classical.choose (⟨dm_J1_charAt, rfl⟩ : ∃ f, f = dm_J1_charAt)
theorem em_J1_charAt : m_J1_charAt = dm_J1_charAt := Classical.choose_spec (⟨dm_J1_charAt, rfl⟩ : ∃ f, f = dm_J1_charAt)
def dm_J2_charAt (s : jS) (x0 x1 : Int) : Option (Int) :=
  (mp_J2_isLatin1 s x0).bind fun v1 =>
  if v1 = 0 then
    (jrp s [(9, 0), (3009, 0)] x0).bind fun v2 =>
    (m_J3_charAt s v2 x1).bind fun v3 =>
    some (Wc v3)
  else
    (jrp s [(9, 0), (3009, 0)] x0).bind fun v4 =>
    (m_J15_charAt s v4 x1).bind fun v5 =>
    some (Wc v5)
noncomputable def m_J2_charAt : jS → Int → Int → Option (Int) := Classical.choose (⟨dm_J2_charAt, rfl⟩ : ∃ f, f = dm_J2_charAt)
theorem em_J2_charAt : m_J2_charAt = dm_J2_charAt := Classical.choose_spec (⟨dm_J2_charAt, rfl⟩ : ∃ f, f = dm_J2_charAt)
def dm_J3_putCharSB (s : jS) (x0 x1 x2 : Int) : Option (jS × Int) :=
  (m_J3_checkIndex s x1 x0).bind fun _ =>
  (m_J3_putChar s x0 x1 x2).bind fun q2 =>
  some (q2.1, 0)
noncomputable def m_J3_putCharSB : jS → Int → Int → Int → Option (jS × Int) := Classical.choose (⟨dm_J3_putCharSB, rfl⟩ : ∃ f, f = dm_J3_putCharSB)
theorem em_J3_putCharSB : m_J3_putCharSB = dm_J3_putCharSB := Classical.choose_spec (⟨dm_J3_putCharSB, rfl⟩ : ∃ f, f = dm_J3_putCharSB)
def dmp_J2_charAt (s : jS) (x0 x1 : Int) : Option (Int) := if 0 ≤ x0 ∧ jK s x0 = 9 then m_J2_charAt s x0 x1 else if 0 ≤ x0 ∧ jK s x0 = 3009 then m_J2_charAt s x0 x1 else none
noncomputable def mp_J2_charAt : jS → Int → Int → Option (Int) := Classical.choose (⟨dmp_J2_charAt, rfl⟩ : ∃ f, f = dmp_J2_charAt)
theorem emp_J2_charAt : mp_J2_charAt = dmp_J2_charAt := Classical.choose_spec (⟨dmp_J2_charAt, rfl⟩ : ∃ f, f = dmp_J2_charAt)
def du_X11_numberedOf_90 (s : jS) (x0 y0 : Int) : Option (Int) :=
  (mp_J2_charAt s x0 0).bind fun v1 =>
  if v1 = 97 then
    if y0 < 8 then
      some (W32 (10 + y0))
    else
      some (-1)
  else
  if v1 = 115 then
    if y0 < 2 then
      some (W32 (8 + y0))
    else
      if y0 < 12 then
        some (W32 (16 + y0))
      else
        some (-1)
  else
  if v1 = 116 then
    if y0 < 3 then
      some (W32 (5 + y0))
    else
      if y0 < 7 then
        some (W32 (25 + y0))
      else
        some (-1)
  else
  if v1 = 120 then
    if y0 < 32 then
      some y0
    else
      some (-1)
  else
  some (-1)
noncomputable def u_X11_numberedOf_90 : jS → Int → Int → Option (Int) := Classical.choose (⟨du_X11_numberedOf_90, rfl⟩ : ∃ f, f = du_X11_numberedOf_90)
theorem eu_X11_numberedOf_90 : u_X11_numberedOf_90 = du_X11_numberedOf_90 := Classical.choose_spec (⟨du_X11_numberedOf_90, rfl⟩ : ∃ f, f = du_X11_numberedOf_90)
def du_X11_numberedOf_54 (s : jS) (x0 x1 : Int) : Option (Int) :=
  if x1 = 2 then
    (mp_J2_charAt s x0 1).bind fun v1 =>
    u_X11_numberedOf_90 s x0 (W32 (v1 - 48))
  else
    (mp_J2_charAt s x0 1).bind fun v2 =>
    (mp_J2_charAt s x0 2).bind fun v3 =>
    jlet (W32 ((W32 ((W32 (10 * (W32 (v2 - 48)))) + v3)) - 48)) fun v4 =>
    u_X11_numberedOf_90 s x0 v4
noncomputable def u_X11_numberedOf_54 : jS → Int → Int → Option (Int) := Classical.choose (⟨du_X11_numberedOf_54, rfl⟩ : ∃ f, f = du_X11_numberedOf_54)
theorem eu_X11_numberedOf_54 : u_X11_numberedOf_54 = du_X11_numberedOf_54 := Classical.choose_spec (⟨du_X11_numberedOf_54, rfl⟩ : ∃ f, f = du_X11_numberedOf_54)
def dm_X11_numberedOf (s : jS) (x0 : Int) : Option (Int) :=
  (mp_J2_length s x0).bind fun v1 =>
  if v1 < 2 then
    some (-1)
  else
    if 3 < v1 then
      some (-1)
    else
      (mp_J2_charAt s x0 1).bind fun v2 =>
      (m_X11_isDigit s v2).bind fun v3 =>
      if v3 = 0 then
        some (-1)
      else
        if v1 = 3 then
          (mp_J2_charAt s x0 2).bind fun v4 =>
          (m_X11_isDigit s v4).bind fun v5 =>
          if v5 = 0 then
            some (-1)
          else
            (mp_J2_charAt s x0 1).bind fun v6 =>
            if v6 = 48 then
              some (-1)
            else
              u_X11_numberedOf_54 s x0 v1
        else
          u_X11_numberedOf_54 s x0 v1
noncomputable def m_X11_numberedOf : jS → Int → Option (Int) := Classical.choose (⟨dm_X11_numberedOf, rfl⟩ : ∃ f, f = dm_X11_numberedOf)
theorem em_X11_numberedOf : m_X11_numberedOf = dm_X11_numberedOf := Classical.choose_spec (⟨dm_X11_numberedOf, rfl⟩ : ∃ f, f = dm_X11_numberedOf)
def dm_X11_string (s : jS) (x0 x1 x2 : Int) : Option (Int) :=
  (m_X11_operandOf s x0 x1).bind fun v1 =>
  if v1 < 0 then
    some (-1)
  else
    if x2 < 0 then
      some (-1)
    else
      (jrd s 63 v1 7).bind fun v2 =>
      (mp_J2_length s v2).bind fun v3 =>
      if x2 < v3 then
        (jrd s 63 v1 7).bind fun v4 =>
        (mp_J2_charAt s v4 x2).bind fun v5 =>
        some v5
      else
        some (-1)
noncomputable def m_X11_string : jS → Int → Int → Int → Option (Int) := Classical.choose (⟨dm_X11_string, rfl⟩ : ∃ f, f = dm_X11_string)
theorem em_X11_string : m_X11_string = dm_X11_string := Classical.choose_spec (⟨dm_X11_string, rfl⟩ : ∃ f, f = dm_X11_string)
def dm_X11_name (s : jS) (x0 x1 x2 : Int) : Option (Int) :=
  if x1 < 0 then
    some (-1)
  else
    (jrd s 16 (jf s 15 x0 5) 8).bind fun v1 =>
    if x1 < v1 then
      if x2 < 0 then
        some (-1)
      else
        (jrd s 16 (jf s 15 x0 5) 4).bind fun v2 =>
        (jld s 1026 v2 x1).bind fun v3 =>
        (mp_J2_length s v3).bind fun v4 =>
        if x2 < v4 then
          (jrd s 16 (jf s 15 x0 5) 4).bind fun v5 =>
          (jld s 1026 v5 x1).bind fun v6 =>
          (mp_J2_charAt s v6 x2).bind fun v7 =>
          some v7
        else
          some (-1)
    else
      some (-1)
noncomputable def m_X11_name : jS → Int → Int → Int → Option (Int) := Classical.choose (⟨dm_X11_name, rfl⟩ : ∃ f, f = dm_X11_name)
theorem em_X11_name : m_X11_name = dm_X11_name := Classical.choose_spec (⟨dm_X11_name, rfl⟩ : ∃ f, f = dm_X11_name)
def du_X20_named_33 (s : jS) (x0 x2 : Int) : Option (jS × Int) :=
  (mp_J2_length s x2).bind fun v1 =>
  (jlt s 1000 (x0 + 4) 12 11).bind fun v2 =>
  (m_X19_string s (x0 + 1) (x0 + 7) v1 v2).bind fun q3 =>
  some (q3.1, q3.2)
noncomputable def u_X20_named_33 : jS → Int → Int → Option (jS × Int) := Classical.choose (⟨du_X20_named_33, rfl⟩ : ∃ f, f = du_X20_named_33)
theorem eu_X20_named_33 : u_X20_named_33 = du_X20_named_33 := Classical.choose_spec (⟨du_X20_named_33, rfl⟩ : ∃ f, f = du_X20_named_33)
def b_X20_named_7 (s : jS) (x0 x2 x3 : Int) : Option ((jS × List Int) ⊕ (jS × Int)) :=
  (mp_J2_length s x2).bind fun v1 =>
  if x3 < v1 then
    (mp_J2_charAt s x2 x3).bind fun v2 =>
    (jst s 1001 (x0 + 7) 16 x3 (W8 (W8 v2))).bind fun s3 =>
    some (.inl (s3, [x0, x2, W32 (x3 + 1)]))
  else
    jinr (u_X20_named_33 s x0 x2)
def du_X20_named_7 (s : jS) (x0 x2 x3 : Int) : Option (jS × Int) := jlpW (jc3 b_X20_named_7) [x0, x2, x3] s
noncomputable def u_X20_named_7 : jS → Int → Int → Int → Option (jS × Int) := Classical.choose (⟨du_X20_named_7, rfl⟩ : ∃ f, f = du_X20_named_7)
theorem eu_X20_named_7 : u_X20_named_7 = du_X20_named_7 := Classical.choose_spec (⟨du_X20_named_7, rfl⟩ : ∃ f, f = du_X20_named_7)
def dm_X20_named (s : jS) (x0 x1 : Int) : Option (jS × Int) :=
  (m_X13_nameOf s x1).bind fun v1 =>
  u_X20_named_7 s x0 v1 0
noncomputable def m_X20_named : jS → Int → Int → Option (jS × Int) := Classical.choose (⟨dm_X20_named, rfl⟩ : ∃ f, f = dm_X20_named)
theorem em_X20_named : m_X20_named = dm_X20_named := Classical.choose_spec (⟨dm_X20_named, rfl⟩ : ∃ f, f = dm_X20_named)
def du_X20_index_258 (s : jS) (x0 x2 : Int) : Option (jS × Int) :=
  (m_X20_patch s x0 32 x2).bind fun q1 =>
  some (q1.1, 0)
noncomputable def u_X20_index_258 : jS → Int → Int → Option (jS × Int) := Classical.choose (⟨du_X20_index_258, rfl⟩ : ∃ f, f = du_X20_index_258)
theorem eu_X20_index_258 : u_X20_index_258 = du_X20_index_258 := Classical.choose_spec (⟨du_X20_index_258, rfl⟩ : ∃ f, f = du_X20_index_258)
def du_X20_index_252 (s : jS) (x0 x1 x2 x3 : Int) : Option ((jS × List Int) ⊕ (jS × Int)) :=
  some (.inl (s, [x0, x1, x2, W32 (x3 + 1)]))
noncomputable def u_X20_index_252 : jS → Int → Int → Int → Int → Option ((jS × List Int) ⊕ (jS × Int)) := Classical.choose (⟨du_X20_index_252, rfl⟩ : ∃ f, f = du_X20_index_252)
theorem eu_X20_index_252 : u_X20_index_252 = du_X20_index_252 := Classical.choose_spec (⟨du_X20_index_252, rfl⟩ : ∃ f, f = du_X20_index_252)
def du_X20_index_225 (s : jS) (x0 x1 x2 x3 y0 y1 : Int) : Option ((jS × List Int) ⊕ (jS × Int)) :=
  (m_X19_put4 s y1 y0).bind fun q1 =>
  (jlt q1.1 1000 (x0 + 6) 12 x3).bind fun v2 =>
  (m_X19_put4 q1.1 (x0 + 1) v2).bind fun q3 =>
  (m_X13_eachOf q3.1 x3).bind fun v4 =>
  (m_X19_put4 q3.1 (x0 + 1) v4).bind fun q5 =>
  u_X20_index_252 q5.1 x0 x1 x2 x3
noncomputable def u_X20_index_225 : jS → Int → Int → Int → Int → Int → Int → Option ((jS × List Int) ⊕ (jS × Int)) := Classical.choose (⟨du_X20_index_225, rfl⟩ : ∃ f, f = du_X20_index_225)
theorem eu_X20_index_225 : u_X20_index_225 = du_X20_index_225 := Classical.choose_spec (⟨du_X20_index_225, rfl⟩ : ∃ f, f = du_X20_index_225)
def du_X20_index_181 (s : jS) (x0 x1 x2 x3 y0 y1 : Int) : Option ((jS × List Int) ⊕ (jS × Int)) :=
  (m_X19_put4 s y1 y0).bind fun q1 =>
  (m_X13_isMoves q1.1 x3).bind fun v2 =>
  if v2 = 0 then
    if x3 = 9 then
      (jct q1.1 34 x1 (m_X14_locals q1.1 x1)).bind fun v3 =>
      u_X20_index_225 q1.1 x0 x1 x2 x3 (W32 (1 + v3)) (x0 + 1)
    else
      u_X20_index_225 q1.1 x0 x1 x2 x3 0 (x0 + 1)
  else
    (jlt q1.1 1000 (x0 + 3) 12 (W32 ((W32 (x3 - 6)) + 1))).bind fun v4 =>
    u_X20_index_225 q1.1 x0 x1 x2 x3 v4 (x0 + 1)
noncomputable def u_X20_index_181 : jS → Int → Int → Int → Int → Int → Int → Option ((jS × List Int) ⊕ (jS × Int)) := Classical.choose (⟨du_X20_index_181, rfl⟩ : ∃ f, f = du_X20_index_181)
theorem eu_X20_index_181 : u_X20_index_181 = du_X20_index_181 := Classical.choose_spec (⟨du_X20_index_181, rfl⟩ : ∃ f, f = du_X20_index_181)
def b_X20_index_40 (s : jS) (x0 x1 x2 x3 : Int) : Option ((jS × List Int) ⊕ (jS × Int)) :=
  if x3 < 12 then
    if (jf s 23 (x0 + 1) 2) = 0 then
      (jlt s 1000 (x0 + 3) 12 x3).bind fun v1 =>
      if v1 = 0 then
        u_X20_index_252 s x0 x1 x2 x3
      else
        (m_X20_named s x0 x3).bind fun q2 =>
        (m_X19_put4 q2.1 (x0 + 1) q2.2).bind fun q3 =>
        (m_X13_sortOf q3.1 x3).bind fun v4 =>
        (m_X19_put4 q3.1 (x0 + 1) v4).bind fun q5 =>
        (m_X13_flagsOf q5.1 x3).bind fun v6 =>
        (m_X19_put4 q5.1 (x0 + 1) v6).bind fun q7 =>
        (m_X19_put4 q7.1 (x0 + 1) 0).bind fun q8 =>
        (jlt q8.1 1000 (x0 + 4) 12 x3).bind fun v9 =>
        (m_X19_put4 q8.1 (x0 + 1) v9).bind fun q10 =>
        (jlt q10.1 1000 (x0 + 5) 12 x3).bind fun v11 =>
        (jlt q10.1 1000 (x0 + 4) 12 x3).bind fun v12 =>
        (m_X19_put4 q10.1 (x0 + 1) (W32 (v11 - v12))).bind fun q13 =>
        (m_X13_isMoves q13.1 x3).bind fun v14 =>
        if v14 = 0 then
          if x3 = 9 then
            (jlt q13.1 1000 (x0 + 3) 12 10).bind fun v15 =>
            u_X20_index_181 q13.1 x0 x1 x2 x3 v15 (x0 + 1)
          else
            u_X20_index_181 q13.1 x0 x1 x2 x3 0 (x0 + 1)
        else
          (jlt q13.1 1000 (x0 + 3) 12 9).bind fun v16 =>
          u_X20_index_181 q13.1 x0 x1 x2 x3 v16 (x0 + 1)
    else
      jinr (u_X20_index_258 s x0 x2)
  else
    jinr (u_X20_index_258 s x0 x2)
def du_X20_index_40 (s : jS) (x0 x1 x2 x3 : Int) : Option (jS × Int) := jlpW (jc4 b_X20_index_40) [x0, x1, x2, x3] s
noncomputable def u_X20_index_40 : jS → Int → Int → Int → Int → Option (jS × Int) := Classical.choose (⟨du_X20_index_40, rfl⟩ : ∃ f, f = du_X20_index_40)
theorem eu_X20_index_40 : u_X20_index_40 = du_X20_index_40 := Classical.choose_spec (⟨du_X20_index_40, rfl⟩ : ∃ f, f = du_X20_index_40)
def du_X20_index_38 (s : jS) (x0 x1 x2 : Int) : Option (jS × Int) :=
  u_X20_index_40 s x0 x1 x2 1
noncomputable def u_X20_index_38 : jS → Int → Int → Int → Option (jS × Int) := Classical.choose (⟨du_X20_index_38, rfl⟩ : ∃ f, f = du_X20_index_38)
theorem eu_X20_index_38 : u_X20_index_38 = du_X20_index_38 := Classical.choose_spec (⟨du_X20_index_38, rfl⟩ : ∃ f, f = du_X20_index_38)
def b_X20_index_18 (s : jS) (x0 x1 x2 x3 : Int) : Option ((jS × List Int) ⊕ (jS × Int)) :=
  if x3 < 10 then
    (m_X19_put4 s (x0 + 1) 0).bind fun q1 =>
    some (.inl (q1.1, [x0, x1, x2, W32 (x3 + 1)]))
  else
    jinr (u_X20_index_38 s x0 x1 x2)
def du_X20_index_18 (s : jS) (x0 x1 x2 x3 : Int) : Option (jS × Int) := jlpW (jc4 b_X20_index_18) [x0, x1, x2, x3] s
noncomputable def u_X20_index_18 : jS → Int → Int → Int → Int → Option (jS × Int) := Classical.choose (⟨du_X20_index_18, rfl⟩ : ∃ f, f = du_X20_index_18)
theorem eu_X20_index_18 : u_X20_index_18 = du_X20_index_18 := Classical.choose_spec (⟨du_X20_index_18, rfl⟩ : ∃ f, f = du_X20_index_18)
def dm_X20_index (s : jS) (x0 x1 : Int) : Option (jS × Int) :=
  (m_X19_align s (x0 + 1) 4).bind fun q1 =>
  u_X20_index_18 q1.1 x0 x1 (jf q1.1 23 (x0 + 1) 1) 0
noncomputable def m_X20_index : jS → Int → Int → Option (jS × Int) := Classical.choose (⟨dm_X20_index, rfl⟩ : ∃ f, f = dm_X20_index)
theorem em_X20_index : m_X20_index = dm_X20_index := Classical.choose_spec (⟨dm_X20_index, rfl⟩ : ∃ f, f = dm_X20_index)
def du_X21_named_98 (s : jS) (x0 x1 x2 : Int) : Option (List Int ⊕ (Int)) :=
  some (.inl [x0, x1, W32 (x2 + 1)])
noncomputable def u_X21_named_98 : jS → Int → Int → Int → Option (List Int ⊕ (Int)) := Classical.choose (⟨du_X21_named_98, rfl⟩ : ∃ f, f = du_X21_named_98)
theorem eu_X21_named_98 : u_X21_named_98 = du_X21_named_98 := Classical.choose_spec (⟨du_X21_named_98, rfl⟩ : ∃ f, f = du_X21_named_98)
def du_X21_named_62 (s : jS) (x0 x1 x2 x3 x4 : Int) : Option (List Int ⊕ (Int)) :=
  (mp_J2_length s x3).bind fun v1 =>
  if x4 = v1 then
    if (W32 (x1 + x4)) < (jf s 25 x0 1) then
      (jct s 39 (jf s 25 x0 0) (m_X19_u1 s (jf s 25 x0 0) (W32 (x1 + x4)))).bind fun v2 =>
      if v2 = 0 then
        jinr (some x2)
      else
        u_X21_named_98 s x0 x1 x2
    else
      u_X21_named_98 s x0 x1 x2
  else
    u_X21_named_98 s x0 x1 x2
noncomputable def u_X21_named_62 : jS → Int → Int → Int → Int → Int → Option (List Int ⊕ (Int)) := Classical.choose (⟨du_X21_named_62, rfl⟩ : ∃ f, f = du_X21_named_62)
theorem eu_X21_named_62 : u_X21_named_62 = du_X21_named_62 := Classical.choose_spec (⟨du_X21_named_62, rfl⟩ : ∃ f, f = du_X21_named_62)
def b_X21_named_16 (s : jS) (x0 x1 x2 x3 x4 : Int) : Option (List Int ⊕ (List Int ⊕ (Int))) :=
  (mp_J2_length s x3).bind fun v1 =>
  if x4 < v1 then
    if (W32 (x1 + x4)) < (jf s 25 x0 1) then
      (jct s 39 (jf s 25 x0 0) (m_X19_u1 s (jf s 25 x0 0) (W32 (x1 + x4)))).bind fun v2 =>
      (mp_J2_charAt s x3 x4).bind fun v3 =>
      if v2 = v3 then
        some (.inl [x0, x1, x2, x3, W32 (x4 + 1)])
      else
        jinr (u_X21_named_62 s x0 x1 x2 x3 x4)
    else
      jinr (u_X21_named_62 s x0 x1 x2 x3 x4)
  else
    jinr (u_X21_named_62 s x0 x1 x2 x3 x4)
def du_X21_named_16 (s : jS) (x0 x1 x2 x3 x4 : Int) : Option (List Int ⊕ (Int)) := jlpR (jc5 b_X21_named_16) [x0, x1, x2, x3, x4] s
noncomputable def u_X21_named_16 : jS → Int → Int → Int → Int → Int → Option (List Int ⊕ (Int)) := Classical.choose (⟨du_X21_named_16, rfl⟩ : ∃ f, f = du_X21_named_16)
theorem eu_X21_named_16 : u_X21_named_16 = du_X21_named_16 := Classical.choose_spec (⟨du_X21_named_16, rfl⟩ : ∃ f, f = du_X21_named_16)
def b_X21_named_2 (s : jS) (x0 x1 x2 : Int) : Option (List Int ⊕ (Int)) :=
  if x2 < 12 then
    (m_X13_nameOf s x2).bind fun v1 =>
    u_X21_named_16 s x0 x1 x2 v1 0
  else
    jinr (some 0)
def du_X21_named_2 (s : jS) (x0 x1 x2 : Int) : Option (Int) := jlpR (jc3 b_X21_named_2) [x0, x1, x2] s
noncomputable def u_X21_named_2 : jS → Int → Int → Int → Option (Int) := Classical.choose (⟨du_X21_named_2, rfl⟩ : ∃ f, f = du_X21_named_2)
theorem eu_X21_named_2 : u_X21_named_2 = du_X21_named_2 := Classical.choose_spec (⟨du_X21_named_2, rfl⟩ : ∃ f, f = du_X21_named_2)
def dm_X21_named (s : jS) (x0 x1 : Int) : Option (Int) :=
  u_X21_named_2 s x0 x1 1
noncomputable def m_X21_named : jS → Int → Int → Option (Int) := Classical.choose (⟨dm_X21_named, rfl⟩ : ∃ f, f = dm_X21_named)
theorem em_X21_named : m_X21_named = dm_X21_named := Classical.choose_spec (⟨dm_X21_named, rfl⟩ : ∃ f, f = dm_X21_named)
def du_X33_strings_99 (s : jS) (x0 x1 x2 : Int) : Option ((jS × List Int) ⊕ (jS × Bool × Int)) :=
  some (.inl (s, [x0, x1, W32 (x2 + 1)]))
noncomputable def u_X33_strings_99 : jS → Int → Int → Int → Option ((jS × List Int) ⊕ (jS × Bool × Int)) := Classical.choose (⟨du_X33_strings_99, rfl⟩ : ∃ f, f = du_X33_strings_99)
theorem eu_X33_strings_99 : u_X33_strings_99 = du_X33_strings_99 := Classical.choose_spec (⟨du_X33_strings_99, rfl⟩ : ∃ f, f = du_X33_strings_99)
def du_X33_strings_90 (s : jS) (x0 x1 x2 : Int) : Option ((jS × List Int) ⊕ (jS × Bool × Int)) :=
  if x1 = 0 then
    u_X33_strings_99 s x0 x1 x2
  else
    (m_X33_put s x0 0).bind fun q1 =>
    jth q1.2.1 (jinr (some (q1.1, true, q1.2.2))) <|
    u_X33_strings_99 q1.1 x0 x1 x2
noncomputable def u_X33_strings_90 : jS → Int → Int → Int → Option ((jS × List Int) ⊕ (jS × Bool × Int)) := Classical.choose (⟨du_X33_strings_90, rfl⟩ : ∃ f, f = du_X33_strings_90)
theorem eu_X33_strings_90 : u_X33_strings_90 = du_X33_strings_90 := Classical.choose_spec (⟨du_X33_strings_90, rfl⟩ : ∃ f, f = du_X33_strings_90)
def b_X33_strings_59 (s : jS) (x0 x1 x2 x3 x4 : Int) : Option ((jS × List Int) ⊕ ((jS × List Int) ⊕ (jS × Bool × Int))) :=
  if x4 < x3 then
    (m_X11_string s (x0 + (-3890)) (W32 ((jf s 37 x0 34) + x2)) x4).bind fun v1 =>
    (m_X33_put s x0 v1).bind fun q2 =>
    jth q2.2.1 (jinr (jinr (some (q2.1, true, q2.2.2)))) <|
    some (.inl (q2.1, [x0, x1, x2, x3, W32 (x4 + 1)]))
  else
    jinr (u_X33_strings_90 s x0 x1 x2)
def du_X33_strings_59 (s : jS) (x0 x1 x2 x3 x4 : Int) : Option ((jS × List Int) ⊕ (jS × Bool × Int)) := jlpW (jc5 b_X33_strings_59) [x0, x1, x2, x3, x4] s
noncomputable def u_X33_strings_59 : jS → Int → Int → Int → Int → Int → Option ((jS × List Int) ⊕ (jS × Bool × Int)) := Classical.choose (⟨du_X33_strings_59, rfl⟩ : ∃ f, f = du_X33_strings_59)
theorem eu_X33_strings_59 : u_X33_strings_59 = du_X33_strings_59 := Classical.choose_spec (⟨du_X33_strings_59, rfl⟩ : ∃ f, f = du_X33_strings_59)
def b_X33_strings_32 (s : jS) (x0 x1 x2 : Int) : Option ((jS × List Int) ⊕ (jS × Bool × Int)) :=
  if x2 < (jf s 37 x0 35) then
    (m_X11_operand s (x0 + (-3890)) (W32 ((jf s 37 x0 34) + x2)) 6).bind fun v1 =>
    u_X33_strings_59 s x0 x1 x2 v1 0
  else
    jinr (some (s, false, 0))
def du_X33_strings_32 (s : jS) (x0 x1 x2 : Int) : Option (jS × Bool × Int) := jlpW (jc3 b_X33_strings_32) [x0, x1, x2] s
noncomputable def u_X33_strings_32 : jS → Int → Int → Int → Option (jS × Bool × Int) := Classical.choose (⟨du_X33_strings_32, rfl⟩ : ∃ f, f = du_X33_strings_32)
theorem eu_X33_strings_32 : u_X33_strings_32 = du_X33_strings_32 := Classical.choose_spec (⟨du_X33_strings_32, rfl⟩ : ∃ f, f = du_X33_strings_32)
def du_X33_strings_14 (s : jS) (x0 x1 y0 y1 : Int) : Option (jS × Bool × Int) :=
  (m_X33_need s y1 y0 10).bind fun q1 =>
  jth q1.2.1 (some (q1.1, true, q1.2.2)) <|
  (m_X33_all q1.1 x0 3).bind fun v2 =>
  (m_X33_need q1.1 x0 v2 12).bind fun q3 =>
  jth q3.2.1 (some (q3.1, true, q3.2.2)) <|
  u_X33_strings_32 q3.1 x0 x1 0
noncomputable def u_X33_strings_14 : jS → Int → Int → Int → Int → Option (jS × Bool × Int) := Classical.choose (⟨du_X33_strings_14, rfl⟩ : ∃ f, f = du_X33_strings_14)
theorem eu_X33_strings_14 : u_X33_strings_14 = du_X33_strings_14 := Classical.choose_spec (⟨du_X33_strings_14, rfl⟩ : ∃ f, f = du_X33_strings_14)
def dm_X33_strings (s : jS) (x0 x1 : Int) : Option (jS × Bool × Int) :=
  if (jf s 37 x0 30) = 3 then
    u_X33_strings_14 s x0 x1 0 x0
  else
    u_X33_strings_14 s x0 x1 1 x0
noncomputable def m_X33_strings : jS → Int → Int → Option (jS × Bool × Int) := Classical.choose (⟨dm_X33_strings, rfl⟩ : ∃ f, f = dm_X33_strings)
theorem em_X33_strings : m_X33_strings = dm_X33_strings := Classical.choose_spec (⟨dm_X33_strings, rfl⟩ : ∃ f, f = dm_X33_strings)
def du_X33_takes_361 (s : jS) (x0 x1 x2 x3 x4 : Int) : Option (List Int ⊕ (Int)) :=
  some (.inl [x0, x1, x2, x3, W32 (x4 + 1)])
noncomputable def u_X33_takes_361 : jS → Int → Int → Int → Int → Int → Option (List Int ⊕ (Int)) := Classical.choose (⟨du_X33_takes_361, rfl⟩ : ∃ f, f = du_X33_takes_361)
theorem eu_X33_takes_361 : u_X33_takes_361 = du_X33_takes_361 := Classical.choose_spec (⟨du_X33_takes_361, rfl⟩ : ∃ f, f = du_X33_takes_361)
def du_X33_takes_360 (s : jS) (x0 x1 x2 x4 y0 : Int) : Option (List Int ⊕ (Int)) :=
  u_X33_takes_361 s x0 x1 x2 y0 x4
noncomputable def u_X33_takes_360 : jS → Int → Int → Int → Int → Int → Option (List Int ⊕ (Int)) := Classical.choose (⟨du_X33_takes_360, rfl⟩ : ∃ f, f = du_X33_takes_360)
theorem eu_X33_takes_360 : u_X33_takes_360 = du_X33_takes_360 := Classical.choose_spec (⟨du_X33_takes_360, rfl⟩ : ∃ f, f = du_X33_takes_360)
def du_X33_takes_359 (s : jS) (x0 x1 x2 x4 : Int) : Option (List Int ⊕ (Int)) :=
  u_X33_takes_360 s x0 x1 x2 x4 0
noncomputable def u_X33_takes_359 : jS → Int → Int → Int → Int → Option (List Int ⊕ (Int)) := Classical.choose (⟨du_X33_takes_359, rfl⟩ : ∃ f, f = du_X33_takes_359)
theorem eu_X33_takes_359 : u_X33_takes_359 = du_X33_takes_359 := Classical.choose_spec (⟨du_X33_takes_359, rfl⟩ : ∃ f, f = du_X33_takes_359)
def du_X33_takes_339 (s : jS) (x0 x1 x2 x4 x5 : Int) : Option (List Int ⊕ (Int)) :=
  if x5 = 1 then
    (m_X33_register s x0 x4).bind fun v1 =>
    if v1 = 2 then
      u_X33_takes_360 s x0 x1 x2 x4 1
    else
      u_X33_takes_359 s x0 x1 x2 x4
  else
    u_X33_takes_359 s x0 x1 x2 x4
noncomputable def u_X33_takes_339 : jS → Int → Int → Int → Int → Int → Option (List Int ⊕ (Int)) := Classical.choose (⟨du_X33_takes_339, rfl⟩ : ∃ f, f = du_X33_takes_339)
theorem eu_X33_takes_339 : u_X33_takes_339 = du_X33_takes_339 := Classical.choose_spec (⟨du_X33_takes_339, rfl⟩ : ∃ f, f = du_X33_takes_339)
def du_X33_takes_335 (s : jS) (x0 x1 x2 x4 y0 : Int) : Option (List Int ⊕ (Int)) :=
  u_X33_takes_361 s x0 x1 x2 y0 x4
noncomputable def u_X33_takes_335 : jS → Int → Int → Int → Int → Int → Option (List Int ⊕ (Int)) := Classical.choose (⟨du_X33_takes_335, rfl⟩ : ∃ f, f = du_X33_takes_335)
theorem eu_X33_takes_335 : u_X33_takes_335 = du_X33_takes_335 := Classical.choose_spec (⟨du_X33_takes_335, rfl⟩ : ∃ f, f = du_X33_takes_335)
def du_X33_takes_334 (s : jS) (x0 x1 x2 x4 : Int) : Option (List Int ⊕ (Int)) :=
  u_X33_takes_335 s x0 x1 x2 x4 0
noncomputable def u_X33_takes_334 : jS → Int → Int → Int → Int → Option (List Int ⊕ (Int)) := Classical.choose (⟨du_X33_takes_334, rfl⟩ : ∃ f, f = du_X33_takes_334)
theorem eu_X33_takes_334 : u_X33_takes_334 = du_X33_takes_334 := Classical.choose_spec (⟨du_X33_takes_334, rfl⟩ : ∃ f, f = du_X33_takes_334)
def du_X33_takes_305 (s : jS) (x0 x1 x2 x4 y0 : Int) : Option (List Int ⊕ (Int)) :=
  u_X33_takes_361 s x0 x1 x2 y0 x4
noncomputable def u_X33_takes_305 : jS → Int → Int → Int → Int → Int → Option (List Int ⊕ (Int)) := Classical.choose (⟨du_X33_takes_305, rfl⟩ : ∃ f, f = du_X33_takes_305)
theorem eu_X33_takes_305 : u_X33_takes_305 = du_X33_takes_305 := Classical.choose_spec (⟨du_X33_takes_305, rfl⟩ : ∃ f, f = du_X33_takes_305)
def du_X33_takes_304 (s : jS) (x0 x1 x2 x4 : Int) : Option (List Int ⊕ (Int)) :=
  u_X33_takes_305 s x0 x1 x2 x4 0
noncomputable def u_X33_takes_304 : jS → Int → Int → Int → Int → Option (List Int ⊕ (Int)) := Classical.choose (⟨du_X33_takes_304, rfl⟩ : ∃ f, f = du_X33_takes_304)
theorem eu_X33_takes_304 : u_X33_takes_304 = du_X33_takes_304 := Classical.choose_spec (⟨du_X33_takes_304, rfl⟩ : ∃ f, f = du_X33_takes_304)
def du_X33_takes_285 (s : jS) (x0 x1 x2 x4 y0 : Int) : Option (List Int ⊕ (Int)) :=
  u_X33_takes_361 s x0 x1 x2 y0 x4
noncomputable def u_X33_takes_285 : jS → Int → Int → Int → Int → Int → Option (List Int ⊕ (Int)) := Classical.choose (⟨du_X33_takes_285, rfl⟩ : ∃ f, f = du_X33_takes_285)
theorem eu_X33_takes_285 : u_X33_takes_285 = du_X33_takes_285 := Classical.choose_spec (⟨du_X33_takes_285, rfl⟩ : ∃ f, f = du_X33_takes_285)
def du_X33_takes_284 (s : jS) (x0 x1 x2 x4 : Int) : Option (List Int ⊕ (Int)) :=
  u_X33_takes_285 s x0 x1 x2 x4 0
noncomputable def u_X33_takes_284 : jS → Int → Int → Int → Int → Option (List Int ⊕ (Int)) := Classical.choose (⟨du_X33_takes_284, rfl⟩ : ∃ f, f = du_X33_takes_284)
theorem eu_X33_takes_284 : u_X33_takes_284 = du_X33_takes_284 := Classical.choose_spec (⟨du_X33_takes_284, rfl⟩ : ∃ f, f = du_X33_takes_284)
def du_X33_takes_280 (s : jS) (x0 x1 x2 x4 : Int) : Option (List Int ⊕ (Int)) :=
  u_X33_takes_285 s x0 x1 x2 x4 1
noncomputable def u_X33_takes_280 : jS → Int → Int → Int → Int → Option (List Int ⊕ (Int)) := Classical.choose (⟨du_X33_takes_280, rfl⟩ : ∃ f, f = du_X33_takes_280)
theorem eu_X33_takes_280 : u_X33_takes_280 = du_X33_takes_280 := Classical.choose_spec (⟨du_X33_takes_280, rfl⟩ : ∃ f, f = du_X33_takes_280)
def du_X33_takes_269 (s : jS) (x0 x1 x2 x4 x6 : Int) : Option (List Int ⊕ (Int)) :=
  if x2 = 1 then
    if x6 = 3 then
      u_X33_takes_280 s x0 x1 x2 x4
    else
      u_X33_takes_284 s x0 x1 x2 x4
  else
    u_X33_takes_284 s x0 x1 x2 x4
noncomputable def u_X33_takes_269 : jS → Int → Int → Int → Int → Int → Option (List Int ⊕ (Int)) := Classical.choose (⟨du_X33_takes_269, rfl⟩ : ∃ f, f = du_X33_takes_269)
theorem eu_X33_takes_269 : u_X33_takes_269 = du_X33_takes_269 := Classical.choose_spec (⟨du_X33_takes_269, rfl⟩ : ∃ f, f = du_X33_takes_269)
def du_X33_takes_245 (s : jS) (x0 x1 x2 x4 y0 : Int) : Option (List Int ⊕ (Int)) :=
  u_X33_takes_361 s x0 x1 x2 y0 x4
noncomputable def u_X33_takes_245 : jS → Int → Int → Int → Int → Int → Option (List Int ⊕ (Int)) := Classical.choose (⟨du_X33_takes_245, rfl⟩ : ∃ f, f = du_X33_takes_245)
theorem eu_X33_takes_245 : u_X33_takes_245 = du_X33_takes_245 := Classical.choose_spec (⟨du_X33_takes_245, rfl⟩ : ∃ f, f = du_X33_takes_245)
def du_X33_takes_244 (s : jS) (x0 x1 x2 x4 : Int) : Option (List Int ⊕ (Int)) :=
  u_X33_takes_245 s x0 x1 x2 x4 0
noncomputable def u_X33_takes_244 : jS → Int → Int → Int → Int → Option (List Int ⊕ (Int)) := Classical.choose (⟨du_X33_takes_244, rfl⟩ : ∃ f, f = du_X33_takes_244)
theorem eu_X33_takes_244 : u_X33_takes_244 = du_X33_takes_244 := Classical.choose_spec (⟨du_X33_takes_244, rfl⟩ : ∃ f, f = du_X33_takes_244)
def du_X33_takes_226 (s : jS) (x0 x1 x2 x4 y0 : Int) : Option (List Int ⊕ (Int)) :=
  u_X33_takes_361 s x0 x1 x2 y0 x4
noncomputable def u_X33_takes_226 : jS → Int → Int → Int → Int → Int → Option (List Int ⊕ (Int)) := Classical.choose (⟨du_X33_takes_226, rfl⟩ : ∃ f, f = du_X33_takes_226)
theorem eu_X33_takes_226 : u_X33_takes_226 = du_X33_takes_226 := Classical.choose_spec (⟨du_X33_takes_226, rfl⟩ : ∃ f, f = du_X33_takes_226)
def du_X33_takes_225 (s : jS) (x0 x1 x2 x4 : Int) : Option (List Int ⊕ (Int)) :=
  u_X33_takes_226 s x0 x1 x2 x4 0
noncomputable def u_X33_takes_225 : jS → Int → Int → Int → Int → Option (List Int ⊕ (Int)) := Classical.choose (⟨du_X33_takes_225, rfl⟩ : ∃ f, f = du_X33_takes_225)
theorem eu_X33_takes_225 : u_X33_takes_225 = du_X33_takes_225 := Classical.choose_spec (⟨du_X33_takes_225, rfl⟩ : ∃ f, f = du_X33_takes_225)
def du_X33_takes_207 (s : jS) (x0 x1 x2 x4 y0 : Int) : Option (List Int ⊕ (Int)) :=
  u_X33_takes_361 s x0 x1 x2 y0 x4
noncomputable def u_X33_takes_207 : jS → Int → Int → Int → Int → Int → Option (List Int ⊕ (Int)) := Classical.choose (⟨du_X33_takes_207, rfl⟩ : ∃ f, f = du_X33_takes_207)
theorem eu_X33_takes_207 : u_X33_takes_207 = du_X33_takes_207 := Classical.choose_spec (⟨du_X33_takes_207, rfl⟩ : ∃ f, f = du_X33_takes_207)
def du_X33_takes_95 (s : jS) (x0 x1 x2 x4 x5 x6 y0 : Int) : Option (List Int ⊕ (Int)) :=
  (mp_J2_charAt s x1 x4).bind fun v1 =>
  if v1 = 69 then
    if x5 = 0 then
      if x6 = 0 then
        u_X33_takes_226 s x0 x1 x2 x4 1
      else
        u_X33_takes_225 s x0 x1 x2 x4
    else
      u_X33_takes_225 s x0 x1 x2 x4
  else
  if v1 = 70 then
    u_X33_takes_339 s x0 x1 x2 x4 x5
  else
  if v1 = 71 then
    u_X33_takes_339 s x0 x1 x2 x4 x5
  else
  if v1 = 72 then
    u_X33_takes_339 s x0 x1 x2 x4 x5
  else
  if v1 = 73 then
    if x5 = 0 then
      if y0 = 0 then
        u_X33_takes_244 s x0 x1 x2 x4
      else
        u_X33_takes_245 s x0 x1 x2 x4 1
    else
      u_X33_takes_244 s x0 x1 x2 x4
  else
  if v1 = 74 then
    u_X33_takes_339 s x0 x1 x2 x4 x5
  else
  if v1 = 75 then
    u_X33_takes_339 s x0 x1 x2 x4 x5
  else
  if v1 = 76 then
    u_X33_takes_339 s x0 x1 x2 x4 x5
  else
  if v1 = 77 then
    if x5 = 2 then
      if y0 = 0 then
        u_X33_takes_304 s x0 x1 x2 x4
      else
        u_X33_takes_305 s x0 x1 x2 x4 1
    else
      u_X33_takes_304 s x0 x1 x2 x4
  else
  if v1 = 78 then
    u_X33_takes_339 s x0 x1 x2 x4 x5
  else
  if v1 = 79 then
    u_X33_takes_339 s x0 x1 x2 x4 x5
  else
  if v1 = 80 then
    u_X33_takes_339 s x0 x1 x2 x4 x5
  else
  if v1 = 81 then
    u_X33_takes_339 s x0 x1 x2 x4 x5
  else
  if v1 = 82 then
    if x5 = 1 then
      u_X33_takes_207 s x0 x1 x2 x4 1
    else
      u_X33_takes_207 s x0 x1 x2 x4 0
  else
  if v1 = 83 then
    if x5 = 2 then
      if x6 = 0 then
        (m_X33_register s x0 x4).bind fun v2 =>
        if v2 = 2 then
          u_X33_takes_335 s x0 x1 x2 x4 1
        else
          u_X33_takes_334 s x0 x1 x2 x4
      else
        u_X33_takes_334 s x0 x1 x2 x4
    else
      u_X33_takes_334 s x0 x1 x2 x4
  else
  if v1 = 84 then
    u_X33_takes_339 s x0 x1 x2 x4 x5
  else
  if v1 = 85 then
    u_X33_takes_339 s x0 x1 x2 x4 x5
  else
  if v1 = 86 then
    u_X33_takes_339 s x0 x1 x2 x4 x5
  else
  if v1 = 87 then
    u_X33_takes_339 s x0 x1 x2 x4 x5
  else
  if v1 = 88 then
    if x5 = 0 then
      if x6 = 0 then
        u_X33_takes_280 s x0 x1 x2 x4
      else
        if x2 = 0 then
          if x6 = 1 then
            u_X33_takes_280 s x0 x1 x2 x4
          else
            u_X33_takes_269 s x0 x1 x2 x4 x6
        else
          u_X33_takes_269 s x0 x1 x2 x4 x6
    else
      u_X33_takes_284 s x0 x1 x2 x4
  else
  u_X33_takes_339 s x0 x1 x2 x4 x5
noncomputable def u_X33_takes_95 : jS → Int → Int → Int → Int → Int → Int → Int → Option (List Int ⊕ (Int)) := Classical.choose (⟨du_X33_takes_95, rfl⟩ : ∃ f, f = du_X33_takes_95)
theorem eu_X33_takes_95 : u_X33_takes_95 = du_X33_takes_95 := Classical.choose_spec (⟨du_X33_takes_95, rfl⟩ : ∃ f, f = du_X33_takes_95)
def du_X33_takes_94 (s : jS) (x0 x1 x2 x4 x5 x6 : Int) : Option (List Int ⊕ (Int)) :=
  u_X33_takes_95 s x0 x1 x2 x4 x5 x6 0
noncomputable def u_X33_takes_94 : jS → Int → Int → Int → Int → Int → Int → Option (List Int ⊕ (Int)) := Classical.choose (⟨du_X33_takes_94, rfl⟩ : ∃ f, f = du_X33_takes_94)
theorem eu_X33_takes_94 : u_X33_takes_94 = du_X33_takes_94 := Classical.choose_spec (⟨du_X33_takes_94, rfl⟩ : ∃ f, f = du_X33_takes_94)
def du_X33_takes_90 (s : jS) (x0 x1 x2 x4 x5 x6 : Int) : Option (List Int ⊕ (Int)) :=
  u_X33_takes_95 s x0 x1 x2 x4 x5 x6 1
noncomputable def u_X33_takes_90 : jS → Int → Int → Int → Int → Int → Int → Option (List Int ⊕ (Int)) := Classical.choose (⟨du_X33_takes_90, rfl⟩ : ∃ f, f = du_X33_takes_90)
theorem eu_X33_takes_90 : u_X33_takes_90 = du_X33_takes_90 := Classical.choose_spec (⟨du_X33_takes_90, rfl⟩ : ∃ f, f = du_X33_takes_90)
def du_X33_takes_84 (s : jS) (x0 x1 x2 x4 x5 x6 : Int) : Option (List Int ⊕ (Int)) :=
  if x2 < 24 then
    u_X33_takes_90 s x0 x1 x2 x4 x5 x6
  else
    u_X33_takes_94 s x0 x1 x2 x4 x5 x6
noncomputable def u_X33_takes_84 : jS → Int → Int → Int → Int → Int → Int → Option (List Int ⊕ (Int)) := Classical.choose (⟨du_X33_takes_84, rfl⟩ : ∃ f, f = du_X33_takes_84)
theorem eu_X33_takes_84 : u_X33_takes_84 = du_X33_takes_84 := Classical.choose_spec (⟨du_X33_takes_84, rfl⟩ : ∃ f, f = du_X33_takes_84)
def b_X33_takes_20 (s : jS) (x0 x1 x2 x3 x4 : Int) : Option (List Int ⊕ (Int)) :=
  if x4 < (jf s 37 x0 35) then
    if x3 = 0 then
      jinr (some (Wz x3))
    else
      (m_X11_operand s (x0 + (-3890)) (W32 ((jf s 37 x0 34) + x4)) 0).bind fun v1 =>
      (m_X11_operand s (x0 + (-3890)) (W32 ((jf s 37 x0 34) + x4)) 2).bind fun v2 =>
      if v2 = 0 then
        u_X33_takes_90 s x0 x1 x2 x4 v1 v2
      else
        if v2 = 2 then
          u_X33_takes_84 s x0 x1 x2 x4 v1 v2
        else
          if v2 = 4 then
            u_X33_takes_84 s x0 x1 x2 x4 v1 v2
          else
            u_X33_takes_94 s x0 x1 x2 x4 v1 v2
  else
    jinr (some (Wz x3))
def du_X33_takes_20 (s : jS) (x0 x1 x2 x3 x4 : Int) : Option (Int) := jlpR (jc5 b_X33_takes_20) [x0, x1, x2, x3, x4] s
noncomputable def u_X33_takes_20 : jS → Int → Int → Int → Int → Int → Option (Int) := Classical.choose (⟨du_X33_takes_20, rfl⟩ : ∃ f, f = du_X33_takes_20)
theorem eu_X33_takes_20 : u_X33_takes_20 = du_X33_takes_20 := Classical.choose_spec (⟨du_X33_takes_20, rfl⟩ : ∃ f, f = du_X33_takes_20)
def du_X33_takes_16 (s : jS) (x0 x1 x2 y0 : Int) : Option (Int) :=
  u_X33_takes_20 s x0 x1 x2 y0 0
noncomputable def u_X33_takes_16 : jS → Int → Int → Int → Int → Option (Int) := Classical.choose (⟨du_X33_takes_16, rfl⟩ : ∃ f, f = du_X33_takes_16)
theorem eu_X33_takes_16 : u_X33_takes_16 = du_X33_takes_16 := Classical.choose_spec (⟨du_X33_takes_16, rfl⟩ : ∃ f, f = du_X33_takes_16)
def dm_X33_takes (s : jS) (x0 x1 x2 : Int) : Option (Int) :=
  (mp_J2_length s x1).bind fun v1 =>
  if (jf s 37 x0 35) = v1 then
    u_X33_takes_16 s x0 x1 x2 1
  else
    u_X33_takes_16 s x0 x1 x2 0
noncomputable def m_X33_takes : jS → Int → Int → Int → Option (Int) := Classical.choose (⟨dm_X33_takes, rfl⟩ : ∃ f, f = dm_X33_takes)
theorem em_X33_takes : m_X33_takes = dm_X33_takes := Classical.choose_spec (⟨dm_X33_takes, rfl⟩ : ∃ f, f = dm_X33_takes)
def du_X33_jumped_58 (s : jS) (x0 y0 y1 : Int) : Option (jS × Bool × Int) :=
  (jlt s 1000 (x0 + 21) 800 (W32 ((jf s 37 x0 35) - 1))).bind fun v1 =>
  (jlt s 1000 (x0 + 20) 800 (W32 ((jf s 37 x0 35) - 1))).bind fun v2 =>
  (m_X33_move s y1 y0 (jf s 37 x0 32) v1 v2).bind fun q3 =>
  jth q3.2.1 (some (q3.1, true, q3.2.2)) <|
  some (q3.1, false, 0)
noncomputable def u_X33_jumped_58 : jS → Int → Int → Int → Option (jS × Bool × Int) := Classical.choose (⟨du_X33_jumped_58, rfl⟩ : ∃ f, f = du_X33_jumped_58)
theorem eu_X33_jumped_58 : u_X33_jumped_58 = du_X33_jumped_58 := Classical.choose_spec (⟨du_X33_jumped_58, rfl⟩ : ∃ f, f = du_X33_jumped_58)
def dm_X33_jumped (s : jS) (x0 x1 x2 x3 x4 x5 : Int) : Option (jS × Bool × Int) :=
  (m_X33_takes s x0 x1 x2).bind fun v1 =>
  (m_X33_need s x0 v1 12).bind fun q2 =>
  jth q2.2.1 (some (q2.1, true, q2.2.2)) <|
  (m_X33_placed q2.1 x0 (W32 ((jf q2.1 37 x0 35) - 1))).bind fun q3 =>
  jth q3.2.1 (some (q3.1, true, q3.2.2)) <|
  (m_X33_started q3.1 x0).bind fun q4 =>
  (m_X2_word q4.1 (x0 + (-4147)) x2 x3 x4 x5 0).bind fun q5 =>
  jth q5.2.1 (some (q5.1, true, q5.2.2)) <|
  (m_X33_putNumber q5.1 x0 q5.2.2 4).bind fun q6 =>
  jth q6.2.1 (some (q6.1, true, q6.2.2)) <|
  if x2 = 2 then
    u_X33_jumped_58 q6.1 x0 17 x0
  else
    u_X33_jumped_58 q6.1 x0 16 x0
noncomputable def m_X33_jumped : jS → Int → Int → Int → Int → Int → Int → Option (jS × Bool × Int) := Classical.choose (⟨dm_X33_jumped, rfl⟩ : ∃ f, f = dm_X33_jumped)
theorem em_X33_jumped : m_X33_jumped = dm_X33_jumped := Classical.choose_spec (⟨dm_X33_jumped, rfl⟩ : ∃ f, f = dm_X33_jumped)
def du_X33_turned_35 (s : jS) (x0 y0 : Int) : Option (jS × Bool × Int) :=
  (m_X33_takes s x0 (jc s 54) y0).bind fun v1 =>
  (m_X33_need s x0 v1 12).bind fun q2 =>
  jth q2.2.1 (some (q2.1, true, q2.2.2)) <|
  (m_X33_register q2.1 x0 1).bind fun v3 =>
  (m_X33_register q2.1 x0 0).bind fun v4 =>
  (m_X33_jumped q2.1 x0 (jc q2.1 54) y0 0 v3 v4).bind fun q5 =>
  jth q5.2.1 (some (q5.1, true, q5.2.2)) <|
  some (q5.1, false, 0)
noncomputable def u_X33_turned_35 : jS → Int → Int → Option (jS × Bool × Int) := Classical.choose (⟨du_X33_turned_35, rfl⟩ : ∃ f, f = du_X33_turned_35)
theorem eu_X33_turned_35 : u_X33_turned_35 = du_X33_turned_35 := Classical.choose_spec (⟨du_X33_turned_35, rfl⟩ : ∃ f, f = du_X33_turned_35)
def dm_X33_turned (s : jS) (x0 x1 : Int) : Option (jS × Bool × Int) :=
  if x1 = 17 then
    u_X33_turned_35 s x0 6
  else
    if x1 = 18 then
      u_X33_turned_35 s x0 7
    else
      if x1 = 19 then
        u_X33_turned_35 s x0 8
      else
        u_X33_turned_35 s x0 9
noncomputable def m_X33_turned : jS → Int → Int → Option (jS × Bool × Int) := Classical.choose (⟨dm_X33_turned, rfl⟩ : ∃ f, f = dm_X33_turned)
theorem em_X33_turned : m_X33_turned = dm_X33_turned := Classical.choose_spec (⟨dm_X33_turned, rfl⟩ : ∃ f, f = dm_X33_turned)
def dm_X33_paired (s : jS) (x0 x1 : Int) : Option (jS × Bool × Int) :=
  (m_X33_takes s x0 (jc s 56) 0).bind fun v1 =>
  (m_X33_need s x0 v1 12).bind fun q2 =>
  jth q2.2.1 (some (q2.1, true, q2.2.2)) <|
  (m_X33_started q2.1 x0).bind fun q3 =>
  (m_X33_register q3.1 x0 0).bind fun v4 =>
  (m_X33_register q3.1 x0 1).bind fun v5 =>
  if x1 = 4 then
    (m_X33_sum q3.1 x0 18 v4 v5 0).bind fun q6 =>
    jth q6.2.1 (some (q6.1, true, q6.2.2)) <|
    some (q6.1, false, 0)
  else
  if x1 = 5 then
    (m_X33_sum q3.1 x0 21 v4 v5 (-1)).bind fun q7 =>
    jth q7.2.1 (some (q7.1, true, q7.2.2)) <|
    some (q7.1, false, 0)
  else
  if x1 = 6 then
    (m_X2_word q3.1 (x0 + (-4147)) 28 v4 0 v5 0).bind fun q8 =>
    jth q8.2.1 (some (q8.1, true, q8.2.2)) <|
    (m_X33_word q8.1 x0 q8.2.2).bind fun q9 =>
    jth q9.2.1 (some (q9.1, true, q9.2.2)) <|
    some (q9.1, false, 0)
  else
  if x1 = 7 then
    (m_X33_sum q3.1 x0 20 v4 v5 1).bind fun q10 =>
    jth q10.2.1 (some (q10.1, true, q10.2.2)) <|
    some (q10.1, false, 0)
  else
  if x1 = 8 then
    (m_X2_word q3.1 (x0 + (-4147)) 31 v4 0 v5 0).bind fun q11 =>
    jth q11.2.1 (some (q11.1, true, q11.2.2)) <|
    (m_X33_word q11.1 x0 q11.2.2).bind fun q12 =>
    jth q12.2.1 (some (q12.1, true, q12.2.2)) <|
    some (q12.1, false, 0)
  else
  if x1 = 9 then
    (m_X2_word q3.1 (x0 + (-4147)) 30 v4 v5 0 0).bind fun q13 =>
    jth q13.2.1 (some (q13.1, true, q13.2.2)) <|
    (m_X33_word q13.1 x0 q13.2.2).bind fun q14 =>
    jth q14.2.1 (some (q14.1, true, q14.2.2)) <|
    some (q14.1, false, 0)
  else
  (m_X2_word q3.1 (x0 + (-4147)) 30 v4 0 v5 0).bind fun q15 =>
  jth q15.2.1 (some (q15.1, true, q15.2.2)) <|
  (m_X33_word q15.1 x0 q15.2.2).bind fun q16 =>
  jth q16.2.1 (some (q16.1, true, q16.2.2)) <|
  some (q16.1, false, 0)
noncomputable def m_X33_paired : jS → Int → Int → Option (jS × Bool × Int) := Classical.choose (⟨dm_X33_paired, rfl⟩ : ∃ f, f = dm_X33_paired)
theorem em_X33_paired : m_X33_paired = dm_X33_paired := Classical.choose_spec (⟨dm_X33_paired, rfl⟩ : ∃ f, f = dm_X33_paired)
def du_X33_told_79 (s : jS) (x0 x2 y0 y1 : Int) : Option (jS × Bool × Int) :=
  (m_X33_needAt s y1 y0 14 1).bind fun q1 =>
  jth q1.2.1 (some (q1.1, true, q1.2.2)) <|
  (m_X33_started q1.1 x0).bind fun q2 =>
  (m_X33_register q2.1 x0 0).bind fun v3 =>
  (jlt q2.1 1000 (x0 + 20) 800 1).bind fun v4 =>
  jlet (I_shr (I_shl v4 20) 20) fun v5 =>
  if x2 = 0 then
    (m_X33_twice q2.1 x0 23 24 18 v3 v3 0 1).bind fun q6 =>
    jth q6.2.1 (some (q6.1, true, q6.2.2)) <|
    some (q6.1, false, 0)
  else
    if v5 = v4 then
      (m_X33_sum q2.1 x0 18 v3 0 v4).bind fun q7 =>
      jth q7.2.1 (some (q7.1, true, q7.2.2)) <|
      some (q7.1, false, 0)
    else
      (m_X2_word q2.1 (x0 + (-4147)) 0 v3 0 0 (I_ushr (W32 (v4 + 2048)) 12)).bind fun q8 =>
      jth q8.2.1 (some (q8.1, true, q8.2.2)) <|
      (m_X33_word q8.1 x0 q8.2.2).bind fun q9 =>
      jth q9.2.1 (some (q9.1, true, q9.2.2)) <|
      if v5 = 0 then
        some (q9.1, false, 0)
      else
        (m_X33_sum q9.1 x0 18 v3 v3 v5).bind fun q10 =>
        jth q10.2.1 (some (q10.1, true, q10.2.2)) <|
        some (q10.1, false, 0)
noncomputable def u_X33_told_79 : jS → Int → Int → Int → Int → Option (jS × Bool × Int) := Classical.choose (⟨du_X33_told_79, rfl⟩ : ∃ f, f = du_X33_told_79)
theorem eu_X33_told_79 : u_X33_told_79 = du_X33_told_79 := Classical.choose_spec (⟨du_X33_told_79, rfl⟩ : ∃ f, f = du_X33_told_79)
def du_X33_told_78 (s : jS) (x0 x2 y0 : Int) : Option (jS × Bool × Int) :=
  u_X33_told_79 s x0 x2 0 y0
noncomputable def u_X33_told_78 : jS → Int → Int → Int → Option (jS × Bool × Int) := Classical.choose (⟨du_X33_told_78, rfl⟩ : ∃ f, f = du_X33_told_78)
theorem eu_X33_told_78 : u_X33_told_78 = du_X33_told_78 := Classical.choose_spec (⟨du_X33_told_78, rfl⟩ : ∃ f, f = du_X33_told_78)
def du_X33_told_74 (s : jS) (x0 x2 y0 : Int) : Option (jS × Bool × Int) :=
  u_X33_told_79 s x0 x2 1 y0
noncomputable def u_X33_told_74 : jS → Int → Int → Int → Option (jS × Bool × Int) := Classical.choose (⟨du_X33_told_74, rfl⟩ : ∃ f, f = du_X33_told_74)
theorem eu_X33_told_74 : u_X33_told_74 = du_X33_told_74 := Classical.choose_spec (⟨du_X33_told_74, rfl⟩ : ∃ f, f = du_X33_told_74)
def du_X33_told_44 (s : jS) (x0 x1 y0 : Int) : Option (jS × Bool × Int) :=
  if y0 = 0 then
    if x1 = 0 then
      u_X33_told_78 s x0 y0 x0
    else
      (jlt s 1000 (x0 + 21) 800 1).bind fun v1 =>
      if v1 = (-1) then
        u_X33_told_78 s x0 y0 x0
      else
        (jlt s 1000 (x0 + 22) 800 1).bind fun v2 =>
        if v2 = (-1) then
          u_X33_told_74 s x0 y0 x0
        else
          u_X33_told_78 s x0 y0 x0
  else
    u_X33_told_74 s x0 y0 x0
noncomputable def u_X33_told_44 : jS → Int → Int → Int → Option (jS × Bool × Int) := Classical.choose (⟨du_X33_told_44, rfl⟩ : ∃ f, f = du_X33_told_44)
theorem eu_X33_told_44 : u_X33_told_44 = du_X33_told_44 := Classical.choose_spec (⟨du_X33_told_44, rfl⟩ : ∃ f, f = du_X33_told_44)
def du_X33_told_43 (s : jS) (x0 x1 : Int) : Option (jS × Bool × Int) :=
  u_X33_told_44 s x0 x1 0
noncomputable def u_X33_told_43 : jS → Int → Int → Option (jS × Bool × Int) := Classical.choose (⟨du_X33_told_43, rfl⟩ : ∃ f, f = du_X33_told_43)
theorem eu_X33_told_43 : u_X33_told_43 = du_X33_told_43 := Classical.choose_spec (⟨du_X33_told_43, rfl⟩ : ∃ f, f = du_X33_told_43)
def dm_X33_told (s : jS) (x0 x1 : Int) : Option (jS × Bool × Int) :=
  (m_X33_takes s x0 (jc s 48) 0).bind fun v1 =>
  (m_X33_need s x0 v1 12).bind fun q2 =>
  jth q2.2.1 (some (q2.1, true, q2.2.2)) <|
  (m_X33_value q2.1 x0 1).bind fun q3 =>
  jth q3.2.1 (some (q3.1, true, q3.2.2)) <|
  (jlt q3.1 1000 (x0 + 21) 800 1).bind fun v4 =>
  if v4 = (-1) then
    (jlt q3.1 1000 (x0 + 22) 800 1).bind fun v5 =>
    if v5 = (-1) then
      u_X33_told_44 q3.1 x0 x1 1
    else
      u_X33_told_43 q3.1 x0 x1
  else
    u_X33_told_43 q3.1 x0 x1
noncomputable def m_X33_told : jS → Int → Int → Option (jS × Bool × Int) := Classical.choose (⟨dm_X33_told, rfl⟩ : ∃ f, f = dm_X33_told)
theorem em_X33_told : m_X33_told = dm_X33_told := Classical.choose_spec (⟨dm_X33_told, rfl⟩ : ∃ f, f = dm_X33_told)
def dm_X33_returned (s : jS) (x0 x1 : Int) : Option (jS × Bool × Int) :=
  (m_X33_takes s x0 (jc s 57) 3).bind fun v1 =>
  (m_X33_need s x0 v1 12).bind fun q2 =>
  jth q2.2.1 (some (q2.1, true, q2.2.2)) <|
  (m_X33_started q2.1 x0).bind fun q3 =>
  (m_X33_register q3.1 x0 0).bind fun v4 =>
  (m_X33_sum q3.1 x0 3 x1 v4 0).bind fun q5 =>
  jth q5.2.1 (some (q5.1, true, q5.2.2)) <|
  some (q5.1, false, 0)
noncomputable def m_X33_returned : jS → Int → Int → Option (jS × Bool × Int) := Classical.choose (⟨dm_X33_returned, rfl⟩ : ∃ f, f = dm_X33_returned)
theorem em_X33_returned : m_X33_returned = dm_X33_returned := Classical.choose_spec (⟨dm_X33_returned, rfl⟩ : ∃ f, f = dm_X33_returned)
def dm_X33_called (s : jS) (x0 x1 x2 : Int) : Option (jS × Bool × Int) :=
  (m_X33_takes s x0 (jc s 47) 0).bind fun v1 =>
  (m_X33_need s x0 v1 12).bind fun q2 =>
  jth q2.2.1 (some (q2.1, true, q2.2.2)) <|
  (m_X33_placed q2.1 x0 0).bind fun q3 =>
  jth q3.2.1 (some (q3.1, true, q3.2.2)) <|
  (m_X33_started q3.1 x0).bind fun q4 =>
  (m_X33_twice q4.1 x0 19 0 3 x2 x1 0 0).bind fun q5 =>
  jth q5.2.1 (some (q5.1, true, q5.2.2)) <|
  some (q5.1, false, 0)
noncomputable def m_X33_called : jS → Int → Int → Int → Option (jS × Bool × Int) := Classical.choose (⟨dm_X33_called, rfl⟩ : ∃ f, f = dm_X33_called)
theorem em_X33_called : m_X33_called = dm_X33_called := Classical.choose_spec (⟨dm_X33_called, rfl⟩ : ∃ f, f = dm_X33_called)
def dm_X33_far (s : jS) (x0 x1 x2 : Int) : Option (jS × Bool × Int) :=
  (m_X33_takes s x0 x2 x1).bind fun v1 =>
  (m_X33_need s x0 v1 12).bind fun q2 =>
  jth q2.2.1 (some (q2.1, true, q2.2.2)) <|
  (m_X33_placed q2.1 x0 1).bind fun q3 =>
  jth q3.2.1 (some (q3.1, true, q3.2.2)) <|
  (m_X33_started q3.1 x0).bind fun q4 =>
  if x1 < 15 then
    (m_X33_register q4.1 x0 0).bind fun v5 =>
    (m_X33_register q4.1 x0 0).bind fun v6 =>
    (m_X33_twice q4.1 x0 23 24 x1 v5 v6 0 1).bind fun q7 =>
    jth q7.2.1 (some (q7.1, true, q7.2.2)) <|
    some (q7.1, false, 0)
  else
    (m_X33_register q4.1 x0 2).bind fun v8 =>
    (m_X33_register q4.1 x0 0).bind fun v9 =>
    (m_X33_twice q4.1 x0 23 25 x1 0 v8 v9 1).bind fun q10 =>
    jth q10.2.1 (some (q10.1, true, q10.2.2)) <|
    some (q10.1, false, 0)
noncomputable def m_X33_far : jS → Int → Int → Int → Option (jS × Bool × Int) := Classical.choose (⟨dm_X33_far, rfl⟩ : ∃ f, f = dm_X33_far)
theorem em_X33_far : m_X33_far = dm_X33_far := Classical.choose_spec (⟨dm_X33_far, rfl⟩ : ∃ f, f = dm_X33_far)
def du_X33_byKind_240 (s : jS) (x0 x1 x4 x5 : Int) : Option (jS × Bool × Int) :=
  (m_X33_started s x0).bind fun q1 =>
  (jlt q1.1 1000 x4 4 0).bind fun v2 =>
  (jlt q1.1 1000 x4 4 1).bind fun v3 =>
  (jlt q1.1 1000 x4 4 2).bind fun v4 =>
  (jlt q1.1 1000 x4 4 3).bind fun v5 =>
  (m_X2_word q1.1 (x0 + (-4147)) x1 v2 v3 v4 v5).bind fun q6 =>
  jth q6.2.1 (some (q6.1, true, q6.2.2)) <|
  if 0 < (jf q6.1 37 x0 41) then
    (m_X2_size q6.1 (x0 + (-4147)) q6.2.2).bind fun v7 =>
    (m_X33_putNumber q6.1 x0 q6.2.2 v7).bind fun q8 =>
    jth q8.2.1 (some (q8.1, true, q8.2.2)) <|
    (jlt q8.1 1000 (x0 + 21) 800 x5).bind fun v9 =>
    (jlt q8.1 1000 (x0 + 20) 800 x5).bind fun v10 =>
    (m_X33_move q8.1 x0 (jf q8.1 37 x0 41) (jf q8.1 37 x0 32) v9 v10).bind fun q11 =>
    jth q11.2.1 (some (q11.1, true, q11.2.2)) <|
    some (q11.1, false, 0)
  else
    if x1 < 48 then
      (m_X33_word q6.1 x0 q6.2.2).bind fun q12 =>
      jth q12.2.1 (some (q12.1, true, q12.2.2)) <|
      some (q12.1, false, 0)
    else
      (m_X33_putNumber q6.1 x0 q6.2.2 2).bind fun q13 =>
      jth q13.2.1 (some (q13.1, true, q13.2.2)) <|
      some (q13.1, false, 0)
noncomputable def u_X33_byKind_240 : jS → Int → Int → Int → Int → Option (jS × Bool × Int) := Classical.choose (⟨du_X33_byKind_240, rfl⟩ : ∃ f, f = du_X33_byKind_240)
theorem eu_X33_byKind_240 : u_X33_byKind_240 = du_X33_byKind_240 := Classical.choose_spec (⟨du_X33_byKind_240, rfl⟩ : ∃ f, f = du_X33_byKind_240)
def du_X33_byKind_234 (s : jS) (x0 x1 x2 x3 x4 x5 x6 : Int) : Option ((jS × List Int) ⊕ (jS × Bool × Int)) :=
  some (.inl (s, [x0, x1, x2, x3, x4, x5, W32 (x6 + 1)]))
noncomputable def u_X33_byKind_234 : jS → Int → Int → Int → Int → Int → Int → Int → Option ((jS × List Int) ⊕ (jS × Bool × Int)) := Classical.choose (⟨du_X33_byKind_234, rfl⟩ : ∃ f, f = du_X33_byKind_234)
theorem eu_X33_byKind_234 : u_X33_byKind_234 = du_X33_byKind_234 := Classical.choose_spec (⟨du_X33_byKind_234, rfl⟩ : ∃ f, f = du_X33_byKind_234)
def du_X33_byKind_198 (s : jS) (x0 x1 x2 x3 x4 x5 x6 : Int) : Option ((jS × List Int) ⊕ (jS × Bool × Int)) :=
  (m_X33_register s x0 x6).bind fun v1 =>
  (jst s 1000 x4 4 1 v1).bind fun s2 =>
  (jlt s2 1008 ((x0 + (-4147)) + 23) 75 x1).bind fun v3 =>
  (jlt s2 1000 x4 4 1).bind fun v4 =>
  (jct s2 27 v3 (m_X7_may s2 v3 1 v4)).bind fun v5 =>
  (m_X33_needAt s2 x0 v5 15 x6).bind fun q6 =>
  jth q6.2.1 (jinr (some (q6.1, true, q6.2.2))) <|
  u_X33_byKind_234 q6.1 x0 x1 x2 x3 x4 x5 x6
noncomputable def u_X33_byKind_198 : jS → Int → Int → Int → Int → Int → Int → Int → Option ((jS × List Int) ⊕ (jS × Bool × Int)) := Classical.choose (⟨du_X33_byKind_198, rfl⟩ : ∃ f, f = du_X33_byKind_198)
theorem eu_X33_byKind_198 : u_X33_byKind_198 = du_X33_byKind_198 := Classical.choose_spec (⟨du_X33_byKind_198, rfl⟩ : ∃ f, f = du_X33_byKind_198)
def du_X33_byKind_172 (s : jS) (x0 x1 x2 x3 x4 x5 x6 x7 y0 y1 : Int) : Option ((jS × List Int) ⊕ (jS × Bool × Int)) :=
  (m_X33_needAt s y1 y0 15 x6).bind fun q1 =>
  jth q1.2.1 (jinr (some (q1.1, true, q1.2.2))) <|
  if x7 = 3 then
    if x2 = 3 then
      u_X33_byKind_198 q1.1 x0 x1 x2 x3 x4 x5 x6
    else
      if x2 = 4 then
        u_X33_byKind_198 q1.1 x0 x1 x2 x3 x4 x5 x6
      else
        u_X33_byKind_234 q1.1 x0 x1 x2 x3 x4 x5 x6
  else
    u_X33_byKind_234 q1.1 x0 x1 x2 x3 x4 x5 x6
noncomputable def u_X33_byKind_172 : jS → Int → Int → Int → Int → Int → Int → Int → Int → Int → Int → Option ((jS × List Int) ⊕ (jS × Bool × Int)) := Classical.choose (⟨du_X33_byKind_172, rfl⟩ : ∃ f, f = du_X33_byKind_172)
theorem eu_X33_byKind_172 : u_X33_byKind_172 = du_X33_byKind_172 := Classical.choose_spec (⟨du_X33_byKind_172, rfl⟩ : ∃ f, f = du_X33_byKind_172)
def du_X33_byKind_167 (s : jS) (x0 x1 x2 x3 x4 x5 x6 x7 y0 : Int) : Option ((jS × List Int) ⊕ (jS × Bool × Int)) :=
  u_X33_byKind_172 s x0 x1 x2 x3 x4 x5 x6 x7 1 y0
noncomputable def u_X33_byKind_167 : jS → Int → Int → Int → Int → Int → Int → Int → Int → Int → Option ((jS × List Int) ⊕ (jS × Bool × Int)) := Classical.choose (⟨du_X33_byKind_167, rfl⟩ : ∃ f, f = du_X33_byKind_167)
theorem eu_X33_byKind_167 : u_X33_byKind_167 = du_X33_byKind_167 := Classical.choose_spec (⟨du_X33_byKind_167, rfl⟩ : ∃ f, f = du_X33_byKind_167)
def du_X33_byKind_137 (s : jS) (x0 x1 x2 x3 x4 x5 x6 x7 : Int) : Option ((jS × List Int) ⊕ (jS × Bool × Int)) :=
  if x7 = 3 then
    u_X33_byKind_167 s x0 x1 x2 x3 x4 x5 x6 x7 x0
  else
    (jlt s 1008 ((x0 + (-4147)) + 23) 75 x1).bind fun v1 =>
    (jlt s 1000 x4 4 x7).bind fun v2 =>
    (jct s 27 v1 (m_X7_may s v1 x7 v2)).bind fun v3 =>
    if v3 = 0 then
      u_X33_byKind_172 s x0 x1 x2 x3 x4 x5 x6 x7 0 x0
    else
      u_X33_byKind_167 s x0 x1 x2 x3 x4 x5 x6 x7 x0
noncomputable def u_X33_byKind_137 : jS → Int → Int → Int → Int → Int → Int → Int → Int → Option ((jS × List Int) ⊕ (jS × Bool × Int)) := Classical.choose (⟨du_X33_byKind_137, rfl⟩ : ∃ f, f = du_X33_byKind_137)
theorem eu_X33_byKind_137 : u_X33_byKind_137 = du_X33_byKind_137 := Classical.choose_spec (⟨du_X33_byKind_137, rfl⟩ : ∃ f, f = du_X33_byKind_137)
def du_X33_byKind_126 (s : jS) (x0 x1 x2 x3 x4 x5 x6 x7 y0 y1 y2 : Int) : Option ((jS × List Int) ⊕ (jS × Bool × Int)) :=
  (jst s 1000 y2 4 y1 y0).bind fun s1 =>
  if x7 = 3 then
    u_X33_byKind_137 s1 x0 x1 x2 x3 x4 x6 x6 x7
  else
    u_X33_byKind_137 s1 x0 x1 x2 x3 x4 x5 x6 x7
noncomputable def u_X33_byKind_126 : jS → Int → Int → Int → Int → Int → Int → Int → Int → Int → Int → Int → Option ((jS × List Int) ⊕ (jS × Bool × Int)) := Classical.choose (⟨du_X33_byKind_126, rfl⟩ : ∃ f, f = du_X33_byKind_126)
theorem eu_X33_byKind_126 : u_X33_byKind_126 = du_X33_byKind_126 := Classical.choose_spec (⟨du_X33_byKind_126, rfl⟩ : ∃ f, f = du_X33_byKind_126)
def b_X33_byKind_70 (s : jS) (x0 x1 x2 x3 x4 x5 x6 : Int) : Option ((jS × List Int) ⊕ (jS × Bool × Int)) :=
  if x6 < (jf s 37 x0 35) then
    (mp_J2_charAt s x3 x6).bind fun v1 =>
    jlet (W32 (v1 - 48)) fun v2 =>
    if v2 = 4 then
      u_X33_byKind_234 s x0 x1 x2 x3 x4 x5 x6
    else
      if v2 = 3 then
        (m_X33_immediate s x0 x1 x2 x6).bind fun q3 =>
        jth q3.2.1 (jinr (some (q3.1, true, q3.2.2))) <|
        u_X33_byKind_126 q3.1 x0 x1 x2 x3 x4 x5 x6 v2 q3.2.2 v2 x4
      else
        (m_X33_register s x0 x6).bind fun v4 =>
        u_X33_byKind_126 s x0 x1 x2 x3 x4 x5 x6 v2 v4 v2 x4
  else
    jinr (u_X33_byKind_240 s x0 x1 x4 x5)
def du_X33_byKind_70 (s : jS) (x0 x1 x2 x3 x4 x5 x6 : Int) : Option (jS × Bool × Int) := jlpW (jc7 b_X33_byKind_70) [x0, x1, x2, x3, x4, x5, x6] s
noncomputable def u_X33_byKind_70 : jS → Int → Int → Int → Int → Int → Int → Int → Option (jS × Bool × Int) := Classical.choose (⟨du_X33_byKind_70, rfl⟩ : ∃ f, f = du_X33_byKind_70)
theorem eu_X33_byKind_70 : u_X33_byKind_70 = du_X33_byKind_70 := Classical.choose_spec (⟨du_X33_byKind_70, rfl⟩ : ∃ f, f = du_X33_byKind_70)
def du_X33_byKind_59 (s : jS) (x0 x1 x2 x3 x4 : Int) : Option (jS × Bool × Int) :=
  jls (jp s 37 x0 41 0) fun s1 =>
  u_X33_byKind_70 s1 x0 x1 x2 x3 x4 0 0
noncomputable def u_X33_byKind_59 : jS → Int → Int → Int → Int → Int → Option (jS × Bool × Int) := Classical.choose (⟨du_X33_byKind_59, rfl⟩ : ∃ f, f = du_X33_byKind_59)
theorem eu_X33_byKind_59 : u_X33_byKind_59 = du_X33_byKind_59 := Classical.choose_spec (⟨du_X33_byKind_59, rfl⟩ : ∃ f, f = du_X33_byKind_59)
def b_X33_byKind_41 (s : jS) (x0 x1 x2 x3 x4 x5 : Int) : Option ((jS × List Int) ⊕ (jS × Bool × Int)) :=
  if x5 < 4 then
    (jst s 1000 x4 4 x5 0).bind fun s1 =>
    some (.inl (s1, [x0, x1, x2, x3, x4, W32 (x5 + 1)]))
  else
    jinr (u_X33_byKind_59 s x0 x1 x2 x3 x4)
def du_X33_byKind_41 (s : jS) (x0 x1 x2 x3 x4 x5 : Int) : Option (jS × Bool × Int) := jlpW (jc6 b_X33_byKind_41) [x0, x1, x2, x3, x4, x5] s
noncomputable def u_X33_byKind_41 : jS → Int → Int → Int → Int → Int → Int → Option (jS × Bool × Int) := Classical.choose (⟨du_X33_byKind_41, rfl⟩ : ∃ f, f = du_X33_byKind_41)
theorem eu_X33_byKind_41 : u_X33_byKind_41 = du_X33_byKind_41 := Classical.choose_spec (⟨du_X33_byKind_41, rfl⟩ : ∃ f, f = du_X33_byKind_41)
def dm_X33_byKind (s : jS) (x0 x1 : Int) : Option (jS × Bool × Int) :=
  (m_X2_about s (x0 + (-4147)) x1 0).bind fun v1 =>
  (m_X33_sortsOf s x0 v1).bind fun v2 =>
  (m_X33_takes s x0 v2 x1).bind fun v3 =>
  (m_X33_need s x0 v3 12).bind fun q4 =>
  jth q4.2.1 (some (q4.1, true, q4.2.2)) <|
  (m_X33_partsOf q4.1 x0 v1).bind fun v5 =>
  u_X33_byKind_41 q4.1 x0 x1 v1 v5 (x0 + 26) 0
noncomputable def m_X33_byKind : jS → Int → Int → Option (jS × Bool × Int) := Classical.choose (⟨dm_X33_byKind, rfl⟩ : ∃ f, f = dm_X33_byKind)
theorem em_X33_byKind : m_X33_byKind = dm_X33_byKind := Classical.choose_spec (⟨dm_X33_byKind, rfl⟩ : ∃ f, f = dm_X33_byKind)
def b_X33_name_82 (s : jS) (x0 x2 x3 : Int) : Option ((jS × List Int) ⊕ (jS × Int)) :=
  (mp_J2_length s x2).bind fun v1 =>
  if x3 < v1 then
    (mp_J2_charAt s x2 x3).bind fun v2 =>
    (m_X13_letter s (x0 + (-3872)) v2).bind fun q3 =>
    some (.inl (q3.1, [x0, x2, W32 (x3 + 1)]))
  else
    jinr (some (s, 0))
def du_X33_name_82 (s : jS) (x0 x2 x3 : Int) : Option (jS × Int) := jlpW (jc3 b_X33_name_82) [x0, x2, x3] s
noncomputable def u_X33_name_82 : jS → Int → Int → Int → Option (jS × Int) := Classical.choose (⟨du_X33_name_82, rfl⟩ : ∃ f, f = du_X33_name_82)
theorem eu_X33_name_82 : u_X33_name_82 = du_X33_name_82 := Classical.choose_spec (⟨du_X33_name_82, rfl⟩ : ∃ f, f = du_X33_name_82)
def b_X33_name_9 (s : jS) (x0 x1 x2 : Int) : Option ((jS × List Int) ⊕ (jS × Int)) :=
  (jrd s 38 x1 0).bind fun v1 =>
  (m_X11_name s (x0 + (-3890)) v1 x2).bind fun v2 =>
  if v2 = (-1) then
    jinr (some (s, 0))
  else
    (jrd s 38 x1 0).bind fun v3 =>
    (m_X11_name s (x0 + (-3890)) v3 x2).bind fun v4 =>
    (m_X13_letter s (x0 + (-3872)) v4).bind fun q5 =>
    some (.inl (q5.1, [x0, x1, W32 (x2 + 1)]))
def du_X33_name_9 (s : jS) (x0 x1 x2 : Int) : Option (jS × Int) := jlpW (jc3 b_X33_name_9) [x0, x1, x2] s
noncomputable def u_X33_name_9 : jS → Int → Int → Int → Option (jS × Int) := Classical.choose (⟨du_X33_name_9, rfl⟩ : ∃ f, f = du_X33_name_9)
theorem eu_X33_name_9 : u_X33_name_9 = du_X33_name_9 := Classical.choose_spec (⟨du_X33_name_9, rfl⟩ : ∃ f, f = du_X33_name_9)
def dm_X33_name (s : jS) (x0 x1 : Int) : Option (jS × Int) :=
  (jrd s 38 x1 0).bind fun v1 =>
  if v1 < 0 then
    (jnw s 8 4 (jdf 8)).bind fun q2 =>
    (jck0 q2.2 (m_J1_init q2.1 q2.2)).bind fun q3 =>
    (m_J1_append q3.1 q2.2 (jc q3.1 72)).bind fun q4 =>
    (jrd q4.1 38 x1 0).bind fun v5 =>
    (jct q4.1 24 q4.2 (m_J1_append_2 q4.1 q4.2 (W32 ((-1) - v5)))).bind fun q6 =>
    (jct q6.1 24 q6.2 (m_J1_toString q6.1 q6.2)).bind fun q7 =>
    u_X33_name_82 q7.1 x0 q7.2 0
  else
    u_X33_name_9 s x0 x1 0
noncomputable def m_X33_name : jS → Int → Int → Option (jS × Int) := Classical.choose (⟨dm_X33_name, rfl⟩ : ∃ f, f = dm_X33_name)
theorem em_X33_name : m_X33_name = dm_X33_name := Classical.choose_spec (⟨dm_X33_name, rfl⟩ : ∃ f, f = dm_X33_name)
def b_X35_isNamed_36 (s : jS) (x2 x3 x4 : Int) : Option (List Int ⊕ (Int)) :=
  (jrd s 21 x3 1).bind fun v1 =>
  if x4 < v1 then
    (jrd s 21 x3 0).bind fun v2 =>
    (jld s 1001 v2 x4).bind fun v3 =>
    (mp_J2_charAt s x2 x4).bind fun v4 =>
    if v3 = v4 then
      some (.inl [x2, x3, W32 (x4 + 1)])
    else
      jinr (some (Wz 0))
  else
    jinr (some (Wz 1))
def du_X35_isNamed_36 (s : jS) (x2 x3 x4 : Int) : Option (Int) := jlpR (jc3 b_X35_isNamed_36) [x2, x3, x4] s
noncomputable def u_X35_isNamed_36 : jS → Int → Int → Int → Option (Int) := Classical.choose (⟨du_X35_isNamed_36, rfl⟩ : ∃ f, f = du_X35_isNamed_36)
theorem eu_X35_isNamed_36 : u_X35_isNamed_36 = du_X35_isNamed_36 := Classical.choose_spec (⟨du_X35_isNamed_36, rfl⟩ : ∃ f, f = du_X35_isNamed_36)
def dm_X35_isNamed (s : jS) (x0 x1 x2 : Int) : Option (Int) :=
  (jlt s 1000 (x0 + 15) 600 x1).bind fun v1 =>
  (jlt s 1000 (x0 + 16) 600 x1).bind fun v2 =>
  (m_X35_symbol s x0 v1 v2).bind fun v3 =>
  (jrd s 20 v3 0).bind fun v4 =>
  (jrd s 21 v4 1).bind fun v5 =>
  (mp_J2_length s x2).bind fun v6 =>
  if v5 = v6 then
    u_X35_isNamed_36 s x2 v4 0
  else
    some (Wz 0)
noncomputable def m_X35_isNamed : jS → Int → Int → Int → Option (Int) := Classical.choose (⟨dm_X35_isNamed, rfl⟩ : ∃ f, f = dm_X35_isNamed)
theorem em_X35_isNamed : m_X35_isNamed = dm_X35_isNamed := Classical.choose_spec (⟨dm_X35_isNamed, rfl⟩ : ∃ f, f = dm_X35_isNamed)
def du_X35_entryGlobal_59 (s : jS) (x0 : Int) : Option (jS × Bool × Int) :=
  (m_X35_wrong s x0 5 (-1) (-1)).bind fun q1 =>
  jck0 q1.2 (some (q1.1, true, q1.2))
noncomputable def u_X35_entryGlobal_59 : jS → Int → Option (jS × Bool × Int) := Classical.choose (⟨du_X35_entryGlobal_59, rfl⟩ : ∃ f, f = du_X35_entryGlobal_59)
theorem eu_X35_entryGlobal_59 : u_X35_entryGlobal_59 = du_X35_entryGlobal_59 := Classical.choose_spec (⟨du_X35_entryGlobal_59, rfl⟩ : ∃ f, f = du_X35_entryGlobal_59)
def du_X35_entryGlobal_53 (s : jS) (x0 x1 : Int) : Option ((jS × List Int) ⊕ (jS × Bool × Int)) :=
  some (.inl (s, [x0, W32 (x1 + 1)]))
noncomputable def u_X35_entryGlobal_53 : jS → Int → Int → Option ((jS × List Int) ⊕ (jS × Bool × Int)) := Classical.choose (⟨du_X35_entryGlobal_53, rfl⟩ : ∃ f, f = du_X35_entryGlobal_53)
theorem eu_X35_entryGlobal_53 : u_X35_entryGlobal_53 = du_X35_entryGlobal_53 := Classical.choose_spec (⟨du_X35_entryGlobal_53, rfl⟩ : ∃ f, f = du_X35_entryGlobal_53)
def b_X35_entryGlobal_2 (s : jS) (x0 x1 : Int) : Option ((jS × List Int) ⊕ (jS × Bool × Int)) :=
  if x1 < (jf s 39 x0 20) then
    (m_X35_isNamed s x0 x1 (jc s 170)).bind fun v1 =>
    if v1 = 0 then
      u_X35_entryGlobal_53 s x0 x1
    else
      (jlt s 1000 (x0 + 17) 600 x1).bind fun v2 =>
      if v2 = 0 then
        (jlt s 1000 (x0 + 18) 600 x1).bind fun v3 =>
        (jlt s 1000 (x0 + 19) 600 x1).bind fun v4 =>
        (m_X35_symbol s x0 v3 v4).bind fun v5 =>
        (jrd s 20 v5 1).bind fun v6 =>
        if v6 = 0 then
          jinr (some (s, false, x1))
        else
          u_X35_entryGlobal_53 s x0 x1
      else
        u_X35_entryGlobal_53 s x0 x1
  else
    jinr (u_X35_entryGlobal_59 s x0)
def du_X35_entryGlobal_2 (s : jS) (x0 x1 : Int) : Option (jS × Bool × Int) := jlpW (jc2 b_X35_entryGlobal_2) [x0, x1] s
noncomputable def u_X35_entryGlobal_2 : jS → Int → Int → Option (jS × Bool × Int) := Classical.choose (⟨du_X35_entryGlobal_2, rfl⟩ : ∃ f, f = du_X35_entryGlobal_2)
theorem eu_X35_entryGlobal_2 : u_X35_entryGlobal_2 = du_X35_entryGlobal_2 := Classical.choose_spec (⟨du_X35_entryGlobal_2, rfl⟩ : ∃ f, f = du_X35_entryGlobal_2)
def dm_X35_entryGlobal (s : jS) (x0 : Int) : Option (jS × Bool × Int) :=
  u_X35_entryGlobal_2 s x0 0
noncomputable def m_X35_entryGlobal : jS → Int → Option (jS × Bool × Int) := Classical.choose (⟨dm_X35_entryGlobal, rfl⟩ : ∃ f, f = dm_X35_entryGlobal)
theorem em_X35_entryGlobal : m_X35_entryGlobal = dm_X35_entryGlobal := Classical.choose_spec (⟨dm_X35_entryGlobal, rfl⟩ : ∃ f, f = dm_X35_entryGlobal)
def dm_X2_letter (s : jS) (x0 x1 : Int) : Option (Int) :=
  if x1 < 0 then
    some (-1)
  else
    (m_J1_length s (x0 + 26)).bind fun v1 =>
    if x1 < v1 then
      (m_J1_charAt s (x0 + 26) x1).bind fun v2 =>
      some v2
    else
      some (-1)
noncomputable def m_X2_letter : jS → Int → Int → Option (Int) := Classical.choose (⟨dm_X2_letter, rfl⟩ : ∃ f, f = dm_X2_letter)
theorem em_X2_letter : m_X2_letter = dm_X2_letter := Classical.choose_spec (⟨dm_X2_letter, rfl⟩ : ∃ f, f = dm_X2_letter)
def du_X2_isName_96 (s : jS) (x0 x5 x6 : Int) : Option (Int) :=
  if x6 = 0 then
    some (Wz 0)
  else
    (mp_J2_length s x0).bind fun v1 =>
    if x5 = v1 then
      some (Wz 1)
    else
      some (Wz 0)
noncomputable def u_X2_isName_96 : jS → Int → Int → Int → Option (Int) := Classical.choose (⟨du_X2_isName_96, rfl⟩ : ∃ f, f = du_X2_isName_96)
theorem eu_X2_isName_96 : u_X2_isName_96 = du_X2_isName_96 := Classical.choose_spec (⟨du_X2_isName_96, rfl⟩ : ∃ f, f = du_X2_isName_96)
def du_X2_isName_90 (s : jS) (x0 x1 x3 x5 x6 x7 : Int) : Option (List Int ⊕ (Int)) :=
  some (.inl [x0, x1, x3, x5, x6, W32 (x7 + 1)])
noncomputable def u_X2_isName_90 : jS → Int → Int → Int → Int → Int → Int → Option (List Int ⊕ (Int)) := Classical.choose (⟨du_X2_isName_90, rfl⟩ : ∃ f, f = du_X2_isName_90)
theorem eu_X2_isName_90 : u_X2_isName_90 = du_X2_isName_90 := Classical.choose_spec (⟨du_X2_isName_90, rfl⟩ : ∃ f, f = du_X2_isName_90)
def du_X2_isName_85 (s : jS) (x0 x1 x3 x5 x7 y0 : Int) : Option (List Int ⊕ (Int)) :=
  u_X2_isName_90 s x0 x1 x3 (W32 (x5 + 1)) y0 x7
noncomputable def u_X2_isName_85 : jS → Int → Int → Int → Int → Int → Int → Option (List Int ⊕ (Int)) := Classical.choose (⟨du_X2_isName_85, rfl⟩ : ∃ f, f = du_X2_isName_85)
theorem eu_X2_isName_85 : u_X2_isName_85 = du_X2_isName_85 := Classical.choose_spec (⟨du_X2_isName_85, rfl⟩ : ∃ f, f = du_X2_isName_85)
def du_X2_isName_84 (s : jS) (x0 x1 x3 x5 x7 : Int) : Option (List Int ⊕ (Int)) :=
  u_X2_isName_85 s x0 x1 x3 x5 x7 0
noncomputable def u_X2_isName_84 : jS → Int → Int → Int → Int → Int → Option (List Int ⊕ (Int)) := Classical.choose (⟨du_X2_isName_84, rfl⟩ : ∃ f, f = du_X2_isName_84)
theorem eu_X2_isName_84 : u_X2_isName_84 = du_X2_isName_84 := Classical.choose_spec (⟨du_X2_isName_84, rfl⟩ : ∃ f, f = du_X2_isName_84)
def du_X2_isName_33 (s : jS) (x0 x1 x3 x5 x6 x7 y0 : Int) : Option (List Int ⊕ (Int)) :=
  jlet (L2i (L_and (L_shr y0 (W32 (56 - (W32 (8 * (I_and x7 7)))))) 255)) fun v1 =>
  if v1 = 0 then
    u_X2_isName_90 s x0 x1 x3 x5 x6 x7
  else
    (mp_J2_length s x0).bind fun v2 =>
    if x5 < v2 then
      (mp_J2_charAt s x0 x5).bind fun v3 =>
      if v3 = v1 then
        u_X2_isName_85 s x0 x1 x3 x5 x7 1
      else
        u_X2_isName_84 s x0 x1 x3 x5 x7
    else
      u_X2_isName_84 s x0 x1 x3 x5 x7
noncomputable def u_X2_isName_33 : jS → Int → Int → Int → Int → Int → Int → Int → Option (List Int ⊕ (Int)) := Classical.choose (⟨du_X2_isName_33, rfl⟩ : ∃ f, f = du_X2_isName_33)
theorem eu_X2_isName_33 : u_X2_isName_33 = du_X2_isName_33 := Classical.choose_spec (⟨du_X2_isName_33, rfl⟩ : ∃ f, f = du_X2_isName_33)
def b_X2_isName_9 (s : jS) (x0 x1 x3 x5 x6 x7 : Int) : Option (List Int ⊕ (Int)) :=
  if x7 < 16 then
    if x6 = 0 then
      jinr (u_X2_isName_96 s x0 x5 x6)
    else
      if x7 < 8 then
        u_X2_isName_33 s x0 x1 x3 x5 x6 x7 x1
      else
        u_X2_isName_33 s x0 x1 x3 x5 x6 x7 x3
  else
    jinr (u_X2_isName_96 s x0 x5 x6)
def du_X2_isName_9 (s : jS) (x0 x1 x3 x5 x6 x7 : Int) : Option (Int) := jlpR (jc6 b_X2_isName_9) [x0, x1, x3, x5, x6, x7] s
noncomputable def u_X2_isName_9 : jS → Int → Int → Int → Int → Int → Int → Option (Int) := Classical.choose (⟨du_X2_isName_9, rfl⟩ : ∃ f, f = du_X2_isName_9)
theorem eu_X2_isName_9 : u_X2_isName_9 = du_X2_isName_9 := Classical.choose_spec (⟨du_X2_isName_9, rfl⟩ : ∃ f, f = du_X2_isName_9)
def dm_X2_isName (s : jS) (x0 x1 x3 : Int) : Option (Int) :=
  u_X2_isName_9 s x0 x1 x3 0 1 0
noncomputable def m_X2_isName : jS → Int → Int → Int → Option (Int) := Classical.choose (⟨dm_X2_isName, rfl⟩ : ∃ f, f = dm_X2_isName)
theorem em_X2_isName : m_X2_isName = dm_X2_isName := Classical.choose_spec (⟨dm_X2_isName, rfl⟩ : ∃ f, f = dm_X2_isName)
def du_J0_append_3_56 (s : jS) (x0 x1 : Int) : Option (jS × Int) :=
  jls (jp s 8 x0 3 (W32 ((jf s 8 x0 3) + 1))) fun s1 =>
  (m_J3_putCharSB s1 (jf s 8 x0 0) (jf s 8 x0 3) x1).bind fun q2 =>
  some (q2.1, x0)
noncomputable def u_J0_append_3_56 : jS → Int → Int → Option (jS × Int) := Classical.choose (⟨du_J0_append_3_56, rfl⟩ : ∃ f, f = du_J0_append_3_56)
theorem eu_J0_append_3_56 : u_J0_append_3_56 = du_J0_append_3_56 := Classical.choose_spec (⟨du_J0_append_3_56, rfl⟩ : ∃ f, f = du_J0_append_3_56)
def du_J0_append_3_45 (s : jS) (x0 x1 : Int) : Option (jS × Int) :=
  (mp_J0_isLatin1 s x0).bind fun v1 =>
  if v1 = 0 then
    u_J0_append_3_56 s x0 x1
  else
    (mp_J0_inflate s x0).bind fun q2 =>
    u_J0_append_3_56 q2.1 x0 x1
noncomputable def u_J0_append_3_45 : jS → Int → Int → Option (jS × Int) := Classical.choose (⟨du_J0_append_3_45, rfl⟩ : ∃ f, f = du_J0_append_3_45)
theorem eu_J0_append_3_45 : u_J0_append_3_45 = du_J0_append_3_45 := Classical.choose_spec (⟨du_J0_append_3_45, rfl⟩ : ∃ f, f = du_J0_append_3_45)
def dm_J0_append_3 (s : jS) (x0 x1 : Int) : Option (jS × Int) :=
  (mp_J0_ensureCapacityInternal s x0 (W32 ((jf s 8 x0 3) + 1))).bind fun q1 =>
  (mp_J0_isLatin1 q1.1 x0).bind fun v2 =>
  if v2 = 0 then
    u_J0_append_3_45 q1.1 x0 x1
  else
    (m_J15_canEncode q1.1 x1).bind fun v3 =>
    if v3 = 0 then
      u_J0_append_3_45 q1.1 x0 x1
    else
      jls (jp q1.1 8 x0 3 (W32 ((jf q1.1 8 x0 3) + 1))) fun s4 =>
      (jsa s4 1001 (jf q1.1 8 x0 0) (jf q1.1 8 x0 3) (W8 (W8 x1))).bind fun s5 =>
      some (s5, x0)
noncomputable def m_J0_append_3 : jS → Int → Int → Option (jS × Int) := Classical.choose (⟨dm_J0_append_3, rfl⟩ : ∃ f, f = dm_J0_append_3)
theorem em_J0_append_3 : m_J0_append_3 = dm_J0_append_3 := Classical.choose_spec (⟨dm_J0_append_3, rfl⟩ : ∃ f, f = dm_J0_append_3)
def dmq_J0_append_3 (s : jS) (x0 x1 : Int) : Option (jS × Int) := if 0 ≤ x0 ∧ jK s x0 = 8 then m_J0_append_3 s x0 x1 else none
noncomputable def mq_J0_append_3 : jS → Int → Int → Option (jS × Int) := Classical.choose (⟨dmq_J0_append_3, rfl⟩ : ∃ f, f = dmq_J0_append_3)
theorem emq_J0_append_3 : mq_J0_append_3 = dmq_J0_append_3 := Classical.choose_spec (⟨dmq_J0_append_3, rfl⟩ : ∃ f, f = dmq_J0_append_3)
def dm_J1_append_3 (s : jS) (x0 x1 : Int) : Option (jS × Int) :=
  (mq_J0_append_3 s x0 x1).bind fun q1 =>
  some (q1.1, x0)
noncomputable def m_J1_append_3 : jS → Int → Int → Option (jS × Int) := Classical.choose (⟨dm_J1_append_3, rfl⟩ : ∃ f, f = dm_J1_append_3)
theorem em_J1_append_3 : m_J1_append_3 = dm_J1_append_3 := Classical.choose_spec (⟨dm_J1_append_3, rfl⟩ : ∃ f, f = dm_J1_append_3)
def du_X11_registerOf_149 (s : jS) (x0 x2 : Int) : Option (jS × Int) :=
  if x2 = 0 then
    some (s, 0)
  else
  if x2 = 1 then
    some (s, 1)
  else
  if x2 = 2 then
    some (s, 2)
  else
  if x2 = 3 then
    some (s, 3)
  else
  if x2 = 4 then
    some (s, 4)
  else
  if x2 = 5 then
    some (s, 8)
  else
  (m_X11_numberedOf s x0).bind fun v1 =>
  some (s, v1)
noncomputable def u_X11_registerOf_149 : jS → Int → Int → Option (jS × Int) := Classical.choose (⟨du_X11_registerOf_149, rfl⟩ : ∃ f, f = du_X11_registerOf_149)
theorem eu_X11_registerOf_149 : u_X11_registerOf_149 = du_X11_registerOf_149 := Classical.choose_spec (⟨du_X11_registerOf_149, rfl⟩ : ∃ f, f = du_X11_registerOf_149)
def dm_X11_registerOf (s : jS) (x0 : Int) : Option (jS × Int) :=
  (mp_J2_hashCode s x0).bind fun q1 =>
  if q1.2 = 3274 then
    (mp_J2_equals q1.1 x0 (jc q1.1 187)).bind fun v2 =>
    if v2 = 0 then
      u_X11_registerOf_149 q1.1 x0 (-1)
    else
      u_X11_registerOf_149 q1.1 x0 5
  else
  if q1.2 = 3305 then
    (mp_J2_equals q1.1 x0 (jc q1.1 185)).bind fun v3 =>
    if v3 = 0 then
      u_X11_registerOf_149 q1.1 x0 (-1)
    else
      u_X11_registerOf_149 q1.1 x0 3
  else
  if q1.2 = 3631 then
    (mp_J2_equals q1.1 x0 (jc q1.1 183)).bind fun v4 =>
    if v4 = 0 then
      u_X11_registerOf_149 q1.1 x0 (-1)
    else
      u_X11_registerOf_149 q1.1 x0 1
  else
  if q1.2 = 3677 then
    (mp_J2_equals q1.1 x0 (jc q1.1 184)).bind fun v5 =>
    if v5 = 0 then
      u_X11_registerOf_149 q1.1 x0 (-1)
    else
      u_X11_registerOf_149 q1.1 x0 2
  else
  if q1.2 = 3708 then
    (mp_J2_equals q1.1 x0 (jc q1.1 186)).bind fun v6 =>
    if v6 = 0 then
      u_X11_registerOf_149 q1.1 x0 (-1)
    else
      u_X11_registerOf_149 q1.1 x0 4
  else
  if q1.2 = 3735208 then
    (mp_J2_equals q1.1 x0 (jc q1.1 182)).bind fun v7 =>
    if v7 = 0 then
      u_X11_registerOf_149 q1.1 x0 (-1)
    else
      u_X11_registerOf_149 q1.1 x0 0
  else
  u_X11_registerOf_149 q1.1 x0 (-1)
noncomputable def m_X11_registerOf : jS → Int → Option (jS × Int) := Classical.choose (⟨dm_X11_registerOf, rfl⟩ : ∃ f, f = dm_X11_registerOf)
theorem em_X11_registerOf : m_X11_registerOf = dm_X11_registerOf := Classical.choose_spec (⟨dm_X11_registerOf, rfl⟩ : ∃ f, f = dm_X11_registerOf)
def du_X20_names_44 (s : jS) (x0 : Int) : Option (jS × Int) :=
  (m_X20_end s x0 11).bind fun q1 =>
  some (q1.1, 0)
noncomputable def u_X20_names_44 : jS → Int → Option (jS × Int) := Classical.choose (⟨du_X20_names_44, rfl⟩ : ∃ f, f = du_X20_names_44)
theorem eu_X20_names_44 : u_X20_names_44 = du_X20_names_44 := Classical.choose_spec (⟨du_X20_names_44, rfl⟩ : ∃ f, f = du_X20_names_44)
def du_X20_names_38 (s : jS) (x0 x1 : Int) : Option ((jS × List Int) ⊕ (jS × Int)) :=
  some (.inl (s, [x0, W32 (x1 + 1)]))
noncomputable def u_X20_names_38 : jS → Int → Int → Option ((jS × List Int) ⊕ (jS × Int)) := Classical.choose (⟨du_X20_names_38, rfl⟩ : ∃ f, f = du_X20_names_38)
theorem eu_X20_names_38 : u_X20_names_38 = du_X20_names_38 := Classical.choose_spec (⟨du_X20_names_38, rfl⟩ : ∃ f, f = du_X20_names_38)
def b_X20_names_17 (s : jS) (x0 x1 : Int) : Option ((jS × List Int) ⊕ (jS × Int)) :=
  if x1 < 12 then
    (jlt s 1000 (x0 + 3) 12 x1).bind fun v1 =>
    if 0 < v1 then
      (m_X20_named s x0 x1).bind fun q2 =>
      u_X20_names_38 q2.1 x0 x1
    else
      u_X20_names_38 s x0 x1
  else
    jinr (u_X20_names_44 s x0)
def du_X20_names_17 (s : jS) (x0 x1 : Int) : Option (jS × Int) := jlpW (jc2 b_X20_names_17) [x0, x1] s
noncomputable def u_X20_names_17 : jS → Int → Int → Option (jS × Int) := Classical.choose (⟨du_X20_names_17, rfl⟩ : ∃ f, f = du_X20_names_17)
theorem eu_X20_names_17 : u_X20_names_17 = du_X20_names_17 := Classical.choose_spec (⟨du_X20_names_17, rfl⟩ : ∃ f, f = du_X20_names_17)
def dm_X20_names (s : jS) (x0 : Int) : Option (jS × Int) :=
  (m_X20_begin s x0 11 1).bind fun q1 =>
  (m_X19_put1 q1.1 (x0 + 1) 0).bind fun q2 =>
  u_X20_names_17 q2.1 x0 1
noncomputable def m_X20_names : jS → Int → Option (jS × Int) := Classical.choose (⟨dm_X20_names, rfl⟩ : ∃ f, f = dm_X20_names)
theorem em_X20_names : m_X20_names = dm_X20_names := Classical.choose_spec (⟨dm_X20_names, rfl⟩ : ∃ f, f = dm_X20_names)
def du_X21_names_156 (s : jS) (x0 x1 x3 y0 y1 : Int) : Option ((jS × List Int) ⊕ (jS × Bool × Int)) :=
  (m_X21_field s x0 x1 0).bind fun v1 =>
  (m_X21_need s y1 y0 16 v1).bind fun q2 =>
  jth q2.2.1 (jinr (some (q2.1, true, q2.2.2))) <|
  (jst q2.1 1000 (x0 + 1) 12 x3 x1).bind fun s3 =>
  (jst s3 1000 (x0 + 2) 16 x1 x3).bind fun s4 =>
  some (.inl (s4, [x0, W32 (x1 + 1)]))
noncomputable def u_X21_names_156 : jS → Int → Int → Int → Int → Int → Option ((jS × List Int) ⊕ (jS × Bool × Int)) := Classical.choose (⟨du_X21_names_156, rfl⟩ : ∃ f, f = du_X21_names_156)
theorem eu_X21_names_156 : u_X21_names_156 = du_X21_names_156 := Classical.choose_spec (⟨du_X21_names_156, rfl⟩ : ∃ f, f = du_X21_names_156)
def du_X21_names_155 (s : jS) (x0 x1 x3 y0 : Int) : Option ((jS × List Int) ⊕ (jS × Bool × Int)) :=
  u_X21_names_156 s x0 x1 x3 0 y0
noncomputable def u_X21_names_155 : jS → Int → Int → Int → Int → Option ((jS × List Int) ⊕ (jS × Bool × Int)) := Classical.choose (⟨du_X21_names_155, rfl⟩ : ∃ f, f = du_X21_names_155)
theorem eu_X21_names_155 : u_X21_names_155 = du_X21_names_155 := Classical.choose_spec (⟨du_X21_names_155, rfl⟩ : ∃ f, f = du_X21_names_155)
def du_X21_names_136 (s : jS) (x0 x1 y0 : Int) : Option ((jS × List Int) ⊕ (jS × Bool × Int)) :=
  if 0 < y0 then
    (jlt s 1000 (x0 + 1) 12 y0).bind fun v1 =>
    if v1 = 0 then
      u_X21_names_156 s x0 x1 y0 1 x0
    else
      u_X21_names_155 s x0 x1 y0 x0
  else
    u_X21_names_155 s x0 x1 y0 x0
noncomputable def u_X21_names_136 : jS → Int → Int → Int → Option ((jS × List Int) ⊕ (jS × Bool × Int)) := Classical.choose (⟨du_X21_names_136, rfl⟩ : ∃ f, f = du_X21_names_136)
theorem eu_X21_names_136 : u_X21_names_136 = du_X21_names_136 := Classical.choose_spec (⟨du_X21_names_136, rfl⟩ : ∃ f, f = du_X21_names_136)
def du_X21_names_101 (s : jS) (x0 x1 y0 : Int) : Option ((jS × List Int) ⊕ (jS × Bool × Int)) :=
  if y0 = 0 then
    u_X21_names_136 s x0 x1 0
  else
    (m_X21_from s x0 (jf s 25 x0 4)).bind fun v1 =>
    (m_X21_field s x0 x1 0).bind fun v2 =>
    (jct s 39 (jf s 25 x0 0) (m_X19_s4 s (jf s 25 x0 0) v2)).bind fun v3 =>
    (m_X21_named s x0 (W32 (v1 + v3))).bind fun v4 =>
    u_X21_names_136 s x0 x1 v4
noncomputable def u_X21_names_101 : jS → Int → Int → Int → Option ((jS × List Int) ⊕ (jS × Bool × Int)) := Classical.choose (⟨du_X21_names_101, rfl⟩ : ∃ f, f = du_X21_names_101)
theorem eu_X21_names_101 : u_X21_names_101 = du_X21_names_101 := Classical.choose_spec (⟨du_X21_names_101, rfl⟩ : ∃ f, f = du_X21_names_101)
def b_X21_names_69 (s : jS) (x0 x1 : Int) : Option ((jS × List Int) ⊕ (jS × Bool × Int)) :=
  if x1 < (jf s 25 x0 3) then
    (m_X21_told s x0 x1 0).bind fun v1 =>
    (m_X21_sizeOf s x0 (jf s 25 x0 4)).bind fun v2 =>
    if (L_cmp v1 v2) < 0 then
      u_X21_names_101 s x0 x1 1
    else
      u_X21_names_101 s x0 x1 0
  else
    jinr (some (s, false, 0))
def du_X21_names_69 (s : jS) (x0 x1 : Int) : Option (jS × Bool × Int) := jlpW (jc2 b_X21_names_69) [x0, x1] s
noncomputable def u_X21_names_69 : jS → Int → Int → Option (jS × Bool × Int) := Classical.choose (⟨du_X21_names_69, rfl⟩ : ∃ f, f = du_X21_names_69)
theorem eu_X21_names_69 : u_X21_names_69 = du_X21_names_69 := Classical.choose_spec (⟨du_X21_names_69, rfl⟩ : ∃ f, f = du_X21_names_69)
def du_X21_names_67 (s : jS) (x0 : Int) : Option (jS × Bool × Int) :=
  u_X21_names_69 s x0 1
noncomputable def u_X21_names_67 : jS → Int → Option (jS × Bool × Int) := Classical.choose (⟨du_X21_names_67, rfl⟩ : ∃ f, f = du_X21_names_67)
theorem eu_X21_names_67 : u_X21_names_67 = du_X21_names_67 := Classical.choose_spec (⟨du_X21_names_67, rfl⟩ : ∃ f, f = du_X21_names_67)
def b_X21_names_48 (s : jS) (x0 x1 : Int) : Option ((jS × List Int) ⊕ (jS × Bool × Int)) :=
  if x1 < 12 then
    (jst s 1000 (x0 + 1) 12 x1 0).bind fun s1 =>
    some (.inl (s1, [x0, W32 (x1 + 1)]))
  else
    jinr (u_X21_names_67 s x0)
def du_X21_names_48 (s : jS) (x0 x1 : Int) : Option (jS × Bool × Int) := jlpW (jc2 b_X21_names_48) [x0, x1] s
noncomputable def u_X21_names_48 : jS → Int → Int → Option (jS × Bool × Int) := Classical.choose (⟨du_X21_names_48, rfl⟩ : ∃ f, f = du_X21_names_48)
theorem eu_X21_names_48 : u_X21_names_48 = du_X21_names_48 := Classical.choose_spec (⟨du_X21_names_48, rfl⟩ : ∃ f, f = du_X21_names_48)
def du_X21_names_22 (s : jS) (x0 y0 y1 : Int) : Option (jS × Bool × Int) :=
  (m_X21_field s x0 (jf s 25 x0 4) 1).bind fun v1 =>
  (m_X21_need s y1 y0 15 v1).bind fun q2 =>
  jth q2.2.1 (some (q2.1, true, q2.2.2)) <|
  (m_X21_strings q2.1 x0 (jf q2.1 25 x0 4) 15).bind fun q3 =>
  jth q3.2.1 (some (q3.1, true, q3.2.2)) <|
  u_X21_names_48 q3.1 x0 0
noncomputable def u_X21_names_22 : jS → Int → Int → Int → Option (jS × Bool × Int) := Classical.choose (⟨du_X21_names_22, rfl⟩ : ∃ f, f = du_X21_names_22)
theorem eu_X21_names_22 : u_X21_names_22 = du_X21_names_22 := Classical.choose_spec (⟨du_X21_names_22, rfl⟩ : ∃ f, f = du_X21_names_22)
def dm_X21_names (s : jS) (x0 : Int) : Option (jS × Bool × Int) :=
  (m_X21_told s x0 (jf s 25 x0 4) 1).bind fun v1 =>
  if (L_cmp v1 3) = 0 then
    u_X21_names_22 s x0 1 x0
  else
    u_X21_names_22 s x0 0 x0
noncomputable def m_X21_names : jS → Int → Option (jS × Bool × Int) := Classical.choose (⟨dm_X21_names, rfl⟩ : ∃ f, f = dm_X21_names)
theorem em_X21_names : m_X21_names = dm_X21_names := Classical.choose_spec (⟨dm_X21_names, rfl⟩ : ∃ f, f = dm_X21_names)
def du_X33_directive_540 (s : jS) (x0 x1 : Int) : Option (jS × Bool × Int) :=
  (mp_J2_equals s x1 (jc s 12)).bind fun v1 =>
  (m_X33_strings s x0 v1).bind fun q2 =>
  jth q2.2.1 (some (q2.1, true, q2.2.2)) <|
  some (q2.1, false, 0)
noncomputable def u_X33_directive_540 : jS → Int → Int → Option (jS × Bool × Int) := Classical.choose (⟨du_X33_directive_540, rfl⟩ : ∃ f, f = du_X33_directive_540)
theorem eu_X33_directive_540 : u_X33_directive_540 = du_X33_directive_540 := Classical.choose_spec (⟨du_X33_directive_540, rfl⟩ : ∃ f, f = du_X33_directive_540)
def du_X33_directive_500 (s : jS) (x0 x1 : Int) : Option (jS × Bool × Int) :=
  (mp_J2_equals s x1 (jc s 5)).bind fun v1 =>
  (m_X33_bound s x0 v1).bind fun q2 =>
  jth q2.2.1 (some (q2.1, true, q2.2.2)) <|
  some (q2.1, false, 0)
noncomputable def u_X33_directive_500 : jS → Int → Int → Option (jS × Bool × Int) := Classical.choose (⟨du_X33_directive_500, rfl⟩ : ∃ f, f = du_X33_directive_500)
theorem eu_X33_directive_500 : u_X33_directive_500 = du_X33_directive_500 := Classical.choose_spec (⟨du_X33_directive_500, rfl⟩ : ∃ f, f = du_X33_directive_500)
def du_X33_directive_395 (s : jS) (x0 x1 x3 : Int) : Option (jS × Bool × Int) :=
  if x3 = 0 then
    (m_X33_section s x0 0).bind fun q1 =>
    jth q1.2.1 (some (q1.1, true, q1.2.2)) <|
    some (q1.1, false, 0)
  else
  if x3 = 1 then
    (m_X33_section s x0 1).bind fun q2 =>
    jth q2.2.1 (some (q2.1, true, q2.2.2)) <|
    some (q2.1, false, 0)
  else
  if x3 = 2 then
    (m_X33_section s x0 2).bind fun q3 =>
    jth q3.2.1 (some (q3.1, true, q3.2.2)) <|
    some (q3.1, false, 0)
  else
  if x3 = 3 then
    (m_X33_section s x0 3).bind fun q4 =>
    jth q4.2.1 (some (q4.1, true, q4.2.2)) <|
    some (q4.1, false, 0)
  else
  if x3 = 4 then
    u_X33_directive_500 s x0 x1
  else
  if x3 = 5 then
    u_X33_directive_500 s x0 x1
  else
  if x3 = 6 then
    (m_X33_equal s x0).bind fun q5 =>
    jth q5.2.1 (some (q5.1, true, q5.2.2)) <|
    some (q5.1, false, 0)
  else
  if x3 = 7 then
    (m_X33_common s x0).bind fun q6 =>
    jth q6.2.1 (some (q6.1, true, q6.2.2)) <|
    some (q6.1, false, 0)
  else
  if x3 = 8 then
    (m_X33_numbers s x0 1).bind fun q7 =>
    jth q7.2.1 (some (q7.1, true, q7.2.2)) <|
    some (q7.1, false, 0)
  else
  if x3 = 9 then
    (m_X33_numbers s x0 2).bind fun q8 =>
    jth q8.2.1 (some (q8.1, true, q8.2.2)) <|
    some (q8.1, false, 0)
  else
  if x3 = 10 then
    (m_X33_numbers s x0 4).bind fun q9 =>
    jth q9.2.1 (some (q9.1, true, q9.2.2)) <|
    some (q9.1, false, 0)
  else
  if x3 = 11 then
    u_X33_directive_540 s x0 x1
  else
  if x3 = 12 then
    u_X33_directive_540 s x0 x1
  else
  if x3 = 13 then
    (m_X33_zeros s x0).bind fun q10 =>
    jth q10.2.1 (some (q10.1, true, q10.2.2)) <|
    some (q10.1, false, 0)
  else
  if x3 = 14 then
    (m_X33_align s x0).bind fun q11 =>
    jth q11.2.1 (some (q11.1, true, q11.2.2)) <|
    some (q11.1, false, 0)
  else
  if x3 = 15 then
    (m_X33_option s x0).bind fun q12 =>
    jth q12.2.1 (some (q12.1, true, q12.2.2)) <|
    some (q12.1, false, 0)
  else
  (m_X33_need s x0 0 9).bind fun q13 =>
  jth q13.2.1 (some (q13.1, true, q13.2.2)) <|
  some (q13.1, false, 0)
noncomputable def u_X33_directive_395 : jS → Int → Int → Int → Option (jS × Bool × Int) := Classical.choose (⟨du_X33_directive_395, rfl⟩ : ∃ f, f = du_X33_directive_395)
theorem eu_X33_directive_395 : u_X33_directive_395 = du_X33_directive_395 := Classical.choose_spec (⟨du_X33_directive_395, rfl⟩ : ∃ f, f = du_X33_directive_395)
def dm_X33_directive (s : jS) (x0 x1 : Int) : Option (jS × Bool × Int) :=
  (mp_J2_hashCode s x1).bind fun q1 =>
  if q1.2 = 1468244 then
    (mp_J2_equals q1.1 x1 (jc q1.1 3)).bind fun v2 =>
    if v2 = 0 then
      u_X33_directive_395 q1.1 x0 x1 (-1)
    else
      u_X33_directive_395 q1.1 x0 x1 3
  else
  if q1.2 = 1471067 then
    (mp_J2_equals q1.1 x1 (jc q1.1 6)).bind fun v3 =>
    if v3 = 0 then
      u_X33_directive_395 q1.1 x0 x1 (-1)
    else
      u_X33_directive_395 q1.1 x0 x1 6
  else
  if q1.2 = 45521462 then
    (mp_J2_equals q1.1 x1 (jc q1.1 8)).bind fun v4 =>
    if v4 = 0 then
      u_X33_directive_395 q1.1 x0 x1 (-1)
    else
      u_X33_directive_395 q1.1 x0 x1 8
  else
  if q1.2 = 45541434 then
    (mp_J2_equals q1.1 x1 (jc q1.1 7)).bind fun v5 =>
    if v5 = 0 then
      u_X33_directive_395 q1.1 x0 x1 (-1)
    else
      u_X33_directive_395 q1.1 x0 x1 7
  else
  if q1.2 = 45557976 then
    (mp_J2_equals q1.1 x1 (jc q1.1 2)).bind fun v6 =>
    if v6 = 0 then
      u_X33_directive_395 q1.1 x0 x1 (-1)
    else
      u_X33_directive_395 q1.1 x0 x1 2
  else
  if q1.2 = 45676897 then
    (mp_J2_equals q1.1 x1 (jc q1.1 9)).bind fun v7 =>
    if v7 = 0 then
      u_X33_directive_395 q1.1 x0 x1 (-1)
    else
      u_X33_directive_395 q1.1 x0 x1 9
  else
  if q1.2 = 46038619 then
    (mp_J2_equals q1.1 x1 (jc q1.1 0)).bind fun v8 =>
    if v8 = 0 then
      u_X33_directive_395 q1.1 x0 x1 (-1)
    else
      u_X33_directive_395 q1.1 x0 x1 0
  else
  if q1.2 = 46127270 then
    (mp_J2_equals q1.1 x1 (jc q1.1 5)).bind fun v9 =>
    if v9 = 0 then
      u_X33_directive_395 q1.1 x0 x1 (-1)
    else
      u_X33_directive_395 q1.1 x0 x1 5
  else
  if q1.2 = 46137400 then
    (mp_J2_equals q1.1 x1 (jc q1.1 10)).bind fun v10 =>
    if v10 = 0 then
      u_X33_directive_395 q1.1 x0 x1 (-1)
    else
      u_X33_directive_395 q1.1 x0 x1 10
  else
  if q1.2 = 46217174 then
    (mp_J2_equals q1.1 x1 (jc q1.1 13)).bind fun v11 =>
    if v11 = 0 then
      u_X33_directive_395 q1.1 x0 x1 (-1)
    else
      u_X33_directive_395 q1.1 x0 x1 13
  else
  if q1.2 = 1160326691 then
    (mp_J2_equals q1.1 x1 (jc q1.1 15)).bind fun v12 =>
    if v12 = 0 then
      u_X33_directive_395 q1.1 x0 x1 (-1)
    else
      u_X33_directive_395 q1.1 x0 x1 15
  else
  if q1.2 = 1244806421 then
    (mp_J2_equals q1.1 x1 (jc q1.1 1)).bind fun v13 =>
    if v13 = 0 then
      u_X33_directive_395 q1.1 x0 x1 (-1)
    else
      u_X33_directive_395 q1.1 x0 x1 1
  else
  if q1.2 = 1409844119 then
    (mp_J2_equals q1.1 x1 (jc q1.1 14)).bind fun v14 =>
    if v14 = 0 then
      u_X33_directive_395 q1.1 x0 x1 (-1)
    else
      u_X33_directive_395 q1.1 x0 x1 14
  else
  if q1.2 = 1410046947 then
    (mp_J2_equals q1.1 x1 (jc q1.1 11)).bind fun v15 =>
    if v15 = 0 then
      u_X33_directive_395 q1.1 x0 x1 (-1)
    else
      u_X33_directive_395 q1.1 x0 x1 11
  else
  if q1.2 = 1410046964 then
    (mp_J2_equals q1.1 x1 (jc q1.1 12)).bind fun v16 =>
    if v16 = 0 then
      u_X33_directive_395 q1.1 x0 x1 (-1)
    else
      u_X33_directive_395 q1.1 x0 x1 12
  else
  if q1.2 = 1415390854 then
    (mp_J2_equals q1.1 x1 (jc q1.1 4)).bind fun v17 =>
    if v17 = 0 then
      u_X33_directive_395 q1.1 x0 x1 (-1)
    else
      u_X33_directive_395 q1.1 x0 x1 4
  else
  u_X33_directive_395 q1.1 x0 x1 (-1)
noncomputable def m_X33_directive : jS → Int → Int → Option (jS × Bool × Int) := Classical.choose (⟨dm_X33_directive, rfl⟩ : ∃ f, f = dm_X33_directive)
theorem em_X33_directive : m_X33_directive = dm_X33_directive := Classical.choose_spec (⟨dm_X33_directive, rfl⟩ : ∃ f, f = dm_X33_directive)
def du_X33_branched_91 (s : jS) (y0 y1 y2 y3 y4 y5 : Int) : Option (jS × Bool × Int) :=
  (m_X33_jumped s y5 y4 y3 y2 y1 y0).bind fun q1 =>
  jth q1.2.1 (some (q1.1, true, q1.2.2)) <|
  some (q1.1, false, 0)
noncomputable def u_X33_branched_91 : jS → Int → Int → Int → Int → Int → Int → Option (jS × Bool × Int) := Classical.choose (⟨du_X33_branched_91, rfl⟩ : ∃ f, f = du_X33_branched_91)
theorem eu_X33_branched_91 : u_X33_branched_91 = du_X33_branched_91 := Classical.choose_spec (⟨du_X33_branched_91, rfl⟩ : ∃ f, f = du_X33_branched_91)
def du_X33_branched_78 (s : jS) (x0 x2 y0 y1 y2 y3 y4 : Int) : Option (jS × Bool × Int) :=
  if x2 = 0 then
    u_X33_branched_91 s 0 y0 y1 y2 y3 y4
  else
    (m_X33_register s x0 0).bind fun v1 =>
    u_X33_branched_91 s v1 y0 y1 y2 y3 y4
noncomputable def u_X33_branched_78 : jS → Int → Int → Int → Int → Int → Int → Int → Option (jS × Bool × Int) := Classical.choose (⟨du_X33_branched_78, rfl⟩ : ∃ f, f = du_X33_branched_78)
theorem eu_X33_branched_78 : u_X33_branched_78 = du_X33_branched_78 := Classical.choose_spec (⟨du_X33_branched_78, rfl⟩ : ∃ f, f = du_X33_branched_78)
def du_X33_branched_44 (s : jS) (x0 x2 y0 : Int) : Option (jS × Bool × Int) :=
  (m_X33_takes s x0 (jc s 48) y0).bind fun v1 =>
  (m_X33_need s x0 v1 12).bind fun q2 =>
  jth q2.2.1 (some (q2.1, true, q2.2.2)) <|
  if x2 = 0 then
    (m_X33_register q2.1 x0 0).bind fun v3 =>
    u_X33_branched_78 q2.1 x0 x2 v3 0 y0 (jc q2.1 48) x0
  else
    u_X33_branched_78 q2.1 x0 x2 0 0 y0 (jc q2.1 48) x0
noncomputable def u_X33_branched_44 : jS → Int → Int → Int → Option (jS × Bool × Int) := Classical.choose (⟨du_X33_branched_44, rfl⟩ : ∃ f, f = du_X33_branched_44)
theorem eu_X33_branched_44 : u_X33_branched_44 = du_X33_branched_44 := Classical.choose_spec (⟨du_X33_branched_44, rfl⟩ : ∃ f, f = du_X33_branched_44)
def du_X33_branched_37 (s : jS) (x0 x2 : Int) : Option (jS × Bool × Int) :=
  u_X33_branched_44 s x0 x2 7
noncomputable def u_X33_branched_37 : jS → Int → Int → Option (jS × Bool × Int) := Classical.choose (⟨du_X33_branched_37, rfl⟩ : ∃ f, f = du_X33_branched_37)
theorem eu_X33_branched_37 : u_X33_branched_37 = du_X33_branched_37 := Classical.choose_spec (⟨du_X33_branched_37, rfl⟩ : ∃ f, f = du_X33_branched_37)
def du_X33_branched_11 (s : jS) (x0 x1 y0 : Int) : Option (jS × Bool × Int) :=
  if x1 < 13 then
    u_X33_branched_44 s x0 y0 (W32 (x1 - 7))
  else
    if x1 = 13 then
      u_X33_branched_37 s x0 y0
    else
      if x1 = 15 then
        u_X33_branched_37 s x0 y0
      else
        u_X33_branched_44 s x0 y0 6
noncomputable def u_X33_branched_11 : jS → Int → Int → Int → Option (jS × Bool × Int) := Classical.choose (⟨du_X33_branched_11, rfl⟩ : ∃ f, f = du_X33_branched_11)
theorem eu_X33_branched_11 : u_X33_branched_11 = du_X33_branched_11 := Classical.choose_spec (⟨du_X33_branched_11, rfl⟩ : ∃ f, f = du_X33_branched_11)
def dm_X33_branched (s : jS) (x0 x1 : Int) : Option (jS × Bool × Int) :=
  if 14 < x1 then
    u_X33_branched_11 s x0 x1 1
  else
    u_X33_branched_11 s x0 x1 0
noncomputable def m_X33_branched : jS → Int → Int → Option (jS × Bool × Int) := Classical.choose (⟨dm_X33_branched, rfl⟩ : ∃ f, f = dm_X33_branched)
theorem em_X33_branched : m_X33_branched = dm_X33_branched := Classical.choose_spec (⟨dm_X33_branched, rfl⟩ : ∃ f, f = dm_X33_branched)
def b_X33_finish_187 (s : jS) (x0 x1 : Int) : Option ((jS × List Int) ⊕ (jS × Int)) :=
  if x1 < (jf s 37 x0 28) then
    (jlt s 1000 (x0 + 10) 300 x1).bind fun v1 =>
    (jlt s 1000 (x0 + 11) 300 x1).bind fun v2 =>
    (jlt s 1000 (x0 + 12) 300 x1).bind fun v3 =>
    (jlt s 1000 (x0 + 13) 300 x1).bind fun v4 =>
    (jlt s 1000 (x0 + 14) 300 x1).bind fun v5 =>
    (m_X13_relocation s (x0 + (-3872)) v1 v2 v3 v4 v5).bind fun q6 =>
    some (.inl (q6.1, [x0, W32 (x1 + 1)]))
  else
    jinr (some (s, 0))
def du_X33_finish_187 (s : jS) (x0 x1 : Int) : Option (jS × Int) := jlpW (jc2 b_X33_finish_187) [x0, x1] s
noncomputable def u_X33_finish_187 : jS → Int → Int → Option (jS × Int) := Classical.choose (⟨du_X33_finish_187, rfl⟩ : ∃ f, f = du_X33_finish_187)
theorem eu_X33_finish_187 : u_X33_finish_187 = du_X33_finish_187 := Classical.choose_spec (⟨du_X33_finish_187, rfl⟩ : ∃ f, f = du_X33_finish_187)
def du_X33_finish_185 (s : jS) (x0 : Int) : Option (jS × Int) :=
  u_X33_finish_187 s x0 0
noncomputable def u_X33_finish_185 : jS → Int → Option (jS × Int) := Classical.choose (⟨du_X33_finish_185, rfl⟩ : ∃ f, f = du_X33_finish_185)
theorem eu_X33_finish_185 : u_X33_finish_185 = du_X33_finish_185 := Classical.choose_spec (⟨du_X33_finish_185, rfl⟩ : ∃ f, f = du_X33_finish_185)
def b_X33_finish_134 (s : jS) (x0 x1 : Int) : Option ((jS × List Int) ⊕ (jS × Int)) :=
  if x1 < (jf s 37 x0 25) then
    (jix 100 x1 ((x0 + 1) + 26 + 1 * x1)).bind fun v1 =>
    (m_X33_name s x0 v1).bind fun q2 =>
    (m_X34_bind q2.1 v1).bind fun v3 =>
    (m_X13_symbol q2.1 (x0 + (-3872)) (jf q2.1 38 v1 1) (jf q2.1 38 v1 2) (jf q2.1 38 v1 3) v3 0).bind fun q4 =>
    some (.inl (q4.1, [x0, W32 (x1 + 1)]))
  else
    jinr (u_X33_finish_185 s x0)
def du_X33_finish_134 (s : jS) (x0 x1 : Int) : Option (jS × Int) := jlpW (jc2 b_X33_finish_134) [x0, x1] s
noncomputable def u_X33_finish_134 : jS → Int → Int → Option (jS × Int) := Classical.choose (⟨du_X33_finish_134, rfl⟩ : ∃ f, f = du_X33_finish_134)
theorem eu_X33_finish_134 : u_X33_finish_134 = du_X33_finish_134 := Classical.choose_spec (⟨du_X33_finish_134, rfl⟩ : ∃ f, f = du_X33_finish_134)
def du_X33_finish_132 (s : jS) (x0 : Int) : Option (jS × Int) :=
  u_X33_finish_134 s x0 0
noncomputable def u_X33_finish_132 : jS → Int → Option (jS × Int) := Classical.choose (⟨du_X33_finish_132, rfl⟩ : ∃ f, f = du_X33_finish_132)
theorem eu_X33_finish_132 : u_X33_finish_132 = du_X33_finish_132 := Classical.choose_spec (⟨du_X33_finish_132, rfl⟩ : ∃ f, f = du_X33_finish_132)
def b_X33_finish_104 (s : jS) (x0 x1 : Int) : Option ((jS × List Int) ⊕ (jS × Int)) :=
  if x1 < (jf s 37 x0 27) then
    (jlt s 1003 (x0 + 9) 1024 x1).bind fun v1 =>
    (m_X13_start s (x0 + (-3872)) v1).bind fun q2 =>
    some (.inl (q2.1, [x0, W32 (x1 + 1)]))
  else
    jinr (u_X33_finish_132 s x0)
def du_X33_finish_104 (s : jS) (x0 x1 : Int) : Option (jS × Int) := jlpW (jc2 b_X33_finish_104) [x0, x1] s
noncomputable def u_X33_finish_104 : jS → Int → Int → Option (jS × Int) := Classical.choose (⟨du_X33_finish_104, rfl⟩ : ∃ f, f = du_X33_finish_104)
theorem eu_X33_finish_104 : u_X33_finish_104 = du_X33_finish_104 := Classical.choose_spec (⟨du_X33_finish_104, rfl⟩ : ∃ f, f = du_X33_finish_104)
def du_X33_finish_102 (s : jS) (x0 : Int) : Option (jS × Int) :=
  u_X33_finish_104 s x0 0
noncomputable def u_X33_finish_102 : jS → Int → Option (jS × Int) := Classical.choose (⟨du_X33_finish_102, rfl⟩ : ∃ f, f = du_X33_finish_102)
theorem eu_X33_finish_102 : u_X33_finish_102 = du_X33_finish_102 := Classical.choose_spec (⟨du_X33_finish_102, rfl⟩ : ∃ f, f = du_X33_finish_102)
def b_X33_finish_76 (s : jS) (x0 x1 : Int) : Option ((jS × List Int) ⊕ (jS × Int)) :=
  if x1 < 4 then
    (jlt s 1000 (x0 + 8) 4 x1).bind fun v1 =>
    (m_X13_align s (x0 + (-3872)) x1 v1).bind fun q2 =>
    some (.inl (q2.1, [x0, W32 (x1 + 1)]))
  else
    jinr (u_X33_finish_102 s x0)
def du_X33_finish_76 (s : jS) (x0 x1 : Int) : Option (jS × Int) := jlpW (jc2 b_X33_finish_76) [x0, x1] s
noncomputable def u_X33_finish_76 : jS → Int → Int → Option (jS × Int) := Classical.choose (⟨du_X33_finish_76, rfl⟩ : ∃ f, f = du_X33_finish_76)
theorem eu_X33_finish_76 : u_X33_finish_76 = du_X33_finish_76 := Classical.choose_spec (⟨du_X33_finish_76, rfl⟩ : ∃ f, f = du_X33_finish_76)
def du_X33_finish_60 (s : jS) (x0 : Int) : Option (jS × Int) :=
  (jlt s 1000 (x0 + 7) 4 3).bind fun v1 =>
  (m_X13_bss s (x0 + (-3872)) v1).bind fun q2 =>
  u_X33_finish_76 q2.1 x0 0
noncomputable def u_X33_finish_60 : jS → Int → Option (jS × Int) := Classical.choose (⟨du_X33_finish_60, rfl⟩ : ∃ f, f = du_X33_finish_60)
theorem eu_X33_finish_60 : u_X33_finish_60 = du_X33_finish_60 := Classical.choose_spec (⟨du_X33_finish_60, rfl⟩ : ∃ f, f = du_X33_finish_60)
def du_X33_finish_54 (s : jS) (x0 x1 : Int) : Option ((jS × List Int) ⊕ (jS × Int)) :=
  some (.inl (s, [x0, W32 (x1 + 1)]))
noncomputable def u_X33_finish_54 : jS → Int → Int → Option ((jS × List Int) ⊕ (jS × Int)) := Classical.choose (⟨du_X33_finish_54, rfl⟩ : ∃ f, f = du_X33_finish_54)
theorem eu_X33_finish_54 : u_X33_finish_54 = du_X33_finish_54 := Classical.choose_spec (⟨du_X33_finish_54, rfl⟩ : ∃ f, f = du_X33_finish_54)
def b_X33_finish_16 (s : jS) (x0 x1 x2 : Int) : Option ((jS × List Int) ⊕ ((jS × List Int) ⊕ (jS × Int))) :=
  (jlt s 1000 (x0 + 7) 4 x1).bind fun v1 =>
  if x2 < v1 then
    (jix 3 x1 ((x0 + 3) + 1 + 1 * x1)).bind fun v2 =>
    (jlt s 1001 v2 2048 x2).bind fun v3 =>
    (m_X13_put s (x0 + (-3872)) x1 1 (L_shl v3 56)).bind fun q4 =>
    some (.inl (q4.1, [x0, x1, W32 (x2 + 1)]))
  else
    jinr (u_X33_finish_54 s x0 x1)
def du_X33_finish_16 (s : jS) (x0 x1 x2 : Int) : Option ((jS × List Int) ⊕ (jS × Int)) := jlpW (jc3 b_X33_finish_16) [x0, x1, x2] s
noncomputable def u_X33_finish_16 : jS → Int → Int → Int → Option ((jS × List Int) ⊕ (jS × Int)) := Classical.choose (⟨du_X33_finish_16, rfl⟩ : ∃ f, f = du_X33_finish_16)
theorem eu_X33_finish_16 : u_X33_finish_16 = du_X33_finish_16 := Classical.choose_spec (⟨du_X33_finish_16, rfl⟩ : ∃ f, f = du_X33_finish_16)
def b_X33_finish_9 (s : jS) (x0 x1 : Int) : Option ((jS × List Int) ⊕ (jS × Int)) :=
  if x1 < 3 then
    u_X33_finish_16 s x0 x1 0
  else
    jinr (u_X33_finish_60 s x0)
def du_X33_finish_9 (s : jS) (x0 x1 : Int) : Option (jS × Int) := jlpW (jc2 b_X33_finish_9) [x0, x1] s
noncomputable def u_X33_finish_9 : jS → Int → Int → Option (jS × Int) := Classical.choose (⟨du_X33_finish_9, rfl⟩ : ∃ f, f = du_X33_finish_9)
theorem eu_X33_finish_9 : u_X33_finish_9 = du_X33_finish_9 := Classical.choose_spec (⟨du_X33_finish_9, rfl⟩ : ∃ f, f = du_X33_finish_9)
def dm_X33_finish (s : jS) (x0 : Int) : Option (jS × Int) :=
  (m_X13_clear s (x0 + (-3872))).bind fun q1 =>
  u_X33_finish_9 q1.1 x0 0
noncomputable def m_X33_finish : jS → Int → Option (jS × Int) := Classical.choose (⟨dm_X33_finish, rfl⟩ : ∃ f, f = dm_X33_finish)
theorem em_X33_finish : m_X33_finish = dm_X33_finish := Classical.choose_spec (⟨dm_X33_finish, rfl⟩ : ∃ f, f = dm_X33_finish)
def dm_X35_givenFor (s : jS) (x0 x1 : Int) : Option (Int) :=
  (m_X35_isNamed s x0 x1 (jc s 165)).bind fun v1 =>
  if v1 = 0 then
    (m_X35_isNamed s x0 x1 (jc s 166)).bind fun v2 =>
    if v2 = 0 then
      (m_X35_isNamed s x0 x1 (jc s 167)).bind fun v3 =>
      if v3 = 0 then
        (m_X35_isNamed s x0 x1 (jc s 168)).bind fun v4 =>
        if v4 = 0 then
          (m_X35_isNamed s x0 x1 (jc s 169)).bind fun v5 =>
          if v5 = 0 then
            some (-1)
          else
            some 4
        else
          some 3
      else
        some 2
    else
      some 1
  else
    some 0
noncomputable def m_X35_givenFor : jS → Int → Int → Option (Int) := Classical.choose (⟨dm_X35_givenFor, rfl⟩ : ∃ f, f = dm_X35_givenFor)
theorem em_X35_givenFor : m_X35_givenFor = dm_X35_givenFor := Classical.choose_spec (⟨dm_X35_givenFor, rfl⟩ : ∃ f, f = dm_X35_givenFor)
def du_X44_name_81 (s : jS) (x0 x1 : Int) : Option (jS × Bool × Int) :=
  (jct s 24 (jf s 53 x0 11) (m_J1_toString s (jf s 53 x0 11))).bind fun q1 =>
  jls (jp q1.1 53 x0 9 q1.2) fun s2 =>
  (m_X11_registerOf s2 (jf s2 53 x0 9)).bind fun q3 =>
  (m_X44_is q3.1 x0 1 q3.2 x1).bind fun q4 =>
  some (q4.1, false, 0)
noncomputable def u_X44_name_81 : jS → Int → Int → Option (jS × Bool × Int) := Classical.choose (⟨du_X44_name_81, rfl⟩ : ∃ f, f = du_X44_name_81)
theorem eu_X44_name_81 : u_X44_name_81 = du_X44_name_81 := Classical.choose_spec (⟨du_X44_name_81, rfl⟩ : ∃ f, f = du_X44_name_81)
def b_X44_name_56 (s : jS) (x0 x1 x2 : Int) : Option ((jS × List Int) ⊕ (jS × Bool × Int)) :=
  if x2 < x1 then
    (m_X44_byteAt s x0 x2).bind fun v1 =>
    (jct s 24 (jf s 53 x0 11) (m_J1_append_3 s (jf s 53 x0 11) (Wc v1))).bind fun q2 =>
    some (.inl (q2.1, [x0, x1, W32 (x2 + 1)]))
  else
    jinr (u_X44_name_81 s x0 x1)
def du_X44_name_56 (s : jS) (x0 x1 x2 : Int) : Option (jS × Bool × Int) := jlpW (jc3 b_X44_name_56) [x0, x1, x2] s
noncomputable def u_X44_name_56 : jS → Int → Int → Int → Option (jS × Bool × Int) := Classical.choose (⟨du_X44_name_56, rfl⟩ : ∃ f, f = du_X44_name_56)
theorem eu_X44_name_56 : u_X44_name_56 = du_X44_name_56 := Classical.choose_spec (⟨du_X44_name_56, rfl⟩ : ∃ f, f = du_X44_name_56)
def du_X44_name_22 (s : jS) (x0 x1 : Int) : Option (jS × Bool × Int) :=
  if 16 < (W32 (x1 - (jf s 53 x0 2))) then
    (m_X44_wrong s x0 2 (jf s 53 x0 2)).bind fun q1 =>
    jck0 q1.2 (some (q1.1, true, q1.2))
  else
    (jct s 24 (jf s 53 x0 11) (m_J1_setLength s (jf s 53 x0 11) 0)).bind fun q2 =>
    jth q2.2.1 (some (q2.1, true, q2.2.2)) <|
    u_X44_name_56 q2.1 x0 x1 (jf q2.1 53 x0 2)
noncomputable def u_X44_name_22 : jS → Int → Int → Option (jS × Bool × Int) := Classical.choose (⟨du_X44_name_22, rfl⟩ : ∃ f, f = du_X44_name_22)
theorem eu_X44_name_22 : u_X44_name_22 = du_X44_name_22 := Classical.choose_spec (⟨du_X44_name_22, rfl⟩ : ∃ f, f = du_X44_name_22)
def b_X44_name_5 (s : jS) (x0 x1 : Int) : Option ((jS × List Int) ⊕ (jS × Bool × Int)) :=
  (m_X44_byteAt s x0 x1).bind fun v1 =>
  (m_X11_isInside s v1).bind fun v2 =>
  if v2 = 0 then
    jinr (u_X44_name_22 s x0 x1)
  else
    some (.inl (s, [x0, W32 (x1 + 1)]))
def du_X44_name_5 (s : jS) (x0 x1 : Int) : Option (jS × Bool × Int) := jlpW (jc2 b_X44_name_5) [x0, x1] s
noncomputable def u_X44_name_5 : jS → Int → Int → Option (jS × Bool × Int) := Classical.choose (⟨du_X44_name_5, rfl⟩ : ∃ f, f = du_X44_name_5)
theorem eu_X44_name_5 : u_X44_name_5 = du_X44_name_5 := Classical.choose_spec (⟨du_X44_name_5, rfl⟩ : ∃ f, f = du_X44_name_5)
def dm_X44_name (s : jS) (x0 : Int) : Option (jS × Bool × Int) :=
  u_X44_name_5 s x0 (jf s 53 x0 2)
noncomputable def m_X44_name : jS → Int → Option (jS × Bool × Int) := Classical.choose (⟨dm_X44_name, rfl⟩ : ∃ f, f = dm_X44_name)
theorem em_X44_name : m_X44_name = dm_X44_name := Classical.choose_spec (⟨dm_X44_name, rfl⟩ : ∃ f, f = dm_X44_name)
def du_X44_string_64 (s : jS) (x0 x1 : Int) : Option (jS × Bool × Int) :=
  (jct s 24 (jf s 53 x0 11) (m_J1_toString s (jf s 53 x0 11))).bind fun q1 =>
  jls (jp q1.1 53 x0 9 q1.2) fun s2 =>
  (m_X44_is s2 x0 4 0 (W32 (x1 + 1))).bind fun q3 =>
  some (q3.1, false, 0)
noncomputable def u_X44_string_64 : jS → Int → Int → Option (jS × Bool × Int) := Classical.choose (⟨du_X44_string_64, rfl⟩ : ∃ f, f = du_X44_string_64)
theorem eu_X44_string_64 : u_X44_string_64 = du_X44_string_64 := Classical.choose_spec (⟨du_X44_string_64, rfl⟩ : ∃ f, f = du_X44_string_64)
def du_X44_string_38 (s : jS) (x0 : Int) : Option (jS × Bool × Int) :=
  (m_X44_wrong s x0 4 (jf s 53 x0 2)).bind fun q1 =>
  jck0 q1.2 (some (q1.1, true, q1.2))
noncomputable def u_X44_string_38 : jS → Int → Option (jS × Bool × Int) := Classical.choose (⟨du_X44_string_38, rfl⟩ : ∃ f, f = du_X44_string_38)
theorem eu_X44_string_38 : u_X44_string_38 = du_X44_string_38 := Classical.choose_spec (⟨du_X44_string_38, rfl⟩ : ∃ f, f = du_X44_string_38)
def b_X44_string_15 (s : jS) (x0 x1 : Int) : Option ((jS × List Int) ⊕ (jS × Bool × Int)) :=
  (m_X44_byteAt s x0 x1).bind fun v1 =>
  if v1 = 34 then
    jinr (u_X44_string_64 s x0 x1)
  else
    (m_X44_inside s x0 x1 34).bind fun q2 =>
    if q2.2 = (-1) then
      jinr (u_X44_string_38 q2.1 x0)
    else
      (jct q2.1 24 (jf q2.1 53 x0 11) (m_J1_append_3 q2.1 (jf q2.1 53 x0 11) (Wc (jf q2.1 53 x0 7)))).bind fun q3 =>
      some (.inl (q3.1, [x0, q2.2]))
def du_X44_string_15 (s : jS) (x0 x1 : Int) : Option (jS × Bool × Int) := jlpW (jc2 b_X44_string_15) [x0, x1] s
noncomputable def u_X44_string_15 : jS → Int → Int → Option (jS × Bool × Int) := Classical.choose (⟨du_X44_string_15, rfl⟩ : ∃ f, f = du_X44_string_15)
theorem eu_X44_string_15 : u_X44_string_15 = du_X44_string_15 := Classical.choose_spec (⟨du_X44_string_15, rfl⟩ : ∃ f, f = du_X44_string_15)
def dm_X44_string (s : jS) (x0 : Int) : Option (jS × Bool × Int) :=
  (jct s 24 (jf s 53 x0 11) (m_J1_setLength s (jf s 53 x0 11) 0)).bind fun q1 =>
  jth q1.2.1 (some (q1.1, true, q1.2.2)) <|
  jlet (W32 ((jf q1.1 53 x0 2) + 1)) fun v2 =>
  u_X44_string_15 q1.1 x0 v2
noncomputable def m_X44_string : jS → Int → Option (jS × Bool × Int) := Classical.choose (⟨dm_X44_string, rfl⟩ : ∃ f, f = dm_X44_string)
theorem em_X44_string : m_X44_string = dm_X44_string := Classical.choose_spec (⟨dm_X44_string, rfl⟩ : ∃ f, f = dm_X44_string)
def dm_X1_letter (s : jS) (x0 x1 : Int) : Option (Int) :=
  (m_X2_letter s (x0 + 1) x1).bind fun v1 =>
  some v1
noncomputable def m_X1_letter : jS → Int → Int → Option (Int) := Classical.choose (⟨dm_X1_letter, rfl⟩ : ∃ f, f = dm_X1_letter)
theorem em_X1_letter : m_X1_letter = dm_X1_letter := Classical.choose_spec (⟨dm_X1_letter, rfl⟩ : ∃ f, f = dm_X1_letter)
def du_X2_hex_93 (s : jS) (x2 : Int) : Option (jS × Int) :=
  (m_J1_toString s x2).bind fun q1 =>
  some (q1.1, q1.2)
noncomputable def u_X2_hex_93 : jS → Int → Option (jS × Int) := Classical.choose (⟨du_X2_hex_93, rfl⟩ : ∃ f, f = du_X2_hex_93)
theorem eu_X2_hex_93 : u_X2_hex_93 = du_X2_hex_93 := Classical.choose_spec (⟨du_X2_hex_93, rfl⟩ : ∃ f, f = du_X2_hex_93)
def du_X2_hex_82 (s : jS) (x0 x2 x3 y0 y1 : Int) : Option ((jS × List Int) ⊕ (jS × Int)) :=
  (m_J1_append_3 s y1 (Wc y0)).bind fun q1 =>
  some (.inl (q1.1, [x0, x2, W32 (x3 + (-1))]))
noncomputable def u_X2_hex_82 : jS → Int → Int → Int → Int → Int → Option ((jS × List Int) ⊕ (jS × Int)) := Classical.choose (⟨du_X2_hex_82, rfl⟩ : ∃ f, f = du_X2_hex_82)
theorem eu_X2_hex_82 : u_X2_hex_82 = du_X2_hex_82 := Classical.choose_spec (⟨du_X2_hex_82, rfl⟩ : ∃ f, f = du_X2_hex_82)
def b_X2_hex_44 (s : jS) (x0 x2 x3 : Int) : Option ((jS × List Int) ⊕ (jS × Int)) :=
  if x3 < 0 then
    jinr (u_X2_hex_93 s x2)
  else
    jlet (I_and (I_ushr x0 (W32 (4 * x3))) 15) fun v1 =>
    if v1 < 10 then
      u_X2_hex_82 s x0 x2 x3 (W32 (48 + v1)) x2
    else
      u_X2_hex_82 s x0 x2 x3 (W32 ((W32 (97 + v1)) - 10)) x2
def du_X2_hex_44 (s : jS) (x0 x2 x3 : Int) : Option (jS × Int) := jlpW (jc3 b_X2_hex_44) [x0, x2, x3] s
noncomputable def u_X2_hex_44 : jS → Int → Int → Int → Option (jS × Int) := Classical.choose (⟨du_X2_hex_44, rfl⟩ : ∃ f, f = du_X2_hex_44)
theorem eu_X2_hex_44 : u_X2_hex_44 = du_X2_hex_44 := Classical.choose_spec (⟨du_X2_hex_44, rfl⟩ : ∃ f, f = du_X2_hex_44)
def du_X2_hex_22 (s : jS) (x0 x1 : Int) : Option (jS × Int) :=
  (jnw s 8 4 (jdf 8)).bind fun q1 =>
  (jck0 q1.2 (m_J1_init_2 q1.1 q1.2 10)).bind fun q2 =>
  (m_J1_append q2.1 q1.2 (jc q2.1 156)).bind fun q3 =>
  jlet (W32 (x1 - 1)) fun v4 =>
  u_X2_hex_44 q3.1 x0 q1.2 v4
noncomputable def u_X2_hex_22 : jS → Int → Int → Option (jS × Int) := Classical.choose (⟨du_X2_hex_22, rfl⟩ : ∃ f, f = du_X2_hex_22)
theorem eu_X2_hex_22 : u_X2_hex_22 = du_X2_hex_22 := Classical.choose_spec (⟨du_X2_hex_22, rfl⟩ : ∃ f, f = du_X2_hex_22)
def b_X2_hex_2 (s : jS) (x0 x1 : Int) : Option ((jS × List Int) ⊕ (jS × Int)) :=
  if x1 < 8 then
    if (I_ushr x0 (W32 (4 * x1))) = 0 then
      jinr (u_X2_hex_22 s x0 x1)
    else
      some (.inl (s, [x0, W32 (x1 + 1)]))
  else
    jinr (u_X2_hex_22 s x0 x1)
def du_X2_hex_2 (s : jS) (x0 x1 : Int) : Option (jS × Int) := jlpW (jc2 b_X2_hex_2) [x0, x1] s
noncomputable def u_X2_hex_2 : jS → Int → Int → Option (jS × Int) := Classical.choose (⟨du_X2_hex_2, rfl⟩ : ∃ f, f = du_X2_hex_2)
theorem eu_X2_hex_2 : u_X2_hex_2 = du_X2_hex_2 := Classical.choose_spec (⟨du_X2_hex_2, rfl⟩ : ∃ f, f = du_X2_hex_2)
def dm_X2_hex (s : jS) (x0 : Int) : Option (jS × Int) :=
  u_X2_hex_2 s x0 1
noncomputable def m_X2_hex : jS → Int → Option (jS × Int) := Classical.choose (⟨dm_X2_hex, rfl⟩ : ∃ f, f = dm_X2_hex)
theorem em_X2_hex : m_X2_hex = dm_X2_hex := Classical.choose_spec (⟨dm_X2_hex, rfl⟩ : ∃ f, f = dm_X2_hex)
def dm_X2_operands (s : jS) (x0 x1 x2 : Int) : Option (jS × Int) :=
  (jct s 27 x0 (m_X7_part s x0 x1 0)).bind fun v1 =>
  (m_X2_register s v1).bind fun q2 =>
  (jct q2.1 27 x0 (m_X7_part q2.1 x0 x1 1)).bind fun v3 =>
  (m_X2_register q2.1 v3).bind fun q4 =>
  (jct q4.1 27 x0 (m_X7_part q4.1 x0 x1 2)).bind fun v5 =>
  (m_X2_register q4.1 v5).bind fun q6 =>
  (jct q6.1 27 x0 (m_X7_part q6.1 x0 x1 3)).bind fun v7 =>
  (m_X2_hex q6.1 (W32 (x2 + v7))).bind fun q8 =>
  (jrd q8.1 11 x0 1).bind fun v9 =>
  if v9 = 1 then
    (jnw q8.1 8 4 (jdf 8)).bind fun q10 =>
    (jck0 q10.2 (m_J1_init q10.1 q10.2)).bind fun q11 =>
    (m_J1_append q11.1 q10.2 q2.2).bind fun q12 =>
    (jct q12.1 24 q12.2 (m_J1_append q12.1 q12.2 (jc q12.1 157))).bind fun q13 =>
    (jct q13.1 24 q13.2 (m_J1_append q13.1 q13.2 q4.2)).bind fun q14 =>
    (jct q14.1 24 q14.2 (m_J1_append q14.1 q14.2 (jc q14.1 157))).bind fun q15 =>
    (jct q15.1 24 q15.2 (m_J1_append q15.1 q15.2 q6.2)).bind fun q16 =>
    (jct q16.1 24 q16.2 (m_J1_toString q16.1 q16.2)).bind fun q17 =>
    some (q17.1, q17.2)
  else
  if v9 = 2 then
    (jnw q8.1 8 4 (jdf 8)).bind fun q18 =>
    (jck0 q18.2 (m_J1_init q18.1 q18.2)).bind fun q19 =>
    (m_J1_append q19.1 q18.2 q2.2).bind fun q20 =>
    (jct q20.1 24 q20.2 (m_J1_append q20.1 q20.2 (jc q20.1 157))).bind fun q21 =>
    (jct q21.1 24 q21.2 (m_J1_append q21.1 q21.2 q4.2)).bind fun q22 =>
    (jct q22.1 24 q22.2 (m_J1_append q22.1 q22.2 (jc q22.1 157))).bind fun q23 =>
    (jct q23.1 24 q23.2 (m_J1_append_2 q23.1 q23.2 v7)).bind fun q24 =>
    (jct q24.1 24 q24.2 (m_J1_toString q24.1 q24.2)).bind fun q25 =>
    some (q25.1, q25.2)
  else
  if v9 = 3 then
    (jnw q8.1 8 4 (jdf 8)).bind fun q26 =>
    (jck0 q26.2 (m_J1_init q26.1 q26.2)).bind fun q27 =>
    (m_J1_append q27.1 q26.2 q2.2).bind fun q28 =>
    (jct q28.1 24 q28.2 (m_J1_append q28.1 q28.2 (jc q28.1 157))).bind fun q29 =>
    (jct q29.1 24 q29.2 (m_J1_append_2 q29.1 q29.2 v7)).bind fun q30 =>
    (jct q30.1 24 q30.2 (m_J1_append q30.1 q30.2 (jc q30.1 158))).bind fun q31 =>
    (jct q31.1 24 q31.2 (m_J1_append q31.1 q31.2 q4.2)).bind fun q32 =>
    (jct q32.1 24 q32.2 (m_J1_append q32.1 q32.2 (jc q32.1 159))).bind fun q33 =>
    (jct q33.1 24 q33.2 (m_J1_toString q33.1 q33.2)).bind fun q34 =>
    some (q34.1, q34.2)
  else
  if v9 = 4 then
    (jnw q8.1 8 4 (jdf 8)).bind fun q35 =>
    (jck0 q35.2 (m_J1_init q35.1 q35.2)).bind fun q36 =>
    (m_J1_append q36.1 q35.2 q6.2).bind fun q37 =>
    (jct q37.1 24 q37.2 (m_J1_append q37.1 q37.2 (jc q37.1 157))).bind fun q38 =>
    (jct q38.1 24 q38.2 (m_J1_append_2 q38.1 q38.2 v7)).bind fun q39 =>
    (jct q39.1 24 q39.2 (m_J1_append q39.1 q39.2 (jc q39.1 158))).bind fun q40 =>
    (jct q40.1 24 q40.2 (m_J1_append q40.1 q40.2 q4.2)).bind fun q41 =>
    (jct q41.1 24 q41.2 (m_J1_append q41.1 q41.2 (jc q41.1 159))).bind fun q42 =>
    (jct q42.1 24 q42.2 (m_J1_toString q42.1 q42.2)).bind fun q43 =>
    some (q43.1, q43.2)
  else
  if v9 = 5 then
    (jnw q8.1 8 4 (jdf 8)).bind fun q44 =>
    (jck0 q44.2 (m_J1_init q44.1 q44.2)).bind fun q45 =>
    (m_J1_append q45.1 q44.2 q4.2).bind fun q46 =>
    (jct q46.1 24 q46.2 (m_J1_append q46.1 q46.2 (jc q46.1 157))).bind fun q47 =>
    (jct q47.1 24 q47.2 (m_J1_append q47.1 q47.2 q6.2)).bind fun q48 =>
    (jct q48.1 24 q48.2 (m_J1_append q48.1 q48.2 (jc q48.1 157))).bind fun q49 =>
    (jct q49.1 24 q49.2 (m_J1_append q49.1 q49.2 q8.2)).bind fun q50 =>
    (jct q50.1 24 q50.2 (m_J1_toString q50.1 q50.2)).bind fun q51 =>
    some (q51.1, q51.2)
  else
  if v9 = 6 then
    (jnw q8.1 8 4 (jdf 8)).bind fun q52 =>
    (jck0 q52.2 (m_J1_init q52.1 q52.2)).bind fun q53 =>
    (m_J1_append q53.1 q52.2 q2.2).bind fun q54 =>
    (jct q54.1 24 q54.2 (m_J1_append q54.1 q54.2 (jc q54.1 157))).bind fun q55 =>
    (m_X2_hex q55.1 v7).bind fun q56 =>
    (jct q56.1 24 q55.2 (m_J1_append q56.1 q55.2 q56.2)).bind fun q57 =>
    (jct q57.1 24 q57.2 (m_J1_toString q57.1 q57.2)).bind fun q58 =>
    some (q58.1, q58.2)
  else
  if v9 = 7 then
    (jnw q8.1 8 4 (jdf 8)).bind fun q59 =>
    (jck0 q59.2 (m_J1_init q59.1 q59.2)).bind fun q60 =>
    (m_J1_append q60.1 q59.2 q2.2).bind fun q61 =>
    (jct q61.1 24 q61.2 (m_J1_append q61.1 q61.2 (jc q61.1 157))).bind fun q62 =>
    (jct q62.1 24 q62.2 (m_J1_append q62.1 q62.2 q8.2)).bind fun q63 =>
    (jct q63.1 24 q63.2 (m_J1_toString q63.1 q63.2)).bind fun q64 =>
    some (q64.1, q64.2)
  else
  if v9 = 8 then
    some (q8.1, q8.2)
  else
  if v9 = 9 then
    (jnw q8.1 8 4 (jdf 8)).bind fun q65 =>
    (jck0 q65.2 (m_J1_init q65.1 q65.2)).bind fun q66 =>
    (m_J1_append q66.1 q65.2 q4.2).bind fun q67 =>
    (jct q67.1 24 q67.2 (m_J1_append q67.1 q67.2 (jc q67.1 157))).bind fun q68 =>
    (jct q68.1 24 q68.2 (m_J1_append q68.1 q68.2 q8.2)).bind fun q69 =>
    (jct q69.1 24 q69.2 (m_J1_toString q69.1 q69.2)).bind fun q70 =>
    some (q70.1, q70.2)
  else
  if v9 = 10 then
    (jnw q8.1 8 4 (jdf 8)).bind fun q71 =>
    (jck0 q71.2 (m_J1_init q71.1 q71.2)).bind fun q72 =>
    (m_J1_append q72.1 q71.2 q2.2).bind fun q73 =>
    (jct q73.1 24 q73.2 (m_J1_append q73.1 q73.2 (jc q73.1 157))).bind fun q74 =>
    (jct q74.1 24 q74.2 (m_J1_append q74.1 q74.2 q6.2)).bind fun q75 =>
    (jct q75.1 24 q75.2 (m_J1_toString q75.1 q75.2)).bind fun q76 =>
    some (q76.1, q76.2)
  else
  if v9 = 11 then
    some (q8.1, q4.2)
  else
  if v9 = 12 then
    (jnw q8.1 8 4 (jdf 8)).bind fun q77 =>
    (jck0 q77.2 (m_J1_init q77.1 q77.2)).bind fun q78 =>
    (m_J1_append q78.1 q77.2 q2.2).bind fun q79 =>
    (jct q79.1 24 q79.2 (m_J1_append q79.1 q79.2 (jc q79.1 157))).bind fun q80 =>
    (jct q80.1 24 q80.2 (m_J1_append_2 q80.1 q80.2 v7)).bind fun q81 =>
    (jct q81.1 24 q81.2 (m_J1_toString q81.1 q81.2)).bind fun q82 =>
    some (q82.1, q82.2)
  else
  if v9 = 13 then
    (jnw q8.1 8 4 (jdf 8)).bind fun q83 =>
    (jck0 q83.2 (m_J1_init q83.1 q83.2)).bind fun q84 =>
    (m_J1_append q84.1 q83.2 q2.2).bind fun q85 =>
    (jct q85.1 24 q85.2 (m_J1_append q85.1 q85.2 (jc q85.1 157))).bind fun q86 =>
    (jct q86.1 24 q86.2 (m_J1_append_2 q86.1 q86.2 v7)).bind fun q87 =>
    (jct q87.1 24 q87.2 (m_J1_append q87.1 q87.2 (jc q87.1 160))).bind fun q88 =>
    (jct q88.1 24 q88.2 (m_J1_toString q88.1 q88.2)).bind fun q89 =>
    some (q89.1, q89.2)
  else
  if v9 = 14 then
    (jnw q8.1 8 4 (jdf 8)).bind fun q90 =>
    (jck0 q90.2 (m_J1_init q90.1 q90.2)).bind fun q91 =>
    (m_J1_append q91.1 q90.2 q6.2).bind fun q92 =>
    (jct q92.1 24 q92.2 (m_J1_append q92.1 q92.2 (jc q92.1 157))).bind fun q93 =>
    (jct q93.1 24 q93.2 (m_J1_append_2 q93.1 q93.2 v7)).bind fun q94 =>
    (jct q94.1 24 q94.2 (m_J1_append q94.1 q94.2 (jc q94.1 160))).bind fun q95 =>
    (jct q95.1 24 q95.2 (m_J1_toString q95.1 q95.2)).bind fun q96 =>
    some (q96.1, q96.2)
  else
  if v9 = 15 then
    (jnw q8.1 8 4 (jdf 8)).bind fun q97 =>
    (jck0 q97.2 (m_J1_init q97.1 q97.2)).bind fun q98 =>
    (m_J1_append q98.1 q97.2 q2.2).bind fun q99 =>
    (jct q99.1 24 q99.2 (m_J1_append q99.1 q99.2 (jc q99.1 161))).bind fun q100 =>
    (jct q100.1 24 q100.2 (m_J1_append_2 q100.1 q100.2 v7)).bind fun q101 =>
    (jct q101.1 24 q101.2 (m_J1_toString q101.1 q101.2)).bind fun q102 =>
    some (q102.1, q102.2)
  else
  (jnw q8.1 8 4 (jdf 8)).bind fun q103 =>
  (jck0 q103.2 (m_J1_init q103.1 q103.2)).bind fun q104 =>
  (m_J1_append q104.1 q103.2 (jc q104.1 162)).bind fun q105 =>
  (jct q105.1 24 q105.2 (m_J1_append_2 q105.1 q105.2 v7)).bind fun q106 =>
  (jct q106.1 24 q106.2 (m_J1_toString q106.1 q106.2)).bind fun q107 =>
  some (q107.1, q107.2)
noncomputable def m_X2_operands : jS → Int → Int → Int → Option (jS × Int) := Classical.choose (⟨dm_X2_operands, rfl⟩ : ∃ f, f = dm_X2_operands)
theorem em_X2_operands : m_X2_operands = dm_X2_operands := Classical.choose_spec (⟨dm_X2_operands, rfl⟩ : ∃ f, f = dm_X2_operands)
def b_X2_named_3 (s : jS) (x0 x1 x3 x5 : Int) : Option (List Int ⊕ (Int)) :=
  if x5 < 75 then
    (jlt s 1008 (x0 + 23) 75 x5).bind fun v1 =>
    (jrd s 11 v1 0).bind fun v2 =>
    (m_X2_isName s v2 x1 x3).bind fun v3 =>
    if v3 = 0 then
      some (.inl [x0, x1, x3, W32 (x5 + 1)])
    else
      jinr (some x5)
  else
    jinr (some (-1))
def du_X2_named_3 (s : jS) (x0 x1 x3 x5 : Int) : Option (Int) := jlpR (jc4 b_X2_named_3) [x0, x1, x3, x5] s
noncomputable def u_X2_named_3 : jS → Int → Int → Int → Int → Option (Int) := Classical.choose (⟨du_X2_named_3, rfl⟩ : ∃ f, f = du_X2_named_3)
theorem eu_X2_named_3 : u_X2_named_3 = du_X2_named_3 := Classical.choose_spec (⟨du_X2_named_3, rfl⟩ : ∃ f, f = du_X2_named_3)
def dm_X2_named (s : jS) (x0 x1 x3 : Int) : Option (Int) :=
  u_X2_named_3 s x0 x1 x3 0
noncomputable def m_X2_named : jS → Int → Int → Int → Option (Int) := Classical.choose (⟨dm_X2_named, rfl⟩ : ∃ f, f = dm_X2_named)
theorem em_X2_named : m_X2_named = dm_X2_named := Classical.choose_spec (⟨dm_X2_named, rfl⟩ : ∃ f, f = dm_X2_named)
def du_X20_write_96 (s : jS) (x0 : Int) : Option (jS × Int) :=
  if (jf s 23 (x0 + 1) 2) = 0 then
    if 8192 < (jf s 23 (x0 + 1) 1) then
      some (s, Wz 0)
    else
      some (s, Wz 1)
  else
    some (s, Wz 0)
noncomputable def u_X20_write_96 : jS → Int → Option (jS × Int) := Classical.choose (⟨du_X20_write_96, rfl⟩ : ∃ f, f = du_X20_write_96)
theorem eu_X20_write_96 : u_X20_write_96 = du_X20_write_96 := Classical.choose_spec (⟨du_X20_write_96, rfl⟩ : ∃ f, f = du_X20_write_96)
def du_X20_write_67 (s : jS) (x0 x1 : Int) : Option (jS × Int) :=
  (m_X20_symbols s x0 x1).bind fun q1 =>
  (m_X20_strings q1.1 x0 x1).bind fun q2 =>
  (m_X20_names q2.1 x0).bind fun q3 =>
  if (jf q3.1 23 (x0 + 1) 2) = 0 then
    (m_X20_index q3.1 x0 x1).bind fun q4 =>
    u_X20_write_96 q4.1 x0
  else
    u_X20_write_96 q3.1 x0
noncomputable def u_X20_write_67 : jS → Int → Int → Option (jS × Int) := Classical.choose (⟨du_X20_write_67, rfl⟩ : ∃ f, f = du_X20_write_67)
theorem eu_X20_write_67 : u_X20_write_67 = du_X20_write_67 := Classical.choose_spec (⟨du_X20_write_67, rfl⟩ : ∃ f, f = du_X20_write_67)
def du_X20_write_61 (s : jS) (x0 x1 x2 : Int) : Option ((jS × List Int) ⊕ (jS × Int)) :=
  some (.inl (s, [x0, x1, W32 (x2 + 1)]))
noncomputable def u_X20_write_61 : jS → Int → Int → Int → Option ((jS × List Int) ⊕ (jS × Int)) := Classical.choose (⟨du_X20_write_61, rfl⟩ : ∃ f, f = du_X20_write_61)
theorem eu_X20_write_61 : u_X20_write_61 = du_X20_write_61 := Classical.choose_spec (⟨du_X20_write_61, rfl⟩ : ∃ f, f = du_X20_write_61)
def b_X20_write_38 (s : jS) (x0 x1 x2 : Int) : Option ((jS × List Int) ⊕ (jS × Int)) :=
  if x2 < 3 then
    (jlt s 1000 (x0 + 3) 12 (W32 (6 + x2))).bind fun v1 =>
    if 0 < v1 then
      (m_X20_moves s x0 x1 x2).bind fun q2 =>
      u_X20_write_61 q2.1 x0 x1 x2
    else
      u_X20_write_61 s x0 x1 x2
  else
    jinr (u_X20_write_67 s x0 x1)
def du_X20_write_38 (s : jS) (x0 x1 x2 : Int) : Option (jS × Int) := jlpW (jc3 b_X20_write_38) [x0, x1, x2] s
noncomputable def u_X20_write_38 : jS → Int → Int → Int → Option (jS × Int) := Classical.choose (⟨du_X20_write_38, rfl⟩ : ∃ f, f = du_X20_write_38)
theorem eu_X20_write_38 : u_X20_write_38 = du_X20_write_38 := Classical.choose_spec (⟨du_X20_write_38, rfl⟩ : ∃ f, f = du_X20_write_38)
def du_X20_write_36 (s : jS) (x0 x1 : Int) : Option (jS × Int) :=
  u_X20_write_38 s x0 x1 0
noncomputable def u_X20_write_36 : jS → Int → Int → Option (jS × Int) := Classical.choose (⟨du_X20_write_36, rfl⟩ : ∃ f, f = du_X20_write_36)
theorem eu_X20_write_36 : u_X20_write_36 = du_X20_write_36 := Classical.choose_spec (⟨du_X20_write_36, rfl⟩ : ∃ f, f = du_X20_write_36)
def dm_X20_write (s : jS) (x0 x1 : Int) : Option (jS × Int) :=
  (m_X19_clear s (x0 + 1)).bind fun q1 =>
  (m_X20_number q1.1 x0 x1).bind fun q2 =>
  (m_X20_header q2.1 x0 x1).bind fun q3 =>
  (m_X20_sections q3.1 x0 x1).bind fun q4 =>
  (jlt q4.1 1000 (x0 + 3) 12 5).bind fun v5 =>
  if 0 < v5 then
    (m_X20_starts q4.1 x0 x1).bind fun q6 =>
    u_X20_write_36 q6.1 x0 x1
  else
    u_X20_write_36 q4.1 x0 x1
noncomputable def m_X20_write : jS → Int → Int → Option (jS × Int) := Classical.choose (⟨dm_X20_write, rfl⟩ : ∃ f, f = dm_X20_write)
theorem em_X20_write : m_X20_write = dm_X20_write := Classical.choose_spec (⟨dm_X20_write, rfl⟩ : ∃ f, f = dm_X20_write)
def du_X21_read_52 (s : jS) (x0 y0 : Int) : Option (jS × Int) :=
  some (s, jf s 25 x0 9)
noncomputable def u_X21_read_52 : jS → Int → Int → Option (jS × Int) := Classical.choose (⟨du_X21_read_52, rfl⟩ : ∃ f, f = du_X21_read_52)
theorem eu_X21_read_52 : u_X21_read_52 = du_X21_read_52 := Classical.choose_spec (⟨du_X21_read_52, rfl⟩ : ∃ f, f = du_X21_read_52)
def dm_X21_read (s : jS) (x0 x1 : Int) : Option (jS × Int) :=
  jls (jp s 25 x0 0 x1) fun s1 =>
  (jrd s1 23 x1 1).bind fun v2 =>
  jls (jp s1 25 x0 1 v2) fun s3 =>
  (m_X21_header s3 x0).bind fun q4 =>
  jth q4.2.1 (
    if jK q4.1 q4.2.2 ∈ ([2054] : List Int) then
      u_X21_read_52 q4.1 x0 q4.2.2
    else
    none) <|
  (m_X21_entries q4.1 x0).bind fun q5 =>
  jth q5.2.1 (
    if jK q5.1 q5.2.2 ∈ ([2054] : List Int) then
      u_X21_read_52 q5.1 x0 q5.2.2
    else
    none) <|
  (m_X21_names q5.1 x0).bind fun q6 =>
  jth q6.2.1 (
    if jK q6.1 q6.2.2 ∈ ([2054] : List Int) then
      u_X21_read_52 q6.1 x0 q6.2.2
    else
    none) <|
  (m_X21_shapes q6.1 x0).bind fun q7 =>
  jth q7.2.1 (
    if jK q7.1 q7.2.2 ∈ ([2054] : List Int) then
      u_X21_read_52 q7.1 x0 q7.2.2
    else
    none) <|
  (m_X21_sizes q7.1 x0).bind fun q8 =>
  jth q8.2.1 (
    if jK q8.1 q8.2.2 ∈ ([2054] : List Int) then
      u_X21_read_52 q8.1 x0 q8.2.2
    else
    none) <|
  (m_X21_sections q8.1 x0).bind fun q9 =>
  (m_X21_symbols q9.1 x0).bind fun q10 =>
  jth q10.2.1 (
    if jK q10.1 q10.2.2 ∈ ([2054] : List Int) then
      u_X21_read_52 q10.1 x0 q10.2.2
    else
    none) <|
  (m_X21_moves q10.1 x0).bind fun q11 =>
  jth q11.2.1 (
    if jK q11.1 q11.2.2 ∈ ([2054] : List Int) then
      u_X21_read_52 q11.1 x0 q11.2.2
    else
    none) <|
  (m_X21_starts q11.1 x0).bind fun q12 =>
  jth q12.2.1 (
    if jK q12.1 q12.2.2 ∈ ([2054] : List Int) then
      u_X21_read_52 q12.1 x0 q12.2.2
    else
    none) <|
  jls (jp q12.1 25 x0 10 (-1)) fun s13 =>
  some (s13, 0)
noncomputable def m_X21_read : jS → Int → Int → Option (jS × Int) := Classical.choose (⟨dm_X21_read, rfl⟩ : ∃ f, f = dm_X21_read)
theorem em_X21_read : m_X21_read = dm_X21_read := Classical.choose_spec (⟨dm_X21_read, rfl⟩ : ∃ f, f = dm_X21_read)
def du_X33_kindOf_86 (s : jS) (x0 x2 x4 : Int) : Option (Int) :=
  (m_X2_named s (x0 + (-4147)) x2 x4).bind fun v1 =>
  some v1
noncomputable def u_X33_kindOf_86 : jS → Int → Int → Int → Option (Int) := Classical.choose (⟨du_X33_kindOf_86, rfl⟩ : ∃ f, f = du_X33_kindOf_86)
theorem eu_X33_kindOf_86 : u_X33_kindOf_86 = du_X33_kindOf_86 := Classical.choose_spec (⟨du_X33_kindOf_86, rfl⟩ : ∃ f, f = du_X33_kindOf_86)
def du_X33_kindOf_80 (s : jS) (x0 x1 x2 x4 x6 : Int) : Option (List Int ⊕ (Int)) :=
  some (.inl [x0, x1, x2, x4, W32 (x6 + 1)])
noncomputable def u_X33_kindOf_80 : jS → Int → Int → Int → Int → Int → Option (List Int ⊕ (Int)) := Classical.choose (⟨du_X33_kindOf_80, rfl⟩ : ∃ f, f = du_X33_kindOf_80)
theorem eu_X33_kindOf_80 : u_X33_kindOf_80 = du_X33_kindOf_80 := Classical.choose_spec (⟨du_X33_kindOf_80, rfl⟩ : ∃ f, f = du_X33_kindOf_80)
def b_X33_kindOf_8 (s : jS) (x0 x1 x2 x4 x6 : Int) : Option (List Int ⊕ (Int)) :=
  (m_X11_name s (x0 + (-3890)) x1 x6).bind fun v1 =>
  if v1 = (-1) then
    jinr (u_X33_kindOf_86 s x0 x2 x4)
  else
    if x6 < 8 then
      (m_X11_name s (x0 + (-3890)) x1 x6).bind fun v2 =>
      jlet (L_or x2 (L_shl v2 (W32 (56 - (W32 (8 * x6)))))) fun v3 =>
      u_X33_kindOf_80 s x0 x1 v3 x4 x6
    else
      (m_X11_name s (x0 + (-3890)) x1 x6).bind fun v4 =>
      jlet (L_or x4 (L_shl v4 (W32 (120 - (W32 (8 * x6)))))) fun v5 =>
      u_X33_kindOf_80 s x0 x1 x2 v5 x6
def du_X33_kindOf_8 (s : jS) (x0 x1 x2 x4 x6 : Int) : Option (Int) := jlpR (jc5 b_X33_kindOf_8) [x0, x1, x2, x4, x6] s
noncomputable def u_X33_kindOf_8 : jS → Int → Int → Int → Int → Int → Option (Int) := Classical.choose (⟨du_X33_kindOf_8, rfl⟩ : ∃ f, f = du_X33_kindOf_8)
theorem eu_X33_kindOf_8 : u_X33_kindOf_8 = du_X33_kindOf_8 := Classical.choose_spec (⟨du_X33_kindOf_8, rfl⟩ : ∃ f, f = du_X33_kindOf_8)
def dm_X33_kindOf (s : jS) (x0 x1 : Int) : Option (Int) :=
  u_X33_kindOf_8 s x0 x1 0 0 0
noncomputable def m_X33_kindOf : jS → Int → Int → Option (Int) := Classical.choose (⟨dm_X33_kindOf, rfl⟩ : ∃ f, f = dm_X33_kindOf)
theorem em_X33_kindOf : m_X33_kindOf = dm_X33_kindOf := Classical.choose_spec (⟨dm_X33_kindOf, rfl⟩ : ∃ f, f = dm_X33_kindOf)
def du_X33_other_169 (s : jS) (x0 x1 y0 y1 : Int) : Option (jS × Bool × Int) :=
  (m_X33_need s y1 y0 12).bind fun q1 =>
  jth q1.2.1 (some (q1.1, true, q1.2.2)) <|
  (m_X33_started q1.1 x0).bind fun q2 =>
  if x1 = 1 then
    (m_X33_sum q2.1 x0 18 0 0 0).bind fun q3 =>
    jth q3.2.1 (some (q3.1, true, q3.2.2)) <|
    some (q3.1, false, 0)
  else
    (m_X33_sum q2.1 x0 3 0 1 0).bind fun q4 =>
    jth q4.2.1 (some (q4.1, true, q4.2.2)) <|
    some (q4.1, false, 0)
noncomputable def u_X33_other_169 : jS → Int → Int → Int → Int → Option (jS × Bool × Int) := Classical.choose (⟨du_X33_other_169, rfl⟩ : ∃ f, f = du_X33_other_169)
theorem eu_X33_other_169 : u_X33_other_169 = du_X33_other_169 := Classical.choose_spec (⟨du_X33_other_169, rfl⟩ : ∃ f, f = du_X33_other_169)
def du_X33_other_150 (s : jS) (y0 y1 y2 : Int) : Option (jS × Bool × Int) :=
  (m_X33_called s y2 y1 y0).bind fun q1 =>
  jth q1.2.1 (some (q1.1, true, q1.2.2)) <|
  some (q1.1, false, 0)
noncomputable def u_X33_other_150 : jS → Int → Int → Int → Option (jS × Bool × Int) := Classical.choose (⟨du_X33_other_150, rfl⟩ : ∃ f, f = du_X33_other_150)
theorem eu_X33_other_150 : u_X33_other_150 = du_X33_other_150 := Classical.choose_spec (⟨du_X33_other_150, rfl⟩ : ∃ f, f = du_X33_other_150)
def du_X33_other_139 (s : jS) (x1 y0 y1 : Int) : Option (jS × Bool × Int) :=
  if x1 = 24 then
    u_X33_other_150 s 1 y0 y1
  else
    u_X33_other_150 s 0 y0 y1
noncomputable def u_X33_other_139 : jS → Int → Int → Int → Option (jS × Bool × Int) := Classical.choose (⟨du_X33_other_139, rfl⟩ : ∃ f, f = du_X33_other_139)
theorem eu_X33_other_139 : u_X33_other_139 = du_X33_other_139 := Classical.choose_spec (⟨du_X33_other_139, rfl⟩ : ∃ f, f = du_X33_other_139)
def du_X33_other_80 (s : jS) (y0 y1 : Int) : Option (jS × Bool × Int) :=
  (m_X33_told s y1 y0).bind fun q1 =>
  jth q1.2.1 (some (q1.1, true, q1.2.2)) <|
  some (q1.1, false, 0)
noncomputable def u_X33_other_80 : jS → Int → Int → Option (jS × Bool × Int) := Classical.choose (⟨du_X33_other_80, rfl⟩ : ∃ f, f = du_X33_other_80)
theorem eu_X33_other_80 : u_X33_other_80 = du_X33_other_80 := Classical.choose_spec (⟨du_X33_other_80, rfl⟩ : ∃ f, f = du_X33_other_80)
def du_X33_other_69 (s : jS) (x0 x1 : Int) : Option (jS × Bool × Int) :=
  if x1 = 3 then
    u_X33_other_80 s 1 x0
  else
    u_X33_other_80 s 0 x0
noncomputable def u_X33_other_69 : jS → Int → Int → Option (jS × Bool × Int) := Classical.choose (⟨du_X33_other_69, rfl⟩ : ∃ f, f = du_X33_other_69)
theorem eu_X33_other_69 : u_X33_other_69 = du_X33_other_69 := Classical.choose_spec (⟨du_X33_other_69, rfl⟩ : ∃ f, f = du_X33_other_69)
def du_X33_other_59 (s : jS) (x0 x1 : Int) : Option (jS × Bool × Int) :=
  if x1 = 2 then
    u_X33_other_69 s x0 x1
  else
    if x1 = 3 then
      u_X33_other_69 s x0 x1
    else
      if x1 = 21 then
        (m_X33_jumped s x0 (jc s 47) 2 0 0 0).bind fun q1 =>
        jth q1.2.1 (some (q1.1, true, q1.2.2)) <|
        some (q1.1, false, 0)
      else
        if x1 = 22 then
          (m_X33_returned s x0 0).bind fun q2 =>
          jth q2.2.1 (some (q2.1, true, q2.2.2)) <|
          some (q2.1, false, 0)
        else
          if 23 < x1 then
            if x1 = 24 then
              u_X33_other_139 s x1 1 x0
            else
              u_X33_other_139 s x1 6 x0
          else
            if (jf s 37 x0 35) = 0 then
              u_X33_other_169 s x0 x1 1 x0
            else
              u_X33_other_169 s x0 x1 0 x0
noncomputable def u_X33_other_59 : jS → Int → Int → Option (jS × Bool × Int) := Classical.choose (⟨du_X33_other_59, rfl⟩ : ∃ f, f = du_X33_other_59)
theorem eu_X33_other_59 : u_X33_other_59 = du_X33_other_59 := Classical.choose_spec (⟨du_X33_other_59, rfl⟩ : ∃ f, f = du_X33_other_59)
def du_X33_other_40 (s : jS) (x0 x1 : Int) : Option (jS × Bool × Int) :=
  if x1 < 4 then
    u_X33_other_59 s x0 x1
  else
    if x1 < 11 then
      (m_X33_paired s x0 x1).bind fun q1 =>
      jth q1.2.1 (some (q1.1, true, q1.2.2)) <|
      some (q1.1, false, 0)
    else
      u_X33_other_59 s x0 x1
noncomputable def u_X33_other_40 : jS → Int → Int → Option (jS × Bool × Int) := Classical.choose (⟨du_X33_other_40, rfl⟩ : ∃ f, f = du_X33_other_40)
theorem eu_X33_other_40 : u_X33_other_40 = du_X33_other_40 := Classical.choose_spec (⟨du_X33_other_40, rfl⟩ : ∃ f, f = du_X33_other_40)
def du_X33_other_20 (s : jS) (x0 x1 : Int) : Option (jS × Bool × Int) :=
  if x1 < 17 then
    u_X33_other_40 s x0 x1
  else
    if x1 < 21 then
      (m_X33_turned s x0 x1).bind fun q1 =>
      jth q1.2.1 (some (q1.1, true, q1.2.2)) <|
      some (q1.1, false, 0)
    else
      u_X33_other_40 s x0 x1
noncomputable def u_X33_other_20 : jS → Int → Int → Option (jS × Bool × Int) := Classical.choose (⟨du_X33_other_20, rfl⟩ : ∃ f, f = du_X33_other_20)
theorem eu_X33_other_20 : u_X33_other_20 = du_X33_other_20 := Classical.choose_spec (⟨du_X33_other_20, rfl⟩ : ∃ f, f = du_X33_other_20)
def dm_X33_other (s : jS) (x0 x1 : Int) : Option (jS × Bool × Int) :=
  if x1 < 11 then
    u_X33_other_20 s x0 x1
  else
    if x1 < 17 then
      (m_X33_branched s x0 x1).bind fun q1 =>
      jth q1.2.1 (some (q1.1, true, q1.2.2)) <|
      some (q1.1, false, 0)
    else
      u_X33_other_20 s x0 x1
noncomputable def m_X33_other : jS → Int → Int → Option (jS × Bool × Int) := Classical.choose (⟨dm_X33_other, rfl⟩ : ∃ f, f = dm_X33_other)
theorem em_X33_other : m_X33_other = dm_X33_other := Classical.choose_spec (⟨dm_X33_other, rfl⟩ : ∃ f, f = dm_X33_other)
def du_X35_meanRest_288 (s : jS) (x0 x1 : Int) : Option ((jS × List Int) ⊕ (jS × Bool × Int)) :=
  some (.inl (s, [x0, W32 (x1 + 1)]))
noncomputable def u_X35_meanRest_288 : jS → Int → Int → Option ((jS × List Int) ⊕ (jS × Bool × Int)) := Classical.choose (⟨du_X35_meanRest_288, rfl⟩ : ∃ f, f = du_X35_meanRest_288)
theorem eu_X35_meanRest_288 : u_X35_meanRest_288 = du_X35_meanRest_288 := Classical.choose_spec (⟨du_X35_meanRest_288, rfl⟩ : ∃ f, f = du_X35_meanRest_288)
def b_X35_meanRest_263 (s : jS) (x0 x1 : Int) : Option ((jS × List Int) ⊕ (jS × Bool × Int)) :=
  if x1 < (jf s 39 x0 20) then
    (jlt s 1000 (x0 + 17) 600 x1).bind fun v1 =>
    if v1 = 4 then
      (jst s 1000 (x0 + 17) 600 x1 3).bind fun s2 =>
      u_X35_meanRest_288 s2 x0 x1
    else
      u_X35_meanRest_288 s x0 x1
  else
    jinr (some (s, false, 0))
def du_X35_meanRest_263 (s : jS) (x0 x1 : Int) : Option (jS × Bool × Int) := jlpW (jc2 b_X35_meanRest_263) [x0, x1] s
noncomputable def u_X35_meanRest_263 : jS → Int → Int → Option (jS × Bool × Int) := Classical.choose (⟨du_X35_meanRest_263, rfl⟩ : ∃ f, f = du_X35_meanRest_263)
theorem eu_X35_meanRest_263 : u_X35_meanRest_263 = du_X35_meanRest_263 := Classical.choose_spec (⟨du_X35_meanRest_263, rfl⟩ : ∃ f, f = du_X35_meanRest_263)
def du_X35_meanRest_261 (s : jS) (x0 : Int) : Option (jS × Bool × Int) :=
  u_X35_meanRest_263 s x0 0
noncomputable def u_X35_meanRest_261 : jS → Int → Option (jS × Bool × Int) := Classical.choose (⟨du_X35_meanRest_261, rfl⟩ : ∃ f, f = du_X35_meanRest_261)
theorem eu_X35_meanRest_261 : u_X35_meanRest_261 = du_X35_meanRest_261 := Classical.choose_spec (⟨du_X35_meanRest_261, rfl⟩ : ∃ f, f = du_X35_meanRest_261)
def du_X35_meanRest_241 (s : jS) (x0 x2 x3 : Int) : Option (jS × Bool × Int) :=
  (m_X35_wrong s x0 4 x2 x3).bind fun q1 =>
  jck0 q1.2 (some (q1.1, true, q1.2))
noncomputable def u_X35_meanRest_241 : jS → Int → Int → Int → Option (jS × Bool × Int) := Classical.choose (⟨du_X35_meanRest_241, rfl⟩ : ∃ f, f = du_X35_meanRest_241)
theorem eu_X35_meanRest_241 : u_X35_meanRest_241 = du_X35_meanRest_241 := Classical.choose_spec (⟨du_X35_meanRest_241, rfl⟩ : ∃ f, f = du_X35_meanRest_241)
def du_X35_meanRest_255 (s : jS) (x0 x1 : Int) : Option ((jS × List Int) ⊕ (jS × Bool × Int)) :=
  some (.inl (s, [x0, W32 (x1 + 1)]))
noncomputable def u_X35_meanRest_255 : jS → Int → Int → Option ((jS × List Int) ⊕ (jS × Bool × Int)) := Classical.choose (⟨du_X35_meanRest_255, rfl⟩ : ∃ f, f = du_X35_meanRest_255)
theorem eu_X35_meanRest_255 : u_X35_meanRest_255 = du_X35_meanRest_255 := Classical.choose_spec (⟨du_X35_meanRest_255, rfl⟩ : ∃ f, f = du_X35_meanRest_255)
def du_X35_meanRest_249 (s : jS) (x0 x1 x2 x3 : Int) : Option ((jS × List Int) ⊕ ((jS × List Int) ⊕ (jS × Bool × Int))) :=
  some (.inl (s, [x0, x1, x2, W32 (x3 + 1)]))
noncomputable def u_X35_meanRest_249 : jS → Int → Int → Int → Int → Option ((jS × List Int) ⊕ ((jS × List Int) ⊕ (jS × Bool × Int))) := Classical.choose (⟨du_X35_meanRest_249, rfl⟩ : ∃ f, f = du_X35_meanRest_249)
theorem eu_X35_meanRest_249 : u_X35_meanRest_249 = du_X35_meanRest_249 := Classical.choose_spec (⟨du_X35_meanRest_249, rfl⟩ : ∃ f, f = du_X35_meanRest_249)
def b_X35_meanRest_184 (s : jS) (x0 x1 x2 x3 : Int) : Option ((jS × List Int) ⊕ ((jS × List Int) ⊕ (jS × Bool × Int))) :=
  (jix 6 x2 ((x0 + (-4000)) + 4041 + 1858 * x2)).bind fun v1 =>
  (m_X13_count s v1 1).bind fun v2 =>
  if x3 < v2 then
    (jlt s 1000 (x0 + 14) 600 (W32 ((W32 (100 * x2)) + x3))).bind fun v3 =>
    if v3 = (-1) then
      u_X35_meanRest_249 s x0 x1 x2 x3
    else
      (jlt s 1000 (x0 + 17) 600 v3).bind fun v4 =>
      if v4 = 4 then
        (m_X35_symbol s x0 x2 x3).bind fun v5 =>
        (jrd s 20 v5 4).bind fun v6 =>
        if v6 = 1 then
          jinr (jinr (u_X35_meanRest_241 s x0 x2 x3))
        else
          u_X35_meanRest_249 s x0 x1 x2 x3
      else
        u_X35_meanRest_249 s x0 x1 x2 x3
  else
    jinr (u_X35_meanRest_255 s x0 x1)
def du_X35_meanRest_184 (s : jS) (x0 x1 x2 x3 : Int) : Option ((jS × List Int) ⊕ (jS × Bool × Int)) := jlpW (jc4 b_X35_meanRest_184) [x0, x1, x2, x3] s
noncomputable def u_X35_meanRest_184 : jS → Int → Int → Int → Int → Option ((jS × List Int) ⊕ (jS × Bool × Int)) := Classical.choose (⟨du_X35_meanRest_184, rfl⟩ : ∃ f, f = du_X35_meanRest_184)
theorem eu_X35_meanRest_184 : u_X35_meanRest_184 = du_X35_meanRest_184 := Classical.choose_spec (⟨du_X35_meanRest_184, rfl⟩ : ∃ f, f = du_X35_meanRest_184)
def b_X35_meanRest_167 (s : jS) (x0 x1 : Int) : Option ((jS × List Int) ⊕ (jS × Bool × Int)) :=
  if x1 < (jf s 39 x0 5) then
    (jlt s 1000 (x0 + 13) 6 x1).bind fun v1 =>
    u_X35_meanRest_184 s x0 x1 v1 0
  else
    jinr (u_X35_meanRest_261 s x0)
def du_X35_meanRest_167 (s : jS) (x0 x1 : Int) : Option (jS × Bool × Int) := jlpW (jc2 b_X35_meanRest_167) [x0, x1] s
noncomputable def u_X35_meanRest_167 : jS → Int → Int → Option (jS × Bool × Int) := Classical.choose (⟨du_X35_meanRest_167, rfl⟩ : ∃ f, f = du_X35_meanRest_167)
theorem eu_X35_meanRest_167 : u_X35_meanRest_167 = du_X35_meanRest_167 := Classical.choose_spec (⟨du_X35_meanRest_167, rfl⟩ : ∃ f, f = du_X35_meanRest_167)
def du_X35_meanRest_165 (s : jS) (x0 : Int) : Option (jS × Bool × Int) :=
  u_X35_meanRest_167 s x0 0
noncomputable def u_X35_meanRest_165 : jS → Int → Option (jS × Bool × Int) := Classical.choose (⟨du_X35_meanRest_165, rfl⟩ : ∃ f, f = du_X35_meanRest_165)
theorem eu_X35_meanRest_165 : u_X35_meanRest_165 = du_X35_meanRest_165 := Classical.choose_spec (⟨du_X35_meanRest_165, rfl⟩ : ∃ f, f = du_X35_meanRest_165)
def du_X35_meanRest_159 (s : jS) (x0 x1 : Int) : Option ((jS × List Int) ⊕ (jS × Bool × Int)) :=
  some (.inl (s, [x0, W32 (x1 + 1)]))
noncomputable def u_X35_meanRest_159 : jS → Int → Int → Option ((jS × List Int) ⊕ (jS × Bool × Int)) := Classical.choose (⟨du_X35_meanRest_159, rfl⟩ : ∃ f, f = du_X35_meanRest_159)
theorem eu_X35_meanRest_159 : u_X35_meanRest_159 = du_X35_meanRest_159 := Classical.choose_spec (⟨du_X35_meanRest_159, rfl⟩ : ∃ f, f = du_X35_meanRest_159)
def b_X35_meanRest_120 (s : jS) (x0 x1 : Int) : Option ((jS × List Int) ⊕ (jS × Bool × Int)) :=
  if x1 < (jf s 39 x0 20) then
    (jlt s 1000 (x0 + 17) 600 x1).bind fun v1 =>
    if v1 = 4 then
      (m_X35_givenFor s x0 x1).bind fun v2 =>
      if v2 = (-1) then
        u_X35_meanRest_159 s x0 x1
      else
        (m_X35_givenFor s x0 x1).bind fun v3 =>
        (m_X35_means s x0 x1 2 (-1) v3).bind fun q4 =>
        u_X35_meanRest_159 q4.1 x0 x1
    else
      u_X35_meanRest_159 s x0 x1
  else
    jinr (u_X35_meanRest_165 s x0)
def du_X35_meanRest_120 (s : jS) (x0 x1 : Int) : Option (jS × Bool × Int) := jlpW (jc2 b_X35_meanRest_120) [x0, x1] s
noncomputable def u_X35_meanRest_120 : jS → Int → Int → Option (jS × Bool × Int) := Classical.choose (⟨du_X35_meanRest_120, rfl⟩ : ∃ f, f = du_X35_meanRest_120)
theorem eu_X35_meanRest_120 : u_X35_meanRest_120 = du_X35_meanRest_120 := Classical.choose_spec (⟨du_X35_meanRest_120, rfl⟩ : ∃ f, f = du_X35_meanRest_120)
def du_X35_meanRest_118 (s : jS) (x0 : Int) : Option (jS × Bool × Int) :=
  u_X35_meanRest_120 s x0 0
noncomputable def u_X35_meanRest_118 : jS → Int → Option (jS × Bool × Int) := Classical.choose (⟨du_X35_meanRest_118, rfl⟩ : ∃ f, f = du_X35_meanRest_118)
theorem eu_X35_meanRest_118 : u_X35_meanRest_118 = du_X35_meanRest_118 := Classical.choose_spec (⟨du_X35_meanRest_118, rfl⟩ : ∃ f, f = du_X35_meanRest_118)
def du_X35_meanRest_112 (s : jS) (x0 x1 : Int) : Option ((jS × List Int) ⊕ (jS × Bool × Int)) :=
  some (.inl (s, [x0, W32 (x1 + 1)]))
noncomputable def u_X35_meanRest_112 : jS → Int → Int → Option ((jS × List Int) ⊕ (jS × Bool × Int)) := Classical.choose (⟨du_X35_meanRest_112, rfl⟩ : ∃ f, f = du_X35_meanRest_112)
theorem eu_X35_meanRest_112 : u_X35_meanRest_112 = du_X35_meanRest_112 := Classical.choose_spec (⟨du_X35_meanRest_112, rfl⟩ : ∃ f, f = du_X35_meanRest_112)
def du_X35_meanRest_106 (s : jS) (x0 x1 x2 x3 : Int) : Option ((jS × List Int) ⊕ ((jS × List Int) ⊕ (jS × Bool × Int))) :=
  some (.inl (s, [x0, x1, x2, W32 (x3 + 1)]))
noncomputable def u_X35_meanRest_106 : jS → Int → Int → Int → Int → Option ((jS × List Int) ⊕ ((jS × List Int) ⊕ (jS × Bool × Int))) := Classical.choose (⟨du_X35_meanRest_106, rfl⟩ : ∃ f, f = du_X35_meanRest_106)
theorem eu_X35_meanRest_106 : u_X35_meanRest_106 = du_X35_meanRest_106 := Classical.choose_spec (⟨du_X35_meanRest_106, rfl⟩ : ∃ f, f = du_X35_meanRest_106)
def b_X35_meanRest_19 (s : jS) (x0 x1 x2 x3 : Int) : Option ((jS × List Int) ⊕ ((jS × List Int) ⊕ (jS × Bool × Int))) :=
  (jix 6 x2 ((x0 + (-4000)) + 4041 + 1858 * x2)).bind fun v1 =>
  (m_X13_count s v1 1).bind fun v2 =>
  if x3 < v2 then
    (m_X35_symbol s x0 x2 x3).bind fun v3 =>
    (jlt s 1000 (x0 + 14) 600 (W32 ((W32 (100 * x2)) + x3))).bind fun v4 =>
    if v4 = (-1) then
      u_X35_meanRest_106 s x0 x1 x2 x3
    else
      (jlt s 1000 (x0 + 17) 600 v4).bind fun v5 =>
      if v5 = 4 then
        (jrd s 20 v3 4).bind fun v6 =>
        if v6 = 2 then
          (jrd s 20 v3 1).bind fun v7 =>
          if v7 < 0 then
            u_X35_meanRest_106 s x0 x1 x2 x3
          else
            (jrd s 20 v3 1).bind fun v8 =>
            if 4 < v8 then
              u_X35_meanRest_106 s x0 x1 x2 x3
            else
              (m_X35_means s x0 v4 0 x2 x3).bind fun q9 =>
              u_X35_meanRest_106 q9.1 x0 x1 x2 x3
        else
          u_X35_meanRest_106 s x0 x1 x2 x3
      else
        u_X35_meanRest_106 s x0 x1 x2 x3
  else
    jinr (u_X35_meanRest_112 s x0 x1)
def du_X35_meanRest_19 (s : jS) (x0 x1 x2 x3 : Int) : Option ((jS × List Int) ⊕ (jS × Bool × Int)) := jlpW (jc4 b_X35_meanRest_19) [x0, x1, x2, x3] s
noncomputable def u_X35_meanRest_19 : jS → Int → Int → Int → Int → Option ((jS × List Int) ⊕ (jS × Bool × Int)) := Classical.choose (⟨du_X35_meanRest_19, rfl⟩ : ∃ f, f = du_X35_meanRest_19)
theorem eu_X35_meanRest_19 : u_X35_meanRest_19 = du_X35_meanRest_19 := Classical.choose_spec (⟨du_X35_meanRest_19, rfl⟩ : ∃ f, f = du_X35_meanRest_19)
def b_X35_meanRest_2 (s : jS) (x0 x1 : Int) : Option ((jS × List Int) ⊕ (jS × Bool × Int)) :=
  if x1 < (jf s 39 x0 5) then
    (jlt s 1000 (x0 + 13) 6 x1).bind fun v1 =>
    u_X35_meanRest_19 s x0 x1 v1 0
  else
    jinr (u_X35_meanRest_118 s x0)
def du_X35_meanRest_2 (s : jS) (x0 x1 : Int) : Option (jS × Bool × Int) := jlpW (jc2 b_X35_meanRest_2) [x0, x1] s
noncomputable def u_X35_meanRest_2 : jS → Int → Int → Option (jS × Bool × Int) := Classical.choose (⟨du_X35_meanRest_2, rfl⟩ : ∃ f, f = du_X35_meanRest_2)
theorem eu_X35_meanRest_2 : u_X35_meanRest_2 = du_X35_meanRest_2 := Classical.choose_spec (⟨du_X35_meanRest_2, rfl⟩ : ∃ f, f = du_X35_meanRest_2)
def dm_X35_meanRest (s : jS) (x0 : Int) : Option (jS × Bool × Int) :=
  u_X35_meanRest_2 s x0 0
noncomputable def m_X35_meanRest : jS → Int → Option (jS × Bool × Int) := Classical.choose (⟨dm_X35_meanRest, rfl⟩ : ∃ f, f = dm_X35_meanRest)
theorem em_X35_meanRest : m_X35_meanRest = dm_X35_meanRest := Classical.choose_spec (⟨dm_X35_meanRest, rfl⟩ : ∃ f, f = dm_X35_meanRest)
def du_X44_look_112 (s : jS) (x0 : Int) : Option (jS × Bool × Int) :=
  (jzb 1).bind fun v1 =>
  jls (jp s 53 x0 4 v1) fun s2 =>
  some (s2, false, 0)
noncomputable def u_X44_look_112 : jS → Int → Option (jS × Bool × Int) := Classical.choose (⟨du_X44_look_112, rfl⟩ : ∃ f, f = du_X44_look_112)
theorem eu_X44_look_112 : u_X44_look_112 = du_X44_look_112 := Classical.choose_spec (⟨du_X44_look_112, rfl⟩ : ∃ f, f = du_X44_look_112)
def du_X44_look_40 (s : jS) (x0 : Int) : Option (jS × Bool × Int) :=
  (m_X44_is s x0 0 0 (jf s 53 x0 2)).bind fun q1 =>
  u_X44_look_112 q1.1 x0
noncomputable def u_X44_look_40 : jS → Int → Option (jS × Bool × Int) := Classical.choose (⟨du_X44_look_40, rfl⟩ : ∃ f, f = du_X44_look_40)
theorem eu_X44_look_40 : u_X44_look_40 = du_X44_look_40 := Classical.choose_spec (⟨du_X44_look_40, rfl⟩ : ∃ f, f = du_X44_look_40)
def dm_X44_look (s : jS) (x0 : Int) : Option (jS × Bool × Int) :=
  if (jf s 53 x0 4) = 0 then
    (m_X44_skip s x0).bind fun q1 =>
    jth q1.2.1 (some (q1.1, true, q1.2.2)) <|
    jls (jp q1.1 53 x0 6 (jf q1.1 53 x0 2)) fun s2 =>
    (m_X44_byteAt s2 x0 (jf s2 53 x0 2)).bind fun v3 =>
    if v3 = 10 then
      u_X44_look_40 s2 x0
    else
      if v3 = (-1) then
        u_X44_look_40 s2 x0
      else
        (m_X11_isBegin s2 v3).bind fun v4 =>
        if v4 = 0 then
          (m_X11_isDigit s2 v3).bind fun v5 =>
          if v5 = 0 then
            if v3 = 39 then
              (m_X44_character s2 x0).bind fun q6 =>
              jth q6.2.1 (some (q6.1, true, q6.2.2)) <|
              u_X44_look_112 q6.1 x0
            else
              if v3 = 34 then
                (m_X44_string s2 x0).bind fun q7 =>
                jth q7.2.1 (some (q7.1, true, q7.2.2)) <|
                u_X44_look_112 q7.1 x0
              else
                (m_X44_sign s2 x0 v3).bind fun q8 =>
                jth q8.2.1 (some (q8.1, true, q8.2.2)) <|
                u_X44_look_112 q8.1 x0
          else
            (m_X44_number s2 x0).bind fun q9 =>
            jth q9.2.1 (some (q9.1, true, q9.2.2)) <|
            u_X44_look_112 q9.1 x0
        else
          (m_X44_name s2 x0).bind fun q10 =>
          jth q10.2.1 (some (q10.1, true, q10.2.2)) <|
          u_X44_look_112 q10.1 x0
  else
    some (s, false, 0)
noncomputable def m_X44_look : jS → Int → Option (jS × Bool × Int) := Classical.choose (⟨dm_X44_look, rfl⟩ : ∃ f, f = dm_X44_look)
theorem em_X44_look : m_X44_look = dm_X44_look := Classical.choose_spec (⟨dm_X44_look, rfl⟩ : ∃ f, f = dm_X44_look)
def dm_X44_sees (s : jS) (x0 x1 : Int) : Option (jS × Bool × Int) :=
  (m_X44_look s x0).bind fun q1 =>
  jth q1.2.1 (some (q1.1, true, q1.2.2)) <|
  if (jf q1.1 53 x0 5) = 5 then
    if (jf q1.1 53 x0 7) = x1 then
      some (q1.1, false, Wz 1)
    else
      some (q1.1, false, Wz 0)
  else
    some (q1.1, false, Wz 0)
noncomputable def m_X44_sees : jS → Int → Int → Option (jS × Bool × Int) := Classical.choose (⟨dm_X44_sees, rfl⟩ : ∃ f, f = dm_X44_sees)
theorem em_X44_sees : m_X44_sees = dm_X44_sees := Classical.choose_spec (⟨dm_X44_sees, rfl⟩ : ∃ f, f = dm_X44_sees)
def du_X2_tell_121 (s : jS) (x0 : Int) : Option (jS × Bool × Int) :=
  (m_J1_length s (x0 + 26)).bind fun v1 =>
  some (s, false, v1)
noncomputable def u_X2_tell_121 : jS → Int → Option (jS × Bool × Int) := Classical.choose (⟨du_X2_tell_121, rfl⟩ : ∃ f, f = du_X2_tell_121)
theorem eu_X2_tell_121 : u_X2_tell_121 = du_X2_tell_121 := Classical.choose_spec (⟨du_X2_tell_121, rfl⟩ : ∃ f, f = du_X2_tell_121)
def du_X2_tell_79 (s : jS) (x0 x2 x3 x4 : Int) : Option (jS × Bool × Int) :=
  if x3 = (-1) then
    u_X2_tell_121 s x0
  else
    (jlt s 1008 (x0 + 23) 75 x3).bind fun v1 =>
    (jrd s 11 v1 1).bind fun v2 =>
    if 0 < v2 then
      (m_J1_append_3 s (x0 + 26) 32).bind fun q3 =>
      (jlt q3.1 1008 (x0 + 23) 75 x3).bind fun v4 =>
      (m_X2_operands q3.1 v4 x4 x2).bind fun q5 =>
      (jct q5.1 24 q3.2 (m_J1_append q5.1 q3.2 q5.2)).bind fun q6 =>
      u_X2_tell_121 q6.1 x0
    else
      u_X2_tell_121 s x0
noncomputable def u_X2_tell_79 : jS → Int → Int → Int → Int → Option (jS × Bool × Int) := Classical.choose (⟨du_X2_tell_79, rfl⟩ : ∃ f, f = du_X2_tell_79)
theorem eu_X2_tell_79 : u_X2_tell_79 = du_X2_tell_79 := Classical.choose_spec (⟨du_X2_tell_79, rfl⟩ : ∃ f, f = du_X2_tell_79)
def du_X2_tell_47 (s : jS) (x0 x2 x3 x4 y0 y1 : Int) : Option (jS × Bool × Int) :=
  (m_J1_append s y1 y0).bind fun q1 =>
  (m_X2_hex q1.1 x4).bind fun q2 =>
  (jct q2.1 24 q1.2 (m_J1_append q2.1 q1.2 q2.2)).bind fun q3 =>
  u_X2_tell_79 q3.1 x0 x2 x3 x4
noncomputable def u_X2_tell_47 : jS → Int → Int → Int → Int → Int → Int → Option (jS × Bool × Int) := Classical.choose (⟨du_X2_tell_47, rfl⟩ : ∃ f, f = du_X2_tell_47)
theorem eu_X2_tell_47 : u_X2_tell_47 = du_X2_tell_47 := Classical.choose_spec (⟨du_X2_tell_47, rfl⟩ : ∃ f, f = du_X2_tell_47)
def dm_X2_tell (s : jS) (x0 x1 x2 : Int) : Option (jS × Bool × Int) :=
  (m_X2_kind s x0 x1).bind fun v1 =>
  (m_X2_whole s x1).bind fun v2 =>
  (m_J1_setLength s (x0 + 26) 0).bind fun q3 =>
  jth q3.2.1 (some (q3.1, true, q3.2.2)) <|
  if v1 = (-1) then
    (m_X2_size q3.1 x0 x1).bind fun v4 =>
    if v4 = 4 then
      u_X2_tell_47 q3.1 x0 x2 v1 v2 (jc q3.1 163) (x0 + 26)
    else
      u_X2_tell_47 q3.1 x0 x2 v1 v2 (jc q3.1 164) (x0 + 26)
  else
    (jlt q3.1 1008 (x0 + 23) 75 v1).bind fun v5 =>
    (jrd q3.1 11 v5 0).bind fun v6 =>
    (m_J1_append q3.1 (x0 + 26) v6).bind fun q7 =>
    u_X2_tell_79 q7.1 x0 x2 v1 v2
noncomputable def m_X2_tell : jS → Int → Int → Int → Option (jS × Bool × Int) := Classical.choose (⟨dm_X2_tell, rfl⟩ : ∃ f, f = dm_X2_tell)
theorem em_X2_tell : m_X2_tell = dm_X2_tell := Classical.choose_spec (⟨dm_X2_tell, rfl⟩ : ∃ f, f = dm_X2_tell)
def du_X13_write_79 (s : jS) (x0 : Int) : Option (jS × Int) :=
  some (s, jf s 23 (x0 + 1229) 1)
noncomputable def u_X13_write_79 : jS → Int → Option (jS × Int) := Classical.choose (⟨du_X13_write_79, rfl⟩ : ∃ f, f = du_X13_write_79)
theorem eu_X13_write_79 : u_X13_write_79 = du_X13_write_79 := Classical.choose_spec (⟨du_X13_write_79, rfl⟩ : ∃ f, f = du_X13_write_79)
def b_X13_write_40 (s : jS) (x0 x2 : Int) : Option ((jS × List Int) ⊕ (jS × Int)) :=
  if x2 < (jf s 23 ((x0 + 1231) + 1) 1) then
    (jlt s 1001 (((x0 + 1231) + 1) + 1) (jN s (((x0 + 1231) + 1) + 1)) x2).bind fun v1 =>
    (m_X19_put1 s (x0 + 1229) v1).bind fun q2 =>
    some (.inl (q2.1, [x0, W32 (x2 + 1)]))
  else
    jinr (u_X13_write_79 s x0)
def du_X13_write_40 (s : jS) (x0 x2 : Int) : Option (jS × Int) := jlpW (jc2 b_X13_write_40) [x0, x2] s
noncomputable def u_X13_write_40 : jS → Int → Int → Option (jS × Int) := Classical.choose (⟨du_X13_write_40, rfl⟩ : ∃ f, f = du_X13_write_40)
theorem eu_X13_write_40 : u_X13_write_40 = du_X13_write_40 := Classical.choose_spec (⟨du_X13_write_40, rfl⟩ : ∃ f, f = du_X13_write_40)
def dm_X13_write (s : jS) (x0 : Int) : Option (jS × Int) :=
  (m_X14_beyond s (x0 + 1)).bind fun v1 =>
  if v1 < 0 then
    some (s, v1)
  else
    (m_X20_write s (x0 + 1231) (x0 + 1)).bind fun q2 =>
    if q2.2 = 0 then
      some (q2.1, (-4))
    else
      (m_X19_clear q2.1 (x0 + 1229)).bind fun q3 =>
      u_X13_write_40 q3.1 x0 0
noncomputable def m_X13_write : jS → Int → Option (jS × Int) := Classical.choose (⟨dm_X13_write, rfl⟩ : ∃ f, f = dm_X13_write)
theorem em_X13_write : m_X13_write = dm_X13_write := Classical.choose_spec (⟨dm_X13_write, rfl⟩ : ∃ f, f = dm_X13_write)
def dm_X13_read (s : jS) (x0 : Int) : Option (jS × Int) :=
  (m_X21_read s (x0 + 1239) (x0 + 1229)).bind fun q1 =>
  jls (jp q1.1 17 x0 6 (jf q1.1 25 (x0 + 1239) 10)) fun s2 =>
  if q1.2 = 0 then
    (m_X14_set s2 (x0 + 614) ((x0 + 1239) + 3)).bind fun q3 =>
    some (q3.1, q1.2)
  else
    some (s2, q1.2)
noncomputable def m_X13_read : jS → Int → Option (jS × Int) := Classical.choose (⟨dm_X13_read, rfl⟩ : ∃ f, f = dm_X13_read)
theorem em_X13_read : m_X13_read = dm_X13_read := Classical.choose_spec (⟨dm_X13_read, rfl⟩ : ∃ f, f = dm_X13_read)
def du_X33_instruction_219 (s : jS) (x0 x3 : Int) : Option (jS × Bool × Int) :=
  (m_X33_byKind s x0 x3).bind fun q1 =>
  jth q1.2.1 (some (q1.1, true, q1.2.2)) <|
  some (q1.1, false, 0)
noncomputable def u_X33_instruction_219 : jS → Int → Int → Option (jS × Bool × Int) := Classical.choose (⟨du_X33_instruction_219, rfl⟩ : ∃ f, f = du_X33_instruction_219)
theorem eu_X33_instruction_219 : u_X33_instruction_219 = du_X33_instruction_219 := Classical.choose_spec (⟨du_X33_instruction_219, rfl⟩ : ∃ f, f = du_X33_instruction_219)
def du_X33_instruction_188 (s : jS) (x0 x3 : Int) : Option (jS × Bool × Int) :=
  if x3 < 15 then
    u_X33_instruction_219 s x0 x3
  else
    if x3 < 18 then
      if (jf s 37 x0 35) = 3 then
        (m_X33_far s x0 x3 (jc s 49)).bind fun q1 =>
        jth q1.2.1 (some (q1.1, true, q1.2.2)) <|
        some (q1.1, false, 0)
      else
        u_X33_instruction_219 s x0 x3
    else
      u_X33_instruction_219 s x0 x3
noncomputable def u_X33_instruction_188 : jS → Int → Int → Option (jS × Bool × Int) := Classical.choose (⟨du_X33_instruction_188, rfl⟩ : ∃ f, f = du_X33_instruction_188)
theorem eu_X33_instruction_188 : u_X33_instruction_188 = du_X33_instruction_188 := Classical.choose_spec (⟨du_X33_instruction_188, rfl⟩ : ∃ f, f = du_X33_instruction_188)
def du_X33_instruction_149 (s : jS) (x0 x3 : Int) : Option (jS × Bool × Int) :=
  if x3 < 10 then
    u_X33_instruction_188 s x0 x3
  else
    if x3 < 15 then
      if (jf s 37 x0 35) = 2 then
        (m_X33_isExpression s x0 1).bind fun v1 =>
        if v1 = 0 then
          u_X33_instruction_188 s x0 x3
        else
          (m_X33_far s x0 x3 (jc s 48)).bind fun q2 =>
          jth q2.2.1 (some (q2.1, true, q2.2.2)) <|
          some (q2.1, false, 0)
      else
        u_X33_instruction_188 s x0 x3
    else
      u_X33_instruction_188 s x0 x3
noncomputable def u_X33_instruction_149 : jS → Int → Int → Option (jS × Bool × Int) := Classical.choose (⟨du_X33_instruction_149, rfl⟩ : ∃ f, f = du_X33_instruction_149)
theorem eu_X33_instruction_149 : u_X33_instruction_149 = du_X33_instruction_149 := Classical.choose_spec (⟨du_X33_instruction_149, rfl⟩ : ∃ f, f = du_X33_instruction_149)
def du_X33_instruction_128 (s : jS) (x0 x3 : Int) : Option (jS × Bool × Int) :=
  if x3 = 3 then
    if (jf s 37 x0 35) = 1 then
      (m_X33_returned s x0 1).bind fun q1 =>
      jth q1.2.1 (some (q1.1, true, q1.2.2)) <|
      some (q1.1, false, 0)
    else
      u_X33_instruction_149 s x0 x3
  else
    u_X33_instruction_149 s x0 x3
noncomputable def u_X33_instruction_128 : jS → Int → Int → Option (jS × Bool × Int) := Classical.choose (⟨du_X33_instruction_128, rfl⟩ : ∃ f, f = du_X33_instruction_128)
theorem eu_X33_instruction_128 : u_X33_instruction_128 = du_X33_instruction_128 := Classical.choose_spec (⟨du_X33_instruction_128, rfl⟩ : ∃ f, f = du_X33_instruction_128)
def du_X33_instruction_82 (s : jS) (x0 x3 x4 y0 y1 : Int) : Option (jS × Bool × Int) :=
  (m_X33_need s y1 y0 11).bind fun q1 =>
  jth q1.2.1 (some (q1.1, true, q1.2.2)) <|
  if x3 = (-1) then
    (m_X33_other q1.1 x0 x4).bind fun q2 =>
    jth q2.2.1 (some (q2.1, true, q2.2.2)) <|
    some (q2.1, false, 0)
  else
    if x3 = 2 then
      if (jf q1.1 37 x0 35) = 1 then
        (m_X33_jumped q1.1 x0 (jc q1.1 47) 2 1 0 0).bind fun q3 =>
        jth q3.2.1 (some (q3.1, true, q3.2.2)) <|
        some (q3.1, false, 0)
      else
        u_X33_instruction_128 q1.1 x0 x3
    else
      u_X33_instruction_128 q1.1 x0 x3
noncomputable def u_X33_instruction_82 : jS → Int → Int → Int → Int → Int → Option (jS × Bool × Int) := Classical.choose (⟨du_X33_instruction_82, rfl⟩ : ∃ f, f = du_X33_instruction_82)
theorem eu_X33_instruction_82 : u_X33_instruction_82 = du_X33_instruction_82 := Classical.choose_spec (⟨du_X33_instruction_82, rfl⟩ : ∃ f, f = du_X33_instruction_82)
def du_X33_instruction_77 (s : jS) (x0 x3 x4 y0 : Int) : Option (jS × Bool × Int) :=
  u_X33_instruction_82 s x0 x3 x4 1 y0
noncomputable def u_X33_instruction_77 : jS → Int → Int → Int → Int → Option (jS × Bool × Int) := Classical.choose (⟨du_X33_instruction_77, rfl⟩ : ∃ f, f = du_X33_instruction_77)
theorem eu_X33_instruction_77 : u_X33_instruction_77 = du_X33_instruction_77 := Classical.choose_spec (⟨du_X33_instruction_77, rfl⟩ : ∃ f, f = du_X33_instruction_77)
def du_X33_instruction_58 (s : jS) (x0 x3 x4 y0 y1 : Int) : Option (jS × Bool × Int) :=
  (m_X33_need s y1 y0 10).bind fun q1 =>
  jth q1.2.1 (some (q1.1, true, q1.2.2)) <|
  if x3 < 48 then
    u_X33_instruction_77 q1.1 x0 x3 x4 x0
  else
    if (jf q1.1 37 x0 39) = 0 then
      u_X33_instruction_82 q1.1 x0 x3 x4 0 x0
    else
      u_X33_instruction_77 q1.1 x0 x3 x4 x0
noncomputable def u_X33_instruction_58 : jS → Int → Int → Int → Int → Int → Option (jS × Bool × Int) := Classical.choose (⟨du_X33_instruction_58, rfl⟩ : ∃ f, f = du_X33_instruction_58)
theorem eu_X33_instruction_58 : u_X33_instruction_58 = du_X33_instruction_58 := Classical.choose_spec (⟨du_X33_instruction_58, rfl⟩ : ∃ f, f = du_X33_instruction_58)
def du_X33_instruction_57 (s : jS) (x0 x3 x4 y0 : Int) : Option (jS × Bool × Int) :=
  u_X33_instruction_58 s x0 x3 x4 0 y0
noncomputable def u_X33_instruction_57 : jS → Int → Int → Int → Int → Option (jS × Bool × Int) := Classical.choose (⟨du_X33_instruction_57, rfl⟩ : ∃ f, f = du_X33_instruction_57)
theorem eu_X33_instruction_57 : u_X33_instruction_57 = du_X33_instruction_57 := Classical.choose_spec (⟨du_X33_instruction_57, rfl⟩ : ∃ f, f = du_X33_instruction_57)
def du_X33_instruction_29 (s : jS) (x0 x3 x4 y0 y1 : Int) : Option (jS × Bool × Int) :=
  (m_X33_need s y1 y0 9).bind fun q1 =>
  jth q1.2.1 (some (q1.1, true, q1.2.2)) <|
  if (jf q1.1 37 x0 30) = 0 then
    (jlt q1.1 1000 (x0 + 7) 4 0).bind fun v2 =>
    (jdv 2 (I_rem v2 2)).bind fun v3 =>
    if v3 = 0 then
      u_X33_instruction_58 q1.1 x0 x3 x4 1 x0
    else
      u_X33_instruction_57 q1.1 x0 x3 x4 x0
  else
    u_X33_instruction_57 q1.1 x0 x3 x4 x0
noncomputable def u_X33_instruction_29 : jS → Int → Int → Int → Int → Int → Option (jS × Bool × Int) := Classical.choose (⟨du_X33_instruction_29, rfl⟩ : ∃ f, f = du_X33_instruction_29)
theorem eu_X33_instruction_29 : u_X33_instruction_29 = du_X33_instruction_29 := Classical.choose_spec (⟨du_X33_instruction_29, rfl⟩ : ∃ f, f = du_X33_instruction_29)
def du_X33_instruction_24 (s : jS) (x0 x3 x4 y0 : Int) : Option (jS × Bool × Int) :=
  u_X33_instruction_29 s x0 x3 x4 1 y0
noncomputable def u_X33_instruction_24 : jS → Int → Int → Int → Int → Option (jS × Bool × Int) := Classical.choose (⟨du_X33_instruction_24, rfl⟩ : ∃ f, f = du_X33_instruction_24)
theorem eu_X33_instruction_24 : u_X33_instruction_24 = du_X33_instruction_24 := Classical.choose_spec (⟨du_X33_instruction_24, rfl⟩ : ∃ f, f = du_X33_instruction_24)
def dm_X33_instruction (s : jS) (x0 x1 x2 : Int) : Option (jS × Bool × Int) :=
  (m_X33_kindOf s x0 x2).bind fun v1 =>
  (m_X33_otherOf s x0 x1).bind fun q2 =>
  if v1 = (-1) then
    if 0 < q2.2 then
      u_X33_instruction_24 q2.1 x0 v1 q2.2 x0
    else
      u_X33_instruction_29 q2.1 x0 v1 q2.2 0 x0
  else
    u_X33_instruction_24 q2.1 x0 v1 q2.2 x0
noncomputable def m_X33_instruction : jS → Int → Int → Int → Option (jS × Bool × Int) := Classical.choose (⟨dm_X33_instruction, rfl⟩ : ∃ f, f = dm_X33_instruction)
theorem em_X33_instruction : m_X33_instruction = dm_X33_instruction := Classical.choose_spec (⟨dm_X33_instruction, rfl⟩ : ∃ f, f = dm_X33_instruction)
def du_X35_readAll_58 (s : jS) (x0 x2 x3 : Int) : Option (jS × Bool × Int) :=
  (m_X35_wrong s x0 2 x2 x3).bind fun q1 =>
  jck0 q1.2 (some (q1.1, true, q1.2))
noncomputable def u_X35_readAll_58 : jS → Int → Int → Int → Option (jS × Bool × Int) := Classical.choose (⟨du_X35_readAll_58, rfl⟩ : ∃ f, f = du_X35_readAll_58)
theorem eu_X35_readAll_58 : u_X35_readAll_58 = du_X35_readAll_58 := Classical.choose_spec (⟨du_X35_readAll_58, rfl⟩ : ∃ f, f = du_X35_readAll_58)
def du_X35_readAll_36 (s : jS) (x0 x2 : Int) : Option (jS × Bool × Int) :=
  (m_X35_wrong s x0 1 x2 (-1)).bind fun q1 =>
  jck0 q1.2 (some (q1.1, true, q1.2))
noncomputable def u_X35_readAll_36 : jS → Int → Int → Option (jS × Bool × Int) := Classical.choose (⟨du_X35_readAll_36, rfl⟩ : ∃ f, f = du_X35_readAll_36)
theorem eu_X35_readAll_36 : u_X35_readAll_36 = du_X35_readAll_36 := Classical.choose_spec (⟨du_X35_readAll_36, rfl⟩ : ∃ f, f = du_X35_readAll_36)
def du_X35_readAll_86 (s : jS) (x0 x1 x2 : Int) : Option ((jS × List Int) ⊕ (jS × Bool × Int)) :=
  some (.inl (s, [x0, x1, W32 (x2 + 1)]))
noncomputable def u_X35_readAll_86 : jS → Int → Int → Int → Option ((jS × List Int) ⊕ (jS × Bool × Int)) := Classical.choose (⟨du_X35_readAll_86, rfl⟩ : ∃ f, f = du_X35_readAll_86)
theorem eu_X35_readAll_86 : u_X35_readAll_86 = du_X35_readAll_86 := Classical.choose_spec (⟨du_X35_readAll_86, rfl⟩ : ∃ f, f = du_X35_readAll_86)
def b_X35_readAll_7 (s : jS) (x0 x1 x2 : Int) : Option ((jS × List Int) ⊕ (jS × Bool × Int)) :=
  if x2 < 6 then
    if (I_and (I_shr x1 x2) 1) = 0 then
      u_X35_readAll_86 s x0 x1 x2
    else
      (jix 6 x2 ((x0 + (-4000)) + 4041 + 1858 * x2)).bind fun v1 =>
      (m_X13_size s v1).bind fun v2 =>
      if v2 = 0 then
        jinr (u_X35_readAll_36 s x0 x2)
      else
        (jix 6 x2 ((x0 + (-4000)) + 4041 + 1858 * x2)).bind fun v3 =>
        (m_X13_read s v3).bind fun q4 =>
        if q4.2 = 0 then
          (jst q4.1 1000 (x0 + 13) 6 (jf q4.1 39 x0 5) x2).bind fun s5 =>
          jls (jp s5 39 x0 5 (W32 ((jf s5 39 x0 5) + 1))) fun s6 =>
          u_X35_readAll_86 s6 x0 x1 x2
        else
          jinr (u_X35_readAll_58 q4.1 x0 x2 q4.2)
  else
    jinr (some (s, false, 0))
def du_X35_readAll_7 (s : jS) (x0 x1 x2 : Int) : Option (jS × Bool × Int) := jlpW (jc3 b_X35_readAll_7) [x0, x1, x2] s
noncomputable def u_X35_readAll_7 : jS → Int → Int → Int → Option (jS × Bool × Int) := Classical.choose (⟨du_X35_readAll_7, rfl⟩ : ∃ f, f = du_X35_readAll_7)
theorem eu_X35_readAll_7 : u_X35_readAll_7 = du_X35_readAll_7 := Classical.choose_spec (⟨du_X35_readAll_7, rfl⟩ : ∃ f, f = du_X35_readAll_7)
def dm_X35_readAll (s : jS) (x0 x1 : Int) : Option (jS × Bool × Int) :=
  jls (jp s 39 x0 5 0) fun s1 =>
  u_X35_readAll_7 s1 x0 x1 0
noncomputable def m_X35_readAll : jS → Int → Int → Option (jS × Bool × Int) := Classical.choose (⟨dm_X35_readAll, rfl⟩ : ∃ f, f = dm_X35_readAll)
theorem em_X35_readAll : m_X35_readAll = dm_X35_readAll := Classical.choose_spec (⟨dm_X35_readAll, rfl⟩ : ∃ f, f = dm_X35_readAll)
def dm_X44_need (s : jS) (x0 x1 : Int) : Option (jS × Bool × Int) :=
  (m_X44_sees s x0 x1).bind fun q1 =>
  jth q1.2.1 (some (q1.1, true, q1.2.2)) <|
  if q1.2.2 = 0 then
    (m_X44_wrong q1.1 x0 5 (jf q1.1 53 x0 6)).bind fun q2 =>
    jck0 q2.2 (some (q2.1, true, q2.2))
  else
    (m_X44_take q1.1 x0).bind fun q3 =>
    some (q3.1, false, 0)
noncomputable def m_X44_need : jS → Int → Int → Option (jS × Bool × Int) := Classical.choose (⟨dm_X44_need, rfl⟩ : ∃ f, f = dm_X44_need)
theorem em_X44_need : m_X44_need = dm_X44_need := Classical.choose_spec (⟨dm_X44_need, rfl⟩ : ∃ f, f = dm_X44_need)
def du_X44_based_20 (s : jS) (x0 : Int) : Option (jS × Bool × Int) :=
  (m_X44_wrong s x0 5 (jf s 53 x0 6)).bind fun q1 =>
  jck0 q1.2 (some (q1.1, true, q1.2))
noncomputable def u_X44_based_20 : jS → Int → Option (jS × Bool × Int) := Classical.choose (⟨du_X44_based_20, rfl⟩ : ∃ f, f = du_X44_based_20)
theorem eu_X44_based_20 : u_X44_based_20 = du_X44_based_20 := Classical.choose_spec (⟨du_X44_based_20, rfl⟩ : ∃ f, f = du_X44_based_20)
def dm_X44_based (s : jS) (x0 x1 : Int) : Option (jS × Bool × Int) :=
  (m_X44_look s x0).bind fun q1 =>
  jth q1.2.1 (some (q1.1, true, q1.2.2)) <|
  if (jf q1.1 53 x0 5) = 1 then
    if (jf q1.1 53 x0 7) = (-1) then
      u_X44_based_20 q1.1 x0
    else
      (jwr q1.1 63 x1 0 2).bind fun s2 =>
      (jwr s2 63 x1 1 (jf s2 53 x0 7)).bind fun s3 =>
      (m_X44_take s3 x0).bind fun q4 =>
      (m_X44_need q4.1 x0 41).bind fun q5 =>
      jth q5.2.1 (some (q5.1, true, q5.2.2)) <|
      some (q5.1, false, 0)
  else
    u_X44_based_20 q1.1 x0
noncomputable def m_X44_based : jS → Int → Int → Option (jS × Bool × Int) := Classical.choose (⟨dm_X44_based, rfl⟩ : ∃ f, f = dm_X44_based)
theorem em_X44_based : m_X44_based = dm_X44_based := Classical.choose_spec (⟨dm_X44_based, rfl⟩ : ∃ f, f = dm_X44_based)
abbrev GT_sum : Type := (jS → Int → Int → Int → Option (jS × Bool × Int)) × (jS → Int → Int → Int → Int → Option (jS × Bool × Int)) × (jS → Int → Int → Option (jS × Bool × Int)) × (jS → Int → Int → Option (jS × Bool × Int))
def dmR_X44_sum (R : GT_sum) (s : jS) (x0 x1 x2 : Int) : Option (jS × Bool × Int) :=
  (R.2.2.1 s x0 x1).bind fun q1 =>
  jth q1.2.1 (some (q1.1, true, q1.2.2)) <|
  (R.2.1 q1.1 x0 q1.2.2 x1 x2).bind fun q2 =>
  jth q2.2.1 (some (q2.1, true, q2.2.2)) <|
  some (q2.1, false, q2.2.2)
noncomputable def mR_X44_sum : GT_sum → jS → Int → Int → Int → Option (jS × Bool × Int) := Classical.choose (⟨dmR_X44_sum, rfl⟩ : ∃ f, f = dmR_X44_sum)
theorem emR_X44_sum : mR_X44_sum = dmR_X44_sum := Classical.choose_spec (⟨dmR_X44_sum, rfl⟩ : ∃ f, f = dmR_X44_sum)
def du_X44_more_56 (R : GT_sum) (s : jS) (x0 x2 x3 x4 x6 y0 : Int) : Option ((jS × List Int) ⊕ (jS × Bool × Int)) :=
  if y0 = 0 then
    some (.inl (s, [x0, x2, x3, x4, y0]))
  else
    (jrd s 53 x0 6).bind fun v1 =>
    (jct s 69 x0 (m_X44_count s x0 v1)).bind fun q2 =>
    jth q2.2.1 (jinr (some (q2.1, true, q2.2.2))) <|
    (jct q2.1 69 x0 (m_X44_take q2.1 x0)).bind fun q3 =>
    (jnw q3.1 67 3 (jdf 67)).bind fun q4 =>
    (m_X11_bindsOf q4.1 x6).bind fun v5 =>
    (R.1 q4.1 x0 x2 (W32 (v5 + 1))).bind fun q6 =>
    jth q6.2.1 (jinr (some (q6.1, true, q6.2.2))) <|
    (jck0 q4.2 (m_X50_init q6.1 q4.2 x6 x4 q6.2.2)).bind fun q7 =>
    some (.inl (q7.1, [x0, x2, x3, q4.2, y0]))
noncomputable def u_X44_more_56 : GT_sum → jS → Int → Int → Int → Int → Int → Int → Option ((jS × List Int) ⊕ (jS × Bool × Int)) := Classical.choose (⟨du_X44_more_56, rfl⟩ : ∃ f, f = du_X44_more_56)
theorem eu_X44_more_56 : u_X44_more_56 = du_X44_more_56 := Classical.choose_spec (⟨du_X44_more_56, rfl⟩ : ∃ f, f = du_X44_more_56)
def du_X44_more_55 (R : GT_sum) (s : jS) (x0 x2 x3 x4 x6 : Int) : Option ((jS × List Int) ⊕ (jS × Bool × Int)) :=
  u_X44_more_56 R s x0 x2 x3 x4 x6 0
noncomputable def u_X44_more_55 : GT_sum → jS → Int → Int → Int → Int → Int → Option ((jS × List Int) ⊕ (jS × Bool × Int)) := Classical.choose (⟨du_X44_more_55, rfl⟩ : ∃ f, f = du_X44_more_55)
theorem eu_X44_more_55 : u_X44_more_55 = du_X44_more_55 := Classical.choose_spec (⟨du_X44_more_55, rfl⟩ : ∃ f, f = du_X44_more_55)
def du_X44_more_34 (R : GT_sum) (s : jS) (x0 x2 x3 x4 y0 : Int) : Option ((jS × List Int) ⊕ (jS × Bool × Int)) :=
  if y0 = (-1) then
    u_X44_more_55 R s x0 x2 x3 x4 y0
  else
    (m_X11_bindsOf s y0).bind fun v1 =>
    if v1 < x3 then
      u_X44_more_55 R s x0 x2 x3 x4 y0
    else
      u_X44_more_56 R s x0 x2 x3 x4 y0 1
noncomputable def u_X44_more_34 : GT_sum → jS → Int → Int → Int → Int → Int → Option ((jS × List Int) ⊕ (jS × Bool × Int)) := Classical.choose (⟨du_X44_more_34, rfl⟩ : ∃ f, f = du_X44_more_34)
theorem eu_X44_more_34 : u_X44_more_34 = du_X44_more_34 := Classical.choose_spec (⟨du_X44_more_34, rfl⟩ : ∃ f, f = du_X44_more_34)
def b_X44_more_6 (R : GT_sum) (s : jS) (x0 x2 x3 x4 x5 : Int) : Option ((jS × List Int) ⊕ (jS × Bool × Int)) :=
  if x5 = 0 then
    jinr (some (s, false, x4))
  else
    (jct s 69 x0 (m_X44_look s x0)).bind fun q1 =>
    jth q1.2.1 (jinr (some (q1.1, true, q1.2.2))) <|
    (jrd q1.1 53 x0 5).bind fun v2 =>
    if v2 = 5 then
      (jrd q1.1 53 x0 7).bind fun v3 =>
      (m_X11_sortOf q1.1 v3).bind fun v4 =>
      u_X44_more_34 R q1.1 x0 x2 x3 x4 v4
    else
      u_X44_more_34 R q1.1 x0 x2 x3 x4 (-1)
def du_X44_more_6 (R : GT_sum) (s : jS) (x0 x2 x3 x4 x5 : Int) : Option (jS × Bool × Int) := jlpW (jc5 (b_X44_more_6 R)) [x0, x2, x3, x4, x5] s
noncomputable def u_X44_more_6 : GT_sum → jS → Int → Int → Int → Int → Int → Option (jS × Bool × Int) := Classical.choose (⟨du_X44_more_6, rfl⟩ : ∃ f, f = du_X44_more_6)
theorem eu_X44_more_6 : u_X44_more_6 = du_X44_more_6 := Classical.choose_spec (⟨du_X44_more_6, rfl⟩ : ∃ f, f = du_X44_more_6)
def dmR_X44_more (R : GT_sum) (s : jS) (x0 x1 x2 x3 : Int) : Option (jS × Bool × Int) :=
  u_X44_more_6 R s x0 x2 x3 x1 1
noncomputable def mR_X44_more : GT_sum → jS → Int → Int → Int → Int → Option (jS × Bool × Int) := Classical.choose (⟨dmR_X44_more, rfl⟩ : ∃ f, f = dmR_X44_more)
theorem emR_X44_more : mR_X44_more = dmR_X44_more := Classical.choose_spec (⟨dmR_X44_more, rfl⟩ : ∃ f, f = dmR_X44_more)
def du_X44_single_277 (R : GT_sum) (s : jS) (x0 x4 y0 : Int) : Option (jS × Bool × Int) :=
  (jct s 69 x0 (m_X44_take s x0)).bind fun q1 =>
  (jnw q1.1 66 2 (jdf 66)).bind fun q2 =>
  (jck0 q2.2 (m_X49_init q2.1 q2.2 x4 y0)).bind fun q3 =>
  some (q3.1, false, q2.2)
noncomputable def u_X44_single_277 : GT_sum → jS → Int → Int → Int → Option (jS × Bool × Int) := Classical.choose (⟨du_X44_single_277, rfl⟩ : ∃ f, f = du_X44_single_277)
theorem eu_X44_single_277 : u_X44_single_277 = du_X44_single_277 := Classical.choose_spec (⟨du_X44_single_277, rfl⟩ : ∃ f, f = du_X44_single_277)
def du_X44_single_248 (R : GT_sum) (s : jS) (x0 y0 : Int) : Option (jS × Bool × Int) :=
  if y0 = 3 then
    u_X44_single_277 R s x0 y0 0
  else
    if y0 = 1 then
      (jct s 69 x0 (m_X44_named s x0)).bind fun q1 =>
      jth q1.2.1 (some (q1.1, true, q1.2.2)) <|
      u_X44_single_277 R q1.1 x0 y0 q1.2.2
    else
      (jrd s 53 x0 7).bind fun v2 =>
      u_X44_single_277 R s x0 y0 v2
noncomputable def u_X44_single_248 : GT_sum → jS → Int → Int → Option (jS × Bool × Int) := Classical.choose (⟨du_X44_single_248, rfl⟩ : ∃ f, f = du_X44_single_248)
theorem eu_X44_single_248 : u_X44_single_248 = du_X44_single_248 := Classical.choose_spec (⟨du_X44_single_248, rfl⟩ : ∃ f, f = du_X44_single_248)
def du_X44_single_189 (R : GT_sum) (s : jS) (x0 x1 y0 : Int) : Option (jS × Bool × Int) :=
  (jct s 69 x0 (m_X44_take s x0)).bind fun q1 =>
  (jnw q1.1 65 2 (jdf 65)).bind fun q2 =>
  (R.2.2.1 q2.1 x0 (W32 (x1 + 1))).bind fun q3 =>
  jth q3.2.1 (some (q3.1, true, q3.2.2)) <|
  (jck0 q2.2 (m_X48_init q3.1 q2.2 y0 q3.2.2)).bind fun q4 =>
  some (q4.1, false, q2.2)
noncomputable def u_X44_single_189 : GT_sum → jS → Int → Int → Int → Option (jS × Bool × Int) := Classical.choose (⟨du_X44_single_189, rfl⟩ : ∃ f, f = du_X44_single_189)
theorem eu_X44_single_189 : u_X44_single_189 = du_X44_single_189 := Classical.choose_spec (⟨du_X44_single_189, rfl⟩ : ∃ f, f = du_X44_single_189)
def du_X44_single_128 (R : GT_sum) (s : jS) (x0 x1 x2 x3 : Int) : Option (jS × Bool × Int) :=
  if 20 < x1 then
    (jrd s 53 x0 6).bind fun v1 =>
    (jct s 69 x0 (m_X44_wrong s x0 7 v1)).bind fun q2 =>
    jck0 q2.2 (some (q2.1, true, q2.2))
  else
    if x3 = 0 then
      (jrd s 53 x0 6).bind fun v3 =>
      (jct s 69 x0 (m_X44_count s x0 v3)).bind fun q4 =>
      jth q4.2.1 (some (q4.1, true, q4.2.2)) <|
      if x2 = 0 then
        (jrd q4.1 53 x0 5).bind fun v5 =>
        if v5 = 2 then
          u_X44_single_248 R q4.1 x0 0
        else
          (jrd q4.1 53 x0 5).bind fun v6 =>
          if v6 = 3 then
            u_X44_single_248 R q4.1 x0 2
          else
            (jct q4.1 69 x0 (m_X44_isHere q4.1 x0)).bind fun v7 =>
            if v7 = 0 then
              u_X44_single_248 R q4.1 x0 1
            else
              u_X44_single_248 R q4.1 x0 3
      else
        (jrd q4.1 53 x0 7).bind fun v8 =>
        if v8 = 45 then
          u_X44_single_189 R q4.1 x0 x1 10
        else
          u_X44_single_189 R q4.1 x0 x1 11
    else
      (jct s 69 x0 (m_X44_take s x0)).bind fun q9 =>
      (jct q9.1 69 x0 (R.2.2.2 q9.1 x0 (W32 (x1 + 1)))).bind fun q10 =>
      jth q10.2.1 (some (q10.1, true, q10.2.2)) <|
      some (q10.1, false, q10.2.2)
noncomputable def u_X44_single_128 : GT_sum → jS → Int → Int → Int → Int → Option (jS × Bool × Int) := Classical.choose (⟨du_X44_single_128, rfl⟩ : ∃ f, f = du_X44_single_128)
theorem eu_X44_single_128 : u_X44_single_128 = du_X44_single_128 := Classical.choose_spec (⟨du_X44_single_128, rfl⟩ : ∃ f, f = du_X44_single_128)
def du_X44_single_101 (R : GT_sum) (s : jS) (x0 x1 x2 x3 : Int) : Option (jS × Bool × Int) :=
  (jrd s 53 x0 5).bind fun v1 =>
  if v1 = 1 then
    (jrd s 53 x0 7).bind fun v2 =>
    if v2 = (-1) then
      u_X44_single_128 R s x0 x1 x2 x3
    else
      (jrd s 53 x0 6).bind fun v3 =>
      (jct s 69 x0 (m_X44_wrong s x0 6 v3)).bind fun q4 =>
      jck0 q4.2 (some (q4.1, true, q4.2))
  else
    u_X44_single_128 R s x0 x1 x2 x3
noncomputable def u_X44_single_101 : GT_sum → jS → Int → Int → Int → Int → Option (jS × Bool × Int) := Classical.choose (⟨du_X44_single_101, rfl⟩ : ∃ f, f = du_X44_single_101)
theorem eu_X44_single_101 : u_X44_single_101 = du_X44_single_101 := Classical.choose_spec (⟨du_X44_single_101, rfl⟩ : ∃ f, f = du_X44_single_101)
def du_X44_single_58 (R : GT_sum) (s : jS) (x0 x1 x2 y0 : Int) : Option (jS × Bool × Int) :=
  if x2 = 0 then
    if y0 = 0 then
      (jrd s 53 x0 5).bind fun v1 =>
      if v1 = 1 then
        u_X44_single_101 R s x0 x1 x2 y0
      else
        (jrd s 53 x0 5).bind fun v2 =>
        if v2 = 2 then
          u_X44_single_101 R s x0 x1 x2 y0
        else
          (jrd s 53 x0 5).bind fun v3 =>
          if v3 = 3 then
            u_X44_single_101 R s x0 x1 x2 y0
          else
            (jrd s 53 x0 6).bind fun v4 =>
            (jct s 69 x0 (m_X44_wrong s x0 5 v4)).bind fun q5 =>
            jck0 q5.2 (some (q5.1, true, q5.2))
    else
      u_X44_single_101 R s x0 x1 x2 y0
  else
    u_X44_single_101 R s x0 x1 x2 y0
noncomputable def u_X44_single_58 : GT_sum → jS → Int → Int → Int → Int → Option (jS × Bool × Int) := Classical.choose (⟨du_X44_single_58, rfl⟩ : ∃ f, f = du_X44_single_58)
theorem eu_X44_single_58 : u_X44_single_58 = du_X44_single_58 := Classical.choose_spec (⟨du_X44_single_58, rfl⟩ : ∃ f, f = du_X44_single_58)
def du_X44_single_57 (R : GT_sum) (s : jS) (x0 x1 x2 : Int) : Option (jS × Bool × Int) :=
  u_X44_single_58 R s x0 x1 x2 0
noncomputable def u_X44_single_57 : GT_sum → jS → Int → Int → Int → Option (jS × Bool × Int) := Classical.choose (⟨du_X44_single_57, rfl⟩ : ∃ f, f = du_X44_single_57)
theorem eu_X44_single_57 : u_X44_single_57 = du_X44_single_57 := Classical.choose_spec (⟨du_X44_single_57, rfl⟩ : ∃ f, f = du_X44_single_57)
def du_X44_single_35 (R : GT_sum) (s : jS) (x0 x1 y0 : Int) : Option (jS × Bool × Int) :=
  (jrd s 53 x0 5).bind fun v1 =>
  if v1 = 5 then
    (jrd s 53 x0 7).bind fun v2 =>
    if v2 = 40 then
      u_X44_single_58 R s x0 x1 y0 1
    else
      u_X44_single_57 R s x0 x1 y0
  else
    u_X44_single_57 R s x0 x1 y0
noncomputable def u_X44_single_35 : GT_sum → jS → Int → Int → Int → Option (jS × Bool × Int) := Classical.choose (⟨du_X44_single_35, rfl⟩ : ∃ f, f = du_X44_single_35)
theorem eu_X44_single_35 : u_X44_single_35 = du_X44_single_35 := Classical.choose_spec (⟨du_X44_single_35, rfl⟩ : ∃ f, f = du_X44_single_35)
def du_X44_single_34 (R : GT_sum) (s : jS) (x0 x1 : Int) : Option (jS × Bool × Int) :=
  u_X44_single_35 R s x0 x1 0
noncomputable def u_X44_single_34 : GT_sum → jS → Int → Int → Option (jS × Bool × Int) := Classical.choose (⟨du_X44_single_34, rfl⟩ : ∃ f, f = du_X44_single_34)
theorem eu_X44_single_34 : u_X44_single_34 = du_X44_single_34 := Classical.choose_spec (⟨du_X44_single_34, rfl⟩ : ∃ f, f = du_X44_single_34)
def du_X44_single_30 (R : GT_sum) (s : jS) (x0 x1 : Int) : Option (jS × Bool × Int) :=
  u_X44_single_35 R s x0 x1 1
noncomputable def u_X44_single_30 : GT_sum → jS → Int → Int → Option (jS × Bool × Int) := Classical.choose (⟨du_X44_single_30, rfl⟩ : ∃ f, f = du_X44_single_30)
theorem eu_X44_single_30 : u_X44_single_30 = du_X44_single_30 := Classical.choose_spec (⟨du_X44_single_30, rfl⟩ : ∃ f, f = du_X44_single_30)
def dmR_X44_single (R : GT_sum) (s : jS) (x0 x1 : Int) : Option (jS × Bool × Int) :=
  (jct s 69 x0 (m_X44_look s x0)).bind fun q1 =>
  jth q1.2.1 (some (q1.1, true, q1.2.2)) <|
  (jrd q1.1 53 x0 5).bind fun v2 =>
  if v2 = 5 then
    (jrd q1.1 53 x0 7).bind fun v3 =>
    if v3 = 45 then
      u_X44_single_30 R q1.1 x0 x1
    else
      (jrd q1.1 53 x0 7).bind fun v4 =>
      if v4 = 126 then
        u_X44_single_30 R q1.1 x0 x1
      else
        u_X44_single_34 R q1.1 x0 x1
  else
    u_X44_single_34 R q1.1 x0 x1
noncomputable def mR_X44_single : GT_sum → jS → Int → Int → Option (jS × Bool × Int) := Classical.choose (⟨dmR_X44_single, rfl⟩ : ∃ f, f = dmR_X44_single)
theorem emR_X44_single : mR_X44_single = dmR_X44_single := Classical.choose_spec (⟨dmR_X44_single, rfl⟩ : ∃ f, f = dmR_X44_single)
def dmR_X44_inBrackets (R : GT_sum) (s : jS) (x0 x1 : Int) : Option (jS × Bool × Int) :=
  (R.1 s x0 x1 1).bind fun q1 =>
  jth q1.2.1 (some (q1.1, true, q1.2.2)) <|
  (m_X44_need q1.1 x0 41).bind fun q2 =>
  jth q2.2.1 (some (q2.1, true, q2.2.2)) <|
  some (q2.1, false, q1.2.2)
noncomputable def mR_X44_inBrackets : GT_sum → jS → Int → Int → Option (jS × Bool × Int) := Classical.choose (⟨dmR_X44_inBrackets, rfl⟩ : ∃ f, f = dmR_X44_inBrackets)
theorem emR_X44_inBrackets : mR_X44_inBrackets = dmR_X44_inBrackets := Classical.choose_spec (⟨dmR_X44_inBrackets, rfl⟩ : ∃ f, f = dmR_X44_inBrackets)
noncomputable def gr_sum : Nat → GT_sum
  | 0 => (fun _ _ _ _ => none, fun _ _ _ _ _ => none, fun _ _ _ => none, fun _ _ _ => none)
  | n + 1 => (mR_X44_sum (gr_sum n), mR_X44_more (gr_sum n), mR_X44_single (gr_sum n), mR_X44_inBrackets (gr_sum n))
noncomputable def m_X44_sum : (jS → Int → Int → Int → Option (jS × Bool × Int)) := Classical.choose (⟨(gr_sum 450).1, rfl⟩ : ∃ f, f = (gr_sum 450).1)
theorem em_X44_sum : m_X44_sum = (gr_sum 450).1 := Classical.choose_spec (⟨(gr_sum 450).1, rfl⟩ : ∃ f, f = (gr_sum 450).1)
noncomputable def m_X44_more : (jS → Int → Int → Int → Int → Option (jS × Bool × Int)) := Classical.choose (⟨(gr_sum 450).2.1, rfl⟩ : ∃ f, f = (gr_sum 450).2.1)
theorem em_X44_more : m_X44_more = (gr_sum 450).2.1 := Classical.choose_spec (⟨(gr_sum 450).2.1, rfl⟩ : ∃ f, f = (gr_sum 450).2.1)
noncomputable def m_X44_single : (jS → Int → Int → Option (jS × Bool × Int)) := Classical.choose (⟨(gr_sum 450).2.2.1, rfl⟩ : ∃ f, f = (gr_sum 450).2.2.1)
theorem em_X44_single : m_X44_single = (gr_sum 450).2.2.1 := Classical.choose_spec (⟨(gr_sum 450).2.2.1, rfl⟩ : ∃ f, f = (gr_sum 450).2.2.1)
noncomputable def m_X44_inBrackets : (jS → Int → Int → Option (jS × Bool × Int)) := Classical.choose (⟨(gr_sum 450).2.2.2, rfl⟩ : ∃ f, f = (gr_sum 450).2.2.2)
theorem em_X44_inBrackets : m_X44_inBrackets = (gr_sum 450).2.2.2 := Classical.choose_spec (⟨(gr_sum 450).2.2.2, rfl⟩ : ∃ f, f = (gr_sum 450).2.2.2)
def du_X1_tell_68 (s : jS) (x0 x1 x2 : Int) : Option (jS × Bool × Int) :=
  (m_X2_tell s (x0 + 1) x2 x1).bind fun q1 =>
  jth q1.2.1 (some (q1.1, true, q1.2.2)) <|
  some (q1.1, false, q1.2.2)
noncomputable def u_X1_tell_68 : jS → Int → Int → Int → Option (jS × Bool × Int) := Classical.choose (⟨du_X1_tell_68, rfl⟩ : ∃ f, f = du_X1_tell_68)
theorem eu_X1_tell_68 : u_X1_tell_68 = du_X1_tell_68 := Classical.choose_spec (⟨du_X1_tell_68, rfl⟩ : ∃ f, f = du_X1_tell_68)
def dm_X1_tell (s : jS) (x0 x1 : Int) : Option (jS × Bool × Int) :=
  (jdv 2 (I_rem x1 2)).bind fun v1 =>
  if v1 = 0 then
    (m_X29_peek s (x0 + 4029) x1).bind fun v2 =>
    if v2 = (-1) then
      some (s, false, (-1))
    else
      (m_X1_byteOrNothing s x0 x1).bind fun v3 =>
      (m_X1_byteOrNothing s x0 (W32 (x1 + 1))).bind fun v4 =>
      jlet (I_or v3 (I_shl v4 8)) fun v5 =>
      if (I_and v5 3) = 3 then
        (m_X1_byteOrNothing s x0 (W32 (x1 + 2))).bind fun v6 =>
        (m_X1_byteOrNothing s x0 (W32 (x1 + 3))).bind fun v7 =>
        jlet (I_or v5 (I_or (I_shl v6 16) (I_shl v7 24))) fun v8 =>
        u_X1_tell_68 s x0 x1 v8
      else
        u_X1_tell_68 s x0 x1 v5
  else
    some (s, false, (-1))
noncomputable def m_X1_tell : jS → Int → Int → Option (jS × Bool × Int) := Classical.choose (⟨dm_X1_tell, rfl⟩ : ∃ f, f = dm_X1_tell)
theorem em_X1_tell : m_X1_tell = dm_X1_tell := Classical.choose_spec (⟨dm_X1_tell, rfl⟩ : ∃ f, f = dm_X1_tell)
def dm_X1_check (s : jS) (x0 x1 : Int) : Option (jS × Bool × Int) :=
  (m_X1_there s x1).bind fun q1 =>
  jth q1.2.1 (some (q1.1, true, q1.2.2)) <|
  (jix 6 x1 ((x0 + 275) + 4041 + 1858 * x1)).bind fun v2 =>
  (m_X1_copy q1.1 v2 (x0 + 2134)).bind fun q3 =>
  (m_X13_read q3.1 (x0 + 2134)).bind fun q4 =>
  some (q4.1, false, q4.2)
noncomputable def m_X1_check : jS → Int → Int → Option (jS × Bool × Int) := Classical.choose (⟨dm_X1_check, rfl⟩ : ∃ f, f = dm_X1_check)
theorem em_X1_check : m_X1_check = dm_X1_check := Classical.choose_spec (⟨dm_X1_check, rfl⟩ : ∃ f, f = dm_X1_check)
def du_X35_link_98 (s : jS) (x0 x3 x4 : Int) : Option (jS × Bool × Int) :=
  (m_X35_copy s x0).bind fun q1 =>
  (m_X35_relocateAll q1.1 x0).bind fun q2 =>
  jth q2.2.1 (some (q2.1, true, q2.2.2)) <|
  (m_X35_draw q2.1 x0 x3).bind fun q3 =>
  jth q3.2.1 (some (q3.1, true, q3.2.2)) <|
  jls (jp q3.1 39 x0 46 x4) fun s4 =>
  (m_X36_saved s4 (x0 + 1)).bind fun v5 =>
  jls (jp s4 39 x0 47 v5) fun s6 =>
  (m_X35_keep s6 x0).bind fun q7 =>
  some (q7.1, false, 0)
noncomputable def u_X35_link_98 : jS → Int → Int → Int → Option (jS × Bool × Int) := Classical.choose (⟨du_X35_link_98, rfl⟩ : ∃ f, f = du_X35_link_98)
theorem eu_X35_link_98 : u_X35_link_98 = du_X35_link_98 := Classical.choose_spec (⟨du_X35_link_98, rfl⟩ : ∃ f, f = du_X35_link_98)
def du_X35_link_92 (s : jS) (x0 x3 x4 x5 : Int) : Option ((jS × List Int) ⊕ (jS × Bool × Int)) :=
  some (.inl (s, [x0, x3, x4, W32 (x5 + 1)]))
noncomputable def u_X35_link_92 : jS → Int → Int → Int → Int → Option ((jS × List Int) ⊕ (jS × Bool × Int)) := Classical.choose (⟨du_X35_link_92, rfl⟩ : ∃ f, f = du_X35_link_92)
theorem eu_X35_link_92 : u_X35_link_92 = du_X35_link_92 := Classical.choose_spec (⟨du_X35_link_92, rfl⟩ : ∃ f, f = du_X35_link_92)
def b_X35_link_67 (s : jS) (x0 x3 x4 x5 x6 : Int) : Option ((jS × List Int) ⊕ ((jS × List Int) ⊕ (jS × Bool × Int))) :=
  if x6 < 4096 then
    (jix 3 x5 ((x0 + 33) + 1 + 1 * x5)).bind fun v1 =>
    (jst s 1001 v1 4096 x6 (W8 0)).bind fun s2 =>
    some (.inl (s2, [x0, x3, x4, x5, W32 (x6 + 1)]))
  else
    jinr (u_X35_link_92 s x0 x3 x4 x5)
def du_X35_link_67 (s : jS) (x0 x3 x4 x5 x6 : Int) : Option ((jS × List Int) ⊕ (jS × Bool × Int)) := jlpW (jc5 b_X35_link_67) [x0, x3, x4, x5, x6] s
noncomputable def u_X35_link_67 : jS → Int → Int → Int → Int → Int → Option ((jS × List Int) ⊕ (jS × Bool × Int)) := Classical.choose (⟨du_X35_link_67, rfl⟩ : ∃ f, f = du_X35_link_67)
theorem eu_X35_link_67 : u_X35_link_67 = du_X35_link_67 := Classical.choose_spec (⟨du_X35_link_67, rfl⟩ : ∃ f, f = du_X35_link_67)
def b_X35_link_58 (s : jS) (x0 x3 x4 x5 : Int) : Option ((jS × List Int) ⊕ (jS × Bool × Int)) :=
  if x5 < 3 then
    u_X35_link_67 s x0 x3 x4 x5 0
  else
    jinr (u_X35_link_98 s x0 x3 x4)
def du_X35_link_58 (s : jS) (x0 x3 x4 x5 : Int) : Option (jS × Bool × Int) := jlpW (jc4 b_X35_link_58) [x0, x3, x4, x5] s
noncomputable def u_X35_link_58 : jS → Int → Int → Int → Int → Option (jS × Bool × Int) := Classical.choose (⟨du_X35_link_58, rfl⟩ : ∃ f, f = du_X35_link_58)
theorem eu_X35_link_58 : u_X35_link_58 = du_X35_link_58 := Classical.choose_spec (⟨du_X35_link_58, rfl⟩ : ∃ f, f = du_X35_link_58)
def du_X35_link_45 (s : jS) (x0 x3 y0 : Int) : Option (jS × Bool × Int) :=
  (m_X35_lacking s x0).bind fun q1 =>
  jth q1.2.1 (some (q1.1, true, q1.2.2)) <|
  (m_X35_sized q1.1 x0).bind fun q2 =>
  jth q2.2.1 (some (q2.1, true, q2.2.2)) <|
  u_X35_link_58 q2.1 x0 x3 y0 0
noncomputable def u_X35_link_45 : jS → Int → Int → Int → Option (jS × Bool × Int) := Classical.choose (⟨du_X35_link_45, rfl⟩ : ∃ f, f = du_X35_link_45)
theorem eu_X35_link_45 : u_X35_link_45 = du_X35_link_45 := Classical.choose_spec (⟨du_X35_link_45, rfl⟩ : ∃ f, f = du_X35_link_45)
def dm_X35_link (s : jS) (x0 x1 x2 : Int) : Option (jS × Bool × Int) :=
  (jzb x2).bind fun v1 =>
  jls (jp s 39 x0 33 v1) fun s2 =>
  (m_X35_readAll s2 x0 x1).bind fun q3 =>
  jth q3.2.1 (some (q3.1, true, q3.2.2)) <|
  (m_X35_nameAll q3.1 x0).bind fun q4 =>
  jth q4.2.1 (some (q4.1, true, q4.2.2)) <|
  (m_X35_meanRest q4.1 x0).bind fun q5 =>
  jth q5.2.1 (some (q5.1, true, q5.2.2)) <|
  (m_X35_entryGlobal q5.1 x0).bind fun q6 =>
  jth q6.2.1 (some (q6.1, true, q6.2.2)) <|
  (m_X35_layOut q6.1 x0).bind fun q7 =>
  jth q7.2.1 (some (q7.1, true, q7.2.2)) <|
  if (jf q7.1 39 x0 33) = 0 then
    u_X35_link_45 q7.1 x0 q6.2.2 0
  else
    (m_X36_settle q7.1 (x0 + 1)).bind fun q8 =>
    u_X35_link_45 q8.1 x0 q6.2.2 q8.2
noncomputable def m_X35_link : jS → Int → Int → Int → Option (jS × Bool × Int) := Classical.choose (⟨dm_X35_link, rfl⟩ : ∃ f, f = dm_X35_link)
theorem em_X35_link : m_X35_link = dm_X35_link := Classical.choose_spec (⟨dm_X35_link, rfl⟩ : ∃ f, f = dm_X35_link)
def dm_X44_marked (s : jS) (x0 x1 : Int) : Option (jS × Bool × Int) :=
  (m_X44_look s x0).bind fun q1 =>
  jth q1.2.1 (some (q1.1, true, q1.2.2)) <|
  if (jf q1.1 53 x0 5) = 1 then
    (m_X11_markOf q1.1 (jf q1.1 53 x0 9)).bind fun v2 =>
    (jwr q1.1 63 x1 2 v2).bind fun s3 =>
    (jrd s3 63 x1 2).bind fun v4 =>
    if v4 = 0 then
      (m_X44_wrong s3 x0 6 (jf s3 53 x0 6)).bind fun q5 =>
      jck0 q5.2 (some (q5.1, true, q5.2))
    else
      (m_X44_take s3 x0).bind fun q6 =>
      (m_X44_need q6.1 x0 40).bind fun q7 =>
      jth q7.2.1 (some (q7.1, true, q7.2.2)) <|
      (m_X44_sum q7.1 x0 1 1).bind fun q8 =>
      jth q8.2.1 (some (q8.1, true, q8.2.2)) <|
      (jwr q8.1 63 x1 6 q8.2.2).bind fun s9 =>
      (m_X44_need s9 x0 41).bind fun q10 =>
      jth q10.2.1 (some (q10.1, true, q10.2.2)) <|
      some (q10.1, false, 0)
  else
    (m_X44_wrong q1.1 x0 5 (jf q1.1 53 x0 6)).bind fun q11 =>
    jck0 q11.2 (some (q11.1, true, q11.2))
noncomputable def m_X44_marked : jS → Int → Int → Option (jS × Bool × Int) := Classical.choose (⟨dm_X44_marked, rfl⟩ : ∃ f, f = dm_X44_marked)
theorem em_X44_marked : m_X44_marked = dm_X44_marked := Classical.choose_spec (⟨dm_X44_marked, rfl⟩ : ∃ f, f = dm_X44_marked)
def dm_X44_behindBracket (s : jS) (x0 : Int) : Option (jS × Bool × Int) :=
  (m_X44_inBrackets s x0 2).bind fun q1 =>
  jth q1.2.1 (some (q1.1, true, q1.2.2)) <|
  (m_X44_more q1.1 x0 q1.2.2 1 1).bind fun q2 =>
  jth q2.2.1 (some (q2.1, true, q2.2.2)) <|
  some (q2.1, false, q2.2.2)
noncomputable def m_X44_behindBracket : jS → Int → Option (jS × Bool × Int) := Classical.choose (⟨dm_X44_behindBracket, rfl⟩ : ∃ f, f = dm_X44_behindBracket)
theorem em_X44_behindBracket : m_X44_behindBracket = dm_X44_behindBracket := Classical.choose_spec (⟨dm_X44_behindBracket, rfl⟩ : ∃ f, f = dm_X44_behindBracket)
def du_X1_link_11 (s : jS) : Option (jS × Bool × Int) :=
  (jnx s 2054).bind fun q1 =>
  jck0 q1.2 (some (q1.1, true, q1.2))
noncomputable def u_X1_link_11 : jS → Option (jS × Bool × Int) := Classical.choose (⟨du_X1_link_11, rfl⟩ : ∃ f, f = du_X1_link_11)
theorem eu_X1_link_11 : u_X1_link_11 = du_X1_link_11 := Classical.choose_spec (⟨du_X1_link_11, rfl⟩ : ∃ f, f = du_X1_link_11)
def dm_X1_link (s : jS) (x0 x1 x2 : Int) : Option (jS × Bool × Int) :=
  if x1 < 1 then
    u_X1_link_11 s 
  else
    if x1 < 64 then
      (m_X35_link s (x0 + 4275) x1 x2).bind fun q1 =>
      jth q1.2.1 (some (q1.1, true, q1.2.2)) <|
      jls (jp q1.1 39 (x0 + 4275) 6 0) fun s2 =>
      jls (jp s2 39 (x0 + 4275) 7 (-1)) fun s3 =>
      jls (jp s3 39 (x0 + 4275) 8 (-1)) fun s4 =>
      (m_X22_size s4 (x0 + 3992)).bind fun v5 =>
      some (s4, false, v5)
    else
      u_X1_link_11 s 
noncomputable def m_X1_link : jS → Int → Int → Int → Option (jS × Bool × Int) := Classical.choose (⟨dm_X1_link, rfl⟩ : ∃ f, f = dm_X1_link)
theorem em_X1_link : m_X1_link = dm_X1_link := Classical.choose_spec (⟨dm_X1_link, rfl⟩ : ∃ f, f = dm_X1_link)
def dmp_X47_lay_2 (s : jS) (x0 x1 : Int) : Option (jS × Int) := if 0 ≤ x0 ∧ jK s x0 = 66 then jct s 82 x0 (m_X49_lay s x0 x1) else if 0 ≤ x0 ∧ jK s x0 = 65 then jct s 81 x0 (m_X48_lay s x0 x1) else if 0 ≤ x0 ∧ jK s x0 = 67 then jct s 83 x0 (m_X50_lay s x0 x1) else none
noncomputable def mp_X47_lay_2 : jS → Int → Int → Option (jS × Int) := Classical.choose (⟨dmp_X47_lay_2, rfl⟩ : ∃ f, f = dmp_X47_lay_2)
theorem emp_X47_lay_2 : mp_X47_lay_2 = dmp_X47_lay_2 := Classical.choose_spec (⟨dmp_X47_lay_2, rfl⟩ : ∃ f, f = dmp_X47_lay_2)
def du_X44_valued_139 (s : jS) (x0 x1 : Int) : Option (jS × Bool × Int) :=
  (jrd s 63 x1 6).bind fun v1 =>
  (mp_X47_lay_2 s v1 (jf s 53 x0 10)).bind fun q2 =>
  (jrd q2.1 16 (jf q2.1 53 x0 10) 7).bind fun v3 =>
  (jrd q2.1 63 x1 3).bind fun v4 =>
  (jwr q2.1 63 x1 4 (W32 (v3 - v4))).bind fun s5 =>
  some (s5, false, 0)
noncomputable def u_X44_valued_139 : jS → Int → Int → Option (jS × Bool × Int) := Classical.choose (⟨du_X44_valued_139, rfl⟩ : ∃ f, f = du_X44_valued_139)
theorem eu_X44_valued_139 : u_X44_valued_139 = du_X44_valued_139 := Classical.choose_spec (⟨du_X44_valued_139, rfl⟩ : ∃ f, f = du_X44_valued_139)
def du_X44_valued_114 (s : jS) (x0 x1 : Int) : Option (jS × Bool × Int) :=
  (jrd s 63 x1 0).bind fun v1 =>
  if v1 = 0 then
    (m_X44_sees s x0 40).bind fun q2 =>
    jth q2.2.1 (some (q2.1, true, q2.2.2)) <|
    if q2.2.2 = 0 then
      u_X44_valued_139 q2.1 x0 x1
    else
      (m_X44_take q2.1 x0).bind fun q3 =>
      (m_X44_based q3.1 x0 x1).bind fun q4 =>
      jth q4.2.1 (some (q4.1, true, q4.2.2)) <|
      u_X44_valued_139 q4.1 x0 x1
  else
    u_X44_valued_139 s x0 x1
noncomputable def u_X44_valued_114 : jS → Int → Int → Option (jS × Bool × Int) := Classical.choose (⟨du_X44_valued_114, rfl⟩ : ∃ f, f = du_X44_valued_114)
theorem eu_X44_valued_114 : u_X44_valued_114 = du_X44_valued_114 := Classical.choose_spec (⟨du_X44_valued_114, rfl⟩ : ∃ f, f = du_X44_valued_114)
def du_X44_valued_101 (s : jS) (x0 x1 : Int) : Option (jS × Bool × Int) :=
  u_X44_valued_114 s x0 x1
noncomputable def u_X44_valued_101 : jS → Int → Int → Option (jS × Bool × Int) := Classical.choose (⟨du_X44_valued_101, rfl⟩ : ∃ f, f = du_X44_valued_101)
theorem eu_X44_valued_101 : u_X44_valued_101 = du_X44_valued_101 := Classical.choose_spec (⟨du_X44_valued_101, rfl⟩ : ∃ f, f = du_X44_valued_101)
def du_X44_valued_93 (s : jS) (x0 x1 : Int) : Option (jS × Bool × Int) :=
  (m_X44_behindBracket s x0).bind fun q1 =>
  jth q1.2.1 (some (q1.1, true, q1.2.2)) <|
  (jwr q1.1 63 x1 6 q1.2.2).bind fun s2 =>
  u_X44_valued_101 s2 x0 x1
noncomputable def u_X44_valued_93 : jS → Int → Int → Option (jS × Bool × Int) := Classical.choose (⟨du_X44_valued_93, rfl⟩ : ∃ f, f = du_X44_valued_93)
theorem eu_X44_valued_93 : u_X44_valued_93 = du_X44_valued_93 := Classical.choose_spec (⟨du_X44_valued_93, rfl⟩ : ∃ f, f = du_X44_valued_93)
def dm_X44_valued (s : jS) (x0 x1 : Int) : Option (jS × Bool × Int) :=
  jls (jp s 53 x0 15 (jf s 53 x0 14)) fun s1 =>
  (m_X44_sees s1 x0 37).bind fun q2 =>
  jth q2.2.1 (some (q2.1, true, q2.2.2)) <|
  if q2.2.2 = 0 then
    (m_X44_sees q2.1 x0 40).bind fun q3 =>
    jth q3.2.1 (some (q3.1, true, q3.2.2)) <|
    if q3.2.2 = 0 then
      (m_X44_sum q3.1 x0 1 1).bind fun q4 =>
      jth q4.2.1 (some (q4.1, true, q4.2.2)) <|
      (jwr q4.1 63 x1 6 q4.2.2).bind fun s5 =>
      u_X44_valued_114 s5 x0 x1
    else
      (m_X44_take q3.1 x0).bind fun q6 =>
      (m_X44_look q6.1 x0).bind fun q7 =>
      jth q7.2.1 (some (q7.1, true, q7.2.2)) <|
      if (jf q7.1 53 x0 5) = 1 then
        if (jf q7.1 53 x0 7) = (-1) then
          u_X44_valued_93 q7.1 x0 x1
        else
          (m_X44_count q7.1 x0 (jf q3.1 53 x0 6)).bind fun q8 =>
          jth q8.2.1 (some (q8.1, true, q8.2.2)) <|
          (jnw q8.1 66 2 (jdf 66)).bind fun q9 =>
          (jck0 q9.2 (m_X49_init q9.1 q9.2 0 0)).bind fun q10 =>
          (jwr q10.1 63 x1 6 q9.2).bind fun s11 =>
          (m_X44_based s11 x0 x1).bind fun q12 =>
          jth q12.2.1 (some (q12.1, true, q12.2.2)) <|
          u_X44_valued_101 q12.1 x0 x1
      else
        u_X44_valued_93 q7.1 x0 x1
  else
    (m_X44_take q2.1 x0).bind fun q13 =>
    (m_X44_marked q13.1 x0 x1).bind fun q14 =>
    jth q14.2.1 (some (q14.1, true, q14.2.2)) <|
    u_X44_valued_114 q14.1 x0 x1
noncomputable def m_X44_valued : jS → Int → Int → Option (jS × Bool × Int) := Classical.choose (⟨dm_X44_valued, rfl⟩ : ∃ f, f = dm_X44_valued)
theorem em_X44_valued : m_X44_valued = dm_X44_valued := Classical.choose_spec (⟨dm_X44_valued, rfl⟩ : ∃ f, f = dm_X44_valued)
def du_X44_operand_141 (s : jS) (x0 x1 x2 : Int) : Option (jS × Bool × Int) :=
  (jrd s 16 (jf s 53 x0 10) 1).bind fun v1 =>
  (jrd s 16 (jf s 53 x0 10) 6).bind fun v2 =>
  (jas s 1024 63 v1 v2 x2).bind fun s3 =>
  (jrd s3 16 (jf s3 53 x0 10) 6).bind fun v4 =>
  (jwr s3 16 (jf s3 53 x0 10) 6 (W32 (v4 + 1))).bind fun s5 =>
  (jrd s5 62 x1 3).bind fun v6 =>
  (jwr s5 62 x1 3 (W32 (v6 + 1))).bind fun s7 =>
  some (s7, false, 0)
noncomputable def u_X44_operand_141 : jS → Int → Int → Int → Option (jS × Bool × Int) := Classical.choose (⟨du_X44_operand_141, rfl⟩ : ∃ f, f = du_X44_operand_141)
theorem eu_X44_operand_141 : u_X44_operand_141 = du_X44_operand_141 := Classical.choose_spec (⟨du_X44_operand_141, rfl⟩ : ∃ f, f = du_X44_operand_141)
def du_X44_operand_136 (s : jS) (x0 x1 x2 : Int) : Option (jS × Bool × Int) :=
  (m_X44_valued s x0 x2).bind fun q1 =>
  jth q1.2.1 (some (q1.1, true, q1.2.2)) <|
  u_X44_operand_141 q1.1 x0 x1 x2
noncomputable def u_X44_operand_136 : jS → Int → Int → Int → Option (jS × Bool × Int) := Classical.choose (⟨du_X44_operand_136, rfl⟩ : ∃ f, f = du_X44_operand_136)
theorem eu_X44_operand_136 : u_X44_operand_136 = du_X44_operand_136 := Classical.choose_spec (⟨du_X44_operand_136, rfl⟩ : ∃ f, f = du_X44_operand_136)
def dm_X44_operand (s : jS) (x0 x1 : Int) : Option (jS × Bool × Int) :=
  (m_X44_look s x0).bind fun q1 =>
  jth q1.2.1 (some (q1.1, true, q1.2.2)) <|
  (m_X44_isFirst q1.1 x0).bind fun v2 =>
  if v2 = 0 then
    (m_X44_wrong q1.1 x0 5 (jf q1.1 53 x0 6)).bind fun q3 =>
    jck0 q3.2 (some (q3.1, true, q3.2))
  else
    (jrd q1.1 16 (jf q1.1 53 x0 10) 6).bind fun v4 =>
    if v4 = 800 then
      (m_X44_wrong q1.1 x0 8 (jf q1.1 53 x0 6)).bind fun q5 =>
      jck0 q5.2 (some (q5.1, true, q5.2))
    else
      (jnw q1.1 63 8 (jdf 63)).bind fun q6 =>
      (jck0 q6.2 (m_X46_init q6.1 q6.2)).bind fun q7 =>
      jls (jp q7.1 63 q6.2 5 (jf q7.1 53 x0 6)) fun s8 =>
      (jrd s8 16 (jf s8 53 x0 10) 7).bind fun v9 =>
      jls (jp s8 63 q6.2 3 v9) fun s10 =>
      if (jf s10 53 x0 5) = 4 then
        jls (jp s10 63 q6.2 0 3) fun s11 =>
        jls (jp s11 63 q6.2 7 (jf s11 53 x0 9)) fun s12 =>
        (m_X44_take s12 x0).bind fun q13 =>
        u_X44_operand_141 q13.1 x0 x1 q6.2
      else
        if (jf s10 53 x0 5) = 1 then
          if (jf s10 53 x0 7) = (-1) then
            u_X44_operand_136 s10 x0 x1 q6.2
          else
            jls (jp s10 63 q6.2 0 1) fun s14 =>
            jls (jp s14 63 q6.2 1 (jf s14 53 x0 7)) fun s15 =>
            (m_X44_take s15 x0).bind fun q16 =>
            u_X44_operand_141 q16.1 x0 x1 q6.2
        else
          u_X44_operand_136 s10 x0 x1 q6.2
noncomputable def m_X44_operand : jS → Int → Int → Option (jS × Bool × Int) := Classical.choose (⟨dm_X44_operand, rfl⟩ : ∃ f, f = dm_X44_operand)
theorem em_X44_operand : m_X44_operand = dm_X44_operand := Classical.choose_spec (⟨dm_X44_operand, rfl⟩ : ∃ f, f = dm_X44_operand)
def du_X44_operands_38 (s : jS) (x0 : Int) : Option (jS × Bool × Int) :=
  if (jf s 53 x0 5) = 0 then
    some (s, false, 0)
  else
    (m_X44_wrong s x0 5 (jf s 53 x0 6)).bind fun q1 =>
    jck0 q1.2 (some (q1.1, true, q1.2))
noncomputable def u_X44_operands_38 : jS → Int → Option (jS × Bool × Int) := Classical.choose (⟨du_X44_operands_38, rfl⟩ : ∃ f, f = du_X44_operands_38)
theorem eu_X44_operands_38 : u_X44_operands_38 = du_X44_operands_38 := Classical.choose_spec (⟨du_X44_operands_38, rfl⟩ : ∃ f, f = du_X44_operands_38)
def b_X44_operands_17 (s : jS) (x0 x1 : Int) : Option ((jS × List Int) ⊕ (jS × Bool × Int)) :=
  (m_X44_sees s x0 44).bind fun q1 =>
  jth q1.2.1 (jinr (some (q1.1, true, q1.2.2))) <|
  if q1.2.2 = 0 then
    jinr (u_X44_operands_38 q1.1 x0)
  else
    (m_X44_take q1.1 x0).bind fun q2 =>
    (m_X44_operand q2.1 x0 x1).bind fun q3 =>
    jth q3.2.1 (jinr (some (q3.1, true, q3.2.2))) <|
    some (.inl (q3.1, [x0, x1]))
def du_X44_operands_17 (s : jS) (x0 x1 : Int) : Option (jS × Bool × Int) := jlpW (jc2 b_X44_operands_17) [x0, x1] s
noncomputable def u_X44_operands_17 : jS → Int → Int → Option (jS × Bool × Int) := Classical.choose (⟨du_X44_operands_17, rfl⟩ : ∃ f, f = du_X44_operands_17)
theorem eu_X44_operands_17 : u_X44_operands_17 = du_X44_operands_17 := Classical.choose_spec (⟨du_X44_operands_17, rfl⟩ : ∃ f, f = du_X44_operands_17)
def dm_X44_operands (s : jS) (x0 x1 : Int) : Option (jS × Bool × Int) :=
  (m_X44_look s x0).bind fun q1 =>
  jth q1.2.1 (some (q1.1, true, q1.2.2)) <|
  if (jf q1.1 53 x0 5) = 0 then
    some (q1.1, false, 0)
  else
    (m_X44_operand q1.1 x0 x1).bind fun q2 =>
    jth q2.2.1 (some (q2.1, true, q2.2.2)) <|
    u_X44_operands_17 q2.1 x0 x1
noncomputable def m_X44_operands : jS → Int → Int → Option (jS × Bool × Int) := Classical.choose (⟨dm_X44_operands, rfl⟩ : ∃ f, f = dm_X44_operands)
theorem em_X44_operands : m_X44_operands = dm_X44_operands := Classical.choose_spec (⟨dm_X44_operands, rfl⟩ : ∃ f, f = dm_X44_operands)
def du_X44_line_152 (s : jS) (x0 : Int) : Option (jS × Bool × Int) :=
  (m_X44_wrong s x0 5 (jf s 53 x0 6)).bind fun q1 =>
  jck0 q1.2 (some (q1.1, true, q1.2))
noncomputable def u_X44_line_152 : jS → Int → Option (jS × Bool × Int) := Classical.choose (⟨du_X44_line_152, rfl⟩ : ∃ f, f = du_X44_line_152)
theorem eu_X44_line_152 : u_X44_line_152 = du_X44_line_152 := Classical.choose_spec (⟨du_X44_line_152, rfl⟩ : ∃ f, f = du_X44_line_152)
def du_X44_line_124 (s : jS) (x0 x1 x2 : Int) : Option (jS × Bool × Int) :=
  (m_X44_statement s x0 2 x2 x1).bind fun q1 =>
  (m_X44_operands q1.1 x0 q1.2).bind fun q2 =>
  jth q2.2.1 (some (q2.1, true, q2.2.2)) <|
  some (q2.1, false, 0)
noncomputable def u_X44_line_124 : jS → Int → Int → Int → Option (jS × Bool × Int) := Classical.choose (⟨du_X44_line_124, rfl⟩ : ∃ f, f = du_X44_line_124)
theorem eu_X44_line_124 : u_X44_line_124 = du_X44_line_124 := Classical.choose_spec (⟨du_X44_line_124, rfl⟩ : ∃ f, f = du_X44_line_124)
def du_X44_line_162 (s : jS) (x0 : Int) : Option ((jS × List Int) ⊕ (jS × Bool × Int)) :=
  (m_X44_look s x0).bind fun q1 =>
  jth q1.2.1 (jinr (some (q1.1, true, q1.2.2))) <|
  some (.inl (q1.1, [x0]))
noncomputable def u_X44_line_162 : jS → Int → Option ((jS × List Int) ⊕ (jS × Bool × Int)) := Classical.choose (⟨du_X44_line_162, rfl⟩ : ∃ f, f = du_X44_line_162)
theorem eu_X44_line_162 : u_X44_line_162 = du_X44_line_162 := Classical.choose_spec (⟨du_X44_line_162, rfl⟩ : ∃ f, f = du_X44_line_162)
def du_X44_line_106 (s : jS) (x0 x1 x2 y0 : Int) : Option ((jS × List Int) ⊕ (jS × Bool × Int)) :=
  (m_X44_take s x0).bind fun q1 =>
  if y0 = 0 then
    (m_X44_sees q1.1 x0 58).bind fun q2 =>
    jth q2.2.1 (jinr (some (q2.1, true, q2.2.2))) <|
    if q2.2.2 = 0 then
      jinr (u_X44_line_124 q2.1 x0 x1 x2)
    else
      (m_X44_take q2.1 x0).bind fun q3 =>
      (m_X44_statement q3.1 x0 0 x2 x1).bind fun q4 =>
      u_X44_line_162 q4.1 x0
  else
    jinr (u_X44_line_124 q1.1 x0 x1 x2)
noncomputable def u_X44_line_106 : jS → Int → Int → Int → Int → Option ((jS × List Int) ⊕ (jS × Bool × Int)) := Classical.choose (⟨du_X44_line_106, rfl⟩ : ∃ f, f = du_X44_line_106)
theorem eu_X44_line_106 : u_X44_line_106 = du_X44_line_106 := Classical.choose_spec (⟨du_X44_line_106, rfl⟩ : ∃ f, f = du_X44_line_106)
def du_X44_line_68 (s : jS) (x0 x1 : Int) : Option ((jS × List Int) ⊕ (jS × Bool × Int)) :=
  if (jf s 53 x0 5) = 1 then
    (m_X44_isHere s x0).bind fun v1 =>
    if v1 = 0 then
      (m_X44_room s x0 x1).bind fun q2 =>
      jth q2.2.1 (jinr (some (q2.1, true, q2.2.2))) <|
      (m_X44_named q2.1 x0).bind fun q3 =>
      jth q3.2.1 (jinr (some (q3.1, true, q3.2.2))) <|
      if (jf q3.1 53 x0 7) = (-1) then
        u_X44_line_106 q3.1 x0 x1 q3.2.2 0
      else
        u_X44_line_106 q3.1 x0 x1 q3.2.2 1
    else
      jinr (u_X44_line_152 s x0)
  else
    jinr (u_X44_line_152 s x0)
noncomputable def u_X44_line_68 : jS → Int → Int → Option ((jS × List Int) ⊕ (jS × Bool × Int)) := Classical.choose (⟨du_X44_line_68, rfl⟩ : ∃ f, f = du_X44_line_68)
theorem eu_X44_line_68 : u_X44_line_68 = du_X44_line_68 := Classical.choose_spec (⟨du_X44_line_68, rfl⟩ : ∃ f, f = du_X44_line_68)
def b_X44_line_4 (s : jS) (x0 : Int) : Option ((jS × List Int) ⊕ (jS × Bool × Int)) :=
  if (jf s 53 x0 5) = 0 then
    jinr (some (s, false, 0))
  else
    if (jf s 53 x0 5) = 2 then
      if (jf s 53 x0 8) = (W32 ((jf s 53 x0 6) + 1)) then
        (m_X44_room s x0 (jf s 53 x0 6)).bind fun q1 =>
        jth q1.2.1 (jinr (some (q1.1, true, q1.2.2))) <|
        (m_X44_take q1.1 x0).bind fun q2 =>
        (m_X44_need q2.1 x0 58).bind fun q3 =>
        jth q3.2.1 (jinr (some (q3.1, true, q3.2.2))) <|
        (m_X44_statement q3.1 x0 1 (jf q1.1 53 x0 7) (jf s 53 x0 6)).bind fun q4 =>
        u_X44_line_162 q4.1 x0
      else
        u_X44_line_68 s x0 (jf s 53 x0 6)
    else
      u_X44_line_68 s x0 (jf s 53 x0 6)
def du_X44_line_4 (s : jS) (x0 : Int) : Option (jS × Bool × Int) := jlpW (jc1 b_X44_line_4) [x0] s
noncomputable def u_X44_line_4 : jS → Int → Option (jS × Bool × Int) := Classical.choose (⟨du_X44_line_4, rfl⟩ : ∃ f, f = du_X44_line_4)
theorem eu_X44_line_4 : u_X44_line_4 = du_X44_line_4 := Classical.choose_spec (⟨du_X44_line_4, rfl⟩ : ∃ f, f = du_X44_line_4)
def dm_X44_line (s : jS) (x0 : Int) : Option (jS × Bool × Int) :=
  (m_X44_look s x0).bind fun q1 =>
  jth q1.2.1 (some (q1.1, true, q1.2.2)) <|
  u_X44_line_4 q1.1 x0
noncomputable def m_X44_line : jS → Int → Option (jS × Bool × Int) := Classical.choose (⟨dm_X44_line, rfl⟩ : ∃ f, f = dm_X44_line)
theorem em_X44_line : m_X44_line = dm_X44_line := Classical.choose_spec (⟨dm_X44_line, rfl⟩ : ∃ f, f = dm_X44_line)
def du_X44_all_30 (s : jS) (x0 y0 : Int) : Option ((jS × List Int) ⊕ (jS × Bool × Int)) :=
  (m_X44_take s x0).bind fun q1 =>
  jls (jp q1.1 53 x0 2 (W32 ((jf q1.1 53 x0 6) + 1))) fun s2 =>
  jls (jp s2 53 x0 3 (W32 ((jf s2 53 x0 3) + 1))) fun s3 =>
  some (.inl (s3, [x0, y0]))
noncomputable def u_X44_all_30 : jS → Int → Int → Option ((jS × List Int) ⊕ (jS × Bool × Int)) := Classical.choose (⟨du_X44_all_30, rfl⟩ : ∃ f, f = du_X44_all_30)
theorem eu_X44_all_30 : u_X44_all_30 = du_X44_all_30 := Classical.choose_spec (⟨du_X44_all_30, rfl⟩ : ∃ f, f = du_X44_all_30)
def b_X44_all_2 (s : jS) (x0 x1 : Int) : Option ((jS × List Int) ⊕ (jS × Bool × Int)) :=
  if x1 = 0 then
    jinr (some (s, false, 0))
  else
    (m_X44_line s x0).bind fun q1 =>
    jth q1.2.1 (jinr (some (q1.1, true, q1.2.2))) <|
    (m_X44_look q1.1 x0).bind fun q2 =>
    jth q2.2.1 (jinr (some (q2.1, true, q2.2.2))) <|
    if (jf q2.1 53 x0 6) < (jf q2.1 53 x0 1) then
      u_X44_all_30 q2.1 x0 1
    else
      u_X44_all_30 q2.1 x0 0
def du_X44_all_2 (s : jS) (x0 x1 : Int) : Option (jS × Bool × Int) := jlpW (jc2 b_X44_all_2) [x0, x1] s
noncomputable def u_X44_all_2 : jS → Int → Int → Option (jS × Bool × Int) := Classical.choose (⟨du_X44_all_2, rfl⟩ : ∃ f, f = du_X44_all_2)
theorem eu_X44_all_2 : u_X44_all_2 = du_X44_all_2 := Classical.choose_spec (⟨du_X44_all_2, rfl⟩ : ∃ f, f = du_X44_all_2)
def dm_X44_all (s : jS) (x0 : Int) : Option (jS × Bool × Int) :=
  u_X44_all_2 s x0 1
noncomputable def m_X44_all : jS → Int → Option (jS × Bool × Int) := Classical.choose (⟨dm_X44_all, rfl⟩ : ∃ f, f = dm_X44_all)
theorem em_X44_all : m_X44_all = dm_X44_all := Classical.choose_spec (⟨dm_X44_all, rfl⟩ : ∃ f, f = dm_X44_all)
def dm_X11_read (s : jS) (x0 : Int) : Option (jS × Bool × Int) :=
  (jnw s 53 16 (jdf 53)).bind fun q1 =>
  (jck0 q1.2 (m_X44_init q1.1 q1.2 (x0 + 2) (jf q1.1 15 x0 2) (jf q1.1 15 x0 6))).bind fun q2 =>
  jls (jp q2.1 15 x0 2 0) fun s3 =>
  (m_X44_all s3 q1.2).bind fun q4 =>
  jth q4.2.1 (
    if jK q4.1 q4.2.2 ∈ ([2054] : List Int) then
      jls (jp q4.1 15 x0 3 (jf q4.1 53 q1.2 12)) fun s5 =>
      jls (jp s5 15 x0 4 (jf s5 53 q1.2 13)) fun s6 =>
      jck0 q4.2.2 (some (s6, true, q4.2.2))
    else
    none) <|
  jls (jp q4.1 15 x0 3 0) fun s7 =>
  jls (jp s7 15 x0 4 (-1)) fun s8 =>
  jls (jp s8 15 x0 6 (jf s8 15 x0 5)) fun s9 =>
  jls (jp s9 15 x0 5 (jf s9 53 q1.2 10)) fun s10 =>
  (jrd s10 16 (jf s10 15 x0 5) 5).bind fun v11 =>
  some (s10, false, v11)
noncomputable def m_X11_read : jS → Int → Option (jS × Bool × Int) := Classical.choose (⟨dm_X11_read, rfl⟩ : ∃ f, f = dm_X11_read)
theorem em_X11_read : m_X11_read = dm_X11_read := Classical.choose_spec (⟨dm_X11_read, rfl⟩ : ∃ f, f = dm_X11_read)
def du_X33_assemble_294 (s : jS) (x0 x1 x2 : Int) : Option (jS × Bool × Int) :=
  if x2 = (-1) then
    (m_X33_finish s x0).bind fun q1 =>
    (m_X13_write q1.1 (x0 + (-3872))).bind fun q2 =>
    if q2.2 < 0 then
      (m_X33_wrong q2.1 x0 20 x1).bind fun q3 =>
      jck0 q3.2 (some (q3.1, true, q3.2))
    else
      some (q2.1, false, 0)
  else
    (m_X33_wrong s x0 19 x2).bind fun q4 =>
    jck0 q4.2 (some (q4.1, true, q4.2))
noncomputable def u_X33_assemble_294 : jS → Int → Int → Int → Option (jS × Bool × Int) := Classical.choose (⟨du_X33_assemble_294, rfl⟩ : ∃ f, f = du_X33_assemble_294)
theorem eu_X33_assemble_294 : u_X33_assemble_294 = du_X33_assemble_294 := Classical.choose_spec (⟨du_X33_assemble_294, rfl⟩ : ∃ f, f = du_X33_assemble_294)
def du_X33_assemble_288 (s : jS) (x0 x1 x2 x3 : Int) : Option ((jS × List Int) ⊕ (jS × Bool × Int)) :=
  some (.inl (s, [x0, x1, x2, W32 (x3 + 1)]))
noncomputable def u_X33_assemble_288 : jS → Int → Int → Int → Int → Option ((jS × List Int) ⊕ (jS × Bool × Int)) := Classical.choose (⟨du_X33_assemble_288, rfl⟩ : ∃ f, f = du_X33_assemble_288)
theorem eu_X33_assemble_288 : u_X33_assemble_288 = du_X33_assemble_288 := Classical.choose_spec (⟨du_X33_assemble_288, rfl⟩ : ∃ f, f = du_X33_assemble_288)
def du_X33_assemble_281 (s : jS) (x0 x1 x3 : Int) : Option ((jS × List Int) ⊕ (jS × Bool × Int)) :=
  (jlt s 1000 (x0 + 17) 10 x3).bind fun v1 =>
  u_X33_assemble_288 s x0 x1 v1 x3
noncomputable def u_X33_assemble_281 : jS → Int → Int → Int → Option ((jS × List Int) ⊕ (jS × Bool × Int)) := Classical.choose (⟨du_X33_assemble_281, rfl⟩ : ∃ f, f = du_X33_assemble_281)
theorem eu_X33_assemble_281 : u_X33_assemble_281 = du_X33_assemble_281 := Classical.choose_spec (⟨du_X33_assemble_281, rfl⟩ : ∃ f, f = du_X33_assemble_281)
def b_X33_assemble_250 (s : jS) (x0 x1 x2 x3 : Int) : Option ((jS × List Int) ⊕ (jS × Bool × Int)) :=
  if x3 < 10 then
    (jlt s 1000 (x0 + 16) 10 x3).bind fun v1 =>
    if v1 = (-1) then
      u_X33_assemble_288 s x0 x1 x2 x3
    else
      if x2 = (-1) then
        u_X33_assemble_281 s x0 x1 x3
      else
        (jlt s 1000 (x0 + 17) 10 x3).bind fun v2 =>
        if v2 < x2 then
          u_X33_assemble_281 s x0 x1 x3
        else
          u_X33_assemble_288 s x0 x1 x2 x3
  else
    jinr (u_X33_assemble_294 s x0 x1 x2)
def du_X33_assemble_250 (s : jS) (x0 x1 x2 x3 : Int) : Option (jS × Bool × Int) := jlpW (jc4 b_X33_assemble_250) [x0, x1, x2, x3] s
noncomputable def u_X33_assemble_250 : jS → Int → Int → Int → Int → Option (jS × Bool × Int) := Classical.choose (⟨du_X33_assemble_250, rfl⟩ : ∃ f, f = du_X33_assemble_250)
theorem eu_X33_assemble_250 : u_X33_assemble_250 = du_X33_assemble_250 := Classical.choose_spec (⟨du_X33_assemble_250, rfl⟩ : ∃ f, f = du_X33_assemble_250)
def du_X33_assemble_246 (s : jS) (x0 x1 : Int) : Option (jS × Bool × Int) :=
  u_X33_assemble_250 s x0 x1 (-1) 0
noncomputable def u_X33_assemble_246 : jS → Int → Int → Option (jS × Bool × Int) := Classical.choose (⟨du_X33_assemble_246, rfl⟩ : ∃ f, f = du_X33_assemble_246)
theorem eu_X33_assemble_246 : u_X33_assemble_246 = du_X33_assemble_246 := Classical.choose_spec (⟨du_X33_assemble_246, rfl⟩ : ∃ f, f = du_X33_assemble_246)
def du_X33_assemble_233 (s : jS) (x0 x1 : Int) : Option ((jS × List Int) ⊕ (jS × Bool × Int)) :=
  jls (jp s 37 x0 33 (W32 ((jf s 37 x0 33) + 1))) fun s1 =>
  some (.inl (s1, [x0, x1]))
noncomputable def u_X33_assemble_233 : jS → Int → Int → Option ((jS × List Int) ⊕ (jS × Bool × Int)) := Classical.choose (⟨du_X33_assemble_233, rfl⟩ : ∃ f, f = du_X33_assemble_233)
theorem eu_X33_assemble_233 : u_X33_assemble_233 = du_X33_assemble_233 := Classical.choose_spec (⟨du_X33_assemble_233, rfl⟩ : ∃ f, f = du_X33_assemble_233)
def b_X33_assemble_50 (s : jS) (x0 x1 : Int) : Option ((jS × List Int) ⊕ (jS × Bool × Int)) :=
  (m_X11_count s (x0 + (-3890)) 0).bind fun v1 =>
  if (jf s 37 x0 33) < v1 then
    (m_X11_statement s (x0 + (-3890)) (jf s 37 x0 33) 0).bind fun v2 =>
    (m_X11_statement s (x0 + (-3890)) (jf s 37 x0 33) 1).bind fun v3 =>
    jls (jp s 37 x0 31 (-1)) fun s4 =>
    (jlt s4 1000 (x0 + 7) 4 (jf s4 37 x0 30)).bind fun v5 =>
    jls (jp s4 37 x0 32 v5) fun s6 =>
    if v2 = 0 then
      (m_X33_symbolFor s6 x0 v3).bind fun q7 =>
      jth q7.2.1 (jinr (some (q7.1, true, q7.2.2))) <|
      (m_X33_define q7.1 x0 q7.2.2 (jf q7.1 37 x0 30) (jf q7.1 37 x0 32) 0).bind fun q8 =>
      jth q8.2.1 (jinr (some (q8.1, true, q8.2.2))) <|
      u_X33_assemble_233 q8.1 x0 x1
    else
      if v2 = 1 then
        (m_X33_digitLabel s6 x0 v3).bind fun q9 =>
        jth q9.2.1 (jinr (some (q9.1, true, q9.2.2))) <|
        (m_X33_define q9.1 x0 q9.2.2 (jf q9.1 37 x0 30) (jf q9.1 37 x0 32) 0).bind fun q10 =>
        jth q10.2.1 (jinr (some (q10.1, true, q10.2.2))) <|
        u_X33_assemble_233 q10.1 x0 x1
      else
        (m_X11_statement s6 (x0 + (-3890)) (jf s6 37 x0 33) 2).bind fun v11 =>
        jls (jp s6 37 x0 34 v11) fun s12 =>
        (m_X11_statement s12 (x0 + (-3890)) (jf s12 37 x0 33) 3).bind fun v13 =>
        jls (jp s12 37 x0 35 v13) fun s14 =>
        (jrd s14 16 (jf s14 15 (x0 + (-3890)) 5) 4).bind fun v15 =>
        (jld s14 1026 v15 v3).bind fun v16 =>
        (mp_J2_charAt s14 v16 0).bind fun v17 =>
        if v17 = 46 then
          (m_X33_directive s14 x0 v16).bind fun q18 =>
          jth q18.2.1 (jinr (some (q18.1, true, q18.2.2))) <|
          u_X33_assemble_233 q18.1 x0 x1
        else
          (m_X33_instruction s14 x0 v16 v3).bind fun q19 =>
          jth q19.2.1 (jinr (some (q19.1, true, q19.2.2))) <|
          u_X33_assemble_233 q19.1 x0 x1
  else
    jinr (u_X33_assemble_246 s x0 x1)
def du_X33_assemble_50 (s : jS) (x0 x1 : Int) : Option (jS × Bool × Int) := jlpW (jc2 b_X33_assemble_50) [x0, x1] s
noncomputable def u_X33_assemble_50 : jS → Int → Int → Option (jS × Bool × Int) := Classical.choose (⟨du_X33_assemble_50, rfl⟩ : ∃ f, f = du_X33_assemble_50)
theorem eu_X33_assemble_50 : u_X33_assemble_50 = du_X33_assemble_50 := Classical.choose_spec (⟨du_X33_assemble_50, rfl⟩ : ∃ f, f = du_X33_assemble_50)
def dm_X33_assemble (s : jS) (x0 : Int) : Option (jS × Bool × Int) :=
  (m_X33_clear s x0).bind fun q1 =>
  (m_X11_read q1.1 (x0 + (-3890))).bind fun q2 =>
  jth q2.2.1 (
    if jK q2.1 q2.2.2 ∈ ([2054] : List Int) then
      (m_X11_fault q2.1 (x0 + (-3890)) 0).bind fun v3 =>
      (m_X11_fault q2.1 (x0 + (-3890)) 1).bind fun v4 =>
      (m_X33_wrong q2.1 x0 v3 v4).bind fun q5 =>
      jck0 q5.2 (some (q5.1, true, q5.2))
    else
    none) <|
  jls (jp q2.1 37 x0 33 0) fun s6 =>
  u_X33_assemble_50 s6 x0 (jf s 15 (x0 + (-3890)) 2)
noncomputable def m_X33_assemble : jS → Int → Option (jS × Bool × Int) := Classical.choose (⟨dm_X33_assemble, rfl⟩ : ∃ f, f = dm_X33_assemble)
theorem em_X33_assemble : m_X33_assemble = dm_X33_assemble := Classical.choose_spec (⟨dm_X33_assemble, rfl⟩ : ∃ f, f = dm_X33_assemble)
def dm_X1_assemble (s : jS) (x0 x1 : Int) : Option (jS × Bool × Int) :=
  (m_X1_there s x1).bind fun q1 =>
  jth q1.2.1 (some (q1.1, true, q1.2.2)) <|
  (m_X33_assemble q1.1 (x0 + 4148)).bind fun q2 =>
  jth q2.2.1 (
    if jK q2.1 q2.2.2 ∈ ([2054] : List Int) then
      jls (jp q2.1 1 x0 9 (jf q2.1 37 (x0 + 4148) 37)) fun s3 =>
      jls (jp s3 1 x0 10 (jf s3 37 (x0 + 4148) 38)) fun s4 =>
      jck0 q2.2.2 (some (s4, true, q2.2.2))
    else
    none) <|
  jls (jp q2.1 1 x0 9 0) fun s5 =>
  jls (jp s5 1 x0 10 (-1)) fun s6 =>
  (jix 6 x1 ((x0 + 275) + 4041 + 1858 * x1)).bind fun v7 =>
  (m_X1_copy s6 (x0 + 276) v7).bind fun q8 =>
  (jix 6 x1 ((x0 + 275) + 4041 + 1858 * x1)).bind fun v9 =>
  (m_X13_size q8.1 v9).bind fun v10 =>
  some (q8.1, false, v10)
noncomputable def m_X1_assemble : jS → Int → Int → Option (jS × Bool × Int) := Classical.choose (⟨dm_X1_assemble, rfl⟩ : ∃ f, f = dm_X1_assemble)
theorem em_X1_assemble : m_X1_assemble = dm_X1_assemble := Classical.choose_spec (⟨dm_X1_assemble, rfl⟩ : ∃ f, f = dm_X1_assemble)
def dm_X37_thrown (s : jS) (x0 : Int) : Option (Int) :=
  some (jf s 41 x0 4)
noncomputable def m_X37_thrown : jS → Int → Option (Int) := Classical.choose (⟨dm_X37_thrown, rfl⟩ : ∃ f, f = dm_X37_thrown)
theorem em_X37_thrown : m_X37_thrown = dm_X37_thrown := Classical.choose_spec (⟨dm_X37_thrown, rfl⟩ : ∃ f, f = dm_X37_thrown)
def dm_X37_isUnit (s : jS) (x0 : Int) : Option (Int) :=
  if x0 < 0 then
    some (Wz 0)
  else
    if x0 < 6 then
      some (Wz 1)
    else
      some (Wz 0)
noncomputable def m_X37_isUnit : jS → Int → Option (Int) := Classical.choose (⟨dm_X37_isUnit, rfl⟩ : ∃ f, f = dm_X37_isUnit)
theorem em_X37_isUnit : m_X37_isUnit = dm_X37_isUnit := Classical.choose_spec (⟨dm_X37_isUnit, rfl⟩ : ∃ f, f = dm_X37_isUnit)
def dm_X37_size (s : jS) (x0 x1 : Int) : Option (jS × Int) :=
  jls (jp s 41 x0 4 0) fun s1 =>
  if x1 = (-1) then
    some (s1, jf s1 41 x0 3)
  else
    (m_X37_isUnit s1 x1).bind fun v2 =>
    if v2 = 0 then
      some (s1, (-1))
    else
      (jlt s1 1000 (x0 + 2) 6 x1).bind fun v3 =>
      some (s1, v3)
noncomputable def m_X37_size : jS → Int → Int → Option (jS × Int) := Classical.choose (⟨dm_X37_size, rfl⟩ : ∃ f, f = dm_X37_size)
theorem em_X37_size : m_X37_size = dm_X37_size := Classical.choose_spec (⟨dm_X37_size, rfl⟩ : ∃ f, f = dm_X37_size)
def du_X37_extend_143 (s : jS) (x0 x1 x2 : Int) : Option (jS × Int) :=
  if x1 = (-1) then
    jls (jp s 41 x0 3 (W32 ((jf s 41 x0 3) + x2))) fun s1 =>
    some (s1, Wz 1)
  else
    (jlt s 1000 (x0 + 2) 6 x1).bind fun v2 =>
    (jst s 1000 (x0 + 2) 6 x1 (W32 (v2 + x2))).bind fun s3 =>
    some (s3, Wz 1)
noncomputable def u_X37_extend_143 : jS → Int → Int → Int → Option (jS × Int) := Classical.choose (⟨du_X37_extend_143, rfl⟩ : ∃ f, f = du_X37_extend_143)
theorem eu_X37_extend_143 : u_X37_extend_143 = du_X37_extend_143 := Classical.choose_spec (⟨du_X37_extend_143, rfl⟩ : ∃ f, f = du_X37_extend_143)
def du_X37_extend_137 (s : jS) (x0 x1 x2 x3 x5 x6 : Int) : Option ((jS × List Int) ⊕ (jS × Int)) :=
  some (.inl (s, [x0, x1, x2, x3, x5, W32 (x6 + 1)]))
noncomputable def u_X37_extend_137 : jS → Int → Int → Int → Int → Int → Int → Option ((jS × List Int) ⊕ (jS × Int)) := Classical.choose (⟨du_X37_extend_137, rfl⟩ : ∃ f, f = du_X37_extend_137)
theorem eu_X37_extend_137 : u_X37_extend_137 = du_X37_extend_137 := Classical.choose_spec (⟨du_X37_extend_137, rfl⟩ : ∃ f, f = du_X37_extend_137)
def b_X37_extend_76 (s : jS) (x0 x1 x2 x3 x5 x6 : Int) : Option ((jS × List Int) ⊕ (jS × Int)) :=
  if x6 < x2 then
    jlet (L2i (L_and (L_shr x3 (W32 (56 - (W32 (8 * x6))))) 255)) fun v1 =>
    if x1 = (-1) then
      (jst s 1000 (x0 + 3) 16384 (W32 (x5 + x6)) v1).bind fun s2 =>
      u_X37_extend_137 s2 x0 x1 x2 x3 x5 x6
    else
      (jst s 1000 (x0 + 1) 49152 (W32 ((W32 ((W32 (8192 * x1)) + x5)) + x6)) v1).bind fun s3 =>
      u_X37_extend_137 s3 x0 x1 x2 x3 x5 x6
  else
    jinr (u_X37_extend_143 s x0 x1 x2)
def du_X37_extend_76 (s : jS) (x0 x1 x2 x3 x5 x6 : Int) : Option (jS × Int) := jlpW (jc6 b_X37_extend_76) [x0, x1, x2, x3, x5, x6] s
noncomputable def u_X37_extend_76 : jS → Int → Int → Int → Int → Int → Int → Option (jS × Int) := Classical.choose (⟨du_X37_extend_76, rfl⟩ : ∃ f, f = du_X37_extend_76)
theorem eu_X37_extend_76 : u_X37_extend_76 = du_X37_extend_76 := Classical.choose_spec (⟨du_X37_extend_76, rfl⟩ : ∃ f, f = du_X37_extend_76)
def du_X37_extend_68 (s : jS) (x0 x1 x2 x3 x5 y0 y1 : Int) : Option (jS × Int) :=
  if y0 < y1 then
    some (s, Wz 0)
  else
    u_X37_extend_76 s x0 x1 x2 x3 x5 0
noncomputable def u_X37_extend_68 : jS → Int → Int → Int → Int → Int → Int → Int → Option (jS × Int) := Classical.choose (⟨du_X37_extend_68, rfl⟩ : ∃ f, f = du_X37_extend_68)
theorem eu_X37_extend_68 : u_X37_extend_68 = du_X37_extend_68 := Classical.choose_spec (⟨du_X37_extend_68, rfl⟩ : ∃ f, f = du_X37_extend_68)
def du_X37_extend_48 (s : jS) (x0 x1 x2 x3 y0 : Int) : Option (jS × Int) :=
  if x1 = (-1) then
    u_X37_extend_68 s x0 x1 x2 x3 y0 16384 (W32 (y0 + x2))
  else
    u_X37_extend_68 s x0 x1 x2 x3 y0 8192 (W32 (y0 + x2))
noncomputable def u_X37_extend_48 : jS → Int → Int → Int → Int → Int → Option (jS × Int) := Classical.choose (⟨du_X37_extend_48, rfl⟩ : ∃ f, f = du_X37_extend_48)
theorem eu_X37_extend_48 : u_X37_extend_48 = du_X37_extend_48 := Classical.choose_spec (⟨du_X37_extend_48, rfl⟩ : ∃ f, f = du_X37_extend_48)
def du_X37_extend_17 (s : jS) (x0 x1 x2 x3 : Int) : Option (jS × Int) :=
  if x2 < 1 then
    some (s, Wz 0)
  else
    if 8 < x2 then
      some (s, Wz 0)
    else
      if x1 = (-1) then
        u_X37_extend_48 s x0 x1 x2 x3 (jf s 41 x0 3)
      else
        (jlt s 1000 (x0 + 2) 6 x1).bind fun v1 =>
        u_X37_extend_48 s x0 x1 x2 x3 v1
noncomputable def u_X37_extend_17 : jS → Int → Int → Int → Int → Option (jS × Int) := Classical.choose (⟨du_X37_extend_17, rfl⟩ : ∃ f, f = du_X37_extend_17)
theorem eu_X37_extend_17 : u_X37_extend_17 = du_X37_extend_17 := Classical.choose_spec (⟨du_X37_extend_17, rfl⟩ : ∃ f, f = du_X37_extend_17)
def dm_X37_extend (s : jS) (x0 x1 x2 x3 : Int) : Option (jS × Int) :=
  jls (jp s 41 x0 4 0) fun s1 =>
  if x1 = (-1) then
    u_X37_extend_17 s1 x0 x1 x2 x3
  else
    (m_X37_isUnit s1 x1).bind fun v2 =>
    if v2 = 0 then
      some (s1, Wz 0)
    else
      u_X37_extend_17 s1 x0 x1 x2 x3
noncomputable def m_X37_extend : jS → Int → Int → Int → Int → Option (jS × Int) := Classical.choose (⟨dm_X37_extend, rfl⟩ : ∃ f, f = dm_X37_extend)
theorem em_X37_extend : m_X37_extend = dm_X37_extend := Classical.choose_spec (⟨dm_X37_extend, rfl⟩ : ∃ f, f = dm_X37_extend)
def du_X37_cut_40 (s : jS) (x0 x1 x2 y0 y1 : Int) : Option (jS × Int) :=
  if y0 < y1 then
    some (s, Wz 0)
  else
    if x1 = (-1) then
      jls (jp s 41 x0 3 x2) fun s1 =>
      some (s1, Wz 1)
    else
      (jst s 1000 (x0 + 2) 6 x1 x2).bind fun s2 =>
      some (s2, Wz 1)
noncomputable def u_X37_cut_40 : jS → Int → Int → Int → Int → Int → Option (jS × Int) := Classical.choose (⟨du_X37_cut_40, rfl⟩ : ∃ f, f = du_X37_cut_40)
theorem eu_X37_cut_40 : u_X37_cut_40 = du_X37_cut_40 := Classical.choose_spec (⟨du_X37_cut_40, rfl⟩ : ∃ f, f = du_X37_cut_40)
def du_X37_cut_17 (s : jS) (x0 x1 x2 : Int) : Option (jS × Int) :=
  if x2 < 0 then
    some (s, Wz 0)
  else
    if x1 = (-1) then
      u_X37_cut_40 s x0 x1 x2 (jf s 41 x0 3) x2
    else
      (jlt s 1000 (x0 + 2) 6 x1).bind fun v1 =>
      u_X37_cut_40 s x0 x1 x2 v1 x2
noncomputable def u_X37_cut_17 : jS → Int → Int → Int → Option (jS × Int) := Classical.choose (⟨du_X37_cut_17, rfl⟩ : ∃ f, f = du_X37_cut_17)
theorem eu_X37_cut_17 : u_X37_cut_17 = du_X37_cut_17 := Classical.choose_spec (⟨du_X37_cut_17, rfl⟩ : ∃ f, f = du_X37_cut_17)
def dm_X37_cut (s : jS) (x0 x1 x2 : Int) : Option (jS × Int) :=
  jls (jp s 41 x0 4 0) fun s1 =>
  if x1 = (-1) then
    u_X37_cut_17 s1 x0 x1 x2
  else
    (m_X37_isUnit s1 x1).bind fun v2 =>
    if v2 = 0 then
      some (s1, Wz 0)
    else
      u_X37_cut_17 s1 x0 x1 x2
noncomputable def m_X37_cut : jS → Int → Int → Int → Option (jS × Int) := Classical.choose (⟨dm_X37_cut, rfl⟩ : ∃ f, f = dm_X37_cut)
theorem em_X37_cut : m_X37_cut = dm_X37_cut := Classical.choose_spec (⟨dm_X37_cut, rfl⟩ : ∃ f, f = dm_X37_cut)
def du_X37_byteAt_40 (s : jS) (x0 x1 x2 y0 y1 : Int) : Option (jS × Int) :=
  if y1 < y0 then
    if x1 = (-1) then
      (jlt s 1000 (x0 + 3) 16384 x2).bind fun v1 =>
      some (s, v1)
    else
      (jlt s 1000 (x0 + 1) 49152 (W32 ((W32 (8192 * x1)) + x2))).bind fun v2 =>
      some (s, v2)
  else
    some (s, (-1))
noncomputable def u_X37_byteAt_40 : jS → Int → Int → Int → Int → Int → Option (jS × Int) := Classical.choose (⟨du_X37_byteAt_40, rfl⟩ : ∃ f, f = du_X37_byteAt_40)
theorem eu_X37_byteAt_40 : u_X37_byteAt_40 = du_X37_byteAt_40 := Classical.choose_spec (⟨du_X37_byteAt_40, rfl⟩ : ∃ f, f = du_X37_byteAt_40)
def du_X37_byteAt_17 (s : jS) (x0 x1 x2 : Int) : Option (jS × Int) :=
  if x2 < 0 then
    some (s, (-1))
  else
    if x1 = (-1) then
      u_X37_byteAt_40 s x0 x1 x2 (jf s 41 x0 3) x2
    else
      (jlt s 1000 (x0 + 2) 6 x1).bind fun v1 =>
      u_X37_byteAt_40 s x0 x1 x2 v1 x2
noncomputable def u_X37_byteAt_17 : jS → Int → Int → Int → Option (jS × Int) := Classical.choose (⟨du_X37_byteAt_17, rfl⟩ : ∃ f, f = du_X37_byteAt_17)
theorem eu_X37_byteAt_17 : u_X37_byteAt_17 = du_X37_byteAt_17 := Classical.choose_spec (⟨du_X37_byteAt_17, rfl⟩ : ∃ f, f = du_X37_byteAt_17)
def dm_X37_byteAt (s : jS) (x0 x1 x2 : Int) : Option (jS × Int) :=
  jls (jp s 41 x0 4 0) fun s1 =>
  if x1 = (-1) then
    u_X37_byteAt_17 s1 x0 x1 x2
  else
    (m_X37_isUnit s1 x1).bind fun v2 =>
    if v2 = 0 then
      some (s1, (-1))
    else
      u_X37_byteAt_17 s1 x0 x1 x2
noncomputable def m_X37_byteAt : jS → Int → Int → Int → Option (jS × Int) := Classical.choose (⟨dm_X37_byteAt, rfl⟩ : ∃ f, f = dm_X37_byteAt)
theorem em_X37_byteAt : m_X37_byteAt = dm_X37_byteAt := Classical.choose_spec (⟨dm_X37_byteAt, rfl⟩ : ∃ f, f = dm_X37_byteAt)
def dm_X37_spoil (s : jS) (x0 x1 x2 x3 : Int) : Option (jS × Int) :=
  (m_X37_byteAt s x0 x1 x2).bind fun q1 =>
  if q1.2 = (-1) then
    some (q1.1, (-1))
  else
    if x1 = (-1) then
      (jst q1.1 1000 (x0 + 3) 16384 x2 (I_and x3 255)).bind fun s2 =>
      some (s2, q1.2)
    else
      (jst q1.1 1000 (x0 + 1) 49152 (W32 ((W32 (8192 * x1)) + x2)) (I_and x3 255)).bind fun s3 =>
      some (s3, q1.2)
noncomputable def m_X37_spoil : jS → Int → Int → Int → Int → Option (jS × Int) := Classical.choose (⟨dm_X37_spoil, rfl⟩ : ∃ f, f = dm_X37_spoil)
theorem em_X37_spoil : m_X37_spoil = dm_X37_spoil := Classical.choose_spec (⟨dm_X37_spoil, rfl⟩ : ∃ f, f = dm_X37_spoil)
def b_X37_give_12 (s : jS) (x0 x1 x2 x3 : Int) : Option ((jS × List Int) ⊕ (jS × Int)) :=
  if x3 < (jf s 44 x1 22) then
    (jlt s 1000 (x0 + 1) 49152 (W32 ((W32 (8192 * x2)) + x3))).bind fun v1 =>
    (jst s 1000 (x1 + 21) 8192 x3 v1).bind fun s2 =>
    some (.inl (s2, [x0, x1, x2, W32 (x3 + 1)]))
  else
    jinr (some (s, 0))
def du_X37_give_12 (s : jS) (x0 x1 x2 x3 : Int) : Option (jS × Int) := jlpW (jc4 b_X37_give_12) [x0, x1, x2, x3] s
noncomputable def u_X37_give_12 : jS → Int → Int → Int → Int → Option (jS × Int) := Classical.choose (⟨du_X37_give_12, rfl⟩ : ∃ f, f = du_X37_give_12)
theorem eu_X37_give_12 : u_X37_give_12 = du_X37_give_12 := Classical.choose_spec (⟨du_X37_give_12, rfl⟩ : ∃ f, f = du_X37_give_12)
def dm_X37_give (s : jS) (x0 x1 x2 : Int) : Option (jS × Int) :=
  (jlt s 1000 (x0 + 2) 6 x2).bind fun v1 =>
  jls (jp s 44 x1 22 v1) fun s2 =>
  u_X37_give_12 s2 x0 x1 x2 0
noncomputable def m_X37_give : jS → Int → Int → Int → Option (jS × Int) := Classical.choose (⟨dm_X37_give, rfl⟩ : ∃ f, f = dm_X37_give)
theorem em_X37_give : m_X37_give = dm_X37_give := Classical.choose_spec (⟨dm_X37_give, rfl⟩ : ∃ f, f = dm_X37_give)
def du_X37_beginUnit_95 (s : jS) (x0 : Int) : Option (jS × Int) :=
  jls (jp s 41 x0 26 0) fun s1 =>
  jls (jp s1 41 x0 28 0) fun s2 =>
  jls (jp s2 41 x0 34 0) fun s3 =>
  (jzb 1).bind fun v4 =>
  jls (jp s3 41 x0 35 v4) fun s5 =>
  (jzb 1).bind fun v6 =>
  jls (jp s5 41 x0 36 v6) fun s7 =>
  jls (jp s7 41 x0 37 0) fun s8 =>
  jls (jp s8 41 x0 42 0) fun s9 =>
  jls (jp s9 41 x0 43 (-1)) fun s10 =>
  some (s10, 0)
noncomputable def u_X37_beginUnit_95 : jS → Int → Option (jS × Int) := Classical.choose (⟨du_X37_beginUnit_95, rfl⟩ : ∃ f, f = du_X37_beginUnit_95)
theorem eu_X37_beginUnit_95 : u_X37_beginUnit_95 = du_X37_beginUnit_95 := Classical.choose_spec (⟨du_X37_beginUnit_95, rfl⟩ : ∃ f, f = du_X37_beginUnit_95)
def du_X37_beginUnit_88 (s : jS) (x0 x1 y0 y1 y2 : Int) : Option ((jS × List Int) ⊕ (jS × Int)) :=
  (jst s 1000 y2 4 y1 y0).bind fun s1 =>
  some (.inl (s1, [x0, W32 (x1 + 1)]))
noncomputable def u_X37_beginUnit_88 : jS → Int → Int → Int → Int → Int → Option ((jS × List Int) ⊕ (jS × Int)) := Classical.choose (⟨du_X37_beginUnit_88, rfl⟩ : ∃ f, f = du_X37_beginUnit_88)
theorem eu_X37_beginUnit_88 : u_X37_beginUnit_88 = du_X37_beginUnit_88 := Classical.choose_spec (⟨du_X37_beginUnit_88, rfl⟩ : ∃ f, f = du_X37_beginUnit_88)
def b_X37_beginUnit_62 (s : jS) (x0 x1 : Int) : Option ((jS × List Int) ⊕ (jS × Int)) :=
  if x1 < 4 then
    (jst s 1000 (x0 + 153) 4 x1 0).bind fun s1 =>
    if x1 = 0 then
      u_X37_beginUnit_88 s1 x0 x1 4 x1 (x0 + 154)
    else
      u_X37_beginUnit_88 s1 x0 x1 1 x1 (x0 + 154)
  else
    jinr (u_X37_beginUnit_95 s x0)
def du_X37_beginUnit_62 (s : jS) (x0 x1 : Int) : Option (jS × Int) := jlpW (jc2 b_X37_beginUnit_62) [x0, x1] s
noncomputable def u_X37_beginUnit_62 : jS → Int → Int → Option (jS × Int) := Classical.choose (⟨du_X37_beginUnit_62, rfl⟩ : ∃ f, f = du_X37_beginUnit_62)
theorem eu_X37_beginUnit_62 : u_X37_beginUnit_62 = du_X37_beginUnit_62 := Classical.choose_spec (⟨du_X37_beginUnit_62, rfl⟩ : ∃ f, f = du_X37_beginUnit_62)
def du_X37_beginUnit_60 (s : jS) (x0 : Int) : Option (jS × Int) :=
  u_X37_beginUnit_62 s x0 0
noncomputable def u_X37_beginUnit_60 : jS → Int → Option (jS × Int) := Classical.choose (⟨du_X37_beginUnit_60, rfl⟩ : ∃ f, f = du_X37_beginUnit_60)
theorem eu_X37_beginUnit_60 : u_X37_beginUnit_60 = du_X37_beginUnit_60 := Classical.choose_spec (⟨du_X37_beginUnit_60, rfl⟩ : ∃ f, f = du_X37_beginUnit_60)
def b_X37_beginUnit_34 (s : jS) (x0 x1 : Int) : Option ((jS × List Int) ⊕ (jS × Int)) :=
  if x1 < 10 then
    (jst s 1000 (x0 + 149) 10 x1 (-1)).bind fun s1 =>
    (jst s1 1000 (x0 + 150) 10 x1 (-1)).bind fun s2 =>
    some (.inl (s2, [x0, W32 (x1 + 1)]))
  else
    jinr (u_X37_beginUnit_60 s x0)
def du_X37_beginUnit_34 (s : jS) (x0 x1 : Int) : Option (jS × Int) := jlpW (jc2 b_X37_beginUnit_34) [x0, x1] s
noncomputable def u_X37_beginUnit_34 : jS → Int → Int → Option (jS × Int) := Classical.choose (⟨du_X37_beginUnit_34, rfl⟩ : ∃ f, f = du_X37_beginUnit_34)
theorem eu_X37_beginUnit_34 : u_X37_beginUnit_34 = du_X37_beginUnit_34 := Classical.choose_spec (⟨du_X37_beginUnit_34, rfl⟩ : ∃ f, f = du_X37_beginUnit_34)
def du_X37_beginUnit_32 (s : jS) (x0 : Int) : Option (jS × Int) :=
  u_X37_beginUnit_34 s x0 0
noncomputable def u_X37_beginUnit_32 : jS → Int → Option (jS × Int) := Classical.choose (⟨du_X37_beginUnit_32, rfl⟩ : ∃ f, f = du_X37_beginUnit_32)
theorem eu_X37_beginUnit_32 : u_X37_beginUnit_32 = du_X37_beginUnit_32 := Classical.choose_spec (⟨du_X37_beginUnit_32, rfl⟩ : ∃ f, f = du_X37_beginUnit_32)
def b_X37_beginUnit_12 (s : jS) (x0 x1 : Int) : Option ((jS × List Int) ⊕ (jS × Int)) :=
  if x1 < 150 then
    (jst s 1000 (x0 + 148) 150 x1 (-1)).bind fun s1 =>
    some (.inl (s1, [x0, W32 (x1 + 1)]))
  else
    jinr (u_X37_beginUnit_32 s x0)
def du_X37_beginUnit_12 (s : jS) (x0 x1 : Int) : Option (jS × Int) := jlpW (jc2 b_X37_beginUnit_12) [x0, x1] s
noncomputable def u_X37_beginUnit_12 : jS → Int → Int → Option (jS × Int) := Classical.choose (⟨du_X37_beginUnit_12, rfl⟩ : ∃ f, f = du_X37_beginUnit_12)
theorem eu_X37_beginUnit_12 : u_X37_beginUnit_12 = du_X37_beginUnit_12 := Classical.choose_spec (⟨du_X37_beginUnit_12, rfl⟩ : ∃ f, f = du_X37_beginUnit_12)
def dm_X37_beginUnit (s : jS) (x0 : Int) : Option (jS × Int) :=
  jls (jp s 41 x0 12 0) fun s1 =>
  jls (jp s1 41 x0 19 0) fun s2 =>
  u_X37_beginUnit_12 s2 x0 0
noncomputable def m_X37_beginUnit : jS → Int → Option (jS × Int) := Classical.choose (⟨dm_X37_beginUnit, rfl⟩ : ∃ f, f = dm_X37_beginUnit)
theorem em_X37_beginUnit : m_X37_beginUnit = dm_X37_beginUnit := Classical.choose_spec (⟨dm_X37_beginUnit, rfl⟩ : ∃ f, f = dm_X37_beginUnit)
end
