/-! the least size of what moves, both sides -/
set_option maxRecDepth 100000
section jLeast
variable {s t u w : jS} {a k m o p v l n x y c j X f z B i q : Int} {d : Int → Int → Int}
theorem jlet_e {α : Type} (v : Int) (f : Int → Option α) : jlet v f = f v := rfl
def lbV (d : Int → Int → Int) (l : Int) : Int := if d 5 (d 12 l) = 0 then plK d (d 12 l) + d 13 l else if d 13 l = 0 then plK d (d 12 l) else plK d (d 12 l) + szK d (d 12 l) (plK d (d 12 l))
def aimK (d : Int → Int → Int) (k : Int) : Int := lbV d (d 8 k) + d 9 k
def gpK (d : Int → Int → Int) : Int := ouB d 2 + 2048
abbrev nrV (v : Int) : Prop := -2048 ≤ v ∧ v ≤ 2047
def lstK (d : Int → Int → Int) (k : Int) : Int := if d 12 (d 8 k) = -1 then grK d k else if d 5 k = 1 then (if (aimK d k - plK d k) % 2 = 0 then (if d 10 k = 1 ∧ -2048 ≤ aimK d k - plK d k ∧ aimK d k - plK d k ≤ 2046 then 2 else if -1048576 ≤ aimK d k - plK d k ∧ aimK d k - plK d k ≤ 1048574 then 4 else 8) else 8) else if nrV (aimK d k) ∨ nrV (aimK d k - gpK d) then 0 else if d 5 k = 2 ∧ d 10 k = 1 ∧ 4096 ≤ aimK d k + 2048 ∧ aimK d k + 2048 < 131072 then 2 else 4
theorem lstK_lo : 0 ≤ lstK d k ∧ lstK d k ≤ grK d k ∨ ¬ mvK d k := by
  by_cases hm : mvK d k
  · left
    unfold mvK at hm
    unfold lstK grK
    split
    · split <;> omega
    split
    · split
      · split
        · omega
        split <;> omega
      · omega
    split
    · omega
    split <;> omega
  · exact .inr hm
theorem lbV_lo (v : vLy d) (l0 : 0 ≤ l) (l1 : l < d 0 2) (hl : ¬ d 12 l = -1) : 0 ≤ lbV d l ∧ lbV d l ≤ 7110000 := by
  rcases v.2.2.2.2.2.2.2.1 l l0 l1 with h | ⟨⟨h1, h2⟩, h3, h4⟩
  · exact absurd h hl
  have p := plK_lo v h1 h2
  have sz := szK_lo (k := d 12 l) (a := plK d (d 12 l)) v h1 h2
  have hn := (v.2.2.2.2.2.2.1 _ h1 h2).2.2.1
  unfold lbV
  by_cases c : d 5 (d 12 l) = 0
  · have := hn c; rw [if_pos c] at h4 ⊢; omega
  · rw [if_neg c]
    split <;> omega
/-- slots of pieces -/
theorem jrp_pc (h : cPc s B d k) (hi : i = 0 ∨ i = 1 ∨ i = 2) : jrp s [(72, i), (73, i), (76, i + 4), (77, i + 4)] (poK s B k) = some (pcX s B d k i) := by
  obtain ⟨⟨q1, q1', q1''⟩, -⟩ := h
  have kk := kOf_c (f := d 5 k)
  unfold pcX
  rcases kk with ⟨k1, k2, k3⟩ | ⟨k1, k2, k3⟩ | ⟨k1, k2, k3⟩ | ⟨k1, k2, k3⟩ <;> rw [k1] at q1'' ⊢ <;> rw [k2] <;> simp [jrp, q1, q1'']
theorem mvK.kk (h : mvK d k) : kOf (d 5 k) = 76 ∧ d 5 k = 1 ∨ kOf (d 5 k) = 77 ∧ ¬ d 5 k = 1 := by
  unfold mvK at h
  have := kOf_c (f := d 5 k)
  omega
theorem jrp_mv (h : cPc s B d k) (hm : mvK d k) : jrp s [(76, i), (77, i)] (poK s B k) = some (jf s (kOf (d 5 k)) (poK s B k) i) := by
  obtain ⟨⟨q1, q1', q1''⟩, -⟩ := h
  rcases hm.kk with ⟨k1, k2⟩ | ⟨k1, k2⟩ <;> rw [k1] at q1'' ⊢ <;> simp [jrp, q1, q1'']
/-- how far behind a piece's beginning -/
theorem c_behind (v : vLy d) (h : cPc s B d k) (k0 : 0 ≤ k) (k1 : k < d 0 1) (hp : pcX s B d k 1 = plK d k) : mp_X53_behind s (poK s B k) a = some (if d 5 k = 0 then a else if a = 0 then 0 else szK d k (plK d k)) := by
  have hs := c_sizeK v h k0 k1 hp (plK_lo v k0 k1)
  obtain ⟨⟨q1, q1', q1''⟩, q2, q3, q4, q5, q6, q7, q8⟩ := h
  rw [emp_X53_size] at hs
  rw [emp_X53_behind]; unfold dmp_X53_size at hs; unfold dmp_X53_behind
  have kk := kOf_c (f := d 5 k)
  rcases kk with ⟨e1, e2, e3⟩ | ⟨e1, e2, e3⟩ | ⟨e1, e2, e3⟩ | ⟨e1, e2, e3, e4, e5⟩
  · rw [e1] at q1''
    rw [if_pos ⟨q1, q1''⟩, jct_in (leafT (ty := 88) rfl rfl (by decide) ⟨q1, q1', q1''⟩), em_X54_behind, if_pos e3]; rfl
  · rw [e1] at q1''
    rw [if_neg (by omega), if_pos ⟨q1, q1''⟩, jct_in (leafT (ty := 89) rfl rfl (by decide) ⟨q1, q1', q1''⟩)] at hs
    rw [if_neg (by omega), if_pos ⟨q1, q1''⟩, jct_in (leafT (ty := 89) rfl rfl (by decide) ⟨q1, q1', q1''⟩), em_X55_behind, if_neg (by omega)]; unfold dm_X55_behind
    by_cases c : a = 0
    · rw [if_pos c, if_pos c]
    · rw [if_neg c, if_neg c, hs]; rfl
  · rw [e1] at q1''
    rw [if_neg (by omega), if_neg (by omega), if_pos ⟨q1, q1''⟩, em_X57_size] at hs
    rw [if_neg (by omega), if_neg (by omega), if_pos ⟨q1, q1''⟩, em_X57_behind, if_neg (by omega)]; unfold dm_X57_size at hs; unfold dm_X57_behind
    by_cases c : a = 0
    · rw [if_pos c, if_pos c]
    · rw [if_neg c, if_neg c]; exact hs
  · rw [e1] at q1''
    rw [if_neg (by omega), if_neg (by omega), if_neg (by omega), if_pos ⟨q1, q1''⟩, em_X57_size] at hs
    rw [if_neg (by omega), if_neg (by omega), if_neg (by omega), if_pos ⟨q1, q1''⟩, em_X57_behind, if_neg (by omega)]; unfold dm_X57_size at hs; unfold dm_X57_behind
    by_cases c : a = 0
    · rw [if_pos c, if_pos c]
    · rw [if_neg c, if_neg c]; exact hs
/-- a label's value -/
theorem c_valueL (v : vLy d) (h : cLs s B d) (hd : cLd s B d) (l0 : 0 ≤ l) (l1 : l < d 0 2) (hl : ¬ d 12 l = -1) : m_X56_value s (poL s B l) = some (lbV d l) := by
  obtain ⟨g1, g2, g3⟩ := h.2.2.2.2.2.1 l l0 l1
  have lo := lbV_lo v l0 l1 hl
  rcases v.2.2.2.2.2.2.2.1 l l0 l1 with z | ⟨⟨h1, h2⟩, h3, h4⟩
  · exact absurd z hl
  rw [if_neg hl] at g2
  have hp := h.2.2.2.2.1 _ h1 h2
  have hq := hd.1 _ h1 h2
  rw [em_X56_value]; unfold dm_X56_value
  rw [g2, g3, show ([(72, 1), (73, 1), (76, 5), (77, 5)] : List (Int × Int)) = [(72, 1), (73, 1), (76, 1 + 4), (77, 1 + 4)] from rfl, jrp_pc hp (.inr (.inl rfl)), Option.bind_some, c_behind v hp h1 h2 hq, Option.bind_some, hq]
  unfold lbV at lo ⊢
  by_cases c : d 5 (d 12 l) = 0
  · rw [if_pos c] at lo ⊢
    rw [if_pos c, W32_in (by omega) (by omega)]
  · rw [if_neg c] at lo ⊢
    rw [if_neg c]
    by_cases e : d 13 l = 0
    · rw [if_pos e] at lo ⊢
      rw [if_pos e, W32_in (by omega) (by omega), Int.add_zero]
    · rw [if_neg e] at lo ⊢
      rw [if_neg e, W32_in (by omega) (by omega)]
/-- whether there is an aim -/
theorem c_hasAim (v : vLy d) (h : cLs s B d) (k0 : 0 ≤ k) (k1 : k < d 0 1) (hm : mvK d k) : m_X57_hasAim s (poK s B k) = some (if d 12 (d 8 k) = -1 then 0 else 1) := by
  have hp := h.2.2.2.2.1 k k0 k1
  obtain ⟨-, -, -, -, gm⟩ := v.2.2.2.2.2.2.1 k k0 k1
  obtain ⟨⟨l0, l1⟩, -⟩ := gm hm
  obtain ⟨⟨q1, q1', q1''⟩, g2, g3⟩ := h.2.2.2.2.2.1 _ l0 l1
  have h0 := (hp.2.2.2.2.1 hm).1
  rw [em_X57_hasAim]; unfold dm_X57_hasAim
  rw [jrp_mv hp hm, Option.bind_some, h0, jct_in (leafT (ty := 90) rfl rfl (by decide) ⟨q1, q1', q1''⟩), em_X56_isThere]; unfold dm_X56_isThere
  rw [g2]
  by_cases c : d 12 (d 8 k) = -1
  · rw [if_pos c, if_pos (by decide), Option.bind_some, if_pos c, Wz_0, Wz_0]
  · rw [if_neg c, if_neg c]
    rcases v.2.2.2.2.2.2.2.1 _ l0 l1 with z | ⟨⟨h1, h2⟩, h3, h4⟩
    · exact absurd z c
    have hq := h.2.2.2.2.1 _ h1 h2
    obtain ⟨-, ⟨w1, w2, w3, w4⟩, -⟩ := v.2.2.2.2.2.2.1 _ h1 h2
    obtain ⟨⟨a1, a2, a3⟩, b1, b2, b3, -⟩ := h.2.2.2.1 _ w1 w2
    rw [if_neg (by have := hq.1.1; omega), show ([(72, 0), (73, 0), (76, 4), (77, 4)] : List (Int × Int)) = [(72, 0), (73, 0), (76, 0 + 4), (77, 0 + 4)] from rfl, jrp_pc hq (.inl rfl), Option.bind_some, hq.2.1.1, jrd_in a1 a3, Option.bind_some, b3, if_pos rfl, Option.bind_some, Wz_1, Wz_1]
/-- the least size, the component -/
def hid (P : Prop) : Prop := P
theorem c_least (v : vLy d) (h : cLs s B d) (hd : cLd s B d) (k0 : 0 ≤ k) (k1 : k < d 0 1) (hm : mvK d k) : mp_X57_least_2 s (poK s B k) (gpK d) = some (lstK d k) := by
  have hq : hid (mvK d k) := hm
  clear hm
  have hp := h.2.2.2.2.1 k k0 k1
  have hpl := hd.1 k k0 k1
  obtain ⟨-, -, -, -, gm⟩ := v.2.2.2.2.2.2.1 k k0 k1
  obtain ⟨⟨l0, l1⟩, hj, h10, hs15, -⟩ := gm hq
  have jc9 := hj
  unfold jin at jc9
  have ob := ouB_lo (o := 2) v (by decide) (by decide)
  have pl := plK_lo v k0 k1
  have ha := c_hasAim v h k0 k1 hq
  obtain ⟨⟨q1, q1', q1''⟩, q2, q3, q4, q5, q6, q7, q8⟩ := hp
  obtain ⟨m0, m1, -, -⟩ := q5 hq
  have hp := h.2.2.2.2.1 k k0 k1
  obtain ⟨⟨y1, y2, y3⟩, -⟩ := h.2.2.2.2.2.1 _ l0 l1
  have e1 : mp_X57_least_2 s (poK s B k) (gpK d) = m_X57_least s (poK s B k) (gpK d) := by
    rw [emp_X57_least_2]; unfold dmp_X57_least_2
    rcases (mvK.kk hq) with ⟨z1, z2⟩ | ⟨z1, z2⟩ <;> rw [z1] at q1'' <;> simp [q1, q1'']
  have e2 : mp_X57_hasAim s (poK s B k) = m_X57_hasAim s (poK s B k) := by
    rw [emp_X57_hasAim]; unfold dmp_X57_hasAim
    rcases (mvK.kk hq) with ⟨z1, z2⟩ | ⟨z1, z2⟩ <;> rw [z1] at q1'' <;> simp [q1, q1'']
  have e3 : mp_X57_aim s (poK s B k) = m_X57_aim s (poK s B k) := by
    rw [emp_X57_aim]; unfold dmp_X57_aim
    rcases (mvK.kk hq) with ⟨z1, z2⟩ | ⟨z1, z2⟩ <;> rw [z1] at q1'' <;> simp [q1, q1'']
  rw [e1, em_X57_least]; unfold dm_X57_least
  rw [e2, ha, Option.bind_some]
  unfold lstK
  by_cases c : d 12 (d 8 k) = -1
  · rw [if_pos c, if_pos rfl, if_pos c, emp_X57_greatest]; unfold dmp_X57_greatest grK
    rcases (mvK.kk hq) with ⟨z1, z2⟩ | ⟨z1, z2⟩ <;> rw [z1] at q1''
    · rw [if_pos ⟨q1, q1''⟩, jct_in (leafT (ty := 92) rfl rfl (by decide) ⟨q1, q1', q1''⟩), e_X58_greatest, if_pos z2]; rfl
    · rw [if_neg (by omega), if_pos ⟨q1, q1''⟩, jct_in (leafT (ty := 93) rfl rfl (by decide) ⟨q1, q1', q1''⟩), e_X59_greatest, if_neg z2]; rfl
  rw [if_neg c, if_neg n10, if_neg c, e3, em_X57_aim]; unfold dm_X57_aim
  have lo := lbV_lo v l0 l1 c
  have ea : W64 (lbV d (d 8 k) + d 9 k) = aimK d k := W64_in (by omega) (by omega)
  have ab : -2147483648 ≤ aimK d k ∧ aimK d k ≤ 2160000000 := by unfold aimK; omega
  rw [jrp_mv hp hq, Option.bind_some, m0, jct_in (leafT (ty := 90) rfl rfl (by decide) ⟨y1, y2, y3⟩), c_valueL v h hd l0 l1 c, Option.bind_some, jrp_mv hp hq, Option.bind_some, m1, ea, Option.bind_some, emp_X57_least]; unfold dmp_X57_least
  unfold pcX at hpl
  rcases (mvK.kk hq) with ⟨z1, z2⟩ | ⟨z1, z2⟩ <;> rw [z1] at q1''
  · rw [z1, z2, show ofK 1 = 4 from rfl] at hpl
    rw [if_pos ⟨q1, q1''⟩, jct_in (leafT (ty := 92) rfl rfl (by decide) ⟨q1, q1', q1''⟩), e_X58_least, Option.bind_some, if_pos z2]
    unfold v_X58_least
    rw [show (5 : Int) = 1 + 4 from rfl, hpl, q6 z2, W64_in (by omega) (by omega), L_and_1]
    refine congrArg some ?_
    obtain ⟨dd, hdd⟩ : ∃ dd, dd = aimK d k - plK d k := ⟨_, rfl⟩
    rw [← hdd]
    by_cases c2 : dd % 2 = 0
    · rw [if_pos c2, if_pos c2]
      by_cases c3 : d 10 k = 0
      · rw [if_pos c3, if_neg (show ¬ (d 10 k = 1 ∧ -2048 ≤ dd ∧ dd ≤ 2046) by omega)]
        by_cases c4 : -1048576 ≤ dd ∧ dd ≤ 1048574
        · rw [if_pos c4, if_pos (by omega)]
        · rw [if_neg c4, if_neg (by omega)]
      · rw [if_neg c3]
        by_cases c5 : -2048 ≤ dd ∧ dd ≤ 2046
        · rw [if_pos (show d 10 k = 1 ∧ -2048 ≤ dd ∧ dd ≤ 2046 by omega), if_pos (by omega)]
        · rw [if_neg (show ¬ (d 10 k = 1 ∧ -2048 ≤ dd ∧ dd ≤ 2046) by omega), if_neg (by omega)]
          by_cases c4 : -1048576 ≤ dd ∧ dd ≤ 1048574
          · rw [if_pos c4, if_pos (by omega)]
          · rw [if_neg c4, if_neg (by omega)]
    · rw [if_neg c2, if_neg c2]
  · rw [if_neg (by omega), if_pos ⟨q1, q1''⟩, jct_in (leafT (ty := 93) rfl rfl (by decide) ⟨q1, q1', q1''⟩), e_X59_least, Option.bind_some, if_neg z2]
    unfold v_X59_least
    have gl : 0 ≤ gpK d ∧ gpK d ≤ 4702048 := by unfold gpK; omega
    rw [W64_in (z := aimK d k - gpK d) (by omega) (by omega), W64_in (z := aimK d k + 2048) (by omega) (by omega), l_shr_p (by omega) (by decide) (by decide), show (2 : Int) ^ (12 : Int).toNat = 4096 from rfl]
    refine congrArg some ?_
    obtain ⟨am, ham⟩ : ∃ am, am = aimK d k := ⟨_, rfl⟩
    rw [← ham]
    by_cases c2 : nrV am
    · rw [if_pos (show nrV am ∨ nrV (am - gpK d) from .inl c2), if_pos (by omega)]
    rw [if_neg (show ¬ (¬ am < -2048 ∧ ¬ 2047 < am) by omega)]
    by_cases c3 : nrV (am - gpK d)
    · rw [if_pos (show nrV am ∨ nrV (am - gpK d) from .inr c3), if_pos (by omega)]
    rw [if_neg (show ¬ (nrV am ∨ nrV (am - gpK d)) from fun z => z.elim c2 c3), if_neg (show ¬ (¬ am - gpK d < -2048 ∧ ¬ 2047 < am - gpK d) by omega)]
    have hm : d 5 k = 1 ∨ d 5 k = 2 ∨ d 5 k = 3 := hq
    by_cases c4 : d 5 k = 2
    · obtain ⟨u1, u2⟩ := q7 c4
      rw [u1, u2, if_neg n10]
      by_cases c5 : d 10 k = 0
      · rw [if_pos c5, if_neg (by omega)]
      · rw [if_neg c5]
        by_cases c6 : 4096 ≤ am + 2048 ∧ am + 2048 < 131072
        · rw [if_pos (by omega), if_pos (by omega)]
        · rw [if_neg (by omega), if_neg (by omega)]
    · rw [q8 (by omega), if_pos (show (0 : Int) = 0 from Eq.refl _), if_neg (by omega)]
/-- the twin -/
theorem t_valueL (v : vLy d) (h : tLs t X d) (hd : tLq t X d) (l0 : 0 ≤ l) (l1 : l < d 0 2) (hl : ¬ d 12 l = -1) : m_X41_valueOf t X l = some (lbV d l) := by
  obtain ⟨g2, g3⟩ := h.2.2.2.2.2.2 l l0 l1
  have lo := lbV_lo v l0 l1 hl
  have vk := v.2.1
  have vl := v.2.2.1
  rcases v.2.2.2.2.2.2.2.1 l l0 l1 with z | ⟨⟨h1, h2⟩, h3, h4⟩
  · exact absurd z hl
  obtain ⟨⟨q1, q1'⟩, q2, q3, q4, q5, q6⟩ := h.2.2.2.2.1 _ h1 h2
  obtain ⟨p1, p2⟩ := hd.1 _ h1 h2
  have gg := v.2.2.2.2.2.2.1 _ h1 h2
  rw [em_X41_valueOf]; unfold dm_X41_valueOf
  rw [jlt_in l0 (by omega), Option.bind_some, g2, jlt_in h1 (by omega), Option.bind_some, q1]
  have e25 : u_X41_valueOf_25 t X l (d 12 l) = some (W32 (plK d (d 12 l) + d 13 l)) := by
    rw [eu_X41_valueOf_25]; unfold du_X41_valueOf_25
    rw [jlt_in h1 (by omega), Option.bind_some, jlt_in l0 (by omega), Option.bind_some, p1, g3 hl]
  unfold lbV at lo ⊢
  by_cases c : d 5 (d 12 l) = 0
  · rw [if_pos c] at lo ⊢
    rw [if_pos c, e25, W32_in (by omega) (by omega)]
  · rw [if_neg c] at lo ⊢
    rw [if_neg c, jlt_in l0 (by omega), Option.bind_some, g3 hl]
    by_cases e : d 13 l = 0
    · rw [if_pos e] at lo ⊢
      rw [if_pos e, e25, e, Int.add_zero, W32_in (by omega) (by omega)]
    · rw [if_neg e] at lo ⊢
      have es : jf t 1000 (X + 13) (d 12 l) = szK d (d 12 l) (plK d (d 12 l)) := by
        by_cases c4 : d 5 (d 12 l) = 4
        · exact (p2 c4).2
        · unfold szK; rw [if_neg c, if_neg c4, q3 (by unfold mvK; omega)]
      rw [if_neg e, jlt_in h1 (by omega), Option.bind_some, jlt_in h1 (by omega), Option.bind_some, p1, es, W32_in (by omega) (by omega)]
theorem t_shr (h : tLs t X d) (v : vLy d) (k0 : 0 ≤ k) (k1 : k < d 0 1) : (mvK d k → m_X41_shrinks t X k = some 1) ∧ (¬ mvK d k → m_X41_shrinks t X k = some 0) ∧ m_X41_isGone t X k = some 0 := by
  obtain ⟨⟨q1, q1'⟩, -⟩ := h.2.2.2.2.1 k k0 k1
  have vk := v.2.1
  have vn := v.1
  obtain ⟨g5, ⟨w1, w2, w3, w4⟩, -⟩ := v.2.2.2.2.2.2.1 k k0 k1
  refine ⟨fun hm => ?_, fun hm => ?_, ?_⟩
  · unfold mvK at hm
    rw [e_X41_shrinks _ _ _ ⟨k0, by omega⟩ fun _ => ⟨k0, by omega⟩, q1, if_pos (by omega)]
  · unfold mvK at hm
    rw [e_X41_shrinks _ _ _ ⟨k0, by omega⟩ fun _ => ⟨k0, by omega⟩, q1, if_neg (by omega)]
  · rw [em_X41_isGone]; unfold dm_X41_isGone
    rw [jlt_in k0 (by omega), Option.bind_some, q1', jlt_in w1 (by omega), Option.bind_some, h.2.2.2.1 _ w1 (by omega), Wz_0]
theorem t_hasAim (h : tLs t X d) (v : vLy d) (k0 : 0 ≤ k) (k1 : k < d 0 1) : (mvK d k → m_X41_hasAim t X k = some (if d 12 (d 8 k) = -1 then 0 else 1)) ∧ (¬ mvK d k → m_X41_hasAim t X k = some 0) := by
  obtain ⟨s1, s2, s3⟩ := t_shr h v k0 k1
  have vk := v.2.1
  have vl := v.2.2.1
  rw [em_X41_hasAim]; unfold dm_X41_hasAim
  refine ⟨fun hm => ?_, fun hm => ?_⟩
  · obtain ⟨-, -, -, -, -, q6⟩ := h.2.2.2.2.1 k k0 k1
    obtain ⟨-, -, -, -, gm⟩ := v.2.2.2.2.2.2.1 k k0 k1
    obtain ⟨⟨l0, l1⟩, -⟩ := gm hm
    obtain ⟨g2, g3⟩ := h.2.2.2.2.2.2 _ l0 l1
    rw [s1 hm, Option.bind_some, if_neg n10, jlt_in k0 (by omega), Option.bind_some, (q6 hm).1, em_X41_hasValue]; unfold dm_X41_hasValue
    rw [e_X41_isLabel, h.1.2.2.2, W32_in (by omega) (by omega), if_pos (by omega), Option.bind_some, if_neg n10, jlt_in l0 (by omega), Option.bind_some, g2]
    by_cases c : d 12 (d 8 k) = -1
    · rw [if_pos c, if_pos c, Option.bind_some, Wz_0, if_pos rfl]
    · rw [if_neg c, if_neg c, Option.bind_some]
      rcases v.2.2.2.2.2.2.2.1 _ l0 l1 with z | ⟨⟨h1, h2⟩, -⟩
      · exact absurd z c
      rw [(t_shr h v h1 h2).2.2, Option.bind_some, if_pos rfl, Wz_1, Option.bind_some, if_neg n10]
  · rw [s2 hm, Option.bind_some, if_pos rfl, Wz_0]
theorem t_least (v : vLy d) (h : tLs t X d) (hd : tLq t X d) (k0 : 0 ≤ k) (k1 : k < d 0 1) : ∃ z, m_X41_leastOf t X k = some z ∧ (mvK d k → z = lstK d k) := by
  obtain ⟨s1, s2, s3⟩ := t_shr h v k0 k1
  obtain ⟨a1, a2⟩ := t_hasAim h v k0 k1
  have vk := v.2.1
  have vl := v.2.2.1
  rw [em_X41_leastOf]; unfold dm_X41_leastOf
  by_cases hm : mvK d k
  rotate_left
  · rw [a2 hm, Option.bind_some, if_pos rfl, s2 hm, Option.bind_some, if_pos rfl, jlt_in k0 (by omega), Option.bind_some]
    exact ⟨_, rfl, fun z => absurd z hm⟩
  refine ⟨lstK d k, ?_, fun _ => rfl⟩
  obtain ⟨⟨q1, q1'⟩, -, -, -, -, q6⟩ := h.2.2.2.2.1 k k0 k1
  obtain ⟨r8, r9, r10, r16⟩ := q6 hm
  obtain ⟨-, -, -, -, gm⟩ := v.2.2.2.2.2.2.1 k k0 k1
  obtain ⟨⟨l0, l1⟩, hj, h10, -⟩ := gm hm
  have jc9 := hj
  unfold jin at jc9
  have ob := ouB_lo (o := 2) v (by decide) (by decide)
  have pl := plK_lo v k0 k1
  have hpl := (hd.1 k k0 k1).1
  rw [a1 hm, Option.bind_some]
  unfold lstK
  by_cases c : d 12 (d 8 k) = -1
  · rw [if_pos c, if_pos rfl, if_pos c, s1 hm, Option.bind_some, if_neg n10, jlt_in k0 (by omega), Option.bind_some, e_X41_greatest, Option.bind_some, q1]; rfl
  have lo := lbV_lo v l0 l1 c
  have ea : W64 (lbV d (d 8 k) + d 9 k) = aimK d k := W64_in (by omega) (by omega)
  have ab : -2147483648 ≤ aimK d k ∧ aimK d k ≤ 2160000000 := by unfold aimK; omega
  have e1 : m_X41_aimOf t X k = some (aimK d k) := by
    rw [em_X41_aimOf]; unfold dm_X41_aimOf
    rw [jlt_in k0 (by omega), Option.bind_some, r8, t_valueL v h hd l0 l1 c, Option.bind_some, jlt_in k0 (by omega), Option.bind_some, r9, ea]
  rw [if_neg c, if_neg n10, if_neg c, e1, Option.bind_some, jlt_in k0 (by omega), Option.bind_some, q1]
  obtain ⟨am, ham⟩ : ∃ am, am = aimK d k := ⟨_, rfl⟩
  rw [← ham] at ab ⊢
  by_cases c1 : d 5 k = 1
  · rw [if_pos c1, if_pos c1, jlt_in k0 (by omega), Option.bind_some, hpl]
    rw [jlet_e, W64_in (by omega) (by omega)]
    obtain ⟨dd, hdd⟩ : ∃ dd, dd = am - plK d k := ⟨_, rfl⟩
    rw [← hdd]
    unfold jdv
    rw [if_neg (show ¬ (2 : Int) = 0 by decide), Option.bind_some]
    have e104 : ∀ x6, u_X41_leastOf_104 t dd x6 = some (if x6 = 0 then 8 else if -1048576 ≤ dd ∧ dd ≤ 1048574 then 4 else 8) := fun x6 => by
      rw [eu_X41_leastOf_104]; unfold du_X41_leastOf_104
      by_cases d1 : x6 = 0
      · rw [if_pos d1, if_pos d1]
      rw [if_neg d1, if_neg d1]
      by_cases d2 : -1048576 ≤ dd ∧ dd ≤ 1048574
      · rw [if_pos d2, if_neg (by rw [L_cmp_lt]; omega), if_neg (by rw [L_cmp_gt]; omega)]
      · rw [if_neg d2]
        by_cases d3 : dd < -1048576
        · rw [if_pos ((L_cmp_lt _ _).mpr d3)]
        · rw [if_neg (by rw [L_cmp_lt]; omega), if_pos ((L_cmp_gt _ _).mpr (by omega))]
    have e78 : ∀ y0, y0 = 0 ∨ y0 = 1 → u_X41_leastOf_78 t X k dd y0 = some (if y0 = 1 then (if d 10 k = 1 ∧ -2048 ≤ dd ∧ dd ≤ 2047 then 2 else if -1048576 ≤ dd ∧ dd ≤ 1048574 then 4 else 8) else 8) := fun y0 hy => by
      rw [eu_X41_leastOf_78]; unfold du_X41_leastOf_78
      rw [jlt_in k0 (by omega), Option.bind_some, r10, e104]
      by_cases d1 : d 10 k = 0
      · rw [if_pos d1]
        rcases hy with rfl | rfl
        · rfl
        · rw [if_neg n10, if_pos rfl, if_neg (show ¬ (d 10 k = 1 ∧ -2048 ≤ dd ∧ dd ≤ 2047) by omega)]
      rw [if_neg d1]
      rcases hy with rfl | rfl
      · rfl
      rw [if_neg n10, e_X41_isNear, Option.bind_some, if_pos rfl]
      by_cases d2 : -2048 ≤ dd ∧ dd ≤ 2047
      · rw [if_pos (show ¬ dd < -2048 ∧ ¬ 2047 < dd by omega), if_neg n10, if_pos (by omega)]
      · rw [if_neg (show ¬ (¬ dd < -2048 ∧ ¬ 2047 < dd) by omega), if_pos rfl, if_neg n10, if_neg (show ¬ (d 10 k = 1 ∧ -2048 ≤ dd ∧ dd ≤ 2047) by omega)]
    have er := L_rem_0 (v := dd) (by omega) (y := 2) (by decide) (by decide)
    by_cases c2 : dd % 2 = 0
    · rw [if_pos ((L_cmp_0 _ _).mpr (er.mpr c2)), if_pos c2, e78 _ (.inr rfl), if_pos rfl]
      by_cases c3 : d 10 k = 1 ∧ -2048 ≤ dd ∧ dd ≤ 2046
      · rw [if_pos c3, if_pos (by omega)]
      · rw [if_neg c3, if_neg (show ¬ (d 10 k = 1 ∧ -2048 ≤ dd ∧ dd ≤ 2047) by omega)]
    · rw [if_neg (fun z => c2 (er.mp ((L_cmp_0 _ _).mp z))), if_neg c2, e78 _ (.inl rfl)]; rfl
  · rw [if_neg c1, if_neg c1, e_X41_isNear, Option.bind_some]
    by_cases c2 : nrV am
    · rw [if_pos (show ¬ am < -2048 ∧ ¬ 2047 < am by omega), if_neg n10, if_pos (show nrV am ∨ nrV (am - gpK d) from .inl c2)]
    rw [if_neg (show ¬ (¬ am < -2048 ∧ ¬ 2047 < am) by omega), if_pos rfl, jlt_in (by decide) (by decide), Option.bind_some, (hd.2.2 2 (by decide) (by decide)).1, W64_in (z := am - ouB d 2) (by omega) (by omega), W64_in (z := am - ouB d 2 - 2048) (by omega) (by omega), e_X41_isNear, Option.bind_some]
    have eg : gpK d = ouB d 2 + 2048 := rfl
    by_cases c3 : nrV (am - gpK d)
    · rw [if_pos (show ¬ am - ouB d 2 - 2048 < -2048 ∧ ¬ 2047 < am - ouB d 2 - 2048 by omega), if_neg n10, if_pos (show nrV am ∨ nrV (am - gpK d) from .inr c3)]
    rw [if_neg (show ¬ (¬ am - ouB d 2 - 2048 < -2048 ∧ ¬ 2047 < am - ouB d 2 - 2048) by omega), if_pos rfl, if_neg (show ¬ (nrV am ∨ nrV (am - gpK d)) from fun z => z.elim c2 c3)]
    rw [jlet_e, Option.bind_some, W64_in (by omega) (by omega)]
    by_cases c4 : d 5 k = 2
    · rw [if_pos c4, jlt_in k0 (by omega), Option.bind_some, r10]
      by_cases c5 : d 10 k = 0
      · rw [if_pos c5, if_neg (show ¬ (d 5 k = 2 ∧ d 10 k = 1 ∧ 4096 ≤ am + 2048 ∧ am + 2048 < 131072) by omega)]
      rw [if_neg c5]
      by_cases c6 : am + 2048 < 4096
      · rw [if_pos ((L_cmp_lt _ _).mpr c6), if_neg (show ¬ (d 5 k = 2 ∧ d 10 k = 1 ∧ 4096 ≤ am + 2048 ∧ am + 2048 < 131072) by omega)]
      rw [if_neg (by rw [L_cmp_lt]; exact c6)]
      by_cases c7 : am + 2048 < 131072
      · rw [if_pos ((L_cmp_lt _ _).mpr c7), if_pos (show d 5 k = 2 ∧ d 10 k = 1 ∧ 4096 ≤ am + 2048 ∧ am + 2048 < 131072 by omega)]
      · rw [if_neg (by rw [L_cmp_lt]; exact c7), if_neg (show ¬ (d 5 k = 2 ∧ d 10 k = 1 ∧ 4096 ≤ am + 2048 ∧ am + 2048 < 131072) by omega)]
    · rw [if_neg c4, if_neg (show ¬ (d 5 k = 2 ∧ d 10 k = 1 ∧ 4096 ≤ am + 2048 ∧ am + 2048 < 131072) by omega)]
end jLeast
