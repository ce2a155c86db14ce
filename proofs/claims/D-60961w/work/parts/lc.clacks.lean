/-! the linker: a fill that is too short, the component *-/
set_option maxRecDepth 100000
section jLlc
variable {s t u w : jS} {a b k m n p v l x c f i H B C S K X : Int} {d d' e z y : Int → Int → Int}
theorem c_lacks (h : cLy s B d) (v : vLy d) : ∃ u r, m_X36_lacks s B = some (u, r) ∧ lkR d r ∧ lyW B s u ∧ cLs u B d ∧ cLd u B d ∧ jf u 40 B 19 = 1 := by
  have v1 := v.2.1
  have v0 := v.1
  rw [em_X36_lacks]; unfold dm_X36_lacks
  obtain ⟨u, eu, h1, h2, h3, h19⟩ := c_layAll h v
  rw [eu, Option.bind_some, eu_X36_lacks_6]; unfold du_X36_lacks_6
  have body : ∀ k, 0 ≤ k → k < d 0 1 → b_X36_lacks_6 u B k = if d 5 k = 4 then (if d 6 k < lkK d k then jinr (some (u, k)) else some (.inl (u, [B, k + 1]))) else some (.inl (u, [B, k + 1])) := fun k k0 k1 => by
    have hp := h2.2.2.2.2.1 k k0 k1
    obtain ⟨⟨q1, q1', q1''⟩, ⟨r1, -⟩, -, q4, -⟩ := id hp
    obtain ⟨-, ⟨p0, p1, -⟩, -, g7, -⟩ := v.2.2.2.2.2.2.1 k k0 k1
    obtain ⟨⟨a1, a2, a3⟩, -, -, b4, -⟩ := h2.2.2.2.1 _ p0 p1
    have e57 : u_X36_lacks_57 u B k = some (.inl (u, [B, k + 1])) := by
      rw [eu_X36_lacks_57]; unfold du_X36_lacks_57
      rw [W32_in (by omega) (by omega)]
    have J : jlt u 1020 (B + 2) 256 k = some (poK u B k) := jlt_in k0 (by omega)
    unfold b_X36_lacks_6
    rw [h2.2.1.2.1, if_pos k1, J, Option.bind_some, Option.bind_some]
    have kk := kOf_c (f := d 5 k)
    by_cases c : d 5 k = 4
    · have e73 : jK u (poK u B k) = 73 := by rw [q1'']; unfold kOf; rw [if_neg (by omega), if_pos c]
      have io : jio1 u [73] [72, 76, 77] (poK u B k) = some 1 := by
        unfold jio1; rw [if_neg (by omega), if_pos (by rw [e73]; decide)]
      have kx : ∀ {α : Type} (x : Option α), jkk u [73] (poK u B k) x = x := fun x => by
        unfold jkk; rw [if_pos ⟨q1, by rw [e73]; decide⟩]
      have jr : jrp u [(72, 0), (73, 0), (76, 4), (77, 4)] (poK u B k) = some (poP u B (d 11 k)) := by
        have := jrp_pc (i := 0) hp (.inl rfl)
        rw [r1] at this; exact this
      have pl := h3.1 k k0 k1
      unfold pcX at pl
      rw [show kOf (d 5 k) = 73 by rw [← q1'']; exact e73, show (1 : Int) + ofK (d 5 k) = 1 by rcases kk with z | z | z | z <;> omega] at pl
      obtain ⟨g1, g2, g3⟩ := g7 c
      have plo := plK_lo v k0 k1
      have ulo := up2_lo (a := plK d k) g2 g3
      have sh : m_X55_isShort u (poK u B k) = some (if d 6 k < lkK d k then 1 else 0) := by
        rw [em_X55_isShort]; unfold dm_X55_isShort
        rw [em_X55_lack]; unfold dm_X55_lack
        rw [pl, (q4 c).1, (q4 c).2, c_up (by omega) (by omega) g2 g3, Option.bind_some, Option.bind_some, W32_in (by omega) (by omega), Wz_1, Wz_0]
        show (if d 6 k < lkK d k then some 1 else some 0) = _
        by_cases q : d 6 k < lkK d k
        · rw [if_pos q, if_pos q]
        · rw [if_neg q, if_neg q]
      rw [if_pos c, io, Option.bind_some, if_neg n10, kx, jr, Option.bind_some, jrd_in a1 a3, Option.bind_some, b4, if_pos rfl, jct_in (leafT (ty := 89) rfl rfl (by decide) ⟨q1, q1', e73⟩), sh, Option.bind_some, e57]
      by_cases q : d 6 k < lkK d k
      · rw [if_pos q, if_pos q, if_neg n10]
      · rw [if_neg q, if_neg q, if_pos rfl]
    · have io : jio1 u [73] [72, 76, 77] (poK u B k) = some 0 := by
        unfold jio1
        rcases kk with ⟨z, -, -⟩ | ⟨z, -, z'⟩ | ⟨z, -, -⟩ | ⟨z, -, -⟩
        · rw [if_neg (by omega), q1'', z, if_neg (by decide), if_pos (by decide)]
        · exact absurd z' c
        · rw [if_neg (by omega), q1'', z, if_neg (by decide), if_pos (by decide)]
        · rw [if_neg (by omega), q1'', z, if_neg (by decide), if_pos (by decide)]
      rw [if_neg c, io, Option.bind_some, if_pos rfl, e57]
  rcases jseekW (C := jc2 b_X36_lacks_6) (s := u) (fun k => [B, k]) (fun k => shK d k) (fun k => some (u, k)) (some (u, -1)) 0 (d 0 1) v1.1 (fun k k0 k1 hk => by
    show b_X36_lacks_6 u B k = _
    rw [body k k0 k1]
    by_cases c : d 5 k = 4
    · rw [if_pos c, if_neg (fun z => hk ⟨c, z⟩)]
    · rw [if_neg c]) (fun k k0 k1 hk => by
    show b_X36_lacks_6 u B k = _
    rw [body k k0 k1, if_pos hk.1, if_pos hk.2]) (by
    show b_X36_lacks_6 u B (d 0 1) = _
    unfold b_X36_lacks_6
    rw [h2.2.1.2.1, if_neg (by omega)]) with ⟨k, k0, k1, hk, hl, er⟩ | ⟨hn, er⟩
  · exact ⟨u, k, er, .inr ⟨⟨k0, k1⟩, hk, hl⟩, h1, h2, h3, h19⟩
  · exact ⟨u, -1, er, .inl ⟨rfl, hn⟩, h1, h2, h3, h19⟩
end jLlc
