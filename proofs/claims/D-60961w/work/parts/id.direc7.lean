/-! directives: options by name *-/
set_option maxRecDepth 100000
section jDirec7
variable {s t u w t' : jS} {v A H b lo W k c a hh x y f d n o j e m : Int} {l : List Int} {NL : List (List Int)} {I : pI} {OL : List pvO} {SL : List pvS} {z : pvS} {zo : pvO} {Q Q' : jS → jS → Int → Prop} {q : jS × Bool × Int} {r : jS}
theorem cmpI {β : Type} {p g : β} : (if L_cmp x y = 0 then p else g) = if x = y then p else g := by
  by_cases c : x = y
  · rw [if_pos c, if_pos ((L_cmp_0 _ _).mpr c)]
  · rw [if_neg c, if_neg fun z => c ((L_cmp_0 _ _).mp z)]
/-- an option's name as the twin packs it -/
def oV (l : List Int) (i : Nat) : Int := if i ≤ 8 then pk (l.take i) else 0
theorem y_optL (hB : yBk t (H + 8) NL I OL SL) (m0 : 0 ≤ m) (m1 : m < NL.length) (hl : tNa NL m = l) (h : lts l) : ∀ (r i : Nat), i + r = l.length → u_X37_option_34 t H (oV l i) m i = u_X37_option_82 t H (oV l l.length)
  | 0, i, hi => by
    have hi' : i = l.length := by omega
    subst hi'
    have nq : m_X39_name t (H + 8) m l.length = some (t, -1) := by
      rw [y_qname hB m0 m1 (by omega), hl]
      unfold nmQ
      rw [if_neg (by omega)]
    rw [eu_X37_option_34]; unfold du_X37_option_34
    refine jlpW_r ?_
    show b_X37_option_34 t H (oV l l.length) m l.length = _
    unfold b_X37_option_34
    rw [nq, Option.bind_some, if_pos rfl]
  | r + 1, i, hi => by
    have hlt : i < l.length := by omega
    have hl16 := h.1
    have hc' := h.2 (l.getD i 0) (by rw [List.getD_eq_getElem?_getD, List.getElem?_eq_getElem hlt]; exact List.getElem_mem _)
    have nq : m_X39_name t (H + 8) m i = some (t, l.getD i 0) := by
      rw [y_qname hB m0 m1 (by omega), hl]
      unfold nmQ
      rw [if_pos (by omega), Int.toNat_natCast]
    have ih := y_optL hB m0 m1 hl h r (i + 1) (by omega)
    rw [eu_X37_option_34] at ih ⊢; unfold du_X37_option_34 at ih ⊢
    have bb : jc4 b_X37_option_34 [H, oV l i, m, (i : Int)] t = some (.inl (t, [H, oV l (i + 1), m, ((i + 1 : Nat) : Int)])) := by
      show b_X37_option_34 t H (oV l i) m i = _
      unfold b_X37_option_34
      rw [nq, Option.bind_some, if_neg (by show ¬ l.getD i 0 = -1; omega)]
      dsimp only
      rw [nq, Option.bind_some, eu_X37_option_75]; unfold du_X37_option_75
      dsimp only
      rw [W32_in (by omega) (by omega)]
      by_cases c8 : i < 8
      · have hP : ∀ c ∈ l.take i, 1 ≤ c ∧ c < 128 := fun c hc => h.2 c (List.mem_of_mem_take hc)
        have li : (l.take i).length = i := by rw [List.length_take]; omega
        have o1 := (or_low (c := l.getD i 0) (pkB_of hP) (by omega) (by omega) hc'.2).1
        rw [← take_1 hlt] at o1
        unfold oV
        rw [if_pos (show (i : Int) < 8 by omega), if_pos (show i ≤ 8 by omega), if_pos (show i + 1 ≤ 8 by omega), o1]; rfl
      · unfold oV
        rw [if_neg (show ¬ (i : Int) < 8 by omega), if_neg (show ¬ i + 1 ≤ 8 by omega)]; rfl
    rw [jlpW_l bb]; exact ih
theorem opt_k : pk (cS 16) = 7501411 ∧ pk (cS 17) = 474316174947 ∧ pk (cS 18) = 491327873400 ∧ pk (cS 19) = 31084784556728696 ∧ pk (cS 20) = 1886745448 ∧ pk (cS 21) = 7368560 := by decide +kernel
theorem opt_s : ∀ i, i < 6 → (cS (16 + i)).length ≤ 8 ∧ ∀ c ∈ cS (16 + i), 1 ≤ c ∧ c < 256 := by decide +kernel
theorem oV_at {i : Nat} (hi : i < 6) (hl : l = cS (16 + i)) : oV l l.length = pk (cS (16 + i)) := by
  have := (opt_s i hi).1
  unfold oV
  rw [hl, if_pos this, List.take_length]
theorem oV_no (h : lts l) {i : Nat} (hi : i < 6) (hl : ¬ l = cS (16 + i)) (h0 : ¬ pk (cS (16 + i)) = 0) : ¬ oV l l.length = pk (cS (16 + i)) := by
  unfold oV
  by_cases c : l.length ≤ 8
  · rw [if_pos c, List.take_length]
    exact fun z => hl (pk_inj (fun c hc => by have := h.2 c hc; omega) (opt_s i hi).2 z)
  · rw [if_neg c]
    exact fun z => h0 z.symm
theorem opt_do (h : AG s t A H b lo NL I OL SL k z) (hl : lts l) {d : Int} (hd : isIx 16 6 l d) : stO s t A H b lo NL I OL SL k z (u_X33_option_195 s A d) (u_X37_option_82 t H (oV l l.length)) (dQ t H) := by
  obtain ⟨k0, k1, k2, k3, k4, k5⟩ := opt_k
  rw [eu_X33_option_195, eu_X37_option_82]; unfold du_X33_option_195 du_X37_option_82
  simp only [cmpI]
  rcases hd with ⟨i, r1, r2, r3, r4⟩ | ⟨r1, r2⟩
  · have e := oV_at r2 r3
    rw [e, r1]
    have : i = 0 ∨ i = 1 ∨ i = 2 ∨ i = 3 ∨ i = 4 ∨ i = 5 := by omega
    rcases this with rfl | rfl | rfl | rfl | rfl | rfl
    · rw [show pk (cS (16 + 0)) = 7501411 from k0, if_pos (show ((0 : Nat) : Int) = 0 from rfl), if_pos rfl]
      exact opt_set h (.inr rfl) (.inl ⟨rfl, rfl⟩)
    · rw [show pk (cS (16 + 1)) = 474316174947 from k1, if_neg (show ¬ ((1 : Nat) : Int) = 0 by decide), if_pos (show ((1 : Nat) : Int) = 1 from rfl), if_neg (show ¬ (474316174947 : Int) = 7501411 by decide), if_pos rfl]
      exact opt_set h (.inl rfl) (.inl ⟨rfl, rfl⟩)
    · rw [show pk (cS (16 + 2)) = 491327873400 from k2, if_neg (show ¬ ((2 : Nat) : Int) = 0 by decide), if_neg (show ¬ ((2 : Nat) : Int) = 1 by decide), if_pos (show ((2 : Nat) : Int) = 2 from rfl), if_neg (show ¬ (491327873400 : Int) = 7501411 by decide), if_neg (show ¬ (491327873400 : Int) = 474316174947 by decide), if_pos rfl]
      exact opt_set h (.inr rfl) (.inr ⟨rfl, rfl⟩)
    · rw [show pk (cS (16 + 3)) = 31084784556728696 from k3, if_neg (show ¬ ((3 : Nat) : Int) = 0 by decide), if_neg (show ¬ ((3 : Nat) : Int) = 1 by decide), if_neg (show ¬ ((3 : Nat) : Int) = 2 by decide), if_pos (show ((3 : Nat) : Int) = 3 from rfl), if_neg (show ¬ (31084784556728696 : Int) = 7501411 by decide), if_neg (show ¬ (31084784556728696 : Int) = 474316174947 by decide), if_neg (show ¬ (31084784556728696 : Int) = 491327873400 by decide), if_pos rfl]
      exact opt_set h (.inl rfl) (.inr ⟨rfl, rfl⟩)
    · rw [show pk (cS (16 + 4)) = 1886745448 from k4, if_neg (show ¬ ((4 : Nat) : Int) = 0 by decide), if_neg (show ¬ ((4 : Nat) : Int) = 1 by decide), if_neg (show ¬ ((4 : Nat) : Int) = 2 by decide), if_neg (show ¬ ((4 : Nat) : Int) = 3 by decide), if_pos (show ((4 : Nat) : Int) = 4 from rfl), if_neg (show ¬ (1886745448 : Int) = 7501411 by decide), if_neg (show ¬ (1886745448 : Int) = 474316174947 by decide), if_neg (show ¬ (1886745448 : Int) = 491327873400 by decide), if_neg (show ¬ (1886745448 : Int) = 31084784556728696 by decide), if_pos (show (1886745448 : Int) = 1886745448 from rfl)]
      exact opt_push h
    · rw [show pk (cS (16 + 5)) = 7368560 from k5, if_neg (show ¬ ((5 : Nat) : Int) = 0 by decide), if_neg (show ¬ ((5 : Nat) : Int) = 1 by decide), if_neg (show ¬ ((5 : Nat) : Int) = 2 by decide), if_neg (show ¬ ((5 : Nat) : Int) = 3 by decide), if_neg (show ¬ ((5 : Nat) : Int) = 4 by decide), if_pos (show ((5 : Nat) : Int) = 5 from rfl), if_neg (show ¬ (7368560 : Int) = 7501411 by decide), if_neg (show ¬ (7368560 : Int) = 474316174947 by decide), if_neg (show ¬ (7368560 : Int) = 491327873400 by decide), if_neg (show ¬ (7368560 : Int) = 31084784556728696 by decide), if_neg (show ¬ (7368560 : Int) = 1886745448 by decide), if_pos (show (7368560 : Int) = 7368560 from rfl)]
      exact opt_pop h
  · have n0 := oV_no hl (i := 0) (by decide) (r2 0 (by decide)) (by rw [show pk (cS (16 + 0)) = 7501411 from k0]; decide)
    have n1 := oV_no hl (i := 1) (by decide) (r2 1 (by decide)) (by rw [show pk (cS (16 + 1)) = 474316174947 from k1]; decide)
    have n2 := oV_no hl (i := 2) (by decide) (r2 2 (by decide)) (by rw [show pk (cS (16 + 2)) = 491327873400 from k2]; decide)
    have n3 := oV_no hl (i := 3) (by decide) (r2 3 (by decide)) (by rw [show pk (cS (16 + 3)) = 31084784556728696 from k3]; decide)
    have n4 := oV_no hl (i := 4) (by decide) (r2 4 (by decide)) (by rw [show pk (cS (16 + 4)) = 1886745448 from k4]; decide)
    have n5 := oV_no hl (i := 5) (by decide) (r2 5 (by decide)) (by rw [show pk (cS (16 + 5)) = 7368560 from k5]; decide)
    rw [show pk (cS (16 + 0)) = 7501411 from k0] at n0
    rw [show pk (cS (16 + 1)) = 474316174947 from k1] at n1
    rw [show pk (cS (16 + 2)) = 491327873400 from k2] at n2
    rw [show pk (cS (16 + 3)) = 31084784556728696 from k3] at n3
    rw [show pk (cS (16 + 4)) = 1886745448 from k4] at n4
    rw [show pk (cS (16 + 5)) = 7368560 from k5] at n5
    rw [r1, if_neg n0, if_neg n1, if_neg n2, if_neg n3, if_neg n4, if_neg n5, if_neg (show ¬ (-1 : Int) = 0 by decide), if_neg (show ¬ (-1 : Int) = 1 by decide), if_neg (show ¬ (-1 : Int) = 2 by decide), if_neg (show ¬ (-1 : Int) = 3 by decide), if_neg (show ¬ (-1 : Int) = 4 by decide), if_neg (show ¬ (-1 : Int) = 5 by decide)]
    exact .bad0 h (by decide) fun _ _ => rfl
theorem option2 (h : AG s t A H b lo NL I OL SL k z) : stW s t A H b lo NL I OL SL k z (m_X33_option s A) (m_X37_option t H) (dQ t H) := by
  rw [em_X33_option, em_X37_option]; unfold dm_X33_option dm_X37_option
  rw [h.2.1.2.2.1, h.2.1.2.2.2]
  have bd : stW s t A H b lo NL I OL SL k z (u_X33_option_21 s A A) (u_X37_option_16 t H) (dQ t H) := by
    rw [eu_X33_option_21, eu_X37_option_16]; unfold du_X33_option_21 du_X37_option_16
    rw [eu_X33_option_22]; unfold du_X33_option_22
    exact stO.out (.bad0 h (by decide) fun _ _ => rfl)
  by_cases c : z.2.2.2.1 = 1
  rotate_left
  · rw [if_neg c, if_neg c]; exact bd
  rw [if_pos c, if_pos c, c_isNm h (by decide) (by omega), Option.bind_some, y_isN h (by decide) (by omega), Option.bind_some]
  dsimp only
  by_cases cn : nmOp I (tO OL (z.2.2.1 + 0))
  rotate_left
  · rw [if0 cn, if_pos rfl, if_pos rfl]; exact bd
  obtain ⟨m0, m1⟩ := opNm_in h (by decide) (by omega) cn
  obtain ⟨q1, q2, q3, q4, q5, q6, q7, q8, q9⟩ := h.1.nm m0 m1
  obtain ⟨u, e1, e2, e3, e4, e5⟩ := hash2 h m0 m1
  have cN := c_nmOf h (by decide) (by omega) cn
  have yN := y_nmAt h (by decide) (by omega) cn
  have yL := y_optL h.1.2.1.1 m0 m1 rfl q7 (tNa NL (opNm I (tO OL (z.2.2.1 + 0)))).length 0 (by omega)
  have o0 : oV (tNa NL (opNm I (tO OL (z.2.2.1 + 0)))) 0 = 0 := rfl
  rw [o0] at yL
  obtain ⟨d, hd⟩ := isIx_ex 16 6 (tNa NL (opNm I (tO OL (z.2.2.1 + 0))))
  obtain ⟨g1, g2, g3⟩ := swG_of optL_g
  have l16 := q7.1
  rw [if1 cn, if_neg n10, if_neg n10, yN, Option.bind_some, eu_X33_option_22]; unfold du_X33_option_22
  rw [needOk (by decide)]
  dsimp only
  rw [jth_ff, q1, q2, Option.bind_some, cN, Option.bind_some, q3, Option.bind_some]
  have yL' : u_X37_option_34 t H 0 (opNm I (tO OL (z.2.2.1 + 0))) 0 = u_X37_option_82 t H (oV (tNa NL (opNm I (tO OL (z.2.2.1 + 0)))) (tNa NL (opNm I (tO OL (z.2.2.1 + 0)))).length) := yL
  rw [yL']
  show stW s t A H b lo NL I OL SL k z ((mp_J2_hashCode s (jf s 1026 (b + 5) (opNm I (tO OL (z.2.2.1 + 0))))).bind (fun q5 => swC q5.1 (jf s 1026 (b + 5) (opNm I (tO OL (z.2.2.1 + 0)))) q5.2 (fun d => u_X33_option_195 q5.1 A d) optL)) _ _
  rw [e1, Option.bind_some]
  have sw := swC_ix (F := fun d => u_X33_option_195 u A d) hd e3.con e5 (by omega) (by decide) g1 g2 g3
  dsimp only
  rw [sw]
  exact (opt_do e3 q7 hd).out.pre e4 tF.rfl
end jDirec7
