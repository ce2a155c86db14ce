/-! the linker: the upper word that a low part belongs to, both sides *-/
set_option maxRecDepth 100000
section jLrs
variable {s t u u1 w' s' t' t1 : jS} {a b k m mm n nn o p q v l x c f g i j A H C K S X X' P Q V D F rr n' sec w r how val q0 kd wc wt sz Y y0 : Int} {O : Int → Int → Int → Int → Int} {d e z y : Int → Int → Int} {G B : Int → Int} {o' : Int → Int → Int → Int}
abbrev frP (o' : Int → Int → Int → Int) (a i : Int) : Prop := o' 5 i 2 = 23 ∧ o' 5 i 1 = a
/-- the first among the last m -/
noncomputable def fdR (o' : Int → Int → Int → Int) (a n : Int) : Nat → Int
  | 0 => -1
  | m + 1 => if o' 5 (n - 1 - m) 2 = 23 ∧ o' 5 (n - 1 - m) 1 = a then n - 1 - m else fdR o' a n m
abbrev frR (o' : Int → Int → Int → Int) (a n h : Int) : Prop := (h = -1 ∧ ∀ i, 0 ≤ i → i < n → ¬ frP o' a i) ∨ ((0 ≤ h ∧ h < n) ∧ frP o' a h ∧ ∀ i, 0 ≤ i → i < h → ¬ frP o' a i)
theorem fdR_ok : ∀ m : Nat, (m : Int) ≤ n → (fdR o' a n m = -1 ∧ ∀ i, n - m ≤ i → i < n → ¬ frP o' a i) ∨ ((n - m ≤ fdR o' a n m ∧ fdR o' a n m < n) ∧ frP o' a (fdR o' a n m) ∧ ∀ i, n - m ≤ i → i < fdR o' a n m → ¬ frP o' a i)
  | 0, _ => .inl ⟨rfl, fun i i0 i1 => by omega⟩
  | m + 1, hm => by
    have ih := fdR_ok m (by omega)
    by_cases c : o' 5 (n - 1 - m) 2 = 23 ∧ o' 5 (n - 1 - m) 1 = a
    · have e : fdR o' a n (m + 1) = n - 1 - m := if_pos c
      rw [e]
      exact .inr ⟨⟨by omega, by omega⟩, c, fun i i0 i1 => by omega⟩
    · have e : fdR o' a n (m + 1) = fdR o' a n m := if_neg c
      rw [e]
      have ex : ∀ i, n - (m + 1 : Nat) ≤ i → ¬ n - m ≤ i → ¬ frP o' a i := fun i i0 i1 => by
        rw [show i = n - 1 - m by omega]; exact c
      rcases ih with ⟨h1, h2⟩ | ⟨h1, h2, h3⟩
      · refine .inl ⟨h1, fun i i0 i1 => ?_⟩
        by_cases c' : n - m ≤ i
        · exact h2 i c' i1
        · exact ex i i0 c'
      · refine .inr ⟨by omega, h2, fun i i0 i1 => ?_⟩
        by_cases c' : n - m ≤ i
        · exact h3 i c' i1
        · exact ex i i0 c'
theorem fdR_all (n0 : 0 ≤ n) : frR o' a n (fdR o' a n n.toNat) := by
  have h := fdR_ok (o' := o') (a := a) (n := n) n.toNat (by omega)
  rw [show n - (n.toNat : Int) = 0 by omega] at h
  exact h
theorem frR.one (h : frR o' a n i) (g : frR o' a n j) : i = j := by
  rcases h with ⟨h1, h2⟩ | ⟨h1, h2, h3⟩ <;> rcases g with ⟨g1, g2⟩ | ⟨g1, g2, g3⟩
  · omega
  · exact absurd g2 (h2 j g1.1 g1.2)
  · exact absurd h2 (g2 i h1.1 h1.2)
  · by_cases c : i = j
    · exact c
    · by_cases c2 : i < j
      · exact absurd h2 (g3 i h1.1 c2)
      · exact absurd g2 (h3 j g1.1 (by omega))
/-- the component's search -/
theorem c_restL (hO : cOb s b o') (hT : jTt s 34 b) (vo : vOb o') (hy : 0 ≤ y0 ∧ jK s y0 = 20) (hv : jf s 20 y0 2 = a) : ∃ h, frR o' a (o' 2 2 0) h ∧ u_X35_rest_148 s l how b y0 1 l = u_X35_rest_212 s l how b y0 h := by
  obtain ⟨-, -, -, -, v5, v6⟩ := id vo.2.2.1
  refine ⟨_, fdR_all v5, ?_⟩
  have nn : jf s 18 b 6 = o' 2 2 0 := hO.2.2.2.1.2.2
  rw [eu_X35_rest_148]; unfold du_X35_rest_148
  rw [c_need1, Option.bind_some, jth_ff]
  simp only [jlet]
  rw [nn, W32_in (by omega) (by omega), eu_X35_rest_164]; unfold du_X35_rest_164
  have := jforW (C := jc6 b_X35_rest_164) (fun i => [l, how, b, y0, fdR o' a (o' 2 2 0) i.toNat, o' 2 2 0 - 1 - i]) (fun _ => s) 0 (o' 2 2 0) v5 (fun i i0 i1 => by
    obtain ⟨⟨q0, q1⟩, -, ⟨-, c1, c2, -, -⟩, -⟩ := c_rel hO hT vo (j := o' 2 2 0 - 1 - i) (by omega) (by omega)
    show b_X35_rest_164 s l how b y0 (fdR o' a (o' 2 2 0) i.toNat) (o' 2 2 0 - 1 - i) = _
    unfold b_X35_rest_164
    have e206 : ∀ z0, u_X35_rest_206 s l how b y0 z0 (o' 2 2 0 - 1 - i) = some (.inl (s, [l, how, b, y0, z0, o' 2 2 0 - 1 - (i + 1)])) := fun z0 => by
      rw [eu_X35_rest_206]; unfold du_X35_rest_206
      rw [W32_in (by omega) (by omega), show o' 2 2 0 - 1 - i + -1 = o' 2 2 0 - 1 - (i + 1) by omega]
    have es : fdR o' a (o' 2 2 0) (i + 1).toNat = if o' 5 (o' 2 2 0 - 1 - i) 2 = 23 ∧ o' 5 (o' 2 2 0 - 1 - i) 1 = a then o' 2 2 0 - 1 - i else fdR o' a (o' 2 2 0) i.toNat := by
      rw [show (i + 1).toNat = i.toNat + 1 by omega]
      show (if o' 5 (o' 2 2 0 - 1 - (i.toNat : Int)) 2 = 23 ∧ o' 5 (o' 2 2 0 - 1 - (i.toNat : Int)) 1 = a then o' 2 2 0 - 1 - (i.toNat : Int) else _) = _
      rw [show (i.toNat : Int) = i by omega]
    have ec : b + 4 + 309 + 1 * (o' 2 2 0 - 1 - i) = rlA b (o' 2 2 0 - 1 - i) := rfl
    rw [if_neg (by omega), jix_in (by omega) (by omega), Option.bind_some, ec, c2, jrd_in hy.1 hy.2, hv, Option.bind_some, Option.bind_some, c1, es, e206, e206]
    by_cases d1 : o' 5 (o' 2 2 0 - 1 - i) 2 = 23
    · rw [if_pos d1]
      by_cases d2 : o' 5 (o' 2 2 0 - 1 - i) 1 = a
      · rw [if_pos d2, if_pos ⟨d1, d2⟩]
      · rw [if_neg d2, if_neg (fun q => d2 q.2)]
    · rw [if_neg d1, if_neg (fun q => d1 q.1)]) (r := u_X35_rest_212 s l how b y0 (fdR o' a (o' 2 2 0) (o' 2 2 0).toNat)) (by
    show b_X35_rest_164 s l how b y0 (fdR o' a (o' 2 2 0) (o' 2 2 0).toNat) (o' 2 2 0 - 1 - o' 2 2 0) = _
    unfold b_X35_rest_164
    rw [if_pos (by omega)])
  have e0 : [l, how, b, y0, fdR o' a (o' 2 2 0) (0 : Int).toNat, o' 2 2 0 - 1 - 0] = [l, how, b, y0, -1, o' 2 2 0 - 1] := by
    rw [show o' 2 2 0 - 1 - 0 = o' 2 2 0 - 1 by omega]; rfl
  rw [e0] at this
  exact this
/-- the twin's search -/
theorem t_restL (hu : tUn t H x o') (vo : vOb o') (g : gOb o') (x0 : 0 ≤ x) (x1 : x < 6) (hx : jf t 41 H 113 = x) (X0 : 0 ≤ X) (X1 : X < 600) (hv : jf t 1000 (H + 178) X = a) : ∃ h, frR o' a (o' 2 2 0) h ∧ u_X37_upperFor_83 t H X 0 = some (if h = -1 then -1 else 300 * x + h) := by
  obtain ⟨-, -, -, -, v5, v6⟩ := id vo.2.2.1
  obtain ⟨n1, n2⟩ := hu.2.2.2.2
  rw [eu_X37_upperFor_83]; unfold du_X37_upperFor_83
  have st : ∀ j, 0 ≤ j → j < o' 2 2 0 → (¬ frP o' a j → b_X37_upperFor_83 t H X j = some (.inl [H, X, j + 1])) ∧ (frP o' a j → b_X37_upperFor_83 t H X j = jinr (some (300 * x + j))) := fun j j0 j1 => by
    obtain ⟨c0, c1, c2, c3, c4⟩ := n2 j j0 j1
    have gs := (g.2.2 j j0 j1).1
    unfold b_X37_upperFor_83
    rw [hx, jlt_in x0 x1, Option.bind_some, n1, if_pos j1, jlet_e, W32_in (z := 300 * x) (by omega) (by omega), W32_in (z := 300 * x + j) (by omega) (by omega), jlt_in (by omega) (by omega), Option.bind_some, c2, eu_X37_upperFor_149]; unfold du_X37_upperFor_149
    rw [W32_in (z := j + 1) (by omega) (by omega)]
    by_cases c23 : o' 5 j 2 = 23
    · rw [if_pos c23, jlt_in (by omega) (by omega), Option.bind_some, c0, if_pos (by omega), jlt_in (by omega) (by omega), Option.bind_some, c1, jlt_in X0 X1, Option.bind_some, hv]
      by_cases ca : o' 5 j 1 = a
      · rw [if_pos ca]; exact ⟨fun q => absurd ⟨c23, ca⟩ q, fun _ => rfl⟩
      · rw [if_neg ca]; exact ⟨fun _ => rfl, fun q => absurd q.2 ca⟩
    · rw [if_neg c23]; exact ⟨fun _ => rfl, fun q => absurd q.1 c23⟩
  rcases jseekR (C := jc3 b_X37_upperFor_83) (s := t) (fun j => [H, X, j]) (fun j => frP o' a j) (fun j => some (300 * x + j)) (some (-1)) 0 (o' 2 2 0) v5 (fun j j0 j1 hj => (st j j0 j1).1 hj) (fun j j0 j1 hj => (st j j0 j1).2 hj) (by
      show b_X37_upperFor_83 t H X (o' 2 2 0) = _
      unfold b_X37_upperFor_83
      rw [hx, jlt_in x0 x1, Option.bind_some, n1, if_neg (Int.lt_irrefl _)]) with ⟨k, k0, k1, k2, k3, e⟩ | ⟨k2, e⟩
  · exact ⟨k, .inr ⟨⟨k0, k1⟩, k2, k3⟩, by rw [if_neg (by omega)]; exact e⟩
  · exact ⟨-1, .inl ⟨rfl, k2⟩, by rw [if_pos rfl]; exact e⟩
end jLrs
