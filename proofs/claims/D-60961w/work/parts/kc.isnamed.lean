/-! the linker: whether a global has a given name, both sides -/
set_option maxRecDepth 100000
section jIsNamed
variable {s t u w r q' : jS} {a b g k m n p v l x y z c j X f i H C P Q P' Q' S : Int} {O : Int → Int → Int → Int → Int} {d e : Int → Int → Int} {V W : Int → Int} {L : List Int}
abbrev nmE (V : Int → Int) (L : List Int) : Prop := V 5 = L.length ∧ ∀ i : Nat, i < L.length → V (6 + i) = L.getD i 0
theorem sameNm_symm (h : sameNm V W) : sameNm W V := ⟨h.1.symm, fun i i0 i1 => (h.2 i i0 (by rw [h.1]; exact i1)).symm⟩
theorem nmE_same (h : nmE V L) (h' : nmE W L) : sameNm V W := ⟨h.1.trans h'.1.symm, fun i i0 i1 => by
  have h1 := h.1
  have a := h.2 i.toNat (by omega)
  have b := h'.2 i.toNat (by omega)
  rw [show ((i.toNat : Nat) : Int) = i by omega] at a b
  exact a.trans b.symm⟩
theorem c_isNamed (h : lkB C H S O s t) (hs : pSg s a L) (hl : L.length ≤ 16) (hg : (0 ≤ g ∧ g < 600) ∧ jf s 1000 (C + 4275 + 15) g = x / 100 ∧ jf s 1000 (C + 4275 + 16) g = x % 100) (hx : vsy S O x) : ∃ r, m_X35_isNamed s (C + 4275) g a = some r ∧ (r = 0 ∨ r = 1) ∧ (r = 1 ↔ nmE (sy O x) L) := by
  obtain ⟨x1, x2, ⟨x3, x4, x5, x6⟩, x7, -⟩ := h.sym hx
  obtain ⟨v0, v1, v2⟩ := x7.2.2.2.2.2.2.2.2.2.1
  obtain ⟨y0, yk, y1, y2, y3, y4⟩ := T37 x6
  obtain ⟨n1, n2⟩ := x2.2.2.2.2.2
  rw [em_X35_isNamed]; unfold dm_X35_isNamed
  rw [jlt_in hg.1.1 hg.1.2, Option.bind_some, jlt_in hg.1.1 hg.1.2, Option.bind_some, hg.2.1, hg.2.2, x1, Option.bind_some, jrd_in x3 x4, Option.bind_some, x5, jrd_in y0 yk, Option.bind_some, n1, s_len hs (by omega), Option.bind_some]
  by_cases c : sy O x 5 = L.length
  · rw [if_pos c, eu_X35_isNamed_36]; unfold du_X35_isNamed_36
    have st : ∀ k, 0 ≤ k → k < sy O x 5 → b_X35_isNamed_36 s a (syA C x + 1) k = if sy O x (6 + k) = L.getD k.toNat 0 then some (.inl [a, syA C x + 1, k + 1]) else jinr (some 0) := fun k k0 k1 => by
      unfold b_X35_isNamed_36
      rw [jrd_in y0 yk, Option.bind_some, n1, if_pos k1, jrd_in y0 yk, Option.bind_some, y1, show jld s 1001 (syA C x + 1 + 1) k = some (jf s 1001 (syA C x + 1 + 1) k) by unfold jld; rw [if_pos ⟨y2, y3, k0, by rw [y4]; omega⟩], Option.bind_some, n2 k k0 k1, s_charAt hs k0 (by omega), Option.bind_some, W32_in (by omega) (by omega), Wz_0]
    rcases jseekR (C := jc3 b_X35_isNamed_36) (s := s) (fun k => [a, syA C x + 1, k]) (fun k => ¬ sy O x (6 + k) = L.getD k.toNat 0) (fun _ => some 0) (some 1) 0 (sy O x 5) v0 (fun k k0 k1 hk => by
        show b_X35_isNamed_36 s a (syA C x + 1) k = _
        rw [st k k0 k1, if_pos (Decidable.not_not.mp hk)]) (fun k k0 k1 hk => by
        show b_X35_isNamed_36 s a (syA C x + 1) k = _
        rw [st k k0 k1, if_neg hk]) (by
        show b_X35_isNamed_36 s a (syA C x + 1) (sy O x 5) = _
        unfold b_X35_isNamed_36
        rw [jrd_in y0 yk, Option.bind_some, n1, if_neg (Int.lt_irrefl _), Wz_1]) with ⟨k, k0, k1, k2, -, ek⟩ | ⟨k2, ek⟩
    · refine ⟨0, ek, .inl rfl, fun q => absurd q (by decide), fun q => ?_⟩
      have := q.2 k.toNat (by omega)
      rw [show ((k.toNat : Nat) : Int) = k by omega] at this
      exact absurd this k2
    · refine ⟨1, ek, .inr rfl, fun _ => ⟨c, fun i hi => ?_⟩, fun _ => rfl⟩
      exact Decidable.not_not.mp (k2 (i : Int) (by omega) (by omega))
  · rw [if_neg c, Wz_0]
    exact ⟨0, rfl, .inl rfl, fun q => absurd q (by decide), fun q => absurd q.1 c⟩
/-- a name as a number -/
def nmV (V : Int → Int) : Nat → Int
  | 0 => 0
  | n + 1 => nmV V n * 256 + V (6 + n)
theorem nmV_lo {n : Nat} (hV : ∀ i : Nat, i < n → 1 ≤ V (6 + i) ∧ V (6 + i) ≤ 127) : ∀ m : Nat, m ≤ n → 0 ≤ nmV V m ∧ nmV V m < 256 ^ m ∧ (0 < m → 0 < nmV V m) ∧ (2 * nmV V m < 256 ^ m)
  | 0, _ => ⟨Int.le_refl _, by show (0 : Int) < (256 : Int) ^ 0; decide, fun h => absurd h (Nat.lt_irrefl _), by show (2 : Int) * 0 < (256 : Int) ^ 0; decide⟩
  | m + 1, h => by
    obtain ⟨h1, h2, -, h3⟩ := nmV_lo hV m (by omega)
    have hd := hV m (by omega)
    have e : (256 : Int) ^ (m + 1) = 256 ^ m * 256 := Int.pow_succ ..
    show 0 ≤ nmV V m * 256 + V (6 + m) ∧ nmV V m * 256 + V (6 + m) < 256 ^ (m + 1) ∧ (_ → 0 < nmV V m * 256 + V (6 + m)) ∧ 2 * (nmV V m * 256 + V (6 + m)) < 256 ^ (m + 1)
    rw [e]
    generalize (256 : Int) ^ m = z at *
    refine ⟨by omega, by omega, fun _ => by omega, by omega⟩
theorem nmV_inj {n n' : Nat} (hV : ∀ i : Nat, i < n → 1 ≤ V (6 + i) ∧ V (6 + i) ≤ 127) (hW : ∀ i : Nat, i < n' → 1 ≤ W (6 + i) ∧ W (6 + i) ≤ 127) : ∀ m m' : Nat, m ≤ n → m' ≤ n' → nmV V m = nmV W m' → m = m' ∧ ∀ i : Nat, i < m → V (6 + i) = W (6 + i)
  | 0, 0, _, _, _ => ⟨rfl, fun i hi => absurd hi (Nat.not_lt_zero _)⟩
  | 0, m' + 1, _, h2, h => by
    have := (nmV_lo hW (m' + 1) h2).2.2.1 (by omega)
    have e0 : nmV V 0 = 0 := rfl
    omega
  | m + 1, 0, h1, _, h => by
    have := (nmV_lo (n := n) hV (m + 1) h1).2.2.1 (by omega)
    have e0 : nmV W 0 = 0 := rfl
    omega
  | m + 1, m' + 1, h1, h2, h => by
    have h' : nmV V m * 256 + V (6 + m) = nmV W m' * 256 + W (6 + m') := h
    have a := hV m (by omega)
    have b := hW m' (by omega)
    have hq : nmV V m = nmV W m' := by omega
    obtain ⟨e1, e2⟩ := nmV_inj hV hW m m' (by omega) (by omega) hq
    refine ⟨by omega, fun i hi => ?_⟩
    by_cases c : i = m
    · rw [c]; rw [← e1] at h' hq; omega
    · exact e2 i (by omega)
theorem t_isNamed (h : tUy t H x V) (hv : vNm V) (x0 : 0 ≤ x ∧ x < 600) (hW : ∀ i : Nat, i < L.length → 1 ≤ L.getD i 0 ∧ L.getD i 0 ≤ 127) (hL : L.length ≤ 8) (hl : nmV (fun k => L.getD (k - 6).toNat 0) L.length = l) : ∃ r, m_X37_isNamed t H x l = some r ∧ (r = 0 ∨ r = 1) ∧ (r = 1 ↔ nmE V L) := by
  obtain ⟨-, -, -, -, a1, a2⟩ := h
  obtain ⟨v0, v1, v2⟩ := hv
  have hV : ∀ i : Nat, i < (V 5).toNat → 1 ≤ V (6 + i) ∧ V (6 + i) ≤ 127 := fun i hi => by have := v2 i (by omega) (by omega); omega
  rw [em_X37_isNamed]; unfold dm_X37_isNamed
  rw [eu_X37_isNamed_6]; unfold du_X37_isNamed_6
  have key : jE (jlpR (jc5 b_X37_isNamed_6) [H, x, l, 0, 0] t) fun r => ∃ z, (V 5 ≤ 8 → z = nmV V (V 5).toNat) ∧ r = if V 5 < 9 then (if z = l then 1 else 0) else 0 := by
    refine jS_forR (C := jc5 b_X37_isNamed_6) (fun k z => k ≤ 8 → z = nmV V k.toNat) (fun k z => [H, x, l, z, k]) 0 (V 5) v0 (fun _ => rfl) (fun k z k0 k1 hz => ?_) (fun z hz => ?_)
    · show jE (b_X37_isNamed_6 t H x l z k) _
      unfold b_X37_isNamed_6
      rw [jlt_in x0.1 x0.2, Option.bind_some, a1, if_pos k1, eu_X37_isNamed_47]; unfold du_X37_isNamed_47
      rw [W32_in (z := k + 1) (by omega) (by omega)]
      by_cases c : k < 8
      · rw [if_pos c, W32_in (z := 16 * x) (by omega) (by omega), W32_in (z := 16 * x + k) (by omega) (by omega), jlt_in (by omega) (by omega), Option.bind_some, a2 k k0 k1]
        obtain ⟨n1, n2, n3, n4⟩ := nmV_lo (n := (V 5).toNat) hV k.toNat (by omega)
        have hd := v2 k k0 k1
        have e1 := hz (by omega)
        have p8 : (256 : Int) ^ k.toNat ≤ 72057594037927936 := by
          have : k = 0 ∨ k = 1 ∨ k = 2 ∨ k = 3 ∨ k = 4 ∨ k = 5 ∨ k = 6 ∨ k = 7 := by omega
          rcases this with q | q | q | q | q | q | q | q <;> subst q <;> decide
        refine jS_end ⟨_, rfl, fun _ => ?_⟩
        rw [e1, l_shl_p (by decide) (by decide), show (2 : Int) ^ (8 : Int).toNat = 256 from rfl, W64_in (by omega) (by omega), L_or_hi 8 (by decide) (by
          show nmV V k.toNat * 256 % 2 ^ 8 = 0
          rw [show (2 : Int) ^ 8 = 256 from rfl]; omega) (by omega) (by rw [show (2 : Int) ^ 8 = 256 from rfl]; omega), W64_in (by omega) (by omega), show (k + 1).toNat = k.toNat + 1 by omega]
        show _ = nmV V k.toNat * 256 + V (6 + ((k.toNat : Nat) : Int))
        rw [show ((k.toNat : Nat) : Int) = k by omega]
      · rw [if_neg c]
        exact jS_end ⟨_, rfl, fun q => by omega⟩
    · show jE (b_X37_isNamed_6 t H x l z (V 5)) _
      unfold b_X37_isNamed_6
      rw [jlt_in x0.1 x0.2, Option.bind_some, a1, if_neg (Int.lt_irrefl _), eu_X37_isNamed_55]; unfold du_X37_isNamed_55
      rw [jlt_in x0.1 x0.2, Option.bind_some, a1, Wz_0, Wz_1]
      refine jS_inr ?_
      by_cases c : V 5 < 9
      · rw [if_pos c]
        by_cases c2 : z = l
        · rw [if_pos ((L_cmp_0 _ _).mpr c2)]; exact jS_end ⟨z, hz, by rw [if_pos c, if_pos c2]⟩
        · rw [if_neg (fun q => c2 ((L_cmp_0 _ _).mp q))]; exact jS_end ⟨z, hz, by rw [if_pos c, if_neg c2]⟩
      · rw [if_neg c]; exact jS_end ⟨z, hz, by rw [if_neg c]⟩
  obtain ⟨r, er, z, hz, hr⟩ := key
  refine ⟨r, er, by rw [hr]; split <;> (try split) <;> simp, ?_⟩
  have eL : nmE V L ↔ V 5 < 9 ∧ z = l := by
    constructor
    · intro q
      have h5 : V 5 = L.length := q.1
      have z1 := hz (by omega)
      refine ⟨by omega, ?_⟩
      rw [z1, ← hl, show (V 5).toNat = L.length by omega]
      have : ∀ m : Nat, m ≤ L.length → nmV V m = nmV (fun k => L.getD (k - 6).toNat 0) m := fun m => by
        induction m with
        | zero => intro _; rfl
        | succ m ih =>
          intro hm
          show nmV V m * 256 + V (6 + m) = nmV (fun k => L.getD (k - 6).toNat 0) m * 256 + L.getD ((6 + (m : Int)) - 6).toNat 0
          rw [ih (by omega), q.2 m (by omega), show ((6 + (m : Int)) - 6).toNat = m by omega]
      exact this _ (Nat.le_refl _)
    · intro ⟨q1, q2⟩
      have z1 := hz (by omega)
      rw [z1, ← hl] at q2
      obtain ⟨i1, i2⟩ := nmV_inj (n := (V 5).toNat) (n' := L.length) (W := fun k => L.getD (k - 6).toNat 0) hV (fun i hi => by
        show 1 ≤ L.getD ((6 + (i : Int)) - 6).toNat 0 ∧ L.getD ((6 + (i : Int)) - 6).toNat 0 ≤ 127
        rw [show ((6 + (i : Int)) - 6).toNat = i by omega]; exact hW i hi) (V 5).toNat L.length (Nat.le_refl _) (Nat.le_refl _) q2
      refine ⟨by omega, fun i hi => ?_⟩
      have := i2 i (by omega)
      rw [this]
      show L.getD ((6 + (i : Int)) - 6).toNat 0 = _
      rw [show ((6 + (i : Int)) - 6).toNat = i by omega]
  rw [eL, hr]
  by_cases c1 : V 5 < 9
  · rw [if_pos c1]
    by_cases c2 : z = l
    · rw [if_pos c2]; exact ⟨fun _ => ⟨c1, c2⟩, fun _ => rfl⟩
    · rw [if_neg c2]; exact ⟨fun q => absurd q (by decide), fun q => absurd q.2 c2⟩
  · rw [if_neg c1]; exact ⟨fun q => absurd q (by decide), fun q => absurd q.1 c1⟩
end jIsNamed
