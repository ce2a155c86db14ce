/-! the strings of the twin, titles, turns -/
section jTstr
variable {s t u : jS} {X x y n : Int} {o : Int → Int → Int → Int} {S w : List Int} {T : Nat → Bool}
/-- strings, the word at hand, places of strings: what is written -/
def fStr (s t : jS) (X : Int) : Prop := jSm s t ∧ ∀ c a k, ¬ (c = 1000 ∧ (X + 27 ≤ a ∧ a ≤ X + 29 ∨ a = X + 31)) → ¬ (c = 44 ∧ a = X ∧ (k = 30 ∨ k = 32)) → jf t c a k = jf s c a k
theorem fStr.rfl : fStr s s X := ⟨jSm.rfl, fun _ _ _ _ _ => Eq.refl _⟩
theorem fStr.trans (h : fStr s t X) (g : fStr t u X) : fStr s u X := ⟨h.1.trans g.1, fun c a k p q => (g.2 c a k p q).trans (h.2 c a k p q)⟩
theorem fStr.jp {c a k v : Int} (h : fStr s t X) (e : c = 1000 ∧ (X + 27 ≤ a ∧ a ≤ X + 29 ∨ a = X + 31) ∨ c = 44 ∧ a = X ∧ (k = 30 ∨ k = 32)) : fStr s (jp t c a k v) X :=
  ⟨h.1.jp, fun c' a' k' p q => by rw [jf_jp, if_neg (by omega)]; exact h.2 c' a' k' p q⟩
theorem fStr.r (h : fStr s t X) {a : Int} (e : ¬ (X + 27 ≤ a ∧ a ≤ X + 29 ∨ a = X + 31)) (k : Int) : jf t 1000 a k = jf s 1000 a k := h.2 _ _ _ (by omega) (by omega)
theorem fStr.i (h : fStr s t X) {k : Int} (e : ¬ (k = 30 ∨ k = 32)) : jf t 44 X k = jf s 44 X k := h.2 _ _ _ (by omega) (by omega)
theorem jfl_neg {c a lo n : Int} {e : Int → Int} {c' a' j : Int} (h : ¬ (c' = c ∧ a' = a ∧ lo ≤ j ∧ j < lo + n)) : jf (jfil s c a lo n e) c' a' j = jf s c' a' j := by rw [jf_jfil, if_neg h]
theorem jfl_pos {c a lo n : Int} {e : Int → Int} {c' a' j : Int} (h : c' = c ∧ a' = a ∧ lo ≤ j ∧ j < lo + n) : jf (jfil s c a lo n e) c' a' j = e (j - lo) := by rw [jf_jfil, if_pos h]
def tSt (t : jS) (X : Int) (S : List Int) : Prop := jf t 44 X 30 = S.length ∧ ∀ i : Nat, i < S.length → jf t 1000 (X + 27) i = S.getD i 0
def tWd (t : jS) (X : Int) (w : List Int) : Prop := jf t 44 X 32 = w.length ∧ ∀ i : Nat, i < w.length → jf t 1000 (X + 28) i = w.getD i 0
theorem t_begin : jE (m_X40_begin s X) fun q => fStr s q.1 X ∧ tSt q.1 X [0] := by
  rw [em_X40_begin]; unfold dm_X40_begin
  (repeat (first | with_reducible refine jS_pos (by omega) ?_ | with_reducible refine jS_neg (by omega) ?_ | with_reducible refine jS_posB (by omega) ?_ | with_reducible refine jS_negB (by omega) ?_ | with_reducible refine jS_some ?_ | with_reducible refine jS_ls ?_ | with_reducible refine jS_let ?_ | with_reducible refine jS_lt (by omega) (by omega) ?_ | with_reducible refine jS_st (by omega) (by omega) ?_ | with_reducible refine jS_ix (by omega) (by omega) ?_ | with_reducible refine jS_dv (by omega) ?_ | with_reducible refine jS_zb (by omega) ?_ | with_reducible refine jS_bb ?_ | with_reducible refine jS_inr ?_ | with_reducible refine jS_lsB ?_ | with_reducible refine jS_letB ?_ | with_reducible refine jS_ck0 (by omega) ?_ | with_reducible refine jS_ck0B (by omega) ?_ | rw [W32_in (by omega) (by omega)] | rw [W32_aL] | rw [W32_aR] | rw [W32_sL] | rw [W32_mR] | rw [jf_neg (by omega)] | rw [jf_pos (by omega)] | with_reducible refine jS_bb ?_))
  refine jS_end ⟨((fStr.rfl.jp (by omega)).jp (by omega)).jp (by omega), by (repeat (first | rw [jf_neg (by omega)] | rw [jf_pos (by omega)] | rw [ou_neg (by omega)] | rw [ou_pos (by omega)])); rfl, fun i hi => ?_⟩
  have : i = 0 := by simp only [List.length_cons, List.length_nil] at hi; omega
  subst this
  (repeat (first | rw [jf_neg (by omega)] | rw [jf_pos (by omega)] | rw [ou_neg (by omega)] | rw [ou_pos (by omega)])); rfl
theorem t_strIn (hS : tSt s X S) (hw : tWd s X w) (hl : S.length ≤ 2048) (hv : w.length ≤ 24) {p : Nat} (hp : p + w.length < S.length) {f : Int} (hf : f = if S.getD (p + w.length) 0 = 0 then 1 else 0) : u_X40_stringFor_37 s X p f 0 = if stAt S w p = true then some (.inr (s, (p : Int))) else some (.inl (s, [X, (p : Int) + 1])) := by
  obtain ⟨h1, h2⟩ := hS
  obtain ⟨g1, g2⟩ := hw
  have key : jE (u_X40_stringFor_37 s X p f 0) fun r => r = if stAt S w p = true then .inr (s, (p : Int)) else .inl (s, [X, (p : Int) + 1]) := by
    rw [eu_X40_stringFor_37]; unfold du_X40_stringFor_37
    refine jS_for1 (fun k z u => u = s ∧ (z = 0 ∨ z = 1) ∧ (z = 1 ↔ f = 1 ∧ ∀ i : Nat, i < k → S.getD (p + i) 0 = w.getD i 0)) (fun k z => [X, p, z, k]) 0 w.length (by omega) ⟨rfl, by rw [hf]; split <;> omega, fun e => ⟨e, fun i hi => by omega⟩, fun e => e.1⟩ (fun k z u k0 k1 ⟨e0, e1, e2⟩ => ?_) (fun z u ⟨e0, e1, e2⟩ => ?_)
    · subst e0
      show jE (b_X40_stringFor_37 u X p z k) _
      unfold b_X40_stringFor_37
      rw [g1, if_pos k1]
      by_cases c : z = 0
      · rw [if_pos c]
        simp only [em_X40_stringFor, dm_X40_stringFor, eu_X40_stringFor_125, du_X40_stringFor_125, eu_X40_stringFor_90, du_X40_stringFor_90, eu_X40_stringFor_78, du_X40_stringFor_78, eu_X40_stringFor_71, du_X40_stringFor_71, eu_X40_stringFor_34, du_X40_stringFor_34, if_pos c]
        (repeat (first | with_reducible refine jS_pos (by omega) ?_ | with_reducible refine jS_neg (by omega) ?_ | with_reducible refine jS_posB (by omega) ?_ | with_reducible refine jS_negB (by omega) ?_ | with_reducible refine jS_some ?_ | with_reducible refine jS_ls ?_ | with_reducible refine jS_let ?_ | with_reducible refine jS_lt (by omega) (by omega) ?_ | with_reducible refine jS_st (by omega) (by omega) ?_ | with_reducible refine jS_ix (by omega) (by omega) ?_ | with_reducible refine jS_dv (by omega) ?_ | with_reducible refine jS_zb (by omega) ?_ | with_reducible refine jS_bb ?_ | with_reducible refine jS_inr ?_ | with_reducible refine jS_lsB ?_ | with_reducible refine jS_letB ?_ | with_reducible refine jS_ck0 (by omega) ?_ | with_reducible refine jS_ck0B (by omega) ?_ | rw [W32_in (by omega) (by omega)] | rw [W32_aL] | rw [W32_aR] | rw [W32_sL] | rw [W32_mR] | rw [jf_neg (by omega)] | rw [jf_pos (by omega)] | with_reducible refine jS_bb ?_))
        refine jS_end ?_
        rw [if_neg]
        intro q
        obtain ⟨q1, q2, q3⟩ := stAt_iff.mp q
        have := e2.mpr ⟨by rw [hf, if_pos q2], fun i hi => q3 i (by omega)⟩
        omega
      · obtain ⟨a1, a2⟩ := e2.mp (by omega)
        rw [if_neg c]
        have b1 := h2 (p + k.toNat) (by omega)
        have b2 := g2 k.toNat (by omega)
        rw [show ((p + k.toNat : Nat) : Int) = p + k by omega] at b1
        rw [show ((k.toNat : Nat) : Int) = k by omega] at b2
        (repeat (first | with_reducible refine jS_pos (by omega) ?_ | with_reducible refine jS_neg (by omega) ?_ | with_reducible refine jS_posB (by omega) ?_ | with_reducible refine jS_negB (by omega) ?_ | with_reducible refine jS_some ?_ | with_reducible refine jS_ls ?_ | with_reducible refine jS_let ?_ | with_reducible refine jS_lt (by omega) (by omega) ?_ | with_reducible refine jS_st (by omega) (by omega) ?_ | with_reducible refine jS_ix (by omega) (by omega) ?_ | with_reducible refine jS_dv (by omega) ?_ | with_reducible refine jS_zb (by omega) ?_ | with_reducible refine jS_bb ?_ | with_reducible refine jS_inr ?_ | with_reducible refine jS_lsB ?_ | with_reducible refine jS_letB ?_ | with_reducible refine jS_ck0 (by omega) ?_ | with_reducible refine jS_ck0B (by omega) ?_ | rw [W32_in (by omega) (by omega)] | rw [W32_aL] | rw [W32_aR] | rw [W32_sL] | rw [W32_mR] | rw [jf_neg (by omega)] | rw [jf_pos (by omega)] | with_reducible refine jS_bb ?_))
        simp only [em_X40_stringFor, dm_X40_stringFor, eu_X40_stringFor_125, du_X40_stringFor_125, eu_X40_stringFor_90, du_X40_stringFor_90, eu_X40_stringFor_78, du_X40_stringFor_78, eu_X40_stringFor_71, du_X40_stringFor_71, eu_X40_stringFor_34, du_X40_stringFor_34]
        rw [b1, b2]
        by_cases c1 : S.getD (p + k.toNat) 0 = w.getD k.toNat 0
        · rw [if_pos c1]
          (repeat (first | with_reducible refine jS_pos (by omega) ?_ | with_reducible refine jS_neg (by omega) ?_ | with_reducible refine jS_posB (by omega) ?_ | with_reducible refine jS_negB (by omega) ?_ | with_reducible refine jS_some ?_ | with_reducible refine jS_ls ?_ | with_reducible refine jS_let ?_ | with_reducible refine jS_lt (by omega) (by omega) ?_ | with_reducible refine jS_st (by omega) (by omega) ?_ | with_reducible refine jS_ix (by omega) (by omega) ?_ | with_reducible refine jS_dv (by omega) ?_ | with_reducible refine jS_zb (by omega) ?_ | with_reducible refine jS_bb ?_ | with_reducible refine jS_inr ?_ | with_reducible refine jS_lsB ?_ | with_reducible refine jS_letB ?_ | with_reducible refine jS_ck0 (by omega) ?_ | with_reducible refine jS_ck0B (by omega) ?_ | rw [W32_in (by omega) (by omega)] | rw [W32_aL] | rw [W32_aR] | rw [W32_sL] | rw [W32_mR] | rw [jf_neg (by omega)] | rw [jf_pos (by omega)] | with_reducible refine jS_bb ?_))
          refine jS_end ⟨1, rfl, rfl, .inr rfl, fun _ => ⟨a1, fun i hi => ?_⟩, fun _ => rfl⟩
          by_cases e : i = k.toNat
          · subst e; exact c1
          · exact a2 i (by omega)
        · rw [if_neg c1]
          (repeat (first | with_reducible refine jS_pos (by omega) ?_ | with_reducible refine jS_neg (by omega) ?_ | with_reducible refine jS_posB (by omega) ?_ | with_reducible refine jS_negB (by omega) ?_ | with_reducible refine jS_some ?_ | with_reducible refine jS_ls ?_ | with_reducible refine jS_let ?_ | with_reducible refine jS_lt (by omega) (by omega) ?_ | with_reducible refine jS_st (by omega) (by omega) ?_ | with_reducible refine jS_ix (by omega) (by omega) ?_ | with_reducible refine jS_dv (by omega) ?_ | with_reducible refine jS_zb (by omega) ?_ | with_reducible refine jS_bb ?_ | with_reducible refine jS_inr ?_ | with_reducible refine jS_lsB ?_ | with_reducible refine jS_letB ?_ | with_reducible refine jS_ck0 (by omega) ?_ | with_reducible refine jS_ck0B (by omega) ?_ | rw [W32_in (by omega) (by omega)] | rw [W32_aL] | rw [W32_aR] | rw [W32_sL] | rw [W32_mR] | rw [jf_neg (by omega)] | rw [jf_pos (by omega)] | with_reducible refine jS_bb ?_))
          refine jS_end ⟨0, rfl, rfl, .inl rfl, fun q => by omega, fun q => absurd (q.2 k.toNat (by omega)) c1⟩
    · subst e0
      show jE (b_X40_stringFor_37 u X p z w.length) _
      unfold b_X40_stringFor_37
      rw [g1, if_neg (by omega)]
      simp only [em_X40_stringFor, dm_X40_stringFor, eu_X40_stringFor_125, du_X40_stringFor_125, eu_X40_stringFor_90, du_X40_stringFor_90, eu_X40_stringFor_78, du_X40_stringFor_78, eu_X40_stringFor_71, du_X40_stringFor_71, eu_X40_stringFor_34, du_X40_stringFor_34]
      (repeat (first | with_reducible refine jS_pos (by omega) ?_ | with_reducible refine jS_neg (by omega) ?_ | with_reducible refine jS_posB (by omega) ?_ | with_reducible refine jS_negB (by omega) ?_ | with_reducible refine jS_some ?_ | with_reducible refine jS_ls ?_ | with_reducible refine jS_let ?_ | with_reducible refine jS_lt (by omega) (by omega) ?_ | with_reducible refine jS_st (by omega) (by omega) ?_ | with_reducible refine jS_ix (by omega) (by omega) ?_ | with_reducible refine jS_dv (by omega) ?_ | with_reducible refine jS_zb (by omega) ?_ | with_reducible refine jS_bb ?_ | with_reducible refine jS_inr ?_ | with_reducible refine jS_lsB ?_ | with_reducible refine jS_letB ?_ | with_reducible refine jS_ck0 (by omega) ?_ | with_reducible refine jS_ck0B (by omega) ?_ | rw [W32_in (by omega) (by omega)] | rw [W32_aL] | rw [W32_aR] | rw [W32_sL] | rw [W32_mR] | rw [jf_neg (by omega)] | rw [jf_pos (by omega)] | with_reducible refine jS_bb ?_))
      by_cases c : z = 0
      · rw [if_pos c]
        (repeat (first | with_reducible refine jS_pos (by omega) ?_ | with_reducible refine jS_neg (by omega) ?_ | with_reducible refine jS_posB (by omega) ?_ | with_reducible refine jS_negB (by omega) ?_ | with_reducible refine jS_some ?_ | with_reducible refine jS_ls ?_ | with_reducible refine jS_let ?_ | with_reducible refine jS_lt (by omega) (by omega) ?_ | with_reducible refine jS_st (by omega) (by omega) ?_ | with_reducible refine jS_ix (by omega) (by omega) ?_ | with_reducible refine jS_dv (by omega) ?_ | with_reducible refine jS_zb (by omega) ?_ | with_reducible refine jS_bb ?_ | with_reducible refine jS_inr ?_ | with_reducible refine jS_lsB ?_ | with_reducible refine jS_letB ?_ | with_reducible refine jS_ck0 (by omega) ?_ | with_reducible refine jS_ck0B (by omega) ?_ | rw [W32_in (by omega) (by omega)] | rw [W32_aL] | rw [W32_aR] | rw [W32_sL] | rw [W32_mR] | rw [jf_neg (by omega)] | rw [jf_pos (by omega)] | with_reducible refine jS_bb ?_))
        refine jS_end ?_
        rw [if_neg]
        intro q
        obtain ⟨q1, q2, q3⟩ := stAt_iff.mp q
        have := e2.mpr ⟨by rw [hf, if_pos q2], fun i hi => q3 i (by omega)⟩
        omega
      · rw [if_neg c]
        (repeat (first | with_reducible refine jS_pos (by omega) ?_ | with_reducible refine jS_neg (by omega) ?_ | with_reducible refine jS_posB (by omega) ?_ | with_reducible refine jS_negB (by omega) ?_ | with_reducible refine jS_some ?_ | with_reducible refine jS_ls ?_ | with_reducible refine jS_let ?_ | with_reducible refine jS_lt (by omega) (by omega) ?_ | with_reducible refine jS_st (by omega) (by omega) ?_ | with_reducible refine jS_ix (by omega) (by omega) ?_ | with_reducible refine jS_dv (by omega) ?_ | with_reducible refine jS_zb (by omega) ?_ | with_reducible refine jS_bb ?_ | with_reducible refine jS_inr ?_ | with_reducible refine jS_lsB ?_ | with_reducible refine jS_letB ?_ | with_reducible refine jS_ck0 (by omega) ?_ | with_reducible refine jS_ck0B (by omega) ?_ | rw [W32_in (by omega) (by omega)] | rw [W32_aL] | rw [W32_aR] | rw [W32_sL] | rw [W32_mR] | rw [jf_neg (by omega)] | rw [jf_pos (by omega)] | with_reducible refine jS_bb ?_))
        refine jS_end ?_
        obtain ⟨a1, a2⟩ := e2.mp (by omega)
        rw [if_pos]
        rw [hf] at a1
        exact stAt_iff.mpr ⟨hp, by by_cases q : S.getD (p + w.length) 0 = 0; exact q; rw [if_neg q] at a1; omega, fun i hi => a2 i (by omega)⟩
  obtain ⟨r, e, h⟩ := key
  rw [e, h]
  split <;> rfl
theorem t_strFor (hS : tSt s X S) (hw : tWd s X w) (hl : S.length + w.length + 1 ≤ 2048) (hv : w.length ≤ 24) : jE (m_X40_stringFor s X) fun q => q.2 = (stP S w : Nat) ∧ fStr s q.1 X ∧ tSt q.1 X (stN S w) ∧ ∀ c a k, ¬ (c = 1000 ∧ a = X + 27) → ¬ (c = 44 ∧ a = X ∧ k = 30) → jf q.1 c a k = jf s c a k := by
  have hS' := hS
  have hw' := hw
  obtain ⟨h1, h2⟩ := hS
  obtain ⟨g1, g2⟩ := hw
  rw [em_X40_stringFor]; unfold dm_X40_stringFor
  rw [eu_X40_stringFor_2]; unfold du_X40_stringFor_2
  -- the rounds
  have st : ∀ k : Int, 0 ≤ k → k < (S.length : Int) - w.length → b_X40_stringFor_2 s X k = if stAt S w k.toNat = true then some (.inr (s, k)) else some (.inl (s, [X, k + 1])) := by
    intro k k0 k1
    unfold b_X40_stringFor_2
    have b1 := h2 (k.toNat + w.length) (by omega)
    rw [show ((k.toNat + w.length : Nat) : Int) = k + w.length by omega] at b1
    rw [g1, h1, W32_in (by omega) (by omega), if_pos (by omega), jlt_in (by omega) (by omega), Option.bind_some, b1]
    have e34 : ∀ f, u_X40_stringFor_34 s X k f = u_X40_stringFor_37 s X k f 0 := fun f => by rw [eu_X40_stringFor_34]; rfl
    rw [e34, e34]
    have e := fun f hf => t_strIn hS' hw' (by omega) hv (p := k.toNat) (f := f) (by omega) hf
    rw [show ((k.toNat : Nat) : Int) = k by omega] at e
    by_cases c : S.getD (k.toNat + w.length) 0 = 0
    · rw [if_pos c]; exact e 1 (by rw [if_pos c])
    · rw [if_neg c]; exact e 0 (by rw [if_neg c])
  have fin : b_X40_stringFor_2 s X (if w.length < S.length then (S.length : Int) - w.length else 0) = jinr (u_X40_stringFor_90 s X) := by
    unfold b_X40_stringFor_2
    rw [g1, h1, W32_in (by split <;> omega) (by split <;> omega), if_neg (by split <;> omega)]
  rcases jseekW (C := jc2 b_X40_stringFor_2) (s := s) (fun k => [X, k]) (fun k => stAt S w k.toNat = true) (fun k => some (s, k)) (u_X40_stringFor_90 s X) 0 (if w.length < S.length then (S.length : Int) - w.length else 0) (by split <;> omega) (fun k k0 k1 hk => by
      show b_X40_stringFor_2 s X k = _
      rw [st k k0 (by split at k1 <;> omega), if_neg hk]) (fun k k0 k1 hk => by
      show b_X40_stringFor_2 s X k = _
      rw [st k k0 (by split at k1 <;> omega), if_pos hk]; rfl) fin with ⟨k, k0, k1, k2, k3, e⟩ | ⟨k2, e⟩
  · rw [e]
    have ep : stP S w = k.toNat := stP_eq k2 fun q hq => Bool.eq_false_iff.mpr (by have := k3 q (by omega) (by omega); exact this)
    refine jS_end ⟨by rw [ep]; show k = _; omega, fStr.rfl, ?_, fun _ _ _ _ _ => rfl⟩
    unfold stN
    rw [if_pos (by rw [ep]; have := (stAt_iff.mp k2).1; omega)]
    exact hS'
  · rw [e]
    have ep : stP S w = S.length := stP_no fun q hq => Bool.eq_false_iff.mpr fun z => by
      have z1 := (stAt_iff.mp z).1
      have := k2 q (by omega) (by rw [if_pos (by omega)]; omega)
      exact this z
    rw [eu_X40_stringFor_90]; unfold du_X40_stringFor_90
    have c9 : u_X40_stringFor_97 s X S.length 0 = u_X40_stringFor_125 (jfil s 1000 (X + 27) S.length w.length (fun i => w.getD i.toNat 0)) X S.length := by
      rw [eu_X40_stringFor_97]; unfold du_X40_stringFor_97
      refine jloop_fill (fun k => [X, S.length, k]) s 1000 (X + 27) S.length w.length (fun i => w.getD i.toNat 0) (by omega) (fun k k0 k1 => ?_) ?_
      · show b_X40_stringFor_97 _ X S.length k = _
        unfold b_X40_stringFor_97
        have b2 := g2 k.toNat (by omega)
        rw [show ((k.toNat : Nat) : Int) = k by omega] at b2
        rw [jfl_neg (by omega), g1, if_pos k1, jlt_in (by omega) (by omega), Option.bind_some, jfl_neg (by omega), b2, W32_in (by omega) (by omega), jst_in (by omega) (by omega), Option.bind_some, W32_in (by omega) (by omega)]
      · show b_X40_stringFor_97 _ X S.length w.length = _
        unfold b_X40_stringFor_97
        rw [jfl_neg (by omega), g1, if_neg (by omega)]
    have hS3 : fStr s (jfil s 1000 (X + 27) S.length w.length (fun i => w.getD i.toNat 0)) X := ⟨jSm.rfl, fun c a k p q => by rw [jf_jfil, if_neg (by omega)]⟩
    have f1 : jf (jfil s 1000 (X + 27) S.length w.length (fun i => w.getD i.toNat 0)) 44 X 32 = w.length := by rw [jf_jfil, if_neg (by omega)]; exact g1
    have f2 : ∀ i : Int, jf (jfil s 1000 (X + 27) S.length w.length (fun i => w.getD i.toNat 0)) 1000 (X + 27) i = if (S.length : Int) ≤ i ∧ i < S.length + w.length then w.getD (i - S.length).toNat 0 else jf s 1000 (X + 27) i := fun i => by
      rw [jf_jfil]
      by_cases c : (S.length : Int) ≤ i ∧ i < S.length + w.length
      · rw [if_pos ⟨rfl, rfl, c.1, c.2⟩, if_pos c]
      · rw [if_neg (fun q => c ⟨q.2.2.1, q.2.2.2⟩), if_neg c]
    rw [h1, c9]
    have f3 : ∀ c a k, ¬ (c = 1000 ∧ a = X + 27) → jf (jfil s 1000 (X + 27) S.length w.length (fun i => w.getD i.toNat 0)) c a k = jf s c a k := fun c a k q => by rw [jfl_neg (by omega)]
    generalize jfil s 1000 (X + 27) S.length w.length (fun i => w.getD i.toNat 0) = s3 at hS3 f1 f2 f3 ⊢
    rw [eu_X40_stringFor_125]; unfold du_X40_stringFor_125
    rw [f1]
    (repeat (first | with_reducible refine jS_pos (by omega) ?_ | with_reducible refine jS_neg (by omega) ?_ | with_reducible refine jS_posB (by omega) ?_ | with_reducible refine jS_negB (by omega) ?_ | with_reducible refine jS_some ?_ | with_reducible refine jS_ls ?_ | with_reducible refine jS_let ?_ | with_reducible refine jS_lt (by omega) (by omega) ?_ | with_reducible refine jS_st (by omega) (by omega) ?_ | with_reducible refine jS_ix (by omega) (by omega) ?_ | with_reducible refine jS_dv (by omega) ?_ | with_reducible refine jS_zb (by omega) ?_ | with_reducible refine jS_bb ?_ | with_reducible refine jS_inr ?_ | with_reducible refine jS_lsB ?_ | with_reducible refine jS_letB ?_ | with_reducible refine jS_ck0 (by omega) ?_ | with_reducible refine jS_ck0B (by omega) ?_ | rw [W32_in (by omega) (by omega)] | rw [W32_aL] | rw [W32_aR] | rw [W32_sL] | rw [W32_mR] | rw [jf_neg (by omega)] | rw [jf_pos (by omega)] | with_reducible refine jS_bb ?_))
    rw [f1]
    (repeat (first | with_reducible refine jS_pos (by omega) ?_ | with_reducible refine jS_neg (by omega) ?_ | with_reducible refine jS_posB (by omega) ?_ | with_reducible refine jS_negB (by omega) ?_ | with_reducible refine jS_some ?_ | with_reducible refine jS_ls ?_ | with_reducible refine jS_let ?_ | with_reducible refine jS_lt (by omega) (by omega) ?_ | with_reducible refine jS_st (by omega) (by omega) ?_ | with_reducible refine jS_ix (by omega) (by omega) ?_ | with_reducible refine jS_dv (by omega) ?_ | with_reducible refine jS_zb (by omega) ?_ | with_reducible refine jS_bb ?_ | with_reducible refine jS_inr ?_ | with_reducible refine jS_lsB ?_ | with_reducible refine jS_letB ?_ | with_reducible refine jS_ck0 (by omega) ?_ | with_reducible refine jS_ck0B (by omega) ?_ | rw [W32_in (by omega) (by omega)] | rw [W32_aL] | rw [W32_aR] | rw [W32_sL] | rw [W32_mR] | rw [jf_neg (by omega)] | rw [jf_pos (by omega)] | with_reducible refine jS_bb ?_))
    refine jS_end ⟨by rw [ep], (hS3.jp (by omega)).jp (by omega), ?_, fun c a k q q' => by (repeat (first | rw [jf_neg (by omega)] | rw [jf_pos (by omega)] | rw [ou_neg (by omega)] | rw [ou_pos (by omega)])); exact f3 c a k q⟩
    unfold stN
    rw [if_neg (by omega)]
    refine ⟨?_, fun i hi => ?_⟩
    · (repeat (first | rw [jf_neg (by omega)] | rw [jf_pos (by omega)] | rw [ou_neg (by omega)] | rw [ou_pos (by omega)])); simp only [List.length_append, List.length_cons, List.length_nil]; omega
    · simp only [List.length_append, List.length_cons, List.length_nil] at hi
      rw [getD_app]
      by_cases c1 : i < S.length
      · rw [if_pos c1]
        (repeat (first | rw [jf_neg (by omega)] | rw [jf_pos (by omega)] | rw [ou_neg (by omega)] | rw [ou_pos (by omega)])); rw [f2, if_neg (by omega)]; exact h2 i c1
      · rw [if_neg c1, getD_app]
        by_cases c2 : i - S.length < w.length
        · rw [if_pos c2]
          (repeat (first | rw [jf_neg (by omega)] | rw [jf_pos (by omega)] | rw [ou_neg (by omega)] | rw [ou_pos (by omega)])); rw [f2, if_pos (by omega)]
          congr 1; omega
        · rw [if_neg c2, show i - S.length - w.length = 0 by omega]
          (repeat (first | rw [jf_neg (by omega)] | rw [jf_pos (by omega)] | rw [ou_neg (by omega)] | rw [ou_pos (by omega)])); rfl
end jTstr
