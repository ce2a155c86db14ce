/-! the linker: bytes saved, both sides -/
set_option maxRecDepth 100000
section jLsv
variable {s t u w : jS} {a b k m n o p v l x c f g i j H B C S K X : Int} {O : Int → Int → Int → Int → Int} {d e z y : Int → Int → Int} {G : Int → Int}
def svK (d : Int → Int → Int) : Nat → Int
  | 0 => 0
  | n + 1 => svK d n + if mvK d n then grK d n - d 15 n else 0
theorem svK_lo (v : vLy d) : ∀ n : Nat, (n : Int) ≤ d 0 1 → 0 ≤ svK d n ∧ svK d n ≤ 8 * n
  | 0, _ => ⟨Int.le_refl _, Int.le_refl _⟩
  | n + 1, h => by
    have h1 := svK_lo v n (by omega)
    show 0 ≤ svK d n + _ ∧ svK d n + _ ≤ _
    by_cases c : mvK d n
    · obtain ⟨-, -, -, h15, -⟩ := (v.2.2.2.2.2.2.1 n (by omega) (by omega)).2.2.2.2 c
      have : grK d n ≤ 8 := by unfold grK; split <;> decide
      rw [if_pos c]; omega
    · rw [if_neg c]; omega
theorem c_saved (h : cLs s B d) (v : vLy d) : m_X36_saved s B = some (svK d (d 0 1).toNat) := by
  have v1 := v.2.1
  rw [em_X36_saved]; unfold dm_X36_saved
  rw [eu_X36_saved_4]; unfold du_X36_saved_4
  refine jforR (C := jc3 b_X36_saved_4) (fun k => [B, svK d k.toNat, k]) 0 (d 0 1) v1.1 (fun k k0 k1 => ?_) ?_
  · show b_X36_saved_4 s B (svK d k.toNat) k = _
    have hp := h.2.2.2.2.1 k k0 k1
    have lo := svK_lo v k.toNat (by omega)
    have eK : ((k.toNat : Nat) : Int) = k := by omega
    have st : svK d (k + 1).toNat = svK d k.toNat + if mvK d k then grK d k - d 15 k else 0 := by
      rw [show (k + 1).toNat = k.toNat + 1 by omega]
      show svK d k.toNat + (if mvK d ((k.toNat : Nat) : Int) then grK d ((k.toNat : Nat) : Int) - d 15 ((k.toNat : Nat) : Int) else 0) = _
      rw [eK]
    unfold b_X36_saved_4
    rw [h.2.1.2.1, if_pos k1, c_movingAt v h k0 k1, Option.bind_some, st]
    by_cases c : mvK d k
    · obtain ⟨-, -, -, h15, -⟩ := (v.2.2.2.2.2.2.1 k k0 k1).2.2.2.2 c
      have g8 : 0 ≤ grK d k ∧ grK d k ≤ 8 := by unfold grK; split <;> decide
      have q0 := hp.1.1
      have J : jrp s [(76, 2), (77, 2)] (poK s B k) = some (d 15 k) := by rw [jrp_mv hp c, (hp.2.2.2.2.1 c).2.2.1]
      rw [if_pos c, if_neg (by omega), c_greatest hp c, J, Option.bind_some, Option.bind_some, eu_X36_saved_36, if_pos c]; unfold du_X36_saved_36
      simp only [jlet]
      rw [W32_in (z := grK d k - d 15 k) (by omega) (by omega), W32_in (by omega) (by omega), W32_in (by omega) (by omega)]
    · rw [if_neg c, if_pos (by decide), eu_X36_saved_36, if_neg c]; unfold du_X36_saved_36
      simp only [jlet]
      rw [W32_in (by omega) (by omega), W32_in (by omega) (by omega)]
  · show b_X36_saved_4 s B (svK d (d 0 1).toNat) (d 0 1) = _
    unfold b_X36_saved_4
    rw [h.2.1.2.1, if_neg (by omega)]
theorem t_saved (h : tLs t X d) (v : vLy d) : m_X41_saved t X = some (svK d (d 0 1).toNat) := by
  have v1 := v.2.1
  rw [em_X41_saved]; unfold dm_X41_saved
  rw [eu_X41_saved_4]; unfold du_X41_saved_4
  refine jforR (C := jc3 b_X41_saved_4) (fun k => [X, svK d k.toNat, k]) 0 (d 0 1) v1.1 (fun k k0 k1 => ?_) ?_
  · show b_X41_saved_4 t X (svK d k.toNat) k = _
    obtain ⟨⟨r11, -⟩, -, q3, -⟩ := h.2.2.2.2.1 k k0 k1
    have lo := svK_lo v k.toNat (by omega)
    obtain ⟨s1, s2, s3⟩ := t_shr h v k0 k1
    have eK : ((k.toNat : Nat) : Int) = k := by omega
    have st : svK d (k + 1).toNat = svK d k.toNat + if mvK d k then grK d k - d 15 k else 0 := by
      rw [show (k + 1).toNat = k.toNat + 1 by omega]
      show svK d k.toNat + (if mvK d ((k.toNat : Nat) : Int) then grK d ((k.toNat : Nat) : Int) - d 15 ((k.toNat : Nat) : Int) else 0) = _
      rw [eK]
    unfold b_X41_saved_4
    rw [h.1.2.2.1, if_pos k1, st]
    by_cases c : mvK d k
    · obtain ⟨-, -, -, h15, -⟩ := (v.2.2.2.2.2.2.1 k k0 k1).2.2.2.2 c
      have g8 : 0 ≤ grK d k ∧ grK d k ≤ 8 := by unfold grK; split <;> decide
      have J11 : jlt t 1000 (X + 11) 256 k = some (jf t 1000 (X + 11) k) := jlt_in k0 (by omega)
      have J13 : jlt t 1000 (X + 13) 256 k = some (d 15 k) := by rw [jlt_in k0 (by omega), q3 c]
      rw [s1 c, Option.bind_some, if_neg n10, s3, Option.bind_some, if_pos rfl, J11, Option.bind_some, t_greatest c r11, J13, Option.bind_some, Option.bind_some, eu_X41_saved_49, if_pos c]; unfold du_X41_saved_49
      simp only [jlet]
      rw [W32_in (z := grK d k - d 15 k) (by omega) (by omega), W32_in (by omega) (by omega), W32_in (by omega) (by omega)]
    · rw [s2 c, Option.bind_some, if_pos rfl, eu_X41_saved_48, if_neg c]; unfold du_X41_saved_48
      rw [eu_X41_saved_49]; unfold du_X41_saved_49
      simp only [jlet]
      rw [W32_in (by omega) (by omega), W32_in (by omega) (by omega)]
  · show b_X41_saved_4 t X (svK d (d 0 1).toNat) (d 0 1) = _
    unfold b_X41_saved_4
    rw [h.1.2.2.1, if_neg (by omega)]
end jLsv
