/-! classes that may stand in an array of an abstract class -/
theorem q8909 : (Jvm.Cond.castable "ChainHouse$CodeWords$Wide" "ChainHouse$CodeWords$Field") ∈ lw_tbl := lw_at lw_m35 172 rfl
theorem q8905 : (Jvm.Cond.castable "ChainHouse$CodeWords$Narrow" "ChainHouse$CodeWords$Field") ∈ lw_tbl := lw_at lw_m35 168 rfl
theorem q8907 : (Jvm.Cond.castable "ChainHouse$CodeWords$Spread" "ChainHouse$CodeWords$Field") ∈ lw_tbl := lw_at lw_m35 170 rfl
theorem q8906 : (Jvm.Cond.castable "ChainHouse$CodeWords$Some" "ChainHouse$CodeWords$Field") ∈ lw_tbl := lw_at lw_m35 169 rfl
theorem q8908 : (Jvm.Cond.castable "ChainHouse$CodeWords$Upper" "ChainHouse$CodeWords$Field") ∈ lw_tbl := lw_at lw_m35 171 rfl
theorem q8913 : (Jvm.Cond.castable "ChainHouse$ShrinkLayout$Plain" "ChainHouse$ShrinkLayout$Piece") ∈ lw_tbl := lw_at lw_m35 176 rfl
theorem q8911 : (Jvm.Cond.castable "ChainHouse$ShrinkLayout$Fill" "ChainHouse$ShrinkLayout$Piece") ∈ lw_tbl := lw_at lw_m35 174 rfl
theorem q8910 : (Jvm.Cond.castable "ChainHouse$ShrinkLayout$Call" "ChainHouse$ShrinkLayout$Piece") ∈ lw_tbl := lw_at lw_m35 173 rfl
theorem q8912 : (Jvm.Cond.castable "ChainHouse$ShrinkLayout$Load" "ChainHouse$ShrinkLayout$Piece") ∈ lw_tbl := lw_at lw_m35 175 rfl
def jAl (c : Int) : Int × List Int := if c = -2 then (1007, [4, 5, 6, 12, 14]) else if c = -3 then (1020, [72, 73, 76, 77]) else (0, [])
theorem jAl_ok {c k : Int} (h : k ∈ (jAl c).2) : ∃ (t ci : Nat) (E : String) (rr : vw_C), (jAl c).1 = 1000 + (t : Int) ∧ t < 1000 ∧ jEt t = some (.object E) ∧ k = (ci : Int) ∧ ci < 1000 ∧ jCl[ci]? = some rr ∧ Cond.castable rr.1 E ∈ lw_tbl := by
  unfold jAl at h ⊢
  split at h
  · rename_i e; rw [if_pos e]
    simp only [List.mem_cons, List.not_mem_nil, or_false] at h
    rcases h with rfl | rfl | rfl | rfl | rfl
    · exact ⟨7, 4, _, _, rfl, by decide, rfl, rfl, by decide, rfl, q8909⟩
    · exact ⟨7, 5, _, _, rfl, by decide, rfl, rfl, by decide, rfl, q8905⟩
    · exact ⟨7, 6, _, _, rfl, by decide, rfl, rfl, by decide, rfl, q8907⟩
    · exact ⟨7, 12, _, _, rfl, by decide, rfl, rfl, by decide, rfl, q8906⟩
    · exact ⟨7, 14, _, _, rfl, by decide, rfl, rfl, by decide, rfl, q8908⟩
  · rename_i e; rw [if_neg e]
    split at h
    · rename_i e; rw [if_pos e]
      simp only [List.mem_cons, List.not_mem_nil, or_false] at h
      rcases h with rfl | rfl | rfl | rfl
      · exact ⟨20, 72, _, _, rfl, by decide, rfl, rfl, by decide, rfl, q8913⟩
      · exact ⟨20, 73, _, _, rfl, by decide, rfl, rfl, by decide, rfl, q8911⟩
      · exact ⟨20, 76, _, _, rfl, by decide, rfl, rfl, by decide, rfl, q8910⟩
      · exact ⟨20, 77, _, _, rfl, by decide, rfl, rfl, by decide, rfl, q8912⟩
    · cases h
def jasL (σ : jS) (t : Int) (L : List Int) (a i v : Int) : Option jS := if 0 ≤ a ∧ jK σ a = t ∧ 0 ≤ i ∧ i < jN σ a ∧ (v = -1 ∨ 0 ≤ v ∧ jK σ v ∈ L) then some (jp σ t a i v) else none
theorem jasL_b {R : Type} {σ : jS} {t a i v : Int} {L : List Int} {k : jS → Option R} {q : R} (h : (jasL σ t L a i v).bind k = some q) : 0 ≤ a ∧ jK σ a = t ∧ 0 ≤ i ∧ i < jN σ a ∧ (v = -1 ∨ 0 ≤ v ∧ jK σ v ∈ L) ∧ k (jput σ a i v) = some q := by
  unfold jasL at h; split at h
  · rename_i g; rw [jp_put g.2.1] at h; exact ⟨g.1, g.2.1, g.2.2.1, g.2.2.2.1, g.2.2.2.2, h⟩
  · cases h
