/-! the linker: the component's segments are drawn -/
set_option maxRecDepth 100000
section jLci
variable {s t u w : jS} {a b k m n o p q v l x y c f g j A H C S X z' : Int} {O : Int → Int → Int → Int → Int} {d e z : Int → Int → Int} {i i' : Int → Int → Int → Int} {G B : Int → Int}
/-- what drawing writes, the component -/
def cDW (C : Int) (s u : jS) : Prop := jFx s u (C + 3993) 9
theorem cDW.trans (h : cDW C s u) (g : cDW C u w) : cDW C s w := jFx.trans h g
theorem cDW.zw (h : cDW C s u) : cZW C s u := ⟨h.1.1, fun c a k _ q => h.F (by omega) k⟩
theorem tDW.zw (h : tDW (H + 118) t w) : tZW H t w := ⟨h.1, fun c a k _ q => h.2 c a k (by omega)⟩
theorem c_segI (h : LZD C H S O s t e d z G) (hO : outK C s) (hI : cIm s (C + 3993) i) (vi : vIm i) (x0 : 0 ≤ x) (x1 : x < 3) (hn : ouE d x = ouB d x + n) (n0 : 0 ≤ n) (n1 : n ≤ 4096) (hB : ∀ k, 0 ≤ k → k < n → (0 ≤ B k ∧ B k < 256) ∧ cBy s C x k = sb (B k)) (hi : i 1 x 0 = 0) : ∃ w, m_X35_segment s (C + 4275) x m = some (w, 0) ∧ cDW C s w ∧ k28 s w ∧ (sgB x (ouB d x) m → cIm w (C + 3993) (iSg i x (ouB d x) m n B)) ∧ (¬ sgB x (ouB d x) m → cIm w (C + 3993) i) := by
  have lo := ouB_lo h.1 x0 (show x < 4 by omega)
  obtain ⟨o0, oK, oN⟩ := hO x x0 x1
  have eO : C + 4275 + -283 = C + 3992 := by omega
  have hI1 : cIm s (C + 3992 + 1) i := by rw [show C + 3992 + 1 = C + 3993 by omega]; exact hI
  obtain ⟨r, er, hr, k1⟩ := jE_and (i_mseg (O := C + 3992) (a := ouB d x) (m := m) hI1 x0 x1 hi) (i_seg28 (s := s) (O := C + 3992) (a := ouB d x) (m := m) x0 x1)
  have oC := h.outC x0 (show x < 4 by omega)
  rw [em_X35_segment]; unfold dm_X35_segment
  rw [oC.1, Option.bind_some]
  dsimp only
  rw [oC.2, Option.bind_some]
  simp only [jlet]
  rw [hn, show ouB d x + n - ouB d x = n by omega, W32_in (z := n) (by omega) (by omega), eO, er, Option.bind_some, eu_X35_segment_38]; unfold du_X35_segment_38
  have eB : C + 4275 + 33 + 1 + 1 * x = C + 4275 + 34 + x := by omega
  have by1 : ∀ w, jFx s w (C + 3993) 9 → ∀ k, 0 ≤ k → k < n → jlt w 1001 (C + 4275 + 34 + x) 4096 k = some (sb (B k)) := fun w hw k k0 k1 => by
    rw [jlt_in k0 (by omega), hw.F (by omega)]
    exact congrArg some (hB k k0 k1).2
  by_cases hs : sgB x (ouB d x) m
  · rcases hr with ⟨-, g1, g2⟩ | ⟨g1, -⟩
    rotate_left
    · exact absurd hs g1
    have W1 : jFx s r.1 (C + 3993) 9 := g1.wide (by unfold vsg; omega) (by unfold vsg; omega)
    rw [iSg_new (B := B)] at g2
    obtain ⟨w, ew, h1, h2, h3⟩ := loopTo (C := jc4 b_X35_segment_38) (fun k w => cDW C s w ∧ k28 s w ∧ cIm w (C + 3992 + 1) (iSg i x (ouB d x) m k B)) (fun k => [C + 4275, x, n, k]) 0 n n0 (s := r.1) (F := fun w => some (w, 0)) ⟨W1, k1, g2⟩ (fun k w k0 k1 ⟨j1, j2, j3⟩ => by
      obtain ⟨bb, -⟩ := hB k k0 k1
      have vk : vIm (iSg i x (ouB d x) m k B) := vi.sg hs k0 (by omega) fun j j0 j1 => (hB j j0 (by omega)).1
      obtain ⟨q, eq, ⟨g3, g4⟩, g5⟩ := jE_and (i_mput j3 vk x0 x1 (by rw [iSg_0]; decide) (by rw [iSg_2]; omega) (shl_56 bb.1 bb.2)) (i_put28 (p := L_shl (sb (B k)) 56) j3 x0 x1 (by rw [iSg_0]; decide) (by rw [iSg_2]; omega))
      rw [iSg_s k0] at g4
      refine ⟨q.1, ?_, j1.trans (g3.wide (by unfold vsg; omega) (by unfold vsg; omega)), j2.trans g5, g4⟩
      show b_X35_segment_38 w (C + 4275) x n k = _
      unfold b_X35_segment_38
      rw [if_pos k1, jix_in x0 x1, Option.bind_some, eB, by1 w j1 k k0 k1, Option.bind_some, eO, eq, Option.bind_some, W32_in (by omega) (by omega)]) (fun w _ => by
      show b_X35_segment_38 w (C + 4275) x n n = _
      unfold b_X35_segment_38
      rw [if_neg (Int.lt_irrefl _)])
    refine ⟨w, ew, h1, h2, fun _ => ?_, fun q => absurd hs q⟩
    rw [show C + 3993 = C + 3992 + 1 by omega]; exact h3
  · rcases hr with ⟨g1, -⟩ | ⟨-, g1⟩
    · exact absurd g1 hs
    rw [g1]
    have := jforW (C := jc4 b_X35_segment_38) (fun k => [C + 4275, x, n, k]) (fun _ => s) 0 n n0 (fun k k0 k1 => by
      show b_X35_segment_38 s (C + 4275) x n k = _
      unfold b_X35_segment_38
      have lz : jf s 28 (C + 3992 + 1 + 1 + 2 + 2 * x) 2 = 0 := by
        have := (hI1.1 x x0 x1).1
        rw [hi] at this; exact this
      rw [if_pos k1, jix_in x0 x1, Option.bind_some, eB, by1 s .rfl k k0 k1, Option.bind_some, eO, em_X22_put]; unfold dm_X22_put
      rw [e_X22_isSegment, if_pos (show ¬ x < 0 ∧ x < 3 by omega), Option.bind_some, if_neg (show ¬ (1 : Int) = 0 by decide), jix_in x0 x1, Option.bind_some, if_pos lz, Option.bind_some, W32_in (by omega) (by omega)]) (r := some (s, 0)) (by
      show b_X35_segment_38 s (C + 4275) x n n = _
      unfold b_X35_segment_38
      rw [if_neg (Int.lt_irrefl _)])
    exact ⟨s, this, .rfl, .rfl, fun q => absurd q hs, fun _ => hI⟩
end jLci
