/-! directives, options and other instructions by their names (the lists are printed by gen_sw.py) -/
set_option maxRecDepth 100000
section jSwit
variable {s t u v w : jS} {A H b lo W k c a hh x y m f d dr ot : Int} {l : List Int} {NL : List (List Int)} {I : pI} {OL : List pvO} {SL : List pvS} {z : pvS}
def dirL : List (Int × Nat × Int) := [(1468244, 3, 3), (1471067, 6, 6), (45521462, 8, 8), (45541434, 7, 7), (45557976, 2, 2), (45676897, 9, 9), (46038619, 0, 0), (46127270, 5, 5), (46137400, 10, 10), (46217174, 13, 13), (1160326691, 15, 15), (1244806421, 1, 1), (1409844119, 14, 14), (1410046947, 11, 11), (1410046964, 12, 12), (1415390854, 4, 4)]
def optL : List (Int × Nat × Int) := [(111185, 21, 5), (113311, 16, 0), (3452698, 20, 4), (105007422, 17, 1), (108397200, 18, 2), (2127390063, 19, 3)]
def othL : List (Int × Nat × Int) := [(106, 42, 20), (3400, 43, 21), (3445, 24, 2), (3453, 23, 1), (3497, 25, 3), (97487, 38, 16), (97627, 39, 17), (108944, 27, 5), (109263, 22, 0), (109267, 26, 4), (112801, 44, 22), (3020204, 32, 10), (3021754, 34, 12), (3022214, 40, 18), (3022219, 37, 15), (3026554, 41, 19), (3026559, 36, 14), (3027024, 35, 13), (3028481, 33, 11), (3045982, 45, 23), (3526651, 28, 6), (3528666, 31, 9), (3533471, 30, 8), (3534928, 29, 7), (3552336, 46, 24)]

/-- a list of a switch is good -/
def swG (L : List (Int × Nat × Int)) (lo n : Nat) : Bool := L.all (fun e => decide (e.1 = hs (cS e.2.1)) && decide (lo ≤ e.2.1) && decide (e.2.1 < lo + n) && decide (e.2.2 = ((e.2.1 - lo : Nat) : Int)) && L.all (fun e' => !decide (e.1 = e'.1) || decide (e = e'))) && (List.range n).all fun i => L.any fun e => decide (e.2.1 = lo + i)
theorem swG_of {L : List (Int × Nat × Int)} {lo n : Nat} (h : swG L lo n = true) : (∀ e ∈ L, e.1 = hs (cS e.2.1) ∧ lo ≤ e.2.1 ∧ e.2.1 < lo + n ∧ e.2.2 = ((e.2.1 - lo : Nat) : Int)) ∧ (∀ e ∈ L, ∀ e' ∈ L, e.1 = e'.1 → e = e') ∧ ∀ i, i < n → ∃ e ∈ L, e.2.1 = lo + i := by
  unfold swG at h
  rw [Bool.and_eq_true, List.all_eq_true, List.all_eq_true] at h
  obtain ⟨h1, h2⟩ := h
  refine ⟨fun e he => ?_, fun e he e' he' q => ?_, fun i hi => ?_⟩
  · have := h1 e he
    simp only [Bool.and_eq_true, decide_eq_true_eq] at this
    exact ⟨this.1.1.1.1, this.1.1.1.2, this.1.1.2, this.1.2⟩
  · have := h1 e he
    rw [Bool.and_eq_true, List.all_eq_true] at this
    have := this.2 e' he'
    rw [Bool.or_eq_true, Bool.not_eq_true', decide_eq_false_iff_not, decide_eq_true_eq] at this
    exact this.resolve_left fun z => z q
  · have := h2 i (List.mem_range.mpr hi)
    rw [List.any_eq_true] at this
    obtain ⟨e, e1, e2⟩ := this
    exact ⟨e, e1, of_decide_eq_true e2⟩
theorem dirL_g : swG dirL 0 16 = true := by decide +kernel
theorem optL_g : swG optL 16 6 = true := by decide +kernel
theorem othL_g : swG othL 22 25 = true := by decide +kernel
theorem AG.con (h : AG s t A H b lo NL I OL SL k z) : pCon s := h.1.1.2.2.1
/-- which directive -/
theorem c_dirOf (h : AG s t A H b lo NL I OL SL k z) (m0 : 0 ≤ m) (m1 : m < NL.length) (hr : isIx 0 16 (tNa NL m) dr) : ∃ u, m_X33_directive s A (jf s 1026 (b + 5) m) = u_X33_directive_395 u A (jf s 1026 (b + 5) m) dr ∧ hsW (jf s 1026 (b + 5) m) s u ∧ AG u t A H b lo NL I OL SL k z ∧ cFo A s u 0 0 ∧ pSg u (jf s 1026 (b + 5) m) (tNa NL m) := by
  obtain ⟨u, e1, e2, e3, e4, e5⟩ := hash2 h m0 m1
  have l16 := (h.1.nm m0 m1).2.2.2.2.2.2.1.1
  obtain ⟨g1, g2, g3⟩ := swG_of dirL_g
  refine ⟨u, ?_, e2, e3, e4, e5⟩
  rw [em_X33_directive]
  show (mp_J2_hashCode s (jf s 1026 (b + 5) m)).bind (fun q1 => swC q1.1 (jf s 1026 (b + 5) m) q1.2 (fun d => u_X33_directive_395 q1.1 A (jf s 1026 (b + 5) m) d) dirL) = _
  rw [e1, Option.bind_some]
  exact swC_ix hr e3.con e5 (by omega) (by decide) g1 g2 g3
/-- which other instruction -/
theorem c_otherOf (h : AG s t A H b lo NL I OL SL k z) (m0 : 0 ≤ m) (m1 : m < NL.length) (hr : isIx 22 25 (tNa NL m) ot) : ∃ u, m_X33_otherOf s A (jf s 1026 (b + 5) m) = some (u, ot + 1) ∧ hsW (jf s 1026 (b + 5) m) s u ∧ AG u t A H b lo NL I OL SL k z ∧ cFo A s u 0 0 := by
  obtain ⟨u, e1, e2, e3, e4, e5⟩ := hash2 h m0 m1
  have l16 := (h.1.nm m0 m1).2.2.2.2.2.2.1.1
  obtain ⟨g1, g2, g3⟩ := swG_of othL_g
  refine ⟨u, ?_, e2, e3, e4⟩
  rw [em_X33_otherOf]
  show (mp_J2_hashCode s (jf s 1026 (b + 5) m)).bind (fun q1 => swC q1.1 (jf s 1026 (b + 5) m) q1.2 (fun d => u_X33_otherOf_611 q1.1 d) othL) = _
  rw [e1, Option.bind_some]
  have := swC_ix (F := fun d => u_X33_otherOf_611 u d) hr e3.con e5 (by omega) (by decide) g1 g2 g3
  refine this.trans ?_
  have hb := isIx_lo hr
  have hk : ∀ j : Nat, j < 26 → u_X33_otherOf_611 u ((j : Int) - 1) = some (u, (j : Int)) := by
    intro j hj
    rw [eu_X33_otherOf_611]; unfold du_X33_otherOf_611
    have : j = 0 ∨ j = 1 ∨ j = 2 ∨ j = 3 ∨ j = 4 ∨ j = 5 ∨ j = 6 ∨ j = 7 ∨ j = 8 ∨ j = 9 ∨ j = 10 ∨ j = 11 ∨ j = 12 ∨ j = 13 ∨ j = 14 ∨ j = 15 ∨ j = 16 ∨ j = 17 ∨ j = 18 ∨ j = 19 ∨ j = 20 ∨ j = 21 ∨ j = 22 ∨ j = 23 ∨ j = 24 ∨ j = 25 := by omega
    rcases this with rfl | rfl | rfl | rfl | rfl | rfl | rfl | rfl | rfl | rfl | rfl | rfl | rfl | rfl | rfl | rfl | rfl | rfl | rfl | rfl | rfl | rfl | rfl | rfl | rfl | rfl <;> rfl
  have := hk (ot + 1).toNat (by omega)
  rw [show (((ot + 1).toNat : Nat) : Int) - 1 = ot by omega, show (((ot + 1).toNat : Nat) : Int) = ot + 1 by omega] at this
  exact this
end jSwit
