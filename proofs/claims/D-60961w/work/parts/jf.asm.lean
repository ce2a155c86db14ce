/-! assembling, both sides: the text read, all statements, the object written *-/
set_option maxRecDepth 100000
section jAsmAll
variable {s t u w s1 t1 : jS} {a c k v x y z n A H b lo O f p ln : Int} {wg g : Int → Int} {NL : List (List Int)} {I : pI} {OL : List pvO} {SL : List pvS} {o : Int}
theorem fail2_is (h0 : jf t 41 H 42 = 0) : m_X37_fail_2 t H o p = some (jp (jp t 41 H 42 o) 41 H 43 p, 0) := by
  rw [em_X37_fail_2]; unfold dm_X37_fail_2
  simp only [jls]
  rw [if_pos h0, Wz_0]
theorem comp_wrong (hB : 0 ≤ jn s ∧ jBd s 4 40) (hA : 0 ≤ A ∧ A + 127 ≤ jn s) (ho : ¬ o = 0) : ∃ q, ((m_X33_wrong s A o p).bind fun q2 => jck0 q2.2 (some (q2.1, true, q2.2))) = some q ∧ q.2.1 = true ∧ (0 ≤ q.2.2 ∧ jK q.1 q.2.2 = 2054) ∧ (jf q.1 37 A 37 = o ∧ jf q.1 37 A 38 = p) ∧ cFa A s q.1 1 6 := by
  have h0 : jf (jp s 41 0 42 0) 41 0 42 = 0 := by rw [jf_jp, if_pos ⟨rfl, rfl, rfl⟩]
  obtain ⟨q, r, e1, e2, f, p', g1, g2, g3, g4, g5, g6, g7⟩ := wrong2 (t := jp s 41 0 42 0) (H := 0) (o := o) (p := p) hB hA h0 ho
  rw [fail2_is h0] at e2
  have er := congrArg Prod.fst (Option.some.inj e2)
  dsimp only at er
  rw [← er] at g5
  have f1 : f = o := by rw [← g5.1, jf_neg (by omega), jf_jp, if_pos ⟨rfl, rfl, rfl⟩]
  have f2 : p' = p := by rw [← g5.2, jf_jp, if_pos ⟨rfl, rfl, rfl⟩]
  subst f1; subst f2
  exact ⟨q, e1, g2, g3, g4, g6⟩
/-- the twin's assembling behind the question of the unit *-/
noncomputable def yAs (t : jS) (H k ln : Int) : Option (jS × Int) := (m_X39_read t (H + 8)).bind fun q2 => (m_X37_beginUnit q2.1 H).bind fun q3 => (m_X39_fault q3.1 (H + 8) 0).bind fun q4 => jls (jp q4.1 41 H 42 q4.2) fun s5 => (m_X39_fault s5 (H + 8) 1).bind fun q6 => jls (jp q6.1 41 H 43 q6.2) fun s7 => if (jf s7 41 H 42) = 0 then (m_X37_statements s7 H).bind fun q8 => if q8.2 = 0 then u_X37_assemble_109 q8.1 H k 0 else (m_X37_makeObject q8.1 H).bind fun q9 => (m_X40_write q9.1 (H + 25)).bind fun q10 => if q10.2 < 0 then (m_X37_fail_2 q10.1 H 20 ln).bind fun q11 => u_X37_assemble_109 q11.1 H k q10.2 else u_X37_assemble_109 q10.1 H k q10.2 else u_X37_assemble_109 s7 H k 0
/-- what assembling changes *-/
def asF (s u : jS) (A O c n : Int) : Prop := jGw s u (40 * n + 720) (5400 * n + 16300) fun z => (z = A + (-3890) ∨ c ≤ z ∧ z ≤ c + 5) ∨ ((A ≤ z ∧ z ≤ A + 126 ∨ z = A + (-4147) + 24 ∨ z = A + (-4147) + 25) ∨ jK s z = 9) ∨ (O ≤ z ∧ z < O + 1858)
def asT (H : Int) (t w : jS) : Prop := jSm t w ∧ ∀ c a k, ¬ (c = 41 ∧ a = H ∧ 12 ≤ k ∧ k ≤ 61) → ¬ ((c = 1000 ∨ c = 1002) ∧ H + 143 ≤ a ∧ a ≤ H + 169) → ¬ (c = 42 ∧ a = H + 4 ∧ k = 0) → ¬ (c = 1000 ∧ a = H + 6) → ¬ (c = 43 ∧ a = H + 8 ∧ (k = 0 ∨ k = 3 ∨ 11 ≤ k ∧ k ≤ 21 ∨ 23 ≤ k ∧ k ≤ 27)) → ¬ (c = 1000 ∧ (H + 11 ≤ a ∧ a ≤ H + 18 ∨ a = H + 23 ∨ a = H + 24)) → ¬ (H + 25 ≤ a ∧ a < H + 59 ∧ ¬ (c = 1000 ∧ (a = H + 47 ∨ a = H + 48))) → jf w c a k = jf t c a k
theorem asT.rfl : asT H t t := ⟨jSm.rfl, fun _ _ _ _ _ _ _ _ _ _ => Eq.refl _⟩
theorem asT.trans (h : asT H t u) (g : asT H u w) : asT H t w := ⟨h.1.trans g.1, fun c a k z1 z2 z3 z4 z5 z6 z7 => (g.2 c a k z1 z2 z3 z4 z5 z6 z7).trans (h.2 c a k z1 z2 z3 z4 z5 z6 z7)⟩
theorem tF.as (h : tF H t w) : asT H t w := ⟨h.1, fun c a k z1 z2 z3 z4 _ _ _ => h.2 c a k z1 z2 z3 z4⟩
theorem yRk.as (h : yRk t w (H + 8)) : asT H t w := ⟨h.1, fun c a k z1 z2 z3 z4 z5 z6 _ => h.2 c a k (by clear z1 z2 z3 z4 z6; omega) (by clear z1 z2 z3 z4 z5; omega)⟩
theorem tMf.as (h : tMf t w (H + 25)) : asT H t w := ⟨h.1, fun c a k z1 z2 z3 z4 z5 z6 z7 => h.2 c a k (by clear z1 z2 z3 z4 z5 z6; omega)⟩
theorem fWr.as (h : fWr t w (H + 25)) : asT H t w := ⟨h.1, fun c a k z1 z2 z3 z4 z5 z6 z7 => h.2 c a k (by clear z1 z2 z3 z4 z5 z6; omega) (by clear z1 z2 z3 z4 z5 z6; omega)⟩
theorem asT.jp (h : asT H t u) (hc : c = 41 ∧ a = H ∧ 12 ≤ k ∧ k ≤ 61 ∨ c = 43 ∧ a = H + 8 ∧ k = 0) : asT H t (jp u c a k v) := ⟨h.1.jp, fun c' a' k' z1 z2 z3 z4 z5 z6 z7 => by
  have e := h.2 c' a' k' z1 z2 z3 z4 z5 z6 z7
  clear z2 z3 z4 z6 z7
  rw [jf_neg (by omega)]; exact e⟩
/-- the text behind assembling: all read; its book, if it could be read *-/
def asX (s u t w : jS) (T U b c : Int) : Prop := jf u 15 T 2 = 0 ∧ jf w 43 U 3 = 0 ∧ (∀ k, k = 0 ∨ k = 1 ∨ k = 7 → jf u 15 T k = jf s 15 T k) ∧ ((jf u 15 T 5 = b ∧ jf u 15 T 6 = c ∧ ∀ a k, (3 ≤ a ∧ a ≤ 9 ∨ a = 16) → 0 ≤ k → k < kN a → jf w 1000 (U + a) (kN a + k) = jf t 1000 (U + a) (kN a + k)) ∨ (jf u 15 T 5 = c ∧ jf u 15 T 6 = b ∧ ∃ lo NL I OL SL, jn s ≤ lo ∧ bkP u c lo NL I OL SL ∧ bkR (fun a k => jf w 1000 (U + a) (kN a + k)) NL I OL SL ∧ bGd NL I OL SL))
theorem cTx.sm {T : Int} (h : cTx s T wg g n b c) (m : jSm s u) (hf : ∀ e a k, e = 15 ∨ e = 16 ∨ e = 1001 → jf u e a k = jf s e a k) : cTx u T wg g n b c := by
  obtain ⟨m1, m2, m3, m4, m5, m6, m7⟩ := m
  unfold cTx bkI at h ⊢
  simp only [m1, m2, m3, hf 15 _ _ (.inl rfl), hf 16 _ _ (.inr (.inl rfl)), hf 1001 _ _ (.inr (.inr rfl))]
  exact h
/-- what assembling gives, both sides *-/
def asOut (s t : jS) (A H O b c n k : Int) : Prop :=
  (∃ q r x, m_X33_assemble s A = some q ∧ yAs t H k n = u_X37_assemble_109 r H k x ∧ q.2.1 = true ∧ (0 ≤ q.2.2 ∧ jK q.1 q.2.2 = 2054) ∧ (∃ f p, ¬ f = 0 ∧ (jf q.1 37 A 37 = f ∧ jf q.1 37 A 38 = p) ∧ (jf r 41 H 42 = f ∧ jf r 41 H 43 = p)) ∧ asF s q.1 A O c n ∧ asT H t r ∧ asX s q.1 t r (A + (-3890)) (H + 8) b c) ∨
  (∃ u r m, m_X33_assemble s A = some (u, false, 0) ∧ yAs t H k n = u_X37_assemble_109 r H k m ∧ jf r 41 H 42 = 0 ∧ (0 < m ∧ m ≤ 8192 ∧ ∃ g', fB u (O + 1229) g' m ∧ ∀ i, 0 ≤ i → i < m → jf r 1000 (H + 25 + 21) i = g' i) ∧ asF s u A O c n ∧ asT H t r ∧ asX s u t r (A + (-3890)) (H + 8) b c)
theorem y_fault39 (U : Int) : m_X39_fault t U 0 = some (jp t 43 U 0 0, jf t 43 U 13) ∧ m_X39_fault t U 1 = some (jp t 43 U 0 0, jf t 43 U 14) := by
  rw [em_X39_fault]; unfold dm_X39_fault
  constructor
  · simp only [jls, if_true]
    rw [jf_neg (by omega)]
  · simp only [jls, if_neg n10, if_true]
    rw [jf_neg (by omega)]
/-- a text that can't be read *-/
theorem asm_e {e1 e2 : Int} {q : jS × Bool × Int} (hc : m_X33_clear s A = some (s1, 0)) (hr : m_X11_read s1 (A + (-3890)) = some q) (q1 : q.2.1 = true) (q2 : 0 ≤ q.2.2 ∧ jK q.1 q.2.2 = 2054) (f3 : jf q.1 15 (A + (-3890)) 3 = e1) (f4 : jf q.1 15 (A + (-3890)) 4 = e2) (he : ¬ e1 = 0) (hB : 0 ≤ jn q.1 ∧ jBd q.1 4 40) (hA : 0 ≤ A ∧ A + 127 ≤ jn q.1) (hw : m_X39_read t (H + 8) = some (w, x)) (w3 : jf w 43 (H + 8) 13 = e1) (w4 : jf w 43 (H + 8) 14 = e2) :
    ∃ q' r, m_X33_assemble s A = some q' ∧ yAs t H k n = u_X37_assemble_109 r H k 0 ∧ q'.2.1 = true ∧ (0 ≤ q'.2.2 ∧ jK q'.1 q'.2.2 = 2054) ∧ (jf q'.1 37 A 37 = e1 ∧ jf q'.1 37 A 38 = e2) ∧ (jf r 41 H 42 = e1 ∧ jf r 41 H 43 = e2) ∧ cFa A q.1 q'.1 1 6 ∧ asT H w r ∧ (∀ a k, H + 9 ≤ a → a ≤ H + 24 → jf r 1000 a k = jf w 1000 a k) ∧ ∀ a k, jf r 43 a k = (if a = H + 8 ∧ k = 0 then 0 else jf w 43 a k) := by
  obtain ⟨q', i1, i2, i3, i4, i5⟩ := comp_wrong (o := e1) (p := e2) hB hA he
  obtain ⟨w1, j1, y⟩ := y_begin (t := w) (H := H)
  have fy := y.2.2.2.2.2.1
  obtain ⟨w2, G2⟩ : ∃ w2, w2 = jp w1 43 (H + 8) 0 0 := ⟨_, rfl⟩
  obtain ⟨g2, r2, -⟩ := jpF G2
  obtain ⟨w3', G3⟩ : ∃ w3, w3 = jp w2 41 H 42 e1 := ⟨_, rfl⟩
  obtain ⟨g3, r3, -⟩ := jpF G3
  obtain ⟨w4', G4⟩ : ∃ w4, w4 = jp w3' 43 (H + 8) 0 0 := ⟨_, rfl⟩
  obtain ⟨g4, r4, -⟩ := jpF G4
  obtain ⟨w5, G5⟩ : ∃ w5, w5 = jp w4' 41 H 43 e2 := ⟨_, rfl⟩
  obtain ⟨g5, r5, -⟩ := jpF G5
  have v42 : jf w5 41 H 42 = e1 := by rw [g5 _ _ _ (by omega), g4 _ _ _ (by omega), r3]
  refine ⟨q', w5, ?_, ?_, i2, i3, i4, ⟨v42, r5⟩, i5, ?_, fun a k a0 a1 => by rw [g5 _ _ _ (by omega), g4 _ _ _ (by omega), g3 _ _ _ (by omega), g2 _ _ _ (by omega), fy _ _ _ (by omega) (by omega)], fun a k => ?_⟩
  · rw [em_X33_assemble]; unfold dm_X33_assemble
    rw [hc, Option.bind_some]
    dsimp only
    rw [hr, Option.bind_some, q1]
    show (if jK q.1 q.2.2 ∈ ([2054] : List Int) then _ else _) = _
    rw [if_pos (by rw [q2.2]; exact List.mem_singleton.mpr rfl), em_X11_fault]; unfold dm_X11_fault
    rw [if_pos rfl, Option.bind_some, if_neg n10, if_pos rfl, Option.bind_some, f3, f4]
    exact i1
  · unfold yAs
    rw [hw, Option.bind_some]
    dsimp only
    rw [j1, Option.bind_some]
    dsimp only
    rw [(y_fault39 (H + 8)).1, Option.bind_some, fy 43 _ _ (by omega) (by omega), w3]
    dsimp only
    rw [jls_e, ← G2, ← G3, (y_fault39 (H + 8)).2, Option.bind_some]
    dsimp only
    rw [jls_e, ← G4, g3 43 _ _ (by omega), g2 43 _ _ (by omega), fy 43 _ _ (by omega) (by omega), w4, ← G5, v42, if_neg he]
  · have a1 : asT H w w1 := y.f.as
    have a2 : asT H w w2 := by rw [G2]; exact a1.jp (by omega)
    have a3 : asT H w w3' := by rw [G3]; exact a2.jp (by omega)
    have a4 : asT H w w4' := by rw [G4]; exact a3.jp (by omega)
    rw [G5]; exact a4.jp (by omega)
  · rw [g5 _ _ _ (by omega)]
    by_cases c : a = H + 8 ∧ k = 0
    · rw [if_pos c, c.1, c.2]; exact r4
    · rw [if_neg c, g4 _ _ _ (by omega), g3 _ _ _ (by omega), g2 _ _ _ (by omega), fy 43 _ _ (by omega) (by omega)]
end jAsmAll
