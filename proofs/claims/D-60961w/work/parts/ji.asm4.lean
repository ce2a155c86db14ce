/-! assemble of all together, both sides -/
set_option maxRecDepth 100000
section jAsm4
variable {s t u w s1 t1 : jS} {a c k v x y z n m A H b lo O f p ln C T d : Int} {wg g : Int → Int} {q : jS × Bool × Int} {r : jS}
/-- what assemble of all together changes: of the component's -/
abbrev rAs (s : jS) (C c k : Int) : Int → Prop := fun z => z = C ∨ (z = C + 258 ∨ c ≤ z ∧ z ≤ c + 5) ∨ ((C + 4148 ≤ z ∧ z ≤ C + 4274 ∨ z = C + 25 ∨ z = C + 26) ∨ jK s z = 9) ∨ (C + 276 ≤ z ∧ z < C + 2134) ∨ (fAt C k + 1229 ≤ z ∧ z < fAt C k + 1231)
/-- of the twin's -/
def asTf (T : Int) (t w : jS) : Prop := jSm t w ∧ ∀ c a k, ¬ (c = 41 ∧ a = T ∧ (k = 4 ∨ 12 ≤ k ∧ k ≤ 61)) → ¬ (c = 1000 ∧ (a = T + 1 ∨ a = T + 2)) → ¬ ((c = 1000 ∨ c = 1002) ∧ T + 143 ≤ a ∧ a ≤ T + 169) → ¬ (c = 42 ∧ a = T + 4 ∧ k = 0) → ¬ (c = 1000 ∧ a = T + 6) → ¬ (c = 43 ∧ a = T + 8 ∧ (k = 0 ∨ k = 3 ∨ 11 ≤ k ∧ k ≤ 21 ∨ 23 ≤ k ∧ k ≤ 27)) → ¬ (c = 1000 ∧ (T + 11 ≤ a ∧ a ≤ T + 18 ∨ a = T + 23 ∨ a = T + 24)) → ¬ (T + 25 ≤ a ∧ a < T + 59 ∧ ¬ (c = 1000 ∧ (a = T + 47 ∨ a = T + 48))) → jf w c a k = jf t c a k
theorem asTf.rfl : asTf T t t := ⟨jSm.rfl, fun _ _ _ _ _ _ _ _ _ _ _ => Eq.refl _⟩
theorem asTf.trans (h : asTf T t u) (g : asTf T u w) : asTf T t w := ⟨h.1.trans g.1, fun c a k z1 z2 z3 z4 z5 z6 z7 z8 => (g.2 c a k z1 z2 z3 z4 z5 z6 z7 z8).trans (h.2 c a k z1 z2 z3 z4 z5 z6 z7 z8)⟩
theorem asT.tf (h : asT T t w) : asTf T t w := ⟨h.1, fun c a k z1 z2 z3 z4 z5 z6 z7 z8 => h.2 c a k (by clear z2 z3 z4 z5 z6 z7 z8; omega) z3 z4 z5 z6 z7 z8⟩
theorem asTf.jp (h : asTf T t u) (hc : c = 41 ∧ a = T ∧ (k = 4 ∨ 12 ≤ k ∧ k ≤ 61) ∨ c = 1000 ∧ (a = T + 1 ∨ a = T + 2)) : asTf T t (jp u c a k v) := ⟨h.1.jp, fun c' a' k' z1 z2 z3 z4 z5 z6 z7 z8 => by
  have e := h.2 c' a' k' z1 z2 z3 z4 z5 z6 z7 z8
  clear z3 z4 z5 z6 z7 z8
  rw [jf_neg (by omega)]; exact e⟩
/-- cells of ours are of living kinds -/
def cKn (s : jS) (C : Int) : Prop := ∀ a, C ≤ a → a < C + 15674 → ¬ (jK s a = 62 ∨ jK s a = 63 ∨ jK s a = 9 ∨ 3000 ≤ jK s a)
/-- what is known of a call of assemble -/
def AsQ (s : jS) (C : Int) (t : jS) (T b c n k : Int) (r q : jS) : Prop := Fls r C q T ∧ (jf r 1 C 9 = jf q 41 T 40 ∧ jf r 1 C 10 = jf q 41 T 41) ∧ (∀ j, ¬ (j = 9 ∨ j = 10) → jf r 1 C j = jf s 1 C j) ∧ jGw s r (40 * n + 720) (5400 * n + 16300) (rAs s C c k) ∧ jEx s r ∧ asTf T t q ∧ asX s r t q (C + 258) (T + 8) b c
/-- the twin keeps the file -/
theorem y_fkeep (hx : 0 ≤ k ∧ k < 6) (h0 : 0 ≤ m ∧ m ≤ 8192) : ∃ q, u_X37_assemble_171 t T k m 0 = some (q, m) ∧ asTf T t q ∧ (∀ i, 0 ≤ i → i < m → jf q 1000 (T + 1) (8192 * k + i) = jf t 1000 (T + 25 + 21) i) ∧ (∀ c a j, ¬ (c = 1000 ∧ a = T + 1 ∧ 8192 * k ≤ j ∧ j < 8192 * k + 8192) → jf q c a j = jf t c a j) := by
  rw [eu_X37_assemble_171]; unfold du_X37_assemble_171
  have key : jE (jlpW (jc4 b_X37_assemble_171) [T, k, m, 0] t) fun q => q.2 = m ∧ asTf T t q.1 ∧ (∀ i, 0 ≤ i → i < m → jf q.1 1000 (T + 1) (8192 * k + i) = jf t 1000 (T + 25 + 21) i) ∧ (∀ c a j, ¬ (c = 1000 ∧ a = T + 1 ∧ 8192 * k ≤ j ∧ j < 8192 * k + 8192) → jf q.1 c a j = jf t c a j) := by
    refine jS_for (fun i u => asTf T t u ∧ (∀ j, 0 ≤ j → j < i → jf u 1000 (T + 1) (8192 * k + j) = jf t 1000 (T + 25 + 21) j) ∧ (∀ c a j, ¬ (c = 1000 ∧ a = T + 1 ∧ 8192 * k ≤ j ∧ j < 8192 * k + 8192) → jf u c a j = jf t c a j)) (fun i => [T, k, m, i]) 0 m h0.1 ⟨asTf.rfl, fun j j0 j1 => by omega, fun _ _ _ _ => Eq.refl _⟩ (fun i u i0 i1 ⟨e1, e2, e3⟩ => ?_) (fun u ⟨e1, e2, e3⟩ => ?_)
    · show jE (b_X37_assemble_171 u T k m i) _
      unfold b_X37_assemble_171
      rw [if_pos i1, jlt_in i0 (by omega), Option.bind_some, W32_in (z := 8192 * k) (by omega) (by omega), W32_in (z := 8192 * k + i) (by omega) (by omega), jst_in (by omega) (by omega), Option.bind_some, W32_in (by omega) (by omega)]
      refine jS_end ⟨rfl, e1.jp (.inr ⟨rfl, .inl rfl⟩), fun j j0 j1 => ?_, fun c a j hc => ?_⟩
      · by_cases cc : j = i
        · subst cc; rw [jf_pos ⟨rfl, rfl, rfl⟩, e3 _ _ _ (by omega)]
        · rw [jf_neg (by omega)]; exact e2 j j0 (by omega)
      · rw [jf_neg (by omega)]; exact e3 c a j hc
    · show jE (b_X37_assemble_171 u T k m m) _
      unfold b_X37_assemble_171
      rw [if_neg (by omega)]
      exact jS_inr (jS_end ⟨rfl, e1, e2, e3⟩)
  obtain ⟨q, e, rfl, h⟩ := key
  exact ⟨q.1, e, h⟩
/-- a unit that is none -/
theorem f_asm0 (hk : ¬ (0 ≤ k ∧ k < 6)) (hB : 0 ≤ jn s ∧ jBd s 1 6) : m_X1_assemble s C k = some (jmk s 2051 0 (fun _ => 0) 6, true, jn s) ∧ m_X37_assemble t T k = some (jp t 41 T 4 1, 0) := by
  constructor
  · rw [em_X1_assemble]; unfold dm_X1_assemble
    rw [X1_there0 hk hB, Option.bind_some]
    rfl
  · rw [em_X37_assemble]; unfold dm_X37_assemble
    rw [(isU0 (s := s) hk).2, Option.bind_some, if_pos rfl, eu_X37_assemble_13]; unfold du_X37_assemble_13
    simp only [jls]
    rw [jf_pos ⟨rfl, rfl, rfl⟩, if_neg n10]
/-- both sides behind the assembling: a fault -/
theorem f_asm1 (h0 : ¬ f = 0) (h42 : jf r 41 T 42 = f) (h43 : jf r 41 T 43 = p) : ∃ w, u_X37_assemble_109 r T k x = some (w, 0) ∧ asTf T r w ∧ jf w 41 T 40 = f ∧ jf w 41 T 41 = p ∧ jf w 41 T 4 = 2 ∧ ∀ c a k, ¬ (c = 41 ∧ a = T ∧ (k = 4 ∨ k = 40 ∨ k = 41)) → jf w c a k = jf r c a k := by
  obtain ⟨w1, W1⟩ : ∃ w1, w1 = jp r 41 T 40 f := ⟨_, rfl⟩
  obtain ⟨y1, r1, -⟩ := jpF W1
  obtain ⟨w2, W2⟩ : ∃ w2, w2 = jp w1 41 T 41 p := ⟨_, rfl⟩
  obtain ⟨y2, r2, -⟩ := jpF W2
  obtain ⟨w3, W3⟩ : ∃ w3, w3 = jp w2 41 T 4 2 := ⟨_, rfl⟩
  obtain ⟨y3, r3, -⟩ := jpF W3
  have F : ∀ c a k, ¬ (c = 41 ∧ a = T ∧ (k = 4 ∨ k = 40 ∨ k = 41)) → jf w3 c a k = jf r c a k := fun c a k q => by rw [y3 _ _ _ (by omega), y2 _ _ _ (by omega), y1 _ _ _ (by omega)]
  refine ⟨w3, ?_, ?_, by rw [y3 _ _ _ (by omega), y2 _ _ _ (by omega), r1], by rw [y3 _ _ _ (by omega), r2], r3, F⟩
  · rw [eu_X37_assemble_109]; unfold du_X37_assemble_109
    rw [h42, jls_e, ← W1, y1 _ _ _ (by omega), h42, if_neg h0, y1 _ _ _ (by omega), h43, eu_X37_assemble_133]; unfold du_X37_assemble_133
    rw [jls_e, ← W2, y2 _ _ _ (by omega), y1 _ _ _ (by omega), h42, if_neg h0, eu_X37_assemble_149]; unfold du_X37_assemble_149
    rw [jls_e, ← W3, y3 _ _ _ (by omega), y2 _ _ _ (by omega), y1 _ _ _ (by omega), h42, if_neg h0]
  · rw [W3, W2, W1]
    exact ((asTf.rfl.jp (by omega)).jp (by omega)).jp (by omega)
/-- and without -/
theorem f_asm2 (hk : 0 ≤ k ∧ k < 6) (hm : 0 ≤ m ∧ m ≤ 8192) (h42 : jf r 41 T 42 = 0) : ∃ w, u_X37_assemble_109 r T k m = some (w, m) ∧ asTf T r w ∧ jf w 41 T 40 = 0 ∧ jf w 41 T 41 = -1 ∧ jf w 41 T 4 = 0 ∧ jf w 1000 (T + 2) k = m ∧ (∀ i, 0 ≤ i → i < m → jf w 1000 (T + 1) (8192 * k + i) = jf r 1000 (T + 25 + 21) i) ∧ ∀ c a j, ¬ (c = 41 ∧ a = T ∧ (j = 4 ∨ j = 40 ∨ j = 41)) → ¬ (c = 1000 ∧ a = T + 1 ∧ 8192 * k ≤ j ∧ j < 8192 * k + 8192) → ¬ (c = 1000 ∧ a = T + 2 ∧ j = k) → jf w c a j = jf r c a j := by
  obtain ⟨w1, W1⟩ : ∃ w1, w1 = jp r 41 T 40 0 := ⟨_, rfl⟩
  obtain ⟨y1, r1, -⟩ := jpF W1
  obtain ⟨w2, W2⟩ : ∃ w2, w2 = jp w1 41 T 41 (-1) := ⟨_, rfl⟩
  obtain ⟨y2, r2, -⟩ := jpF W2
  obtain ⟨w3, W3⟩ : ∃ w3, w3 = jp w2 41 T 4 0 := ⟨_, rfl⟩
  obtain ⟨y3, r3, -⟩ := jpF W3
  obtain ⟨w4, W4⟩ : ∃ w4, w4 = jp w3 1000 (T + 2) k m := ⟨_, rfl⟩
  obtain ⟨y4, r4, -⟩ := jpF W4
  obtain ⟨w, e, a1, a2, a3⟩ := y_fkeep (t := w4) (T := T) hk hm
  have F : ∀ c a j, ¬ (c = 41 ∧ a = T ∧ (j = 4 ∨ j = 40 ∨ j = 41)) → ¬ (c = 1000 ∧ a = T + 2 ∧ j = k) → jf w4 c a j = jf r c a j := fun c a j q1 q2 => by rw [y4 _ _ _ (by omega), y3 _ _ _ (by omega), y2 _ _ _ (by omega), y1 _ _ _ (by omega)]
  have a4 : asTf T r w4 := by
    rw [W4, W3, W2, W1]
    exact (((asTf.rfl.jp (by omega)).jp (by omega)).jp (by omega)).jp (by omega)
  refine ⟨w, ?_, a4.trans a1, ?_, ?_, ?_, ?_, fun i i0 i1 => ?_, fun c a j q1 q2 q3 => ?_⟩
  · rw [eu_X37_assemble_109]; unfold du_X37_assemble_109
    rw [h42, jls_e, ← W1, y1 _ _ _ (by omega), h42, if_pos rfl, eu_X37_assemble_133]; unfold du_X37_assemble_133
    rw [jls_e, ← W2, y2 _ _ _ (by omega), y1 _ _ _ (by omega), h42, if_pos rfl, eu_X37_assemble_149]; unfold du_X37_assemble_149
    rw [jls_e, ← W3, y3 _ _ _ (by omega), y2 _ _ _ (by omega), y1 _ _ _ (by omega), h42, if_pos rfl, jst_in hk.1 hk.2, ← W4, Option.bind_some]
    exact e
  · rw [a3 _ _ _ (by omega), y4 _ _ _ (by omega), y3 _ _ _ (by omega), y2 _ _ _ (by omega), r1]
  · rw [a3 _ _ _ (by omega), y4 _ _ _ (by omega), y3 _ _ _ (by omega), r2]
  · rw [a3 _ _ _ (by omega), y4 _ _ _ (by omega), r3]
  · rw [a3 _ _ _ (by omega), r4]
  · rw [a2 i i0 i1, F _ _ _ (by omega) (by omega)]
  · rw [a3 _ _ _ q2, F _ _ _ q1 q3]
end jAsm4
