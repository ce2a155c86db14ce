/-! the component writes a file: counters, tables, head, sections, starts -/
section jCwrite
variable {s t u : jS} {B N L V p n v f a b x y : Int} {g g' : Int → Int} {o : Int → Int → Int → Int}
theorem c_nrl (h : cOb s b o) (v : vOb o) : m_X14_relocationsOf s b x = some (nRl o x) := by
  obtain ⟨n1, n2, n3, n4, n5, n6⟩ := v.2.2.1
  rw [em_X14_relocationsOf]; unfold dm_X14_relocationsOf
  rw [eu_X14_relocationsOf_4]; unfold du_X14_relocationsOf_4
  refine jforR (C := jc4 b_X14_relocationsOf_4) (fun k => [b, x, cn (ofS o x) k, k]) 0 (o 2 2 0) n5 (fun k k0 k1 => ?_) ?_
  · show b_X14_relocationsOf_4 s b x (cn (ofS o x) k) k = _
    unfold b_X14_relocationsOf_4
    have hr := (h.2.2.2.2.2.2 k k0 k1).1
    have hc := cn_lo (P := ofS o x) k0
    have hs := cn_s (P := ofS o x) k0
    have eo : ofS o x k = true ↔ o 5 k 0 = x := by unfold ofS; simp
    rw [h.2.2.2.1.2.2, if_pos k1, jix_in k0 (by omega), Option.bind_some, hr]
    simp only [em_X14_relocationsOf, dm_X14_relocationsOf, eu_X14_relocationsOf_31, du_X14_relocationsOf_31, jlet]
    by_cases c : o 5 k 0 = x
    · rw [if_pos c, hs, if_pos (eo.mpr c), W32_in (by omega) (by omega), W32_in (by omega) (by omega)]
    · rw [if_neg c, hs, if_neg (fun z => c (eo.mp z)), W32_in (by omega) (by omega), W32_in (by omega) (by omega)]
  · show b_X14_relocationsOf_4 s b x (cn (ofS o x) (o 2 2 0)) (o 2 2 0) = _
    unfold b_X14_relocationsOf_4
    rw [h.2.2.2.1.2.2, if_neg (by omega)]; rfl
theorem c_locals (h : cOb s b o) (v : vOb o) : m_X14_locals s b = some (nLc o) := by
  obtain ⟨n1, n2, n3, n4, n5, n6⟩ := v.2.2.1
  rw [em_X14_locals]; unfold dm_X14_locals
  rw [eu_X14_locals_4]; unfold du_X14_locals_4
  refine jforR (C := jc3 b_X14_locals_4) (fun k => [b, cn (isLc o) k, k]) 0 (o 2 1 0) n3 (fun k k0 k1 => ?_) ?_
  · show b_X14_locals_4 s b (cn (isLc o) k) k = _
    unfold b_X14_locals_4
    have hr := (h.2.2.2.2.2.1 k k0 k1).2.2.2.1
    have hc := cn_lo (P := isLc o) k0
    have hs := cn_s (P := isLc o) k0
    have eo : isLc o k = true ↔ o 4 k 3 = 0 := by unfold isLc; simp
    rw [h.2.2.2.1.2.1, if_pos k1, jix_in k0 (by omega), Option.bind_some, hr]
    simp only [em_X14_locals, dm_X14_locals, eu_X14_locals_30, du_X14_locals_30, jlet]
    by_cases c : o 4 k 3 = 0
    · rw [if_pos c, hs, if_pos (eo.mpr c), W32_in (by omega) (by omega), W32_in (by omega) (by omega)]
    · rw [if_neg c, hs, if_neg (fun z => c (eo.mp z)), W32_in (by omega) (by omega), W32_in (by omega) (by omega)]
  · show b_X14_locals_4 s b (cn (isLc o) (o 2 1 0)) (o 2 1 0) = _
    unfold b_X14_locals_4
    rw [h.2.2.2.1.2.1, if_neg (by omega)]; rfl
theorem c_rank (h : cOb s b o) (v : vOb o) (x0 : 0 ≤ x) (x1 : x < o 2 1 0) : m_X14_rank s b x = some (tn o x) := by
  obtain ⟨n1, n2, n3, n4, n5, n6⟩ := v.2.2.1
  have hx := (h.2.2.2.2.2.1 x x0 x1).2.2.2.1
  have hb : ∀ z P, (∀ k, 0 ≤ k → k < x → (P k = true ↔ (o 4 k 3 = 0 ↔ o 4 x 3 = 0))) → 0 ≤ z → z ≤ 100 → u_X14_rank_20 s b x z = some (z + cn P x) := by
    intro z P hP z0 z1
    rw [eu_X14_rank_20]; unfold du_X14_rank_20
    rw [eu_X14_rank_23]; unfold du_X14_rank_23
    have key := jforR (R := Int) (s := s) (C := jc4 b_X14_rank_23) (fun k => [b, x, z + cn P k, k]) 0 x x0 (r := some (z + cn P x)) (fun k k0 k1 => by
      show b_X14_rank_23 s b x (z + cn P k) k = _
      unfold b_X14_rank_23
      have hr := (h.2.2.2.2.2.1 k k0 (by omega)).2.2.2.1
      have hc := cn_lo (P := P) k0
      have hs := cn_s (P := P) k0
      have hP := hP k k0 k1
      rw [if_pos k1, jix_in k0 (by omega), Option.bind_some, hr]
      simp only [eu_X14_rank_46, du_X14_rank_46, eu_X14_rank_63, du_X14_rank_63, eu_X14_rank_71, du_X14_rank_71, jlet, jix_in x0 (show x < 100 by omega), Option.bind_some, hx]
      by_cases c : o 4 k 3 = 0 <;> by_cases c' : o 4 x 3 = 0
      · simp only [c, c', eq_self, and_false, false_and, and_true, true_and, if_true, if_false, reduceIte, Int.reduceEq, Int.reduceLT, Int.reduceLE, Int.reduceNeg, not_false_eq_true, Option.bind_some, jls]; rw [hs, if_pos (hP.mpr ⟨fun _ => c', fun _ => c⟩), W32_in (by omega) (by omega), W32_in (by omega) (by omega), Int.add_assoc]
      · simp only [c, c', eq_self, and_false, false_and, and_true, true_and, if_true, if_false, reduceIte, Int.reduceEq, Int.reduceLT, Int.reduceLE, Int.reduceNeg, not_false_eq_true, Option.bind_some, jls]; rw [hs, if_neg (fun z => c' ((hP.mp z).mp c)), W32_in (by omega) (by omega), W32_in (by omega) (by omega), Int.add_assoc]
      · simp only [c, c', eq_self, and_false, false_and, and_true, true_and, if_true, if_false, reduceIte, Int.reduceEq, Int.reduceLT, Int.reduceLE, Int.reduceNeg, not_false_eq_true, Option.bind_some, jls]; rw [hs, if_neg (fun z => c ((hP.mp z).mpr c')), W32_in (by omega) (by omega), W32_in (by omega) (by omega), Int.add_assoc]
      · simp only [c, c', eq_self, and_false, false_and, and_true, true_and, if_true, if_false, reduceIte, Int.reduceEq, Int.reduceLT, Int.reduceLE, Int.reduceNeg, not_false_eq_true, Option.bind_some, jls]; rw [hs, if_pos (hP.mpr ⟨fun z => absurd z c, fun z => absurd z c'⟩), W32_in (by omega) (by omega), W32_in (by omega) (by omega), Int.add_assoc]) (by
      show b_X14_rank_23 s b x (z + cn P x) x = _
      unfold b_X14_rank_23
      rw [if_neg (by omega)])
    rw [cn_0, Int.add_zero] at key
    exact key
  have hl := cn_lo (P := isLc o) n3
  rw [em_X14_rank]; unfold dm_X14_rank
  rw [jix_in x0 (by omega), Option.bind_some, hx]
  unfold tn
  by_cases c : o 4 x 3 = 0
  · rw [if_pos c, if_pos c, hb 0 (isLc o) (fun k _ _ => by unfold isLc; simp [c]) (by omega) (by omega), Int.zero_add]
  · rw [if_neg c, if_neg c, c_locals h v, Option.bind_some, hb (nLc o) (isNl o) (fun k _ _ => by unfold isNl; simp [c]) (by unfold nLc; omega) (by unfold nLc; omega)]
/-- starts that are of two bytes -/
def isH (o : Int → Int → Int → Int) : Int → Bool := fun k => decide (¬ o 0 0 (o 3 k 0) % 4 = 3)
theorem sb_m4 {v : Int} (h0 : 0 ≤ v) (h1 : v < 256) : I_and (sb v) 3 = v % 4 := by
  rw [I_and_3]; unfold sb; split <;> omega
theorem c_shorts (h : cOb s b o) (v : vOb o) (nb : ¬ bd1 o) : m_X14_shorts s b = some (cn (isH o) (o 2 0 0)) := by
  obtain ⟨n1, n2, n3, n4, n5, n6⟩ := v.2.2.1
  rw [em_X14_shorts]; unfold dm_X14_shorts
  rw [eu_X14_shorts_4]; unfold du_X14_shorts_4
  refine jforR (C := jc3 b_X14_shorts_4) (fun k => [b, cn (isH o) k, k]) 0 (o 2 0 0) n1 (fun k k0 k1 => ?_) ?_
  · show b_X14_shorts_4 s b (cn (isH o) k) k = _
    unfold b_X14_shorts_4
    have hc := cn_lo (P := isH o) k0
    have hs := cn_s (P := isH o) k0
    have ht := h.2.2.2.2.1 k k0 k1
    have vt := v.2.2.2.1 k k0 k1
    have hr : o 3 k 0 < o 1 0 0 := Int.not_le.mp fun z => nb ⟨k, k0, k1, z⟩
    have hb := h.2.2.1 0 (o 3 k 0) (by omega) (by omega) vt.1 hr
    have vb := v.2.1 0 (o 3 k 0) (by omega) (by omega) vt.1 hr
    have hl := h.1 0 (by omega) (by omega)
    rw [if_neg (by omega)] at hl
    have eo : isH o k = true ↔ ¬ o 0 0 (o 3 k 0) % 4 = 3 := by unfold isH; simp
    rw [h.2.2.2.1.1, if_pos k1, e_X14_isShort s b k ⟨k0, by omega⟩ (by rw [ht]; exact ⟨vt.1, by rw [hl]; omega⟩), Option.bind_some, ht, hb, sb_m4 vb.1 vb.2]
    simp only [em_X14_shorts, dm_X14_shorts, eu_X14_shorts_26, du_X14_shorts_26, jlet]
    by_cases c : o 0 0 (o 3 k 0) % 4 = 3
    · rw [if_neg (not_not_intro c), if_pos rfl, hs, if_neg (fun z => eo.mp z c), W32_in (by omega) (by omega), W32_in (by omega) (by omega)]
    · rw [if_pos c, if_neg (by omega), hs, if_pos (eo.mpr c), W32_in (by omega) (by omega), W32_in (by omega) (by omega)]
  · show b_X14_shorts_4 s b (cn (isH o) (o 2 0 0)) (o 2 0 0) = _
    unfold b_X14_shorts_4
    rw [h.2.2.2.1.1, if_neg (by omega)]
/-- what a writer has to do with -/
def wH (s : jS) (V b : Int) (o : Int → Int → Int → Int) : Prop := jTt s 40 V ∧ jTt s 34 b ∧ cOb s b o ∧ vOb o ∧ (b + 613 ≤ V ∨ V + 8 ≤ b)
theorem wH.keep (h : wH s V b o) (k : jFx s t V 8) : wH t V b o := ⟨h.1.ext k.2, h.2.1.ext k.2, h.2.2.1.kf k (by have := h.2.2.2.2; omega) h.2.2.2.1.2.2.1, h.2.2.2.1, h.2.2.2.2⟩
/-- its tables: entries; of the first parts where they begin and end, alignments -/
def wE (s : jS) (V : Int) (o : Int → Int → Int → Int) : Prop := (∀ k : Nat, k < 11 → jf s 1000 (V + 3) ((k : Int) + 1) = en o k) ∧ jf s 24 V 6 = enT (th o) 11
def wT1 (s : jS) (V : Int) (o : Int → Int → Int → Int) (k : Nat) (p : Int) : Prop := 0 ≤ jf s 1000 (V + 4) ((k : Int) + 1) ∧ jf s 1000 (V + 4) ((k : Int) + 1) ≤ 8193 ∧ (p ≤ 8193 → jf s 1000 (V + 4) ((k : Int) + 1) = bO o k ∧ jf s 1000 (V + 5) ((k : Int) + 1) = bO o k + mnO o k) ∧ jf s 1000 (V + 6) ((k : Int) + 1) = arO o k
def wT (s : jS) (V : Int) (o : Int → Int → Int → Int) (K : Nat) (p : Int) : Prop := ∀ k : Nat, k < K → th o k = true → wT1 s V o k p
/-- a stage: what was written up to p, K parts of it -/
def wS (s u : jS) (V : Int) (o : Int → Int → Int → Int) (g : Int → Int) (K : Nat) (p : Int) : Prop := jFx s u V 8 ∧ wB u (V + 1) 8193 g p ∧ wE u V o ∧ wT u V o K p
theorem wE.kf {lo n : Int} (h : wE s V o) (k : jFx s t lo n) (d : V + 7 ≤ lo ∨ lo + n ≤ V ∨ V + 1 ≤ lo ∧ lo + n ≤ V + 3) : wE t V o := ⟨fun i hi => by rw [k.F (by omega)]; exact h.1 i hi, by rw [k.F (by omega)]; exact h.2⟩
theorem wT1.kf {lo n p' : Int} {i : Nat} (h : wT1 s V o i p) (k : jFx s t lo n) (d : V + 7 ≤ lo ∨ lo + n ≤ V + 4) (hp : p ≤ p') : wT1 t V o i p' := by
  unfold wT1 at *
  simp only [k.F (show V + 4 < lo ∨ lo + n ≤ V + 4 by omega), k.F (show V + 5 < lo ∨ lo + n ≤ V + 5 by omega), k.F (show V + 6 < lo ∨ lo + n ≤ V + 6 by omega)]
  exact ⟨h.1, h.2.1, fun z => h.2.2.1 (by omega), h.2.2.2⟩
theorem wT.kf {lo n p' : Int} {K : Nat} (h : wT s V o K p) (k : jFx s t lo n) (d : V + 7 ≤ lo ∨ lo + n ≤ V + 4) (hp : p ≤ p') : wT t V o K p' := fun i hi c => (h i hi c).kf k d hp
theorem wS.pb {K : Nat} (h : wS s t V o g K p) {p' : Int} (k : jFx t u (V + 1) 2) (w : wB u (V + 1) 8193 g' p') (hp : p ≤ p') : wS s u V o g' K p' := ⟨h.1.trans (k.wide (by omega) (by omega)), w, h.2.2.1.kf k (by omega), h.2.2.2.kf k (by omega) hp⟩
/-- a part begins -/
theorem c_begin {K : Nat} (h : wS s u V o g K p) (hK : K < 11) (hK3 : ¬ K = 3) (ht : th o K = true) (hp : p = qO o K) (ha : a = alO o K) (a0 : 0 < a) (a1 : a ≤ 4096) : jE (m_X20_begin u V ((K : Int) + 1) a) fun q => ∃ g', jFx s q.1 V 8 ∧ wB q.1 (V + 1) 8193 g' (bO o K) ∧ wE q.1 V o ∧ wT q.1 V o K (bO o K) ∧ (0 ≤ jf q.1 1000 (V + 4) ((K : Int) + 1) ∧ jf q.1 1000 (V + 4) ((K : Int) + 1) ≤ 8193 ∧ (bO o K ≤ 8193 → jf q.1 1000 (V + 4) ((K : Int) + 1) = bO o K) ∧ jf q.1 1000 (V + 6) ((K : Int) + 1) = arO o K) ∧ (∀ i, i < p → g' i = g i) ∧ ∀ i, p ≤ i → i < bO o K → g' i = 0 := by
  rw [em_X20_begin]; unfold dm_X20_begin
  have hb : bO o K = rU p a := by unfold bO; rw [if_pos ht, hp, ha]
  have hr : arO o K = a := by unfold arO; rw [if_neg hK3, ha]
  refine jS_call (c_align h.2.1 (by omega) a0 a1) fun q ⟨k1, g1, w1, e1, e2⟩ => ?_
  have S1 := h.pb k1 w1 (rU_lo a0).1
  rw [← hb] at w1 e2 S1
  have hz : 0 ≤ jf q.1 23 (V + 1) 1 ∧ jf q.1 23 (V + 1) 1 ≤ 8193 ∧ (bO o K ≤ 8193 → jf q.1 23 (V + 1) 1 = bO o K) := by
    obtain ⟨-, z1, z2⟩ := w1
    rcases z2 with ⟨z2, z3, z4, -⟩ | ⟨z2, z3, z4⟩
    · rw [z4]; exact ⟨z1, z2, fun _ => rfl⟩
    · rw [z4]; exact ⟨by omega, by omega, fun z => by omega⟩
  rw [jst_in (by omega) (by omega), Option.bind_some, jst_in (by omega) (by omega), Option.bind_some]
  have k2 : jFx q.1 (jp (jp q.1 1000 (V + 4) ((K : Int) + 1) (jf q.1 23 (V + 1) 1)) 1000 (V + 6) ((K : Int) + 1) a) (V + 4) 3 := (jFx.rfl.jp rfl (by omega) (by omega)).jp rfl (by omega) (by omega)
  refine jS_end ⟨g1, S1.1.trans (k2.wide (by omega) (by omega)), w1.kf k2 (by omega), ⟨fun i hi => by (repeat (first | rw [jf_neg (by omega)] | rw [jf_pos (by omega)] | rw [ou_neg (by omega)] | rw [ou_pos (by omega)])); exact S1.2.2.1.1 i hi, by (repeat (first | rw [jf_neg (by omega)] | rw [jf_pos (by omega)] | rw [ou_neg (by omega)] | rw [ou_pos (by omega)])); exact S1.2.2.1.2⟩, fun i hi c => ?_, ⟨?_, ?_, ?_, ?_⟩, e1, e2⟩
  · obtain ⟨c1, c2, c3, c4⟩ := S1.2.2.2 i hi c
    unfold wT1
    have : ¬ (i : Int) + 1 = (K : Int) + 1 := by omega
    rw [jf_neg (by omega), jf_neg (by omega), jf_neg (by omega), jf_neg (by omega), jf_neg (by omega), jf_neg (by omega)]
    exact ⟨c1, c2, c3, c4⟩
  · rw [jf_neg (by omega), jf_pos ⟨rfl, rfl, rfl⟩]; exact hz.1
  · rw [jf_neg (by omega), jf_pos ⟨rfl, rfl, rfl⟩]; exact hz.2.1
  · rw [jf_neg (by omega), jf_pos ⟨rfl, rfl, rfl⟩]; exact hz.2.2
  · rw [jf_pos ⟨rfl, rfl, rfl⟩]; exact hr.symm
/-- what is between -/
def wM (s u : jS) (V : Int) (o : Int → Int → Int → Int) (g : Int → Int) (K : Nat) (p : Int) : Prop := jFx s u V 8 ∧ wB u (V + 1) 8193 g p ∧ wE u V o ∧ wT u V o K p ∧ (0 ≤ jf u 1000 (V + 4) ((K : Int) + 1) ∧ jf u 1000 (V + 4) ((K : Int) + 1) ≤ 8193 ∧ (p ≤ 8193 → jf u 1000 (V + 4) ((K : Int) + 1) = bO o K) ∧ jf u 1000 (V + 6) ((K : Int) + 1) = arO o K)
theorem wM.pb {K : Nat} (h : wM s t V o g K p) {p' : Int} (k : jFx t u (V + 1) 2) (w : wB u (V + 1) 8193 g' p') (hp : p ≤ p') : wM s u V o g' K p' := ⟨h.1.trans (k.wide (by omega) (by omega)), w, h.2.2.1.kf k (by omega), h.2.2.2.1.kf k (by omega) hp, by
  rw [k.F (by omega), k.F (by omega)]
  obtain ⟨a, b, c, d⟩ := h.2.2.2.2
  exact ⟨a, b, fun z => c (by omega), d⟩⟩
theorem wM.of {K : Nat} (h1 : jFx s u V 8) (h2 : wB u (V + 1) 8193 g p) (h3 : wE u V o) (h4 : wT u V o K p) (h5 : 0 ≤ jf u 1000 (V + 4) ((K : Int) + 1) ∧ jf u 1000 (V + 4) ((K : Int) + 1) ≤ 8193 ∧ (p ≤ 8193 → jf u 1000 (V + 4) ((K : Int) + 1) = bO o K) ∧ jf u 1000 (V + 6) ((K : Int) + 1) = arO o K) : wM s u V o g K p := ⟨h1, h2, h3, h4, h5⟩
theorem c_end {K : Nat} (h : wM s u V o g K p) (hK : K < 11) (hK3 : ¬ K = 3) (hp : p = bO o K + lnO o K) : jE (m_X20_end u V ((K : Int) + 1)) fun q => wS s q.1 V o g (K + 1) p := by
  rw [em_X20_end]; unfold dm_X20_end
  have hr : mnO o K = lnO o K := by unfold mnO; rw [if_neg hK3]
  obtain ⟨h1, h2, h3, h4, h5⟩ := h
  rw [jst_in (by omega) (by omega), Option.bind_some]
  have hz : p ≤ 8193 → jf u 23 (V + 1) 1 = p := fun z => by
    obtain ⟨-, z1, z2⟩ := h2
    rcases z2 with ⟨z2, z3, z4, -⟩ | ⟨z2, z3, z4⟩
    · exact z4
    · omega
  have k2 : jFx u (jp u 1000 (V + 5) ((K : Int) + 1) (jf u 23 (V + 1) 1)) (V + 5) 1 := jFx.rfl.jp rfl (by omega) (by omega)
  refine jS_end ⟨h1.trans (k2.wide (by omega) (by omega)), h2.kf k2 (by omega), ⟨fun i hi => by (repeat (first | rw [jf_neg (by omega)] | rw [jf_pos (by omega)] | rw [ou_neg (by omega)] | rw [ou_pos (by omega)])); exact h3.1 i hi, by (repeat (first | rw [jf_neg (by omega)] | rw [jf_pos (by omega)] | rw [ou_neg (by omega)] | rw [ou_pos (by omega)])); exact h3.2⟩, fun i hi c => ?_⟩
  unfold wT1
  by_cases e : i = K
  · subst e
    rw [jf_neg (by omega), jf_pos ⟨rfl, rfl, rfl⟩, jf_neg (by omega)]
    exact ⟨h5.1, h5.2.1, fun z => ⟨h5.2.2.1 z, by rw [hz z, hp, hr]⟩, h5.2.2.2⟩
  · obtain ⟨c1, c2, c3, c4⟩ := h4 i (by omega) c
    have : ¬ (i : Int) + 1 = (K : Int) + 1 := by omega
    rw [jf_neg (by omega), jf_neg (by omega), jf_neg (by omega)]
    exact ⟨c1, c2, c3, c4⟩
/-- entries are numbered -/
theorem c_isThere (h : wH s V b o) {k : Nat} (hk : k < 11) : m_X20_isThere s V b ((k : Int) + 1) = some (if th o k = true then 1 else 0) := by
  obtain ⟨h1, h2, h3, h4, h5⟩ := h
  obtain ⟨n1, n2, n3, n4, n5, n6⟩ := h4.2.2.1
  obtain ⟨⟨b0, b1⟩, -⟩ := T34 h2
  rw [em_X20_isThere]; unfold dm_X20_isThere
  by_cases c4 : k = 4
  · subst c4
    rw [if_pos (by omega), jrd_in b0 b1, Option.bind_some, h3.2.2.2.1.1]
    have e : th o 4 = decide (0 < o 2 0 0) := rfl
    by_cases c : 0 < o 2 0 0
    · rw [if_pos c, Wz_1, if_pos (by rw [e]; simp [c])]
    · rw [if_neg c, Wz_0, if_neg (by rw [e]; simp [c])]
  · rw [if_neg (by omega)]
    by_cases c5 : 5 ≤ k ∧ k < 8
    · rw [isM1 (by omega), Option.bind_some, if_neg (by omega), W32_in (by omega) (by omega), c_nrl h3 h4, jct_in h2, Option.bind_some]
      have e : th o k = decide (0 < nRl o ((k : Int) + 1 - 6)) := by
        have : k = 5 ∨ k = 6 ∨ k = 7 := by omega
        rcases this with rfl | rfl | rfl <;> rfl
      by_cases c : 0 < nRl o ((k : Int) + 1 - 6)
      · rw [if_pos c, Wz_1, if_pos (by rw [e]; simp [c])]
      · rw [if_neg c, Wz_0, if_neg (by rw [e]; simp [c])]
    · rw [isM0 (by omega), Option.bind_some, if_pos rfl, Wz_1, if_pos (by unfold th; rw [if_neg (by omega), if_neg (by omega), if_neg (by omega), if_neg (by omega)])]
theorem c_number (h : wH s V b o) : jE (m_X20_number s V b) fun q => jFx s q.1 V 8 ∧ wE q.1 V o ∧ ∀ c a k, V + 1 ≤ a → a < V + 3 → jf q.1 c a k = jf s c a k := by
  rw [em_X20_number]; unfold dm_X20_number
  simp only [jls]
  rw [eu_X20_number_7]; unfold du_X20_number_7
  have k0 : jFx s (jp s 24 V 6 1) V 8 := jFx.rfl.jp rfl (by omega) (by omega)
  refine jS_for (fun k u => jFx s u V 8 ∧ (∀ c a i, V + 1 ≤ a → a < V + 3 → jf u c a i = jf s c a i) ∧ jf u 24 V 6 = enT (th o) (k - 1).toNat ∧ ∀ i : Nat, (i : Int) + 1 < k → i < 11 → jf u 1000 (V + 3) ((i : Int) + 1) = en o i) (fun k => [V, b, k]) 1 12 (by omega) ⟨k0, fun c a i a0 a1 => by (repeat (first | rw [jf_neg (by omega)] | rw [jf_pos (by omega)] | rw [ou_neg (by omega)] | rw [ou_pos (by omega)])), by (repeat (first | rw [jf_neg (by omega)] | rw [jf_pos (by omega)] | rw [ou_neg (by omega)] | rw [ou_pos (by omega)])); rfl, fun i i0 i1 => by omega⟩ (fun k u k0 k1 ⟨e1, e0, e2, e3⟩ => ?_) (fun u ⟨e1, e0, e2, e3⟩ => ?_)
  · show jE (b_X20_number_7 u V b k) _
    unfold b_X20_number_7
    have ht := c_isThere (h.keep e1) (k := (k - 1).toNat) (by omega)
    rw [nt (by omega), Int.sub_add_cancel] at ht
    rw [if_pos k1, ht, Option.bind_some]
    have hen := enT_lo (T := th o) (k - 1).toNat
    have hs : enT (th o) (k + 1 - 1).toNat = enT (th o) (k - 1).toNat + (if th o (k - 1).toNat = true then 1 else 0) := by
      rw [show (k + 1 - 1).toNat = (k - 1).toNat + 1 by omega]; rfl
    simp only [eu_X20_number_37, du_X20_number_37, eu_X20_number_52, du_X20_number_52, e2]
    have fin : ∀ w z : Int, w = en o (k - 1).toNat → z = enT (th o) (k + 1 - 1).toNat → jFx s (jp (jp u 1000 (V + 3) k w) 24 V 6 z) V 8 ∧ (∀ c a i, V + 1 ≤ a → a < V + 3 → jf (jp (jp u 1000 (V + 3) k w) 24 V 6 z) c a i = jf s c a i) ∧ jf (jp (jp u 1000 (V + 3) k w) 24 V 6 z) 24 V 6 = enT (th o) (k + 1 - 1).toNat ∧ ∀ i : Nat, (i : Int) + 1 < k + 1 → i < 11 → jf (jp (jp u 1000 (V + 3) k w) 24 V 6 z) 1000 (V + 3) ((i : Int) + 1) = en o i := fun w z hw hz => by
      refine ⟨(e1.jp rfl (by omega) (by omega)).jp rfl (by omega) (by omega), fun c a i a0 a1 => by (repeat (first | rw [jf_neg (by omega)] | rw [jf_pos (by omega)] | rw [ou_neg (by omega)] | rw [ou_pos (by omega)])); exact e0 c a i a0 a1, by (repeat (first | rw [jf_neg (by omega)] | rw [jf_pos (by omega)] | rw [ou_neg (by omega)] | rw [ou_pos (by omega)])); exact hz, fun i i0 i1 => ?_⟩
      by_cases c : (i : Int) + 1 = k
      · rw [jf_neg (by omega), c, jf_pos ⟨rfl, rfl, rfl⟩, hw]; congr 1; omega
      · (repeat (first | rw [jf_neg (by omega)] | rw [jf_pos (by omega)] | rw [ou_neg (by omega)] | rw [ou_pos (by omega)])); exact e3 i (by omega) i1
    by_cases c : th o (k - 1).toNat = true
    · have hen1 : en o (k - 1).toNat = enT (th o) (k - 1).toNat := by unfold en; rw [if_pos c]
      rw [if_pos c] at hs ⊢
      rw [if_neg (by decide), jst_in (by omega) k1, Option.bind_some, if_neg (by decide), jf_neg (by omega), e2, W32_in (by omega) (by omega), W32_in (by omega) (by omega)]
      exact jS_end ⟨rfl, fin _ _ hen1.symm hs.symm⟩
    · have hen1 : en o (k - 1).toNat = 0 := by unfold en; rw [if_neg c]
      rw [if_neg c] at hs ⊢
      rw [if_pos rfl, jst_in (by omega) k1, Option.bind_some, if_pos rfl, jf_neg (by omega), e2, W32_in (by omega) (by omega), W32_in (by omega) (by omega)]
      exact jS_end ⟨rfl, fin _ _ hen1.symm hs.symm⟩
  · show jE (b_X20_number_7 u V b 12) _
    unfold b_X20_number_7
    rw [if_neg (by omega)]
    exact jS_inr (jS_end ⟨e1, ⟨fun i hi => e3 i (by omega) hi, e2⟩, e0⟩)
/-- bytes of the head -/
theorem c_header (h : wH s V b o) (w : wB s (V + 1) 8193 g 0) (hE : wE s V o) (nb : ¬ bd1 o) : jE (m_X20_header s V b) fun q => ∃ g', wS s q.1 V o g' 0 52 ∧ B4 g' 0 1179403647 ∧ B4 g' 4 65793 ∧ (∀ k, 8 ≤ k → k < 16 → g' k = 0) ∧ B2 g' 16 1 ∧ B2 g' 18 243 ∧ B4 g' 20 1 ∧ (∀ k, 24 ≤ k → k < 32 → g' k = 0) ∧ B4 g' 36 (hv1 o) ∧ B2 g' 40 52 ∧ (∀ k, 42 ≤ k → k < 46 → g' k = 0) ∧ B2 g' 46 40 ∧ B2 g' 48 (enT (th o) 11) ∧ B2 g' 50 (en o 10) := by
  have j : ∀ {v : Int}, -2147483648 ≤ v → v ≤ 2147483647 → jin v := fun a b => ⟨a, b⟩
  have S0 : wS s s V o g 0 0 := ⟨jFx.rfl, w, hE, fun k hk => absurd hk (Nat.not_lt_zero k)⟩
  rw [em_X20_header]; unfold dm_X20_header
  refine jS_call (c_p4 S0.2.1 (by omega) (j (by omega) (by omega))) fun q1 ⟨k1, w1⟩ => ?_
  have S1 := S0.pb k1 w1 (by omega)
  refine jS_call (c_p4 S1.2.1 (by omega) (j (by omega) (by omega))) fun q2 ⟨k2, w2⟩ => ?_
  have S2 := S1.pb k2 w2 (by omega)
  refine jS_call (c_p4 S2.2.1 (by omega) (j (by omega) (by omega))) fun q3 ⟨k3, w3⟩ => ?_
  have S3 := S2.pb k3 w3 (by omega)
  refine jS_call (c_p4 S3.2.1 (by omega) (j (by omega) (by omega))) fun q4 ⟨k4, w4⟩ => ?_
  have S4 := S3.pb k4 w4 (by omega)
  refine jS_call (c_p2 S4.2.1 (by omega) (j (by omega) (by omega))) fun q5 ⟨k5, w5⟩ => ?_
  have S5 := S4.pb k5 w5 (by omega)
  refine jS_call (c_p2 S5.2.1 (by omega) (j (by omega) (by omega))) fun q6 ⟨k6, w6⟩ => ?_
  have S6 := S5.pb k6 w6 (by omega)
  refine jS_call (c_p4 S6.2.1 (by omega) (j (by omega) (by omega))) fun q7 ⟨k7, w7⟩ => ?_
  have S7 := S6.pb k7 w7 (by omega)
  clear S0 S1 S2 S3 S4 S5 S6 k1 k2 k3 k4 k5 k6 k7 w1 w2 w3 w4 w5 w6
  rw [eu_X20_header_62]; unfold du_X20_header_62
  simp only [Int.reduceAdd] at S7
  have G7 : B4 (gNb (gNb (gNb (gNb (gNb (gNb (gNb g 0 4 1179403647) 4 4 65793) 8 4 0) 12 4 0) 16 2 1) 18 2 243) 20 4 1) 0 1179403647 ∧ B4 (gNb (gNb (gNb (gNb (gNb (gNb (gNb g 0 4 1179403647) 4 4 65793) 8 4 0) 12 4 0) 16 2 1) 18 2 243) 20 4 1) 4 65793 ∧ (∀ k, 8 ≤ k → k < 16 → (gNb (gNb (gNb (gNb (gNb (gNb (gNb g 0 4 1179403647) 4 4 65793) 8 4 0) 12 4 0) 16 2 1) 18 2 243) 20 4 1) k = 0) ∧ B2 (gNb (gNb (gNb (gNb (gNb (gNb (gNb g 0 4 1179403647) 4 4 65793) 8 4 0) 12 4 0) 16 2 1) 18 2 243) 20 4 1) 16 1 ∧ B2 (gNb (gNb (gNb (gNb (gNb (gNb (gNb g 0 4 1179403647) 4 4 65793) 8 4 0) 12 4 0) 16 2 1) 18 2 243) 20 4 1) 18 243 ∧ B4 (gNb (gNb (gNb (gNb (gNb (gNb (gNb g 0 4 1179403647) 4 4 65793) 8 4 0) 12 4 0) 16 2 1) 18 2 243) 20 4 1) 20 1 := by
    refine ⟨?_, ?_, fun k k0 k1 => ?_, ?_, ?_, ?_⟩
    · repeat (first | exact gN_4 | refine B4.gn ?_ (by omega))
    · repeat (first | exact gN_4 | refine B4.gn ?_ (by omega))
    · rw [gN_lo (by omega), gN_lo (by omega), gN_lo (by omega)]
      by_cases c : k < 12
      · rw [gN_lo (by omega)]; exact gN_z (by omega)
      · exact gN_z (by omega)
    · repeat (first | exact gN_2 | refine B2.gn ?_ (by omega))
    · repeat (first | exact gN_2 | refine B2.gn ?_ (by omega))
    · exact gN_4
  generalize (gNb (gNb (gNb (gNb (gNb (gNb (gNb g 0 4 1179403647) 4 4 65793) 8 4 0) 12 4 0) 16 2 1) 18 2 243) 20 4 1) = g7 at S7 G7
  refine jS_for (fun k u => ∃ g1, wS s u V o g1 0 (24 + 4 * k) ∧ (∀ i, i < 24 → g1 i = g7 i) ∧ ∀ i, 24 ≤ i → i < 24 + 4 * k → g1 i = 0) (fun k => [V, b, k]) 0 3 (by omega) ⟨g7, by rw [show (24 : Int) + 4 * 0 = 24 by omega]; exact S7, fun _ _ => rfl, fun i i0 i1 => by omega⟩ (fun k u k0 k1 ⟨g1, e1, e2, e3⟩ => ?_) (fun u ⟨g1, e1, e2, e3⟩ => ?_)
  · show jE (b_X20_header_62 u V b k) _
    unfold b_X20_header_62
    rw [if_pos k1]
    refine jS_call (c_p4 e1.2.1 (by omega) (j (v := 0) (by omega) (by omega))) fun q ⟨k2, w2⟩ => ?_
    rw [W32_in (by omega) (by omega)]
    have S := e1.pb k2 w2 (by omega)
    rw [show 24 + 4 * k + 4 = 24 + 4 * (k + 1) by omega] at S
    refine jS_end ⟨rfl, _, S, fun i i0 => by rw [gN_lo (by omega)]; exact e2 i i0, fun i i0 i1 => ?_⟩
    by_cases c : i < 24 + 4 * k
    · rw [gN_lo (by omega)]; exact e3 i i0 c
    · exact gN_z (by omega)
  · show jE (b_X20_header_62 u V b 3) _
    unfold b_X20_header_62
    rw [if_neg (by omega), eu_X20_header_81]; unfold du_X20_header_81
    have H := h.keep e1.1
    refine jS_inr ?_
    rw [c_shorts H.2.2.1 H.2.2.2.1 nb, jct_in H.2.1, Option.bind_some]
    have eh : (if 0 < cn (isH o) (o 2 0 0) then u_X20_header_97 u V 1 (V + 1) else u_X20_header_97 u V 0 (V + 1)) = u_X20_header_97 u V (hv1 o) (V + 1) := by
      have : hv1 o = if 0 < cn (isH o) (o 2 0 0) then 1 else 0 := rfl
      rw [this]; split <;> rfl
    rw [eh, eu_X20_header_97]; unfold du_X20_header_97
    have h1 : 0 ≤ hv1 o ∧ hv1 o ≤ 1 := by unfold hv1; split <;> omega
    have hen := enT_lo (T := th o) 11
    have he10 := en_lo (o := o) 10
    rw [show (24 : Int) + 4 * 3 = 36 by omega] at e1 e3
    refine jS_call (c_p4 e1.2.1 (by omega) (j (by omega) (by omega))) fun q1 ⟨k1, w1⟩ => ?_
    have S1 := e1.pb k1 w1 (by omega)
    refine jS_call (c_p2 S1.2.1 (by omega) (j (by omega) (by omega))) fun q2 ⟨k2, w2⟩ => ?_
    have S2 := S1.pb k2 w2 (by omega)
    refine jS_call (c_p4 S2.2.1 (by omega) (j (by omega) (by omega))) fun q3 ⟨k3, w3⟩ => ?_
    have S3 := S2.pb k3 w3 (by omega)
    refine jS_call (c_p2 S3.2.1 (by omega) (j (by omega) (by omega))) fun q4 ⟨k4, w4⟩ => ?_
    have S4 := S3.pb k4 w4 (by omega)
    rw [S4.2.2.1.2]
    refine jS_call (c_p2 S4.2.1 (by omega) (j (by omega) (by omega))) fun q5 ⟨k5, w5⟩ => ?_
    have S5 := S4.pb k5 w5 (by omega)
    have e10 := S5.2.2.1.1 10 (by omega)
    rw [jlt_in (by omega) (by omega), Option.bind_some, show jf q5.1 1000 (V + 3) 11 = en o 10 from e10]
    refine jS_call (c_p2 S5.2.1 (by omega) (j (by omega) (by omega))) fun q6 ⟨k6, w6⟩ => ?_
    have S6 := S5.pb k6 w6 (by omega)
    clear S1 S2 S3 S4 S5 k1 k2 k3 k4 k5 w1 w2 w3 w4 w5
    simp only [Int.reduceAdd] at S6
    have z4 : ∀ {q v : Int}, B4 g7 q v → q + 4 ≤ 24 → B4 g1 q v := fun h hq => h.of fun i i0 i1 => e2 i (by omega)
    have z2 : ∀ {q v : Int}, B2 g7 q v → q + 2 ≤ 24 → B2 g1 q v := fun h hq => h.of fun i i0 i1 => e2 i (by omega)
    refine jS_end ⟨_, S6, ?_, ?_, fun k k0 k1 => ?_, ?_, ?_, ?_, fun k k0 k1 => ?_, ?_, ?_, fun k k0 k1 => ?_, ?_, ?_, ?_⟩
    · repeat (first | exact z4 G7.1 (by omega) | refine B4.gn ?_ (by omega))
    · repeat (first | exact z4 G7.2.1 (by omega) | refine B4.gn ?_ (by omega))
    · rw [gN_lo (by omega), gN_lo (by omega), gN_lo (by omega), gN_lo (by omega), gN_lo (by omega), gN_lo (by omega), e2 _ (by omega)]; exact G7.2.2.1 k k0 k1
    · repeat (first | exact z2 G7.2.2.2.1 (by omega) | refine B2.gn ?_ (by omega))
    · repeat (first | exact z2 G7.2.2.2.2.1 (by omega) | refine B2.gn ?_ (by omega))
    · repeat (first | exact z4 G7.2.2.2.2.2 (by omega) | refine B4.gn ?_ (by omega))
    · rw [gN_lo (by omega), gN_lo (by omega), gN_lo (by omega), gN_lo (by omega), gN_lo (by omega), gN_lo (by omega)]; exact e3 k k0 (by omega)
    · repeat (first | exact gN_4 | refine B4.gn ?_ (by omega))
    · repeat (first | exact gN_2 | refine B2.gn ?_ (by omega))
    · rw [gN_lo (by omega), gN_lo (by omega), gN_lo (by omega)]; exact gN_z (by omega)
    · repeat (first | exact gN_2 | refine B2.gn ?_ (by omega))
    · repeat (first | exact gN_2 | refine B2.gn ?_ (by omega))
    · exact gN_2
end jCwrite
