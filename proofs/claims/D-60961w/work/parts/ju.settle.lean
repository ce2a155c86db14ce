/-! passes until nothing becomes smaller; settled; both sides -/
set_option maxRecDepth 100000
section jSettle
variable {s t u w : jS} {a k m o p v l n x y c j X f z B i q : Int} {d e : Int → Int → Int}
/-- sizes all together; those that are not fixed -/
def smK (d : Int → Int → Int) : Nat → Int
  | 0 => 0
  | n + 1 => smK d n + if mvK d n then d 15 n else 0
def fxK (d : Int → Int → Int) : Nat → Int
  | 0 => 0
  | n + 1 => fxK d n + if mvK d n ∧ d 16 n = 0 then 1 else 0
theorem smK_0 (v : vLy d) : ∀ n : Nat, (n : Int) ≤ d 0 1 → 0 ≤ smK d n ∧ smK d n ≤ 8 * n
  | 0, _ => ⟨Int.le_refl _, Int.le_refl _⟩
  | n + 1, h => by
    obtain ⟨h1, h2⟩ := smK_0 v n (by omega)
    show 0 ≤ smK d n + (if mvK d n then d 15 n else 0) ∧ smK d n + (if mvK d n then d 15 n else 0) ≤ _
    by_cases c : mvK d n
    · rw [if_pos c]
      obtain ⟨-, -, -, h15, -⟩ := (v.2.2.2.2.2.2.1 n (by omega) (by omega)).2.2.2.2 c
      have : grK d n ≤ 8 := by unfold grK; split <;> decide
      omega
    · rw [if_neg c]; omega
theorem fxK_0 : ∀ n : Nat, 0 ≤ fxK d n ∧ fxK d n ≤ n
  | 0 => ⟨Int.le_refl _, Int.le_refl _⟩
  | n + 1 => by
    obtain ⟨h1, h2⟩ := fxK_0 n
    show 0 ≤ fxK d n + _ ∧ fxK d n + _ ≤ _
    split <;> omega
theorem smK_ps (hi : d 0 1 = i) : ∀ n : Nat, (n : Int) ≤ i → smK (psI d i) n + cnK d n ≤ smK d n
  | 0, _ => Int.le_refl _
  | n + 1, h => by
    have h1 := smK_ps hi n (by omega)
    show smK (psI d i) n + (if mvK (psI d i) n then psI d i 15 n else 0) + (cnK d n + if psK d n then 1 else 0) ≤ smK d n + if mvK d n then d 15 n else 0
    have em : mvK (psI d i) n ↔ mvK d n := dSm.ps.mv
    by_cases c : mvK d n
    · rw [if_pos (em.mpr c), if_pos c]
      by_cases ck : psK d n
      · have e : psI d i 15 (n : Int) = lstK d n := by unfold psI; rw [if_pos ⟨rfl, by omega, by omega, ck⟩]
        rw [if_pos ck, e]
        have := ck.2.2
        omega
      · have e : psI d i 15 (n : Int) = d 15 n := by unfold psI; rw [if_neg (fun q => ck q.2.2.2)]
        rw [if_neg ck, e]; omega
    · rw [if_neg (fun q => c (em.mp q)), if_neg c, if_neg (fun q => c q.1)]; omega
theorem fxK_ps : ∀ n : Nat, fxK (psI d i) n = fxK d n
  | 0 => rfl
  | n + 1 => by
    show fxK (psI d i) n + (if mvK (psI d i) n ∧ psI d i 16 n = 0 then 1 else 0) = fxK d n + _
    rw [fxK_ps n, psI_no (by decide)]
    have em : mvK (psI d i) n ↔ mvK d n := dSm.ps.mv
    by_cases c : mvK d n ∧ d 16 n = 0
    · rw [if_pos c, if_pos ⟨em.mpr c.1, c.2⟩]
    · rw [if_neg c, if_neg fun q => c ⟨em.mp q.1, q.2⟩]
theorem fxK_ud (v : vLy d) (hi : d 0 1 = i) : ∀ n : Nat, (n : Int) ≤ i → fxK (udI d i) n + cuK d n = fxK d n
  | 0, _ => rfl
  | n + 1, h => by
    have h1 := fxK_ud v hi n (by omega)
    show fxK (udI d i) n + (if mvK (udI d i) n ∧ udI d i 16 n = 0 then 1 else 0) + (cuK d n + if tgK d n then 1 else 0) = fxK d n + if mvK d n ∧ d 16 n = 0 then 1 else 0
    have em : mvK (udI d i) n ↔ mvK d n := dSm.ud.mv
    by_cases c : mvK d n
    · obtain ⟨-, -, -, h15, h16⟩ := (v.2.2.2.2.2.2.1 n (by omega) (by omega)).2.2.2.2 c
      unfold udI at em ⊢
      by_cases ck : tgK d n
      · have hh : (0 : Int) ≤ n ∧ (n : Int) < i ∧ tgK d n := ⟨by omega, by omega, ck⟩
        have := ck.2
        have gl := lstK_lo (d := d) (k := (n : Int))
        have g16 : d 16 n = 0 := by
          rcases h16 with z | z
          · exact z
          · rcases gl with g | g
            · omega
            · exact absurd c g
        rw [if_pos ck, if_pos (show mvK d n ∧ d 16 n = 0 from ⟨c, g16⟩), if_neg (fun q => by have := q.2; rw [if_pos hh] at this; simp at this)]
        have := h1
        unfold udI at this
        omega
      · have hh : ¬ ((0 : Int) ≤ n ∧ (n : Int) < i ∧ tgK d n) := fun q => ck q.2.2
        have := h1
        unfold udI at this
        rw [if_neg ck]
        by_cases c16 : d 16 n = 0
        · rw [if_pos (show mvK d n ∧ d 16 n = 0 from ⟨c, c16⟩), if_pos ⟨em.mpr c, by rw [if_neg hh]; exact c16⟩]; omega
        · rw [if_neg (show ¬ (mvK d n ∧ d 16 n = 0) from fun q => c16 q.2), if_neg (fun q => by have := q.2; rw [if_neg hh] at this; exact c16 this)]; omega
    · rw [if_neg (fun q => c (em.mp q.1)), if_neg (fun q => c q.1), if_neg (fun q => c q.1)]; omega
/-- sizes that what moves may have; none is too small -/
def szD (d : Int → Int → Int) : Prop := ∀ k, 0 ≤ k → k < d 0 1 → mvK d k → d 15 k = grK d k ∨ d 15 k = 0 ∧ ¬ d 5 k = 1 ∨ d 15 k = 2 ∧ ¬ d 5 k = 3 ∧ d 10 k = 1 ∨ d 15 k = 4
def noT (d : Int → Int → Int) : Prop := ∀ k, 0 ≤ k → k < d 0 1 → ¬ tgK d k
theorem lstK_sz : lstK d k = grK d k ∨ lstK d k = 0 ∧ ¬ d 5 k = 1 ∨ lstK d k = 2 ∧ ¬ d 5 k = 3 ∧ d 10 k = 1 ∨ lstK d k = 4 := by
  unfold lstK
  by_cases c : d 12 (d 8 k) = -1
  · rw [if_pos c]; exact .inl rfl
  rw [if_neg c]
  by_cases c1 : d 5 k = 1
  · have g8 : grK d k = 8 := by unfold grK; rw [if_pos c1]
    rw [if_pos c1]
    split
    · split
      · rename_i h; exact .inr (.inr (.inl ⟨rfl, by omega, h.1⟩))
      split
      · exact .inr (.inr (.inr rfl))
      · exact .inl g8.symm
    · exact .inl g8.symm
  · rw [if_neg c1]
    split
    · exact .inr (.inl ⟨rfl, c1⟩)
    split
    · rename_i h; exact .inr (.inr (.inl ⟨rfl, by have := h.1; omega, h.2.1⟩))
    · exact .inr (.inr (.inr rfl))
theorem szD.ps (h : szD d) : szD (psI d i) := fun k k0 k1 hm => by
  rw [psI_no (by decide)] at k1
  have hm' : mvK d k := dSm.ps.mv.mp hm
  have e5 : psI d i 5 k = d 5 k := psI_no (by decide)
  have e10 : psI d i 10 k = d 10 k := psI_no (by decide)
  rw [e5, e10, dSm.ps.gr]
  by_cases c : 0 ≤ k ∧ k < i ∧ psK d k
  · rw [show psI d i 15 k = lstK d k from if_pos ⟨rfl, c⟩]; exact lstK_sz
  · rw [show psI d i 15 k = d 15 k from if_neg fun q => c q.2]; exact h k k0 k1 hm'
theorem szD.ud (h : szD d) : szD (udI d i) := fun k k0 k1 hm => by
  rw [udI_no (by decide)] at k1
  have hm' : mvK d k := dSm.ud.mv.mp hm
  have e5 : udI d i 5 k = d 5 k := udI_no (by decide)
  have e10 : udI d i 10 k = d 10 k := udI_no (by decide)
  rw [e5, e10, dSm.ud.gr]
  by_cases c : 0 ≤ k ∧ k < i ∧ tgK d k
  · rw [show udI d i 15 k = grK d k from by unfold udI; rw [if_pos c, if_pos rfl]]; exact .inl rfl
  · rw [show udI d i 15 k = d 15 k from if_neg c]; exact h k k0 k1 hm'
theorem ud_noT (h0 : 0 ≤ d 0 1) (h : cuK d (d 0 1).toNat = 0) : noT (udI d (d 0 1)) := by
  have e : udI d (d 0 1) = d := by
    funext f k; unfold udI
    exact if_neg fun q => cuK_0 _ h k q.1 (by omega) q.2.2
  rw [e]
  exact fun k k0 k1 => cuK_0 _ h k k0 (by omega)
/-- both layouts, at B and X -/
def LY (s t : jS) (B X : Int) (d : Int → Int → Int) : Prop := vLy d ∧ cLy s B d ∧ tLs t X d
/-- what is done to them by passes -/
def LYo (s t u w : jS) (B X : Int) (d e : Int → Int → Int) : Prop := LY u w B X e ∧ dSm d e ∧ lzW B s u ∧ tzW X t w
theorem x_pass (h : LY s t B X d) : jE2 (m_X36_pass s B) (m_X41_pass t X) fun r q => r.2 = cnK d (d 0 1).toNat ∧ q.2 = r.2 ∧ LYo s t r.1 q.1 B X d (psI d (d 0 1)) := by
  obtain ⟨v, h1, h2⟩ := h
  refine jE2_one (c_pass v h1) (t_pass v h2) fun r q ⟨r1, r2, r3⟩ ⟨q1, q2, q3⟩ => ⟨r1, q1.trans r1.symm, ⟨v.ps, r3, q3⟩, .ps, r2, q2⟩
theorem x_shrink : ∀ (M : Nat) (s t : jS) (d : Int → Int → Int) (n : Int), LY s t B X d → smK d (d 0 1).toNat ≤ M → jE2 (u_X36_shrink_2 s B n) (u_X41_shrink_2 t X n) fun r q => r.2 = q.2 ∧ ∃ e, LYo s t r.1 q.1 B X d e ∧ fxK e (d 0 1).toNat = fxK d (d 0 1).toNat ∧ (szD d → szD e) := by
  intro M
  induction M with
  | zero =>
    intro s t d n h hM
    have v := h.1
    have vk := v.2.1
    obtain ⟨r, q, hr, hq, r1, r2, r3⟩ := jE2_get (x_pass h)
    have cn := cnK_lo (d := d) (d 0 1).toNat
    have s1 := smK_ps (i := d 0 1) rfl (d 0 1).toNat (by omega)
    have s2 := smK_0 (v.ps (i := d 0 1)) (d 0 1).toNat (by rw [psI_no (by decide)]; omega)
    rw [eu_X36_shrink_2, eu_X41_shrink_2]; unfold du_X36_shrink_2 du_X41_shrink_2
    have b1 : jc2 b_X36_shrink_2 [B, n] s = jinr (some (r.1, n)) := by
      show b_X36_shrink_2 s B n = _
      unfold b_X36_shrink_2
      rw [hr, Option.bind_some, if_neg (by omega)]
    have b2 : jc2 b_X41_shrink_2 [X, n] t = jinr (some (q.1, n)) := by
      show b_X41_shrink_2 t X n = _
      unfold b_X41_shrink_2
      rw [hq, Option.bind_some, if_neg (by omega)]
    rw [jlpW_r b1, jlpW_r b2]
    exact jE2_some.mpr ⟨rfl, _, r3, fxK_ps _, szD.ps⟩
  | succ M ih =>
    intro s t d n h hM
    have v := h.1
    have vk := v.2.1
    obtain ⟨r, q, hr, hq, r1, r2, r3⟩ := jE2_get (x_pass h)
    have cn := cnK_lo (d := d) (d 0 1).toNat
    have s1 := smK_ps (i := d 0 1) rfl (d 0 1).toNat (by omega)
    rw [eu_X36_shrink_2, eu_X41_shrink_2]; unfold du_X36_shrink_2 du_X41_shrink_2
    by_cases c : 0 < r.2
    · have b1 : jc2 b_X36_shrink_2 [B, n] s = some (.inl (r.1, [B, W32 (n + 1)])) := by
        show b_X36_shrink_2 s B n = _
        unfold b_X36_shrink_2
        rw [hr, Option.bind_some, if_pos c]
      have b2 : jc2 b_X41_shrink_2 [X, n] t = some (.inl (q.1, [X, W32 (n + 1)])) := by
        show b_X41_shrink_2 t X n = _
        unfold b_X41_shrink_2
        rw [hq, Option.bind_some, if_pos (by omega)]
      rw [jlpW_l b1, jlpW_l b2]
      have n1 : psI d (d 0 1) 0 1 = d 0 1 := psI_no (by decide)
      have := ih r.1 q.1 _ (W32 (n + 1)) r3.1 (by rw [n1]; omega)
      rw [eu_X36_shrink_2, eu_X41_shrink_2] at this; unfold du_X36_shrink_2 du_X41_shrink_2 at this
      refine jE2_mono this fun x y ⟨x1, e, ⟨x2, x3, x4, x5⟩, x6, x7⟩ => ⟨x1, e, ⟨x2, r3.2.1.trans x3, r3.2.2.1.trans x4, r3.2.2.2.trans x5⟩, ?_, fun z => x7 z.ps⟩
      rw [n1] at x6
      rw [x6]; exact fxK_ps _
    · have b1 : jc2 b_X36_shrink_2 [B, n] s = jinr (some (r.1, n)) := by
        show b_X36_shrink_2 s B n = _
        unfold b_X36_shrink_2
        rw [hr, Option.bind_some, if_neg c]
      have b2 : jc2 b_X41_shrink_2 [X, n] t = jinr (some (q.1, n)) := by
        show b_X41_shrink_2 t X n = _
        unfold b_X41_shrink_2
        rw [hq, Option.bind_some, if_neg (by omega)]
      rw [jlpW_r b1, jlpW_r b2]
      exact jE2_some.mpr ⟨rfl, _, r3, fxK_ps _, szD.ps⟩
theorem x_shr (h : LY s t B X d) : jE2 (m_X36_shrink s B) (m_X41_shrink t X) fun r q => r.2 = q.2 ∧ ∃ e, LYo s t r.1 q.1 B X d e ∧ fxK e (d 0 1).toNat = fxK d (d 0 1).toNat ∧ (szD d → szD e) := by
  have v := h.1
  have vk := v.2.1
  have s2 := smK_0 v (d 0 1).toNat (by omega)
  rw [em_X36_shrink, em_X41_shrink]; unfold dm_X36_shrink dm_X41_shrink
  exact x_shrink (smK d (d 0 1).toNat).toNat s t d 1 h (by omega)
theorem x_settleL : ∀ (M : Nat) (s t : jS) (d : Int → Int → Int) (all nc nt : Int), LY s t B X d → fxK d (d 0 1).toNat ≤ M → 0 < nc → 0 < nt → jE2 (u_X36_settle_4 s B all nc) ((m_X41_shrink t X).bind fun q1 => u_X41_settle_9 q1.1 X all nt q1.2) fun r q => r.2 = q.2 ∧ ∃ e, LYo s t r.1 q.1 B X d e ∧ noT e ∧ (szD d → szD e) := by
  intro M
  induction M with
  | zero =>
    intro s t d all nc nt h hM hc ht
    obtain ⟨r, q, hr, hq, r1, e, ⟨g1, g2, g3, g4⟩, r3, r4⟩ := jE2_get (x_shr h)
    have v := g1.1
    have vk := v.2.1
    have e1 : e 0 1 = d 0 1 := g2 _ _ (by decide)
    obtain ⟨x, hx, x1, x2, x3⟩ := c_undo v g1.2.1
    obtain ⟨w, hw, w1, w2⟩ := t_undo v g1.2.2 q.2 all
    have cu := cuK_lo (d := e) (e 0 1).toNat
    have f1 := fxK_ud v rfl (e 0 1).toNat (by omega)
    have f2 := fxK_0 (d := udI e (e 0 1)) (e 0 1).toNat
    have c0 : cuK e (e 0 1).toNat = 0 := by rw [e1] at f1 f2 cu ⊢; omega
    rw [hq, Option.bind_some, eu_X36_settle_4, eu_X41_settle_9]; unfold du_X36_settle_4 du_X41_settle_9
    have b1 : jc3 b_X36_settle_4 [B, all, nc] s = some (.inl (x.1, [B, W32 (all + 0), 0])) := by
      show b_X36_settle_4 s B all nc = _
      unfold b_X36_settle_4
      rw [if_pos hc, hr, Option.bind_some, hx, Option.bind_some, x1, c0]; rfl
    have b2 : jc4 b_X41_settle_9 [X, all, nt, q.2] q.1 = some (.inl (w, [X, W32 (all + 0), 0, q.2])) := by
      show b_X41_settle_9 q.1 X all nt q.2 = _
      unfold b_X41_settle_9
      rw [if_pos ht, hw, eu_X41_settle_117, c0]; unfold du_X41_settle_117
      rw [jlet_e, if_neg (by decide), eu_X41_settle_133]; rfl
    have b3 : jc3 b_X36_settle_4 [B, W32 (all + 0), 0] x.1 = jinr (some (x.1, W32 (all + 0))) := by
      show b_X36_settle_4 x.1 B (W32 (all + 0)) 0 = _
      unfold b_X36_settle_4
      rw [if_neg (by decide)]
    have b4 : jc4 b_X41_settle_9 [X, W32 (all + 0), 0, q.2] w = jinr (some (w, W32 (all + 0))) := by
      show b_X41_settle_9 w X (W32 (all + 0)) 0 q.2 = _
      unfold b_X41_settle_9
      rw [if_neg (by decide)]
    rw [jlpW_l b1, jlpW_l b2, jlpW_r b3, jlpW_r b4]
    exact jE2_some.mpr ⟨rfl, _, ⟨⟨v.ud, x3, w2⟩, g2.trans .ud, g3.trans x2, g4.trans w1⟩, ud_noT vk.1 c0, fun z => (r4 z).ud⟩
  | succ M ih =>
    intro s t d all nc nt h hM hc ht
    obtain ⟨r, q, hr, hq, r1, e, ⟨g1, g2, g3, g4⟩, r3, r4⟩ := jE2_get (x_shr h)
    have v := g1.1
    have vk := v.2.1
    have e1 : e 0 1 = d 0 1 := g2 _ _ (by decide)
    obtain ⟨x, hx, x1, x2, x3⟩ := c_undo v g1.2.1
    obtain ⟨w, hw, w1, w2⟩ := t_undo v g1.2.2 q.2 all
    have cu := cuK_lo (d := e) (e 0 1).toNat
    have f1 := fxK_ud v rfl (e 0 1).toNat (by omega)
    have u1 : udI e (e 0 1) 0 1 = d 0 1 := (udI_no (by decide)).trans e1
    have L2 : LY x.1 w B X (udI e (e 0 1)) := ⟨v.ud, x3, w2⟩
    rw [hq, Option.bind_some, eu_X36_settle_4, eu_X41_settle_9]; unfold du_X36_settle_4 du_X41_settle_9
    have b1 : jc3 b_X36_settle_4 [B, all, nc] s = some (.inl (x.1, [B, W32 (all + cuK e (e 0 1).toNat), cuK e (e 0 1).toNat])) := by
      show b_X36_settle_4 s B all nc = _
      unfold b_X36_settle_4
      rw [if_pos hc, hr, Option.bind_some, hx, Option.bind_some, x1]; rfl
    rw [jlpW_l b1]
    by_cases c0 : cuK e (e 0 1).toNat = 0
    · rw [c0]
      have b2 : jc4 b_X41_settle_9 [X, all, nt, q.2] q.1 = some (.inl (w, [X, W32 (all + 0), 0, q.2])) := by
        show b_X41_settle_9 q.1 X all nt q.2 = _
        unfold b_X41_settle_9
        rw [if_pos ht, hw, eu_X41_settle_117, c0]; unfold du_X41_settle_117
        rw [jlet_e, if_neg (by decide), eu_X41_settle_133]; rfl
      have b3 : jc3 b_X36_settle_4 [B, W32 (all + 0), 0] x.1 = jinr (some (x.1, W32 (all + 0))) := by
        show b_X36_settle_4 x.1 B (W32 (all + 0)) 0 = _
        unfold b_X36_settle_4
        rw [if_neg (by decide)]
      have b4 : jc4 b_X41_settle_9 [X, W32 (all + 0), 0, q.2] w = jinr (some (w, W32 (all + 0))) := by
        show b_X41_settle_9 w X (W32 (all + 0)) 0 q.2 = _
        unfold b_X41_settle_9
        rw [if_neg (by decide)]
      rw [jlpW_l b2, jlpW_r b3, jlpW_r b4]
      exact jE2_some.mpr ⟨rfl, _, ⟨L2, g2.trans .ud, g3.trans x2, g4.trans w1⟩, ud_noT vk.1 c0, fun z => (r4 z).ud⟩
    · have key := ih x.1 w _ (W32 (all + cuK e (e 0 1).toNat)) (cuK e (e 0 1).toNat) (cuK e (e 0 1).toNat) L2 (by rw [u1, ← e1]; rw [← e1] at r3 hM; omega) (by omega) (by omega)
      obtain ⟨x', y', kx, ky, k1, e', ⟨k2, k3, k4, k5⟩, k6, k7⟩ := jE2_get key
      rw [eu_X36_settle_4] at kx; unfold du_X36_settle_4 at kx
      refine jE2_mk kx ?_ ⟨k1, e', ⟨k2, (g2.trans .ud).trans k3, (g3.trans x2).trans k4, (g4.trans w1).trans k5⟩, k6, fun z => k7 (r4 z).ud⟩
      cases hsh : m_X41_shrink w X with
      | none => rw [hsh] at ky; cases ky
      | some z =>
        rw [hsh, Option.bind_some, eu_X41_settle_9] at ky; unfold du_X41_settle_9 at ky
        have b2 : jc4 b_X41_settle_9 [X, all, nt, q.2] q.1 = some (.inl (z.1, [X, W32 (all + cuK e (e 0 1).toNat), cuK e (e 0 1).toNat, z.2])) := by
          show b_X41_settle_9 q.1 X all nt q.2 = _
          unfold b_X41_settle_9
          rw [if_pos ht, hw, eu_X41_settle_117]; unfold du_X41_settle_117
          rw [jlet_e, if_pos (by omega), hsh, Option.bind_some, eu_X41_settle_133]; rfl
        rw [jlpW_l b2]; exact ky
theorem x_settle (h : LY s t B X d) : jE2 (m_X36_settle s B) (m_X41_settle t X) fun r q => r.2 = q.2 ∧ ∃ e, LYo s t r.1 q.1 B X d e ∧ noT e ∧ (szD d → szD e) := by
  have f2 := fxK_0 (d := d) (d 0 1).toNat
  rw [em_X36_settle, em_X41_settle]; unfold dm_X36_settle dm_X41_settle
  exact x_settleL (fxK d (d 0 1).toNat).toNat s t d 0 1 1 h (by omega) (by decide) (by decide)
end jSettle
