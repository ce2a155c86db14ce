/-! a pass and an undoing, the twin -/
set_option maxRecDepth 100000
section jPass2
variable {s t u w : jS} {a k m o p v l n x y c j X f z B i q : Int} {d e : Int → Int → Int}
theorem loopTo {R : Type} {C : List Int → jS → Option ((jS × List Int) ⊕ R)} (J : Int → jS → Prop) (V : Int → List Int) (lo hi : Int) (hn : lo ≤ hi) {s : jS} {F : jS → Option R} (h : J lo s)
    (h1 : ∀ k s, lo ≤ k → k < hi → J k s → ∃ s', C (V k) s = some (.inl (s', V (k + 1))) ∧ J (k + 1) s')
    (h2 : ∀ s, J hi s → C (V hi) s = jinr (F s)) : ∃ w, jlpW C (V lo) s = F w ∧ J hi w := by
  have key : ∀ (m : Nat) (k : Int) (s : jS), lo ≤ k → k ≤ hi → hi - k = m → J k s → ∃ w, jlpW C (V k) s = F w ∧ J hi w := by
    intro m
    induction m with
    | zero =>
      intro k s h0 hk hm hJ
      have : k = hi := by omega
      subst this
      exact ⟨s, jlpW_r (h2 s hJ), hJ⟩
    | succ m ih =>
      intro k s h0 hk hm hJ
      obtain ⟨s', e, q⟩ := h1 k s h0 (by omega) hJ
      rw [jlpW_l e]
      exact ih (k + 1) s' (by omega) (by omega) (by omega) q
  exact key (hi - lo).toNat lo s (Int.le_refl _) hn (by omega) h
/-- places and sizes are written -/
def tzW (X : Int) (s u : jS) : Prop := jSm s u ∧ ∀ c a k, ¬ (c = 1000 ∧ (a = X + 2 ∨ a = X + 3 ∨ a = X + 9 ∨ a = X + 10 ∨ a = X + 13 ∨ a = X + 20 ∨ a = X + 21 ∨ a = X + 22)) → ¬ (c = 1002 ∧ a = X + 19) → jf u c a k = jf s c a k
theorem tzW.rfl : tzW X s s := ⟨jSm.rfl, fun _ _ _ _ _ => Eq.refl _⟩
theorem tzW.trans (h : tzW X s u) (g : tzW X u w) : tzW X s w := ⟨h.1.trans g.1, fun c a k q1 q2 => (g.2 c a k q1 q2).trans (h.2 c a k q1 q2)⟩
theorem tyW.toZ (h : tyW X d s u) : tzW X s u := ⟨h.1, fun c a k q1 q2 => h.2 c a k (by omega) (by omega)⟩
theorem tzW.jp (h : tzW X s u) (hc : c = 1000 ∧ (a = X + 2 ∨ a = X + 3 ∨ a = X + 9 ∨ a = X + 10 ∨ a = X + 13 ∨ a = X + 20 ∨ a = X + 21 ∨ a = X + 22) ∨ c = 1002 ∧ a = X + 19) : tzW X s (jp u c a k v) := ⟨h.1.jp, fun c' a' k' q1 q2 => by
  have e := h.2 c' a' k' q1 q2
  rw [jf_neg, e]
  rintro ⟨rfl, rfl, rfl⟩
  clear e
  omega⟩
theorem tLq.cg (h : tLq t X d) (F : ∀ a k, ¬ a = X + 22 → jf u 1000 a k = jf t 1000 a k) : tLq u X d := by
  obtain ⟨h1, h2, h3⟩ := h
  refine ⟨fun k k0 k1 => ?_, fun p p0 p1 => ?_, fun o o0 o1 => ?_⟩
  · rw [F _ _ (by omega), F _ _ (by omega), F _ _ (by omega)]; exact h1 k k0 k1
  · rw [F _ _ (by omega), F _ _ (by omega)]; exact h2 p p0 p1
  · rw [F _ _ (by omega), F _ _ (by omega)]; exact h3 o o0 o1
theorem t_greatest (hm : mvK d k) (h : jf t 1000 (X + 11) k = d 5 k) : m_X41_greatest t (jf t 1000 (X + 11) k) = some (grK d k) := by
  rw [em_X41_greatest]; unfold dm_X41_greatest grK
  rw [h]
  by_cases c : d 5 k = 1
  · rw [if_pos c, if_pos c]
  · rw [if_neg c, if_neg c]
theorem t_pass (v : vLy d) (h : tLs t X d) : jE (m_X41_pass t X) fun r => r.2 = cnK d (d 0 1).toNat ∧ tzW X t r.1 ∧ tLs r.1 X (psI d (d 0 1)) := by
  obtain ⟨u, hu, g1, g2, g3⟩ := t_reckon h v
  have vk := v.2.1
  rw [em_X41_pass]; unfold dm_X41_pass
  rw [hu, Option.bind_some, eu_X41_pass_6]; unfold du_X41_pass_6
  refine jS_for (fun p w => tyW X d u w ∧ tLq w X d ∧ ∀ i, 0 ≤ i → i < p → mvK d i → jf w 1000 (X + 22) i = lstK d i) (fun p => [X, p]) 0 (d 0 1) vk.1 ⟨.rfl, g3, fun i i0 i1 => by omega⟩ (fun p w p0 p1 ⟨e1, e2, e3⟩ => ?_) (fun w ⟨e1, e2, e3⟩ => ?_)
  · show jE (b_X41_pass_6 w X p) _
    unfold b_X41_pass_6
    have hs := g2.keep e1
    obtain ⟨z, hz, hl⟩ := t_least v hs e2 p0 p1
    rw [hs.1.2.2.1, if_pos p1, hz, Option.bind_some, jst_in p0 (by omega), Option.bind_some, W32_in (by omega) (by omega)]
    refine jS_end ⟨rfl, e1.jp (by omega), e2.cg fun a k hc => jf_neg (by omega), fun i i0 i1 hm => ?_⟩
    by_cases c : i = p
    · rw [c, jf_pos ⟨rfl, rfl, rfl⟩]; exact hl (by rw [← c]; exact hm)
    · rw [jf_neg (by omega)]; exact e3 i i0 (by omega) hm
  · show jE (b_X41_pass_6 w X (d 0 1)) _
    unfold b_X41_pass_6
    have hs := g2.keep e1
    rw [hs.1.2.2.1, if_neg (Int.lt_irrefl _), eu_X41_pass_31]; unfold du_X41_pass_31
    rw [eu_X41_pass_35]; unfold du_X41_pass_35
    have f1 := (g1.trans e1).toZ
    refine jS_inr (jS_for (fun p w => tzW X t w ∧ tLs w X (psI d p) ∧ ∀ i, 0 ≤ i → i < d 0 1 → mvK d i → jf w 1000 (X + 22) i = lstK d i) (fun p => [X, cnK d p.toNat, p]) 0 (d 0 1) vk.1 ⟨f1, by rw [psI_0]; exact hs, e3⟩ (fun p w p0 p1 ⟨y1, y2, y3⟩ => ?_) (fun w ⟨y1, y2, y3⟩ => ?_))
    · show jE (b_X41_pass_35 w X (cnK d p.toNat) p) _
      unfold b_X41_pass_35
      have vp : vLy (psI d p) := v.ps
      have n1 : psI d p 0 1 = d 0 1 := psI_no (by decide)
      have cn := cnK_lo (d := d) p.toNat
      have eN : (p + 1).toNat = p.toNat + 1 := by omega
      have eP : ((p.toNat : Nat) : Int) = p := by omega
      have go : ∀ w, (tzW X t w ∧ tLs w X (psI d (p + 1)) ∧ ∀ i, 0 ≤ i → i < d 0 1 → mvK d i → jf w 1000 (X + 22) i = lstK d i) → ∀ z, z = cnK d (p + 1).toNat → ∃ q, u_X41_pass_101 w X z p = some (.inl q) ∧ (q.2 = [X, cnK d (p + 1).toNat, p + 1] ∧ (tzW X t q.1 ∧ tLs q.1 X (psI d (p + 1)) ∧ ∀ i, 0 ≤ i → i < d 0 1 → mvK d i → jf q.1 1000 (X + 22) i = lstK d i)) := fun w hw z hz => by
        rw [eu_X41_pass_101]; unfold du_X41_pass_101
        rw [W32_in (by omega) (by omega), hz]
        exact ⟨_, rfl, rfl, hw⟩
      have skip : ¬ psK d p → psI d (p + 1) = psI d p ∧ cnK d p.toNat = cnK d (p + 1).toNat := fun hk => by
        refine ⟨by rw [psI_s p0, if_neg hk], ?_⟩
        rw [eN]
        show _ = cnK d p.toNat + if psK d ((p.toNat : Nat) : Int) then 1 else 0
        rw [eP, if_neg hk, Int.add_zero]
      obtain ⟨s1, s2, s3⟩ := t_shr y2 vp p0 (by omega)
      rw [y2.1.2.2.1, n1, if_pos p1]
      by_cases hm : mvK d p
      rotate_left
      · rw [s2 (fun q => hm (dSm.ps.mv.mp q)), Option.bind_some, if_pos rfl]
        obtain ⟨k1, k2⟩ := skip (fun q => hm q.1)
        exact jS_q (go w ⟨y1, by rw [k1]; exact y2, y3⟩ _ k2) fun _ h => h
      have hm' : mvK (psI d p) p := dSm.ps.mv.mpr hm
      obtain ⟨-, -, q3, -, -, q6⟩ := y2.2.2.2.2.1 p p0 (by omega)
      have r16 := (q6 hm').2.2.2
      have r15 := q3 hm'
      rw [psI_hi (f := 15) (Int.le_refl _)] at r15
      rw [psI_hi (f := 16) (Int.le_refl _)] at r16
      rw [s1 hm', Option.bind_some, if_neg n10, s3, Option.bind_some, if_pos rfl, jlt_in p0 (by omega), Option.bind_some, r16]
      by_cases c16 : d 16 p = 0
      rotate_left
      · rw [if_neg c16]
        obtain ⟨k1, k2⟩ := skip (fun q => c16 q.2.1)
        exact jS_q (go w ⟨y1, by rw [k1]; exact y2, y3⟩ _ k2) fun _ h => h
      rw [if_pos c16, jlt_in p0 (by omega), Option.bind_some, jlt_in p0 (by omega), Option.bind_some, r15, y3 p p0 p1 hm]
      by_cases cl : lstK d p < d 15 p
      · have hk : psK d p := ⟨hm, c16, cl⟩
        rw [if_pos cl, Option.bind_some, jst_in p0 (by omega), Option.bind_some]
        refine jS_q (go _ ⟨y1.jp (by omega), ?_, fun i i0 i1 hi => ?_⟩ _ ?_) fun _ h => h
        · rw [psI_s p0, if_pos hk]
          exact (y2.set (z := lstK d p) p0 (by omega) hm').1
        · rw [jf_neg (by omega)]; exact y3 i i0 i1 hi
        · rw [W32_in (by omega) (by omega), eN]
          show _ = cnK d p.toNat + if psK d ((p.toNat : Nat) : Int) then 1 else 0
          rw [eP, if_pos hk]
      · rw [if_neg cl]
        obtain ⟨k1, k2⟩ := skip (fun q => cl q.2.2)
        exact jS_q (go w ⟨y1, by rw [k1]; exact y2, y3⟩ _ k2) fun _ h => h
    · show jE (b_X41_pass_35 w X (cnK d (d 0 1).toNat) (d 0 1)) _
      unfold b_X41_pass_35
      have n1 : psI d (d 0 1) 0 1 = d 0 1 := psI_no (by decide)
      rw [y2.1.2.2.1, n1, if_neg (Int.lt_irrefl _)]
      exact jS_inr (jS_end ⟨rfl, y1, y2⟩)
theorem t_isTight (v : vLy d) (h : tLs t X d) (hd : tLq t X d) (k0 : 0 ≤ k) (k1 : k < d 0 1) : m_X41_isTight t X k = some (if tgK d k then 1 else 0) := by
  have vk := v.2.1
  obtain ⟨s1, s2, s3⟩ := t_shr h v k0 k1
  rw [em_X41_isTight]; unfold dm_X41_isTight
  by_cases hm : mvK d k
  · obtain ⟨-, -, q3, -⟩ := h.2.2.2.2.1 k k0 k1
    obtain ⟨z, hz, hl⟩ := t_least v h hd k0 k1
    rw [s1 hm, Option.bind_some, if_neg n10, s3, Option.bind_some, if_pos rfl, jlt_in k0 (by omega), Option.bind_some, q3 hm, hz, Option.bind_some, hl hm]
    by_cases c : d 15 k < lstK d k
    · rw [if_pos c, if_pos (show tgK d k from ⟨hm, c⟩), Wz_1]
    · rw [if_neg c, if_neg (show ¬ tgK d k from fun q => c q.2), Wz_0]
  · rw [s2 hm, Option.bind_some, if_pos rfl, if_neg (show ¬ tgK d k from fun q => hm q.1), Wz_0]
/-- undoing, within settle -/
theorem t_undo (v : vLy d) (h : tLs t X d) (pp all : Int) : ∃ w, ((m_X41_reckon t X).bind fun q1 => u_X41_settle_22 q1.1 X all 0 pp 0) = u_X41_settle_117 w X all (cuK d (d 0 1).toNat) pp ∧ tzW X t w ∧ tLs w X (udI d (d 0 1)) := by
  obtain ⟨u, hu, g1, g2, g3⟩ := t_reckon h v
  have vk := v.2.1
  rw [hu, Option.bind_some, eu_X41_settle_22]; unfold du_X41_settle_22
  obtain ⟨w0, W0, W1, W2⟩ : ∃ w, jlpW (jc5 b_X41_settle_22) [X, all, 0, pp, 0] u = u_X41_settle_58 w X all 0 pp ∧ (tyW X d u w) ∧ ∀ i, 0 ≤ i → i < d 0 1 → jf w 1000 (X + 22) i = if tgK d i then 1 else 0 := by
    obtain ⟨w, e, hw⟩ := loopTo (C := jc5 b_X41_settle_22) (fun p w => tyW X d u w ∧ tLq w X d ∧ ∀ i, 0 ≤ i → i < p → jf w 1000 (X + 22) i = if tgK d i then 1 else 0) (fun p => [X, all, 0, pp, p]) 0 (d 0 1) vk.1 (s := u) (F := fun w => u_X41_settle_58 w X all 0 pp) ⟨.rfl, g3, fun i i0 i1 => by omega⟩ (fun p w p0 p1 ⟨e1, e2, e3⟩ => by
      have hs := g2.keep e1
      have ht := t_isTight v hs e2 p0 p1
      have go : ∀ z, (z = if tgK d p then 1 else 0) → ∃ w', u_X41_settle_51 w X all 0 pp p z p (X + 22) = some (.inl (w', [X, all, 0, pp, p + 1])) ∧ (tyW X d u w' ∧ tLq w' X d ∧ ∀ i, 0 ≤ i → i < p + 1 → jf w' 1000 (X + 22) i = if tgK d i then 1 else 0) := fun z hz => by
        refine ⟨_, by rw [eu_X41_settle_51]; unfold du_X41_settle_51; rw [jst_in p0 (by omega), Option.bind_some, W32_in (by omega) (by omega)], e1.jp (by omega), e2.cg fun a k hc => jf_neg (by omega), fun i i0 i1 => ?_⟩
        by_cases c : i = p
        · rw [c, jf_pos ⟨rfl, rfl, rfl⟩]; exact hz
        · rw [jf_neg (by omega)]; exact e3 i i0 (by omega)
      show ∃ w', b_X41_settle_22 w X all 0 pp p = some (.inl (w', [X, all, 0, pp, p + 1])) ∧ _
      unfold b_X41_settle_22
      rw [hs.1.2.2.1, if_pos p1, ht, Option.bind_some]
      by_cases c : tgK d p
      · rw [if_pos c, if_neg n10]; exact go 1 (by rw [if_pos c])
      · rw [if_neg c, if_pos rfl]; exact go 0 (by rw [if_neg c])) (fun w ⟨e1, e2, e3⟩ => by
      have hs := g2.keep e1
      show b_X41_settle_22 w X all 0 pp (d 0 1) = _
      unfold b_X41_settle_22
      rw [hs.1.2.2.1, if_neg (Int.lt_irrefl _)])
    exact ⟨w, e, hw.1, hw.2.2⟩
  have hs := g2.keep W1
  rw [W0, eu_X41_settle_58]; unfold du_X41_settle_58
  rw [eu_X41_settle_61]; unfold du_X41_settle_61
  obtain ⟨w, e, hw⟩ := loopTo (C := jc5 b_X41_settle_61) (fun p w => tzW X t w ∧ tLs w X (udI d p) ∧ ∀ i, 0 ≤ i → i < d 0 1 → jf w 1000 (X + 22) i = if tgK d i then 1 else 0) (fun p => [X, all, cuK d p.toNat, pp, p]) 0 (d 0 1) vk.1 (s := w0) (F := fun w => u_X41_settle_117 w X all (cuK d (d 0 1).toNat) pp) ⟨(g1.trans W1).toZ, by rw [udI_0]; exact hs, W2⟩ (fun p w p0 p1 ⟨y1, y2, y3⟩ => by
    have n1 : udI d p 0 1 = d 0 1 := udI_no (by decide)
    have cn := cuK_lo (d := d) p.toNat
    have eN : (p + 1).toNat = p.toNat + 1 := by omega
    have eP : ((p.toNat : Nat) : Int) = p := by omega
    show ∃ w', b_X41_settle_61 w X all (cuK d p.toNat) pp p = some (.inl (w', [X, all, cuK d (p + 1).toNat, pp, p + 1])) ∧ _
    unfold b_X41_settle_61
    have ec : cuK d (p + 1).toNat = cuK d p.toNat + if tgK d p then 1 else 0 := by
      rw [eN]
      show cuK d p.toNat + (if tgK d ((p.toNat : Nat) : Int) then 1 else 0) = _
      rw [eP]
    rw [y2.1.2.2.1, n1, if_pos p1, jlt_in p0 (by omega), Option.bind_some, y3 p p0 p1, ec]
    by_cases hk : tgK d p
    rotate_left
    · rw [if_neg hk, if_pos rfl, eu_X41_settle_111]; unfold du_X41_settle_111
      rw [W32_in (by omega) (by omega), Int.add_zero]
      exact ⟨w, rfl, y1, by rw [udI_s p0, if_neg hk]; exact y2, y3⟩
    have hm' : mvK (udI d p) p := dSm.ud.mv.mpr hk.1
    obtain ⟨⟨r11, -⟩, -⟩ := y2.2.2.2.2.1 p p0 (by omega)
    have tg := t_greatest hm' r11
    have eg : grK (udI d p) p = grK d p := dSm.ud.gr
    rw [eg] at tg
    have z1 := (y2.set (z := grK d p) p0 (by omega) hm').1
    have hm2 : mvK (dU (udI d p) 15 p (grK d p)) p := by
      unfold mvK; rw [dU_no (by omega)]; exact hm'
    have n1' : dU (udI d p) 15 p (grK d p) 0 1 = d 0 1 := (dU_no (by omega)).trans n1
    have z2 := (z1.set (z := 1) p0 (by omega) hm2).2
    rw [if_pos hk, if_neg n10, jlt_in p0 (by omega), Option.bind_some, tg, Option.bind_some, jst_in p0 (by omega), Option.bind_some, Wz_1, jst_in p0 (by omega), Option.bind_some, eu_X41_settle_111]; unfold du_X41_settle_111
    rw [W32_in (by omega) (by omega), W32_in (by omega) (by omega)]
    refine ⟨_, rfl, (y1.jp (by omega)).jp (by omega), by rw [udI_s p0, if_pos hk]; exact z2, fun i i0 i1 => ?_⟩
    rw [jf_neg (by omega), jf_neg (by omega)]; exact y3 i i0 i1) (fun w ⟨y1, y2, y3⟩ => by
    have n1 : udI d (d 0 1) 0 1 = d 0 1 := udI_no (by decide)
    show b_X41_settle_61 w X all (cuK d (d 0 1).toNat) pp (d 0 1) = _
    unfold b_X41_settle_61
    rw [y2.1.2.2.1, n1, if_neg (Int.lt_irrefl _)])
  exact ⟨w, e, hw.1, hw.2.1⟩
end jPass2
