/-! the component looks at a word, takes it, needs one -/
section jClex6
variable {s t u w v' : jS} {R x b a a' n p q r k c f v y e P Q lo : Int} {g : Int → Int} {S S' : Int → Prop} {l m : List Int} {W : wR4}
/-- a word is looked at -/
def lkS (v : jS) (R x : Int) (g : Int → Int) (n : Int) (w : wR4) : Prop := lkd v R x g n w ∧ jf v 53 R 4 = 1 ∧ jf v 53 R 6 = w.2.2.1 ∧ jf v 53 R 2 = w.2.2.1 ∧ ¬ w.1 = 6
/-- what looking leaves -/
def rdG (u v : jS) (R x P Q : Int) : Prop := jGw u v P Q (rdA u R x) ∧ (jf v 8 x 0 = jf u 8 x 0 ∨ jn u ≤ jf v 8 x 0) ∧ ∀ k, ¬ (k = 2 ∨ k = 4 ∨ k = 5 ∨ k = 6 ∨ k = 7 ∨ k = 8 ∨ k = 9) → jf v 53 R k = jf u 53 R k
theorem rdG.rfl : rdG u u R x 0 0 := ⟨jGw.rfl, .inl (Eq.refl _), fun _ _ => Eq.refl _⟩
theorem rdG.trans {P' Q' : Int} (h : rdG u v' R x P Q) (k : rdG v' w R x P' Q') : rdG u w R x (P + P') (Q + Q') := by
  refine ⟨h.1.trans k.1 fun y hy z => ?_, ?_, fun j hj => (k.2.2 j hj).trans (h.2.2 j hj)⟩
  · rcases z with z | z | z | z
    · exact z
    · exact .inl z
    · exact .inr (.inl z)
    · rcases h.2.1 with q | q
      · exact .inr (.inr (z.trans q))
      · omega
  · have := h.1.n
    rcases k.2.1 with q | q
    · rw [q]; exact h.2.1
    · exact .inr (by omega)
theorem rdG.mono {P' Q' : Int} (h : rdG u w R x P Q) (hp : P ≤ P') (hq : Q ≤ Q') : rdG u w R x P' Q' := ⟨h.1.mono hp hq fun _ _ z => z, h.2⟩
/-- what looking gives: a word, or its fault -/
def lkQ (u : jS) (R x b a : Int) (g : Int → Int) (n : Int) (w : wR4) (q : jS × Bool × Int) : Prop :=
  (w.1 = 6 ∧ rFl R w.2.1 w.2.2.1 q ∧ jGw u q.1 (n - w.2.2.1 + 1) (1300 * (n - w.2.2.1) + 6) (rdA u R x)) ∨
  (q.2 = (false, 0) ∧ rdI q.1 R x b a g n ∧ lkS q.1 R x g n w ∧ rdG u q.1 R x (3 * (w.2.2.2 - w.2.2.1)) (2600 * (w.2.2.2 - w.2.2.1)) ∧ (w.1 = 1 ∨ w.1 = 7 ∨ w.1 = 4 → jn u ≤ jf q.1 53 R 9))
theorem x_look (h : rdI u R x b a g n) (h4 : jf u 53 R 4 = 0) (hp : jf u 53 R 2 = p) (p0 : 0 ≤ p) (p1 : p ≤ n) (hB : 0 ≤ jn u ∧ jBd u 2001 900006) : jE (m_X44_look u R) (lkQ u R x b a g n (wd g n p)) := by
  obtain ⟨hb, n0, n1⟩ := h.2.2.2.2.2.2.2.1
  have nx := h.nx
  rw [em_X44_look]; unfold dm_X44_look
  rw [if_pos h4]
  refine jS_call (x := m_X44_skip u R) (c_skip h hp p0 p1 ⟨hB.1, jBd.le hB.2 (by omega) (by omega)⟩) fun q ⟨r, r0, r1, hq⟩ => ?_
  rcases hq with ⟨d1, d2, d3, d4, d5⟩ | ⟨d1, d2, d3, d4, d5⟩
  · rw [show q.2.1 = true from d4.1]
    dsimp only [jth]
    rw [if_pos rfl]
    have ew : wd g n p = (6, 1, r, 0) := by unfold wd; rw [if_pos d1, if_neg d2, ← d3]
    rw [ew]
    refine jS_end (.inl ⟨rfl, ?_, d5.mono (by show (1 : Int) ≤ n - r + 1; omega) (by show (6 : Int) ≤ 1300 * (n - r) + 6; omega) fun y _ z => .inl z⟩)
    exact ⟨rfl, d4.2⟩
  have e21 : q.2.1 = false := congrArg Prod.fst d3
  rw [e21]
  dsimp only [jth]
  rw [if_neg (by decide)]
  simp only [jls]
  have K : rSl u (jp q.1 53 R 6 (jf q.1 53 R 2)) R (fun k => k = 2 ∨ k = 6) := (d4.mono fun k z => .inl z).jp (.inr rfl)
  have I := h.sl K (by omega)
  have e6 : jf (jp q.1 53 R 6 (jf q.1 53 R 2)) 53 R 6 = r := by rw [jf_pos ⟨rfl, rfl, rfl⟩]; exact d5
  have e2 : jf (jp q.1 53 R 6 (jf q.1 53 R 2)) 53 R 2 = r := by rw [jf_neg (by omega)]; exact d5
  generalize jp q.1 53 R 6 (jf q.1 53 R 2) = s2 at K I e6 e2 ⊢
  have en : jn s2 = jn u := K.1.2.2.1
  have ex : jf s2 8 x 0 = jf u 8 x 0 := K.2 _ _ _ (by omega)
  have eA : ∀ y, rdA s2 R x y → rdA u R x y := fun y z => by unfold rdA at z ⊢; rw [ex] at z; exact z
  have hB2 : 0 ≤ jn s2 ∧ jBd s2 2000 900000 := ⟨by omega, jBd.gw (p' := 2000) (q' := 900000) (jBd.le hB.2 (by omega) (by omega)) K.gw⟩
  have ew : wd g n p = wd1 g n r := by
    unfold wd
    by_cases c : bt g n (up g n spP p) = 35
    · rw [if_pos c] at d1
      have := d2 c
      rw [if_pos c, if_pos (by rw [← d1]; exact this), ← d1]
    · rw [if_neg c] at d1
      rw [if_neg c, ← d1]
  have e112 : ∀ v : jS, u_X44_look_112 v R = some (jp v 53 R 4 1, false, 0) := fun v => by
    rw [eu_X44_look_112]; unfold du_X44_look_112
    rw [jzb_in (.inr rfl), Option.bind_some]; rfl
  have sub : ∀ (Y : Option (jS × Bool × Int)) (w : wR4), w.2.2.1 = r → jE Y (wdQ s2 R x b a g n w) → jE (Y.bind fun q => if q.2.1 = true then some (q.1, true, q.2.2) else u_X44_look_112 q.1 R) (lkQ u R x b a g n w) := fun Y w hw hY => by
    refine jS_call hY fun z hz => ?_
    rcases hz with ⟨y1, y2, y3⟩ | ⟨y1, y2, y3, y4, ⟨y5, y6, y7⟩, y8⟩
    · rw [if_pos (show z.2.1 = true from y2.1)]
      exact jS_end (.inl ⟨y1, ⟨rfl, y2.2⟩, (K.gw.trans y3 (C := rdA u R x) fun y _ q => q.elim (fun q => .inl q) (eA y)).mono (by omega) (by omega) fun y _ q => q⟩)
    · have : z.2.1 = false := congrArg Prod.fst y2
      rw [if_neg (by rw [this]; decide), e112]
      have K4 : rSl z.1 (jp z.1 53 R 4 1) R (fun k => k = 4) := rSl.rfl.jp rfl
      have I4 := y3.sl K4 (by omega)
      have nx4 := y3.nx
      have kx : jf (jp z.1 53 R 4 1) 8 x 0 = jf z.1 8 x 0 := jf_neg (by omega)
      have k9 : ∀ j, ¬ j = 4 → jf (jp z.1 53 R 4 1) 53 R j = jf z.1 53 R j := fun j hj => jf_neg (by omega)
      have kstr : ∀ l, rStr z.1 (jf z.1 53 R 9) l x → rStr (jp z.1 53 R 4 1) (jf (jp z.1 53 R 4 1) 53 R 9) l x := fun l ⟨t1, t2, ⟨t3, t4⟩, t5⟩ => by
        rw [k9 9 (by omega)]
        have nyR : ¬ jf z.1 53 R 9 = R := fun q => by have := y3.1.2.2; rw [q] at t2; omega
        have nbR : ¬ jF z.1 (jf z.1 53 R 9) 0 = R := fun q => by have := y3.1.2.2; have q' := t1.2.2.1.2.2; rw [q] at q'; omega
        have hp := t1.keep K4.gw (fun q => nyR q) (fun q => nbR q)
        have hF : ∀ j, jF (jp z.1 53 R 4 1) (jf z.1 53 R 9) j = jF z.1 (jf z.1 53 R 9) j := fun j => K4.gw.F t1.1.2.1 (fun q => nyR q) j
        exact ⟨hp.1, t2, ⟨by rw [hF]; exact t3, by rw [hF]; exact t4⟩, by rw [hF, kx]; exact t5⟩
      refine jS_end (.inr ⟨rfl, I4, ⟨⟨by rw [k9 5 (by omega)]; exact y4.1, by rw [k9 8 (by omega)]; exact y4.2.1, fun q => ⟨kstr _ (y4.2.2.1 q).1, by rw [k9 7 (by omega)]; exact (y4.2.2.1 q).2⟩, fun q => kstr _ (y4.2.2.2.1 q), fun q => by rw [k9 7 (by omega)]; exact y4.2.2.2.2 q⟩, jf_pos ⟨rfl, rfl, rfl⟩, by rw [k9 6 (by omega), y7 6 (by omega), e6, hw], by rw [k9 2 (by omega), y7 2 (by omega), e2, hw], y1⟩, ⟨?_, by rw [kx, ← ex, ← en]; exact y6, fun j hj => ?_⟩, fun q => by rw [k9 9 (by omega), ← en]; exact y8 q⟩)
      · exact (((K.gw.trans y5 (C := rdA u R x) fun y _ q => q.elim (fun q => .inl q) (eA y))).jp (.inl (.inl rfl))).mono (by omega) (by omega) fun y _ q => q
      · rw [k9 j (by omega), y7 j (by omega), K.2 _ _ _ (by omega)]
  rw [ew, e2, c_bt I (by omega), Option.bind_some]
  unfold wd1
  by_cases c0 : bt g n r = 10 ∨ bt g n r = -1
  · rw [if_pos c0]
    have fin : jE (u_X44_look_40 s2 R) (lkQ u R x b a g n (0, 0, r, r)) := by
      rw [eu_X44_look_40]; unfold du_X44_look_40
      rw [e2, x_is, Option.bind_some, e112]
      have K4 : rSl u (jp (jp (jp (jp s2 53 R 5 0) 53 R 7 0) 53 R 8 r) 53 R 4 1) R (fun k => k = 2 ∨ k = 4 ∨ k = 5 ∨ k = 6 ∨ k = 7 ∨ k = 8) := ((((K.mono (S' := fun k => k = 2 ∨ k = 4 ∨ k = 5 ∨ k = 6 ∨ k = 7 ∨ k = 8) (fun k z => by omega)).jp (.inr (.inr (.inl rfl)))).jp (.inr (.inr (.inr (.inr (.inl rfl)))))).jp (.inr (.inr (.inr (.inr (.inr rfl)))))).jp (.inr (.inl rfl))
      refine jS_end (.inr ⟨rfl, h.sl K4 (by omega), ⟨⟨?_, ?_, fun q => absurd q (show ¬ ((0 : Int) = 1 ∨ (0 : Int) = 7) by decide), fun q => absurd q (show ¬ (0 : Int) = 4 by decide), fun q => absurd q (show ¬ ((0 : Int) = 2 ∨ (0 : Int) = 3 ∨ (0 : Int) = 5) by decide)⟩, jf_pos ⟨rfl, rfl, rfl⟩, ?_, ?_, by show ¬ (0 : Int) = 6; decide⟩, ⟨K4.gw.mono (by show (0 : Int) ≤ 3 * (r - r); omega) (by show (0 : Int) ≤ 2600 * (r - r); omega) fun y _ z => .inl z, .inl (K4.2 _ _ _ (by omega)), fun j hj => K4.2 _ _ _ (by omega)⟩, fun q => absurd q (show ¬ ((0 : Int) = 1 ∨ (0 : Int) = 7 ∨ (0 : Int) = 4) by decide)⟩)
      · show _ = kdO 0
        unfold kdO; rw [if_neg (by decide)]; (repeat (first | rw [jf_neg (by omega)] | rw [jf_pos (by omega)] | rw [ou_neg (by omega)] | rw [ou_pos (by omega)]))
      · show _ = r
        (repeat (first | rw [jf_neg (by omega)] | rw [jf_pos (by omega)] | rw [ou_neg (by omega)] | rw [ou_pos (by omega)]))
      · show _ = r
        rw [jf_neg (by omega), jf_neg (by omega), jf_neg (by omega), jf_neg (by omega)]; exact e6
      · show _ = r
        rw [jf_neg (by omega), jf_neg (by omega), jf_neg (by omega), jf_neg (by omega)]; exact e2
    by_cases c1 : bt g n r = 10
    · rw [if_pos c1]; exact fin
    · rw [if_neg c1, if_pos (c0.resolve_left c1)]; exact fin
  rw [if_neg c0, if_neg (fun z => c0 (.inl z)), if_neg (fun z => c0 (.inr z)), c_isBg, Option.bind_some]
  have rn : r < n := bt_ne hb (by omega) (fun z => c0 (.inr z))
  have hBs : 0 ≤ jn s2 ∧ jBd s2 1 6 := ⟨hB2.1, jBd.le hB2.2 (by omega) (by omega)⟩
  by_cases c1 : isBg (bt g n r)
  · rw [cif_pos c1, if_neg (by decide), cif_pos c1]
    exact sub _ _ (by unfold wdI; split; rfl; split <;> rfl) (x_name I e2 (by omega) rn c1 hB2)
  rw [cif_neg c1, if_pos rfl, cif_neg c1, c_isDg, Option.bind_some]
  by_cases c2 : isDg (bt g n r)
  · rw [cif_pos c2, if_neg (by decide), cif_pos c2]
    refine sub _ _ ?_ (x_number I e2 (by omega) rn c2 hBs)
    have eG : ∀ f b, (wdG g n r f b).2.2.1 = r := fun f b => by unfold wdG; split <;> rfl
    unfold wdN
    split
    · exact eG _ _
    split
    · exact eG _ _
    unfold cif
    split
    · rfl
    · exact eG _ _
  rw [cif_neg c2, if_pos rfl, cif_neg c2]
  by_cases c3 : bt g n r = 39
  · rw [if_pos c3, if_pos c3]
    exact sub _ _ (by unfold wdC cif; split <;> rfl) (x_character I e2 (by omega) rn hBs)
  rw [if_neg c3, if_neg c3]
  by_cases c4 : bt g n r = 34
  · rw [if_pos c4, if_pos c4]
    exact sub _ _ (by unfold wdS; split <;> rfl) (x_string I e2 (by omega) rn hB2)
  rw [if_neg c4, if_neg c4]
  exact sub _ _ (by unfold wdY cif; split; rfl; split <;> rfl) (x_sign I e2 (by omega) rn hBs)
end jClex6
