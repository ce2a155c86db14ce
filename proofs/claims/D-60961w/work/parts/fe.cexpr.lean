/-! the component's reader: names, counts; what stays -/
section jCexpr
variable {s t u w v' : jS} {R x b a a' n p q r k c f v y e P Q X Y X' Y' : Int} {g : Int → Int} {l m : List Int} {NL : List (List Int)} {W : wR4} {st : pS}
/-- a book -/
def bkI (u : jS) (b : Int) : Prop := (0 ≤ b ∧ b + 6 ≤ jn u ∧ jK u b = 16) ∧ (jf u 16 b 0 = b + 1 ∧ jf u 16 b 1 = b + 2 ∧ jf u 16 b 2 = b + 3 ∧ jf u 16 b 3 = b + 4 ∧ jf u 16 b 4 = b + 5) ∧ (jK u (b + 1) = 1025 ∧ jN u (b + 1) = 400) ∧ (jK u (b + 2) = 1024 ∧ jN u (b + 2) = 800) ∧ (jK u (b + 3) = 1000 ∧ jN u (b + 3) = 2000) ∧ (jK u (b + 4) = 1000 ∧ jN u (b + 4) = 2000) ∧ jK u (b + 5) = 1026 ∧ jN u (b + 5) = 150
theorem bkI.tt (h : bkI u b) : jTt u 32 b := by
  obtain ⟨⟨h1, h2, h3⟩, ⟨f0, f1, f2, f3, f4⟩, ⟨a1, a2⟩, ⟨b1, b2⟩, ⟨c1, c2⟩, ⟨d1, d2⟩, e1, e2⟩ := h
  have hF : ∀ k, jF u b k = jf u 16 b k := fun k => by unfold jF; rw [h3]
  refine jTt_iff.mpr ⟨⟨h1, by omega, h3, fun q => absurd q (by decide)⟩, fun e he => ?_, fun q hq => by rw [show jStA 32 = none by decide] at hq; cases hq⟩
  have hl : jStr 32 = [(0, some 1, 27263377), (1, some 2, 26215201), (2, some 3, 1050577), (3, some 4, 1050577), (4, some 5, 28311703)] := by decide
  rw [hl] at he
  simp only [List.mem_cons, List.not_mem_nil, or_false] at he
  rcases he with z | z | z | z | z <;> subst z
  · refine ⟨fun o ho => by cases ho; rw [hF]; exact f0, ?_⟩
    rw [hF, f0]; exact (jTt_pl (by decide) (by decide)).mpr ⟨by omega, by omega, a1, fun _ _ => a2⟩
  · refine ⟨fun o ho => by cases ho; rw [hF]; exact f1, ?_⟩
    rw [hF, f1]; exact (jTt_pl (by decide) (by decide)).mpr ⟨by omega, by omega, b1, fun _ _ => b2⟩
  · refine ⟨fun o ho => by cases ho; rw [hF]; exact f2, ?_⟩
    rw [hF, f2]; exact (jTt_pl (by decide) (by decide)).mpr ⟨by omega, by omega, c1, fun _ _ => c2⟩
  · refine ⟨fun o ho => by cases ho; rw [hF]; exact f3, ?_⟩
    rw [hF, f3]; exact (jTt_pl (by decide) (by decide)).mpr ⟨by omega, by omega, d1, fun _ _ => d2⟩
  · refine ⟨fun o ho => by cases ho; rw [hF]; exact f4, ?_⟩
    rw [hF, f4]; exact (jTt_pl (by decide) (by decide)).mpr ⟨by omega, by omega, e1, fun _ _ => e2⟩
/-- the names of a book -/
def nmC (u : jS) (b x : Int) (NL : List (List Int)) : Prop := jf u 16 b 8 = NL.length ∧ NL.length ≤ 150 ∧ ∀ i : Nat, i < NL.length → rStr u (jf u 1026 (b + 5) i) (NL.getD i []) x ∧ (NL.getD i []).length ≤ 1000
/-- what reading an expression leaves alone -/
def kpE (u v : jS) (R x b X Y : Int) : Prop := (jn u ≤ jn v ∧ jn v ≤ jn u + X ∧ ju v ≤ ju u + Y ∧ jlN v = jlN u ∧ jlU v = jlU u ∧ jc v = jc u) ∧ (∀ y, y < jn u → jK v y = jK u y ∧ jN v y = jN u y) ∧ (∀ c y k, y < jn u → ¬ (y = R ∨ y = x ∨ y = jf u 8 x 0) → ¬ (c = 16 ∧ y = b ∧ k = 8) → ¬ (c = 1026 ∧ y = b + 5) → jf v c y k = jf u c y k) ∧ (jf v 8 x 0 = jf u 8 x 0 ∨ jn u ≤ jf v 8 x 0) ∧ ∀ k, (k = 0 ∨ k = 1 ∨ k = 3 ∨ k = 10 ∨ k = 11 ∨ k = 15) → jf v 53 R k = jf u 53 R k
theorem kpE.rfl : kpE u u R x b 0 0 := ⟨⟨by omega, by omega, by omega, Eq.refl _, Eq.refl _, Eq.refl _⟩, fun _ _ => ⟨Eq.refl _, Eq.refl _⟩, fun _ _ _ _ _ _ _ => Eq.refl _, .inl (Eq.refl _), fun _ _ => Eq.refl _⟩
theorem kpE.mono (h : kpE u w R x b X Y) (hx : X ≤ X') (hy : Y ≤ Y') : kpE u w R x b X' Y' := by
  obtain ⟨⟨h1, h2, h3, h4, h5, h6⟩, h7⟩ := h
  exact ⟨⟨h1, by omega, by omega, h4, h5, h6⟩, h7⟩
theorem kpE.trans (h : kpE u w R x b X Y) (k : kpE w v' R x b X' Y') : kpE u v' R x b (X + X') (Y + Y') := by
  obtain ⟨⟨h1, h2, h3, h4, h5, h6⟩, h7, h8, h9, h10⟩ := h
  obtain ⟨⟨k1, k2, k3, k4, k5, k6⟩, k7, k8, k9, k10⟩ := k
  refine ⟨⟨by omega, by omega, by omega, k4.trans h4, k5.trans h5, k6.trans h6⟩, fun y hy => ⟨((k7 y (by omega)).1).trans (h7 y hy).1, ((k7 y (by omega)).2).trans (h7 y hy).2⟩, fun c y j hy z z1 z2 => ?_, ?_, fun j hj => (k10 j hj).trans (h10 j hj)⟩
  · rw [k8 c y j (by omega) (by omega) z1 z2]; exact h8 c y j hy z z1 z2
  · rcases k9 with q | q
    · rw [q]; exact h9
    · exact .inr (by omega)
theorem rdG.ke (h : rdG u w R x P Q) : kpE u w R x b P Q := by
  obtain ⟨⟨⟨h1, h2, h3, h4, h5, h6⟩, h7, h8⟩, h9, h10⟩ := h
  exact ⟨⟨h1, h2, h3, h4, h5, h6⟩, h7, fun c y k hy z _ _ => h8 c y k hy z, h9, fun k hk => h10 k (by omega)⟩
theorem kpE.gw (h : kpE u w R x b X Y) : jGw u w X Y (fun y => rdA u R x y ∨ y = b ∨ y = b + 5) := by
  obtain ⟨⟨h1, h2, h3, h4, h5, h6⟩, h7, h8, h9, h10⟩ := h
  exact ⟨⟨h1, h2, h3, h4, h5, h6⟩, h7, fun c y k hy z => h8 c y k hy (fun q => z (.inl q)) (fun q => z (.inr (.inl q.2.1))) (fun q => z (.inr (.inr q.2)))⟩
theorem rStr.ke (h : rStr u y l x) (I : rdI u R x b a g n) (k : kpE u w R x b X Y) : rStr w y l x := by
  obtain ⟨h1, h2, ⟨h3, h4⟩, h5⟩ := h
  have hy := h1.1.2.1
  have hb := h1.2.2.1
  have hr := I.1.2.2
  have hx := I.row
  have hf : ∀ j, jF u y j = jf u 9 y j := fun j => by unfold jF; rw [h2]
  have hf' : ∀ j, jF w y j = jf w 9 y j := fun j => by unfold jF; rw [(k.2.1 y hy).1, h2]
  have hk : ∀ j, jF w y j = jF u y j := fun j => by
    rw [hf, hf']
    refine k.2.2.1 _ _ _ hy (fun z => ?_) (by omega) (by omega)
    rcases z with z | z | z
    · rw [z] at h2; omega
    · rw [z] at h2; omega
    · rw [z] at h2; omega
  have hbk : ¬ jF u y 0 = R ∧ ¬ jF u y 0 = x := ⟨fun z => by have q := hb.2.2; rw [z] at q; omega, fun z => by have q := hb.2.2; rw [z] at q; omega⟩
  refine ⟨⟨⟨h1.1.1, by have := k.1.1; omega, by rw [(k.2.1 y hy).1]; exact h1.1.2.2⟩, by rw [hk]; exact h1.2.1, by rw [hk]; exact ⟨hb.1, by have := k.1.1; omega, by rw [(k.2.1 _ hb.2.1).1]; exact hb.2.2⟩, by rw [hk, (k.2.1 _ hb.2.1).2]; exact h1.2.2.2.1, h1.2.2.2.2.1, fun i hi => ?_⟩, by rw [(k.2.1 y hy).1]; exact h2, ⟨by rw [hk]; exact h3, by rw [hk]; exact h4⟩, ?_⟩
  · rw [hk]
    have e0 : jF w (jF u y 0) i = jF u (jF u y 0) i := by
      show jf w (jK w (jF u y 0)) (jF u y 0) i = jf u (jK u (jF u y 0)) (jF u y 0) i
      rw [(k.2.1 _ hb.2.1).1]
      exact k.2.2.1 _ _ _ hb.2.1 (fun z => by rcases z with z | z | z; exact hbk.1 z; exact hbk.2 z; exact h5.2 z) (fun z => by have q := hb.2.2; omega) (fun z => by have q := hb.2.2; omega)
    rw [e0]; exact h1.2.2.2.2.2 i hi
  · rw [hk]
    have := k.1.1
    rcases k.2.2.2.1 with q | q
    · rw [q]; exact h5
    · omega
theorem bkI.ke (h : bkI u b) (I : rdI u R x b a g n) (k : kpE u w R x b X Y) : bkI w b := by
  obtain ⟨⟨h1, h2, h3⟩, ⟨f0, f1, f2, f3, f4⟩, ⟨a1, a2⟩, ⟨b1, b2⟩, ⟨c1, c2⟩, ⟨d1, d2⟩, e1, e2⟩ := h
  have hr := I.1.2.2
  have hx := I.row
  have nb : ¬ (b = R ∨ b = x ∨ b = jf u 8 x 0) := fun z => by
    rcases z with z | z | z
    · rw [z] at h3; omega
    · rw [z] at h3; omega
    · rw [z] at h3; omega
  have F : ∀ j, ¬ j = 8 → jf w 16 b j = jf u 16 b j := fun j hj => k.2.2.1 _ _ _ (by omega) nb (fun z => hj z.2.2) (by omega)
  have K := fun y hy => (k.2.1 y hy).1
  have N := fun y hy => (k.2.1 y hy).2
  have := k.1.1
  exact ⟨⟨h1, by omega, by rw [K b (by omega)]; exact h3⟩, ⟨by rw [F 0 (by omega)]; exact f0, by rw [F 1 (by omega)]; exact f1, by rw [F 2 (by omega)]; exact f2, by rw [F 3 (by omega)]; exact f3, by rw [F 4 (by omega)]; exact f4⟩, ⟨by rw [K _ (by omega)]; exact a1, by rw [N _ (by omega)]; exact a2⟩, ⟨by rw [K _ (by omega)]; exact b1, by rw [N _ (by omega)]; exact b2⟩, ⟨by rw [K _ (by omega)]; exact c1, by rw [N _ (by omega)]; exact c2⟩, ⟨by rw [K _ (by omega)]; exact d1, by rw [N _ (by omega)]; exact d2⟩, by rw [K _ (by omega)]; exact e1, by rw [N _ (by omega)]; exact e2⟩
/-- names stay when a word is looked at -/
theorem nmC.ke (h : nmC u b x NL) (I : rdI u R x b a g n) (B : bkI u b) (k : kpE u w R x b X Y) (k8 : jf w 16 b 8 = jf u 16 b 8) (k5 : ∀ j, jf w 1026 (b + 5) j = jf u 1026 (b + 5) j) : nmC w b x NL :=
  ⟨by rw [k8]; exact h.1, h.2.1, fun i hi => by rw [k5]; exact ⟨(h.2.2 i hi).1.ke I k, (h.2.2 i hi).2⟩⟩
/-- the reader, as the pure one has it -/
def cR (u : jS) (R x b a : Int) (g : Int → Int) (n : Int) (st : pS) : Prop := rdI u R x b a g n ∧ bkI u b ∧ (0 ≤ st.1 ∧ st.1 ≤ n) ∧ ((jf u 53 R 4 = 0 ∧ jf u 53 R 2 = st.1) ∨ lkS u R x g n (wd g n st.1)) ∧ nmC u b x st.2.1 ∧ jf u 53 R 14 = st.2.2.1 ∧ jf u 53 R 15 = st.2.2.1 - st.2.2.2 ∧ (0 ≤ st.2.2.2 ∧ st.2.2.2 ≤ st.2.2.1 ∧ st.2.2.1 ≤ 2000)
def lkc (u : jS) (R : Int) (W : wR4) : Int := if jf u 53 R 4 = 1 then 3 * (W.2.2.2 - W.2.2.1) else 0
def lkq (u : jS) (R : Int) (W : wR4) : Int := if jf u 53 R 4 = 1 then 2600 * (W.2.2.2 - W.2.2.1) else 0
/-- a word is looked at, or was -/
theorem x_lookR (h : cR u R x b a g n st) (hB : 0 ≤ jn u ∧ jBd u 2001 900006) : jE (m_X44_look u R) fun q =>
    ((wd g n st.1).1 = 6 ∧ rFl R (wd g n st.1).2.1 (wd g n st.1).2.2.1 q ∧ jGw u q.1 (n - (wd g n st.1).2.2.1 + 1) (1300 * (n - (wd g n st.1).2.2.1) + 6) (rdA u R x)) ∨
    (¬ (wd g n st.1).1 = 6 ∧ q.2 = (false, 0) ∧ cR q.1 R x b a g n st ∧ lkS q.1 R x g n (wd g n st.1) ∧ kpE u q.1 R x b (lkc q.1 R (wd g n st.1) - lkc u R (wd g n st.1)) (lkq q.1 R (wd g n st.1) - lkq u R (wd g n st.1))) := by
  obtain ⟨I, B, ⟨p0, p1⟩, tk, N, c14, c15, cb⟩ := h
  rcases tk with ⟨t1, t2⟩ | t1
  · refine jE_mono (x_look I t1 t2 p0 p1 hB) fun q hq => ?_
    rcases hq with hq | ⟨z1, z2, z3, z4, z5⟩
    · exact .inl hq
    · have ke := z4.ke (b := b)
      have nR : ¬ b = R := fun z => by have q1 := B.1.2.2; have q2 := I.1.2.2; rw [z] at q1; omega
      have hx := I.row
      have fb : ∀ c y j, y < jn u → ¬ (y = R ∨ y = x ∨ y = jf u 8 x 0) → jf q.1 c y j = jf u c y j := fun c y j hy hz => z4.1.2.2 c y j hy hz
      have n0 : ¬ (b = R ∨ b = x ∨ b = jf u 8 x 0) := fun z => by
        have q1 := B.1.2.2; have q2 := I.1.2.2
        rcases z with z | z | z <;> rw [z] at q1 <;> omega
      have n5 : ¬ (b + 5 = R ∨ b + 5 = x ∨ b + 5 = jf u 8 x 0) := fun z => by
        have q1 := B.2.2.2.2.2.2.1; have q2 := I.1.2.2
        rcases z with z | z | z <;> rw [z] at q1 <;> omega
      have hb := B.1.2.1
      refine .inr ⟨z3.2.2.2.2, z1, ⟨z2, B.ke I ke, ⟨p0, p1⟩, .inr z3, N.ke I B ke (fb _ _ _ (by omega) n0) (fun j => fb _ _ _ (by omega) n5), by rw [z4.2.2 14 (by omega)]; exact c14, by rw [z4.2.2 15 (by omega)]; exact c15, cb⟩, z3, ke.mono ?_ ?_⟩
      · unfold lkc; rw [if_pos z3.2.1, if_neg (by omega)]; omega
      · unfold lkq; rw [if_pos z3.2.1, if_neg (by omega)]; omega
  · rw [em_X44_look]; unfold dm_X44_look
    rw [if_neg (by have := t1.2.1; omega)]
    exact jS_end (.inr ⟨t1.2.2.2.2, rfl, ⟨I, B, ⟨p0, p1⟩, .inr t1, N, c14, c15, cb⟩, t1, kpE.rfl.mono (by show (0 : Int) ≤ lkc u R (wd g n st.1) - lkc u R (wd g n st.1); omega) (by show (0 : Int) ≤ lkq u R (wd g n st.1) - lkq u R (wd g n st.1); omega)⟩)
theorem x_take : m_X44_take u R = some (jp (jp u 53 R 2 (jf u 53 R 8)) 53 R 4 0, 0) := by
  rw [em_X44_take]; unfold dm_X44_take
  simp only [jls]
  rw [jzb_in (.inl rfl), Option.bind_some]
end jCexpr
