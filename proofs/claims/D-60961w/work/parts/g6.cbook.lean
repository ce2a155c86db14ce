/-! the component's book: operands and statements; what steps leave -/
section jCbook
variable {s t u w v' : jS} {R x b a a' n p p' q r k c f v y e d o z K S X Y X' Y' P Q pl lo lo' ln : Int} {g : Int → Int} {l m : List Int} {NL : List (List Int)} {W : wR4} {st st' : pS} {I L L1 L2 : pI} {A : Int → Prop} {OL : List pvO} {SL : List pvS} {qq : jS × Bool × Int}
/-- what reading of lines leaves alone -/
def cF (u w : jS) (R x b S X Y : Int) : Prop := (jn u ≤ jn w ∧ jn w ≤ jn u + X ∧ ju w ≤ ju u + Y ∧ jlN w = jlN u ∧ jlU w = jlU u ∧ jc w = jc u) ∧ (∀ y, y < jn u → jK w y = jK u y ∧ jN w y = jN u y) ∧ (∀ c y k, y < jn u → ¬ (y = R ∨ y = x ∨ y = jf u 8 x 0) → ¬ (b ≤ y ∧ y ≤ b + 5) → ¬ y = S → jf w c y k = jf u c y k) ∧ (jf w 8 x 0 = jf u 8 x 0 ∨ jn u ≤ jf w 8 x 0) ∧ ∀ k, (k = 0 ∨ k = 1 ∨ k = 3 ∨ k = 10 ∨ k = 11) → jf w 53 R k = jf u 53 R k
theorem kpE.cf (h : kpE u w R x b X Y) : cF u w R x b S X Y := by
  obtain ⟨h1, h2, h3, h4, h5⟩ := h
  exact ⟨h1, h2, fun c y k hy z z1 _ => h3 c y k hy z (by omega) (by omega), h4, fun k hk => h5 k (by omega)⟩
theorem cF.mono (h : cF u w R x b S X Y) (hx : X ≤ X') (hy : Y ≤ Y') : cF u w R x b S X' Y' := by
  obtain ⟨⟨h1, h2, h3, h4, h5, h6⟩, h7⟩ := h
  exact ⟨⟨h1, by omega, by omega, h4, h5, h6⟩, h7⟩
theorem cF.rfl : cF u u R x b S 0 0 := (kpE.rfl (u := u) (R := R) (x := x) (b := b)).cf
theorem cF.trans (h : cF u w R x b S X Y) (k : cF w v' R x b S X' Y') : cF u v' R x b S (X + X') (Y + Y') := by
  obtain ⟨⟨h1, h2, h3, h4, h5, h6⟩, h7, h8, h9, h10⟩ := h
  obtain ⟨⟨k1, k2, k3, k4, k5, k6⟩, k7, k8, k9, k10⟩ := k
  refine ⟨⟨by omega, by omega, by omega, k4.trans h4, k5.trans h5, k6.trans h6⟩, fun y hy => ⟨((k7 y (by omega)).1).trans (h7 y hy).1, ((k7 y (by omega)).2).trans (h7 y hy).2⟩, fun c y j hy z z1 z2 => ?_, ?_, fun j hj => (k10 j hj).trans (h10 j hj)⟩
  · rw [k8 c y j (by omega) (by omega) z1 z2]; exact h8 c y j hy z z1 z2
  · rcases k9 with q | q
    · rw [q]; exact h9
    · exact .inr (by omega)
theorem cF.then (h : cF u w R x b S X Y) (k : jGw w v' X' Y' fun z => jn u ≤ z ∨ z = S) (hR : R < jn u) (hx : x < jn u) (hS : ¬ S = R ∧ ¬ S = x) : cF u v' R x b S (X + X') (Y + Y') := by
  obtain ⟨⟨h1, h2, h3, h4, h5, h6⟩, h7, h8, h9, h10⟩ := h
  obtain ⟨⟨k1, k2, k3, k4, k5, k6⟩, k7, k8⟩ := k
  refine ⟨⟨by omega, by omega, by omega, k4.trans h4, k5.trans h5, k6.trans h6⟩, fun y hy => ⟨((k7 y (by omega)).1).trans (h7 y hy).1, ((k7 y (by omega)).2).trans (h7 y hy).2⟩, fun c y j hy z z1 z2 => ?_, ?_, fun j hj => ?_⟩
  · rw [k8 c y j (by omega) (by omega)]; exact h8 c y j hy z z1 z2
  · rw [k8 8 x 0 (by omega) (by omega)]; exact h9
  · rw [k8 53 R j (by omega) (by omega)]; exact h10 j hj
theorem cF.bkw (h : cF u w R x b S X Y) (k : jGw w v' 0 0 fun z => b ≤ z ∧ z ≤ b + 5) (hR : ¬ (b ≤ R ∧ R ≤ b + 5) ∧ R < jn u) (hx : ¬ (b ≤ x ∧ x ≤ b + 5) ∧ x < jn u) : cF u v' R x b S X Y := by
  obtain ⟨⟨h1, h2, h3, h4, h5, h6⟩, h7, h8, h9, h10⟩ := h
  obtain ⟨⟨k1, k2, k3, k4, k5, k6⟩, k7, k8⟩ := k
  refine ⟨⟨by omega, by omega, by omega, k4.trans h4, k5.trans h5, k6.trans h6⟩, fun y hy => ⟨((k7 y (by omega)).1).trans (h7 y hy).1, ((k7 y (by omega)).2).trans (h7 y hy).2⟩, fun c y j hy z z1 z2 => ?_, ?_, fun j hj => ?_⟩
  · rw [k8 c y j (by omega) z1]; exact h8 c y j hy z z1 z2
  · rw [k8 8 x 0 (by omega) hx.1]; exact h9
  · rw [k8 53 R j (by omega) hR.1]; exact h10 j hj
def fA (u : jS) (R x b S : Int) : Int → Prop := fun y => rdA u R x y ∨ (b ≤ y ∧ y ≤ b + 5) ∨ y = S
theorem cF.gw (h : cF u w R x b S X Y) : jGw u w X Y (fA u R x b S) := by
  obtain ⟨h1, h2, h3, h4, h5⟩ := h
  exact ⟨h1, h2, fun c y k hy z => h3 c y k hy (fun q => z (.inl q)) (fun q => z (.inr (.inl q))) fun q => z (.inr (.inr q))⟩
/-- the book's own stays: statements and operands; items -/
def sm5 (u w : jS) (b : Int) : Prop := (∀ k, k = 5 ∨ k = 6 → jf w 16 b k = jf u 16 b k) ∧ (∀ i, jf w 1024 (b + 2) i = jf u 1024 (b + 2) i) ∧ ∀ i, jf w 1025 (b + 1) i = jf u 1025 (b + 1) i
def sm7 (u w : jS) (b : Int) : Prop := jf w 16 b 7 = jf u 16 b 7 ∧ ∀ i, jf w 1000 (b + 3) i = jf u 1000 (b + 3) i ∧ jf w 1000 (b + 4) i = jf u 1000 (b + 4) i
theorem sm5.trans (h : sm5 u w b) (k : sm5 w v' b) : sm5 u v' b := ⟨fun j hj => (k.1 j hj).trans (h.1 j hj), fun i => (k.2.1 i).trans (h.2.1 i), fun i => (k.2.2 i).trans (h.2.2 i)⟩
theorem sm7.trans (h : sm7 u w b) (k : sm7 w v' b) : sm7 u v' b := ⟨k.1.trans h.1, fun i => ⟨((k.2 i).1).trans (h.2 i).1, ((k.2 i).2).trans (h.2 i).2⟩⟩
theorem sm5.rfl : sm5 u u b := ⟨fun _ _ => Eq.refl _, fun _ => Eq.refl _, fun _ => Eq.refl _⟩
theorem sm7.rfl : sm7 u u b := ⟨Eq.refl _, fun _ => ⟨Eq.refl _, Eq.refl _⟩⟩
theorem bkI.lt (B : bkI u b) : b + 5 < jn u := B.2.2.2.2.2.2.1 |> fun _ => by
  have := B.1; have := B.2.2.2.2.2.2; omega
theorem kpE.sm (I : rdI u R x b a g n) (B : bkI u b) (hb : b + 5 < jn u) (k : kpE u w R x b X Y) : sm5 u w b ∧ sm7 u w b := by
  have hr := I.1.2.2
  have hx := I.row
  obtain ⟨⟨h1, h2, h3⟩, -, ⟨a1, a2⟩, ⟨b1, b2⟩, ⟨c1, c2⟩, ⟨d1, d2⟩, e1, e2⟩ := B
  have nb : ∀ z, jK u z = 16 ∨ jK u z = 1025 ∨ jK u z = 1024 ∨ jK u z = 1000 → ¬ (z = R ∨ z = x ∨ z = jf u 8 x 0) := fun z hz q => by
    rcases q with q | q | q <;> rw [q] at hz <;> omega
  exact ⟨⟨fun j hj => k.2.2.1 _ _ _ (by omega) (nb _ (by omega)) (by omega) (by omega), fun i => k.2.2.1 _ _ _ (by omega) (nb _ (by omega)) (by omega) (by omega), fun i => k.2.2.1 _ _ _ (by omega) (nb _ (by omega)) (by omega) (by omega)⟩, k.2.2.1 _ _ _ (by omega) (nb _ (by omega)) (by omega) (by omega), fun i => ⟨k.2.2.1 _ _ _ (by omega) (nb _ (by omega)) (by omega) (by omega), k.2.2.1 _ _ _ (by omega) (nb _ (by omega)) (by omega) (by omega)⟩⟩
theorem sm_gw (k : jGw u w X Y A) (hb : b + 5 < jn u) (hA : ∀ z, A z → ¬ (b ≤ z ∧ z ≤ b + 5)) : sm5 u w b ∧ sm7 u w b :=
  ⟨⟨fun j hj => k.2.2 _ _ _ (by omega) (fun z => hA _ z (by omega)), fun i => k.2.2 _ _ _ (by omega) (fun z => hA _ z (by omega)), fun i => k.2.2 _ _ _ (by omega) (fun z => hA _ z (by omega))⟩, k.2.2 _ _ _ (by omega) (fun z => hA _ z (by omega)), fun i => ⟨k.2.2 _ _ _ (by omega) (fun z => hA _ z (by omega)), k.2.2 _ _ _ (by omega) (fun z => hA _ z (by omega))⟩⟩
theorem itF.sm (k : itF u w b) : sm5 u w b := ⟨fun j hj => k.2 _ _ _ (by omega) (by omega), fun i => k.2 _ _ _ (by omega) (by omega), fun i => k.2 _ _ _ (by omega) (by omega)⟩
theorem itC.sm (h : itC u b I) (k : sm7 u w b) : itC w b I := ⟨k.1.trans h.1, fun i hi => by rw [(k.2 i).1, (k.2 i).2]; exact h.2 i hi⟩
/-- an operand, a statement as objects -/
def opC (u : jS) (x y : Int) (z : pvO) : Prop := (0 ≤ y ∧ y < jn u ∧ jK u y = 63) ∧ (jf u 63 y 0 = z.1 ∧ jf u 63 y 1 = z.2.1 ∧ jf u 63 y 2 = z.2.2.1 ∧ jf u 63 y 3 = z.2.2.2.1 ∧ jf u 63 y 4 = z.2.2.2.2.1 ∧ jf u 63 y 5 = z.2.2.2.2.2.1) ∧ pSg u (jf u 63 y 7) z.2.2.2.2.2.2 ∧ (x < jF u (jf u 63 y 7) 0 ∨ jK u (jF u (jf u 63 y 7) 0) = 4001) ∧ ¬ jF u (jf u 63 y 7) 0 = jf u 8 x 0
def stC (u : jS) (y : Int) (z : pvS) : Prop := (0 ≤ y ∧ y < jn u ∧ jK u y = 62) ∧ jf u 62 y 0 = z.1 ∧ jf u 62 y 1 = z.2.1 ∧ jf u 62 y 2 = z.2.2.1 ∧ jf u 62 y 3 = z.2.2.2.1 ∧ jf u 62 y 4 = z.2.2.2.2.1 ∧ jf u 62 y 5 = z.2.2.2.2.2
def opsC (u : jS) (b x : Int) (OL : List pvO) : Prop := jf u 16 b 6 = OL.length ∧ OL.length ≤ 800 ∧ ∀ i : Nat, i < OL.length → b + 5 < jf u 1024 (b + 2) i ∧ opC u x (jf u 1024 (b + 2) i) (OL.getD i oZ)
def stsC (u : jS) (b : Int) (SL : List pvS) : Prop := jf u 16 b 5 = SL.length ∧ SL.length ≤ 400 ∧ ∀ i : Nat, i < SL.length → b + 5 < jf u 1025 (b + 1) i ∧ stC u (jf u 1025 (b + 1) i) (SL.getD i sZ)
theorem fA_k (I : rdI u R x b a g n) (B : bkI u b) (hS : S < 0 ∨ jK u S = 62) (h0 : 0 ≤ z) (h : fA u R x b S z) : z = jf u 8 x 0 ∨ ¬ (jK u z = 9 ∨ jK u z = 3009 ∨ jK u z = 1001 ∨ jK u z = 4001 ∨ jK u z = 63) := by
  have hr := I.1.2.2
  have hx := I.row
  obtain ⟨⟨h1, h2, h3⟩, -, ⟨a1, a2⟩, ⟨b1, b2⟩, ⟨c1, c2⟩, ⟨d1, d2⟩, e1, e2⟩ := B
  rcases h with h | h | h
  · rcases h with h | h | h
    · right; rw [h]; omega
    · right; rw [h]; omega
    · left; exact h
  · right
    have : z = b ∨ z = b + 1 ∨ z = b + 2 ∨ z = b + 3 ∨ z = b + 4 ∨ z = b + 5 := by omega
    rcases this with q | q | q | q | q | q <;> rw [q] <;> omega
  · right
    rw [h]; rw [h] at h0
    rcases hS with q | q
    · omega
    · omega
theorem opC.cf {zz : pvO} (h : opC u x y zz) (k : cF u w R x b S X Y) (I : rdI u R x b a g n) (B : bkI u b) (hS : S < 0 ∨ jK u S = 62) : opC w x y zz := by
  obtain ⟨⟨h0, h1, h2⟩, h3, h4, h5⟩ := h
  have g := k.gw
  have hx := I.row
  have ny : ¬ fA u R x b S y := fun z => by
    rcases fA_k I B hS h0 z with q | q
    · rw [q] at h2; omega
    · omega
  have F : ∀ j, jf w 63 y j = jf u 63 y j := fun j => g.2.2 _ _ _ h1 ny
  have nz : ¬ fA u R x b S (jf u 63 y 7) := fun z => by
    have q4 := h4.1
    rcases fA_k I B hS q4.1 z with q | q
    · rw [q] at q4; omega
    · omega
  have nbf : ¬ fA u R x b S (jF u (jf u 63 y 7) 0) := fun z => by
    have q4 := h4.2.2.1
    rcases fA_k I B hS q4.1 z with q | q
    · exact h5.2 q
    · omega
  obtain ⟨p1, p2⟩ := h4.keep g nz nbf
  have := k.1.1
  refine ⟨⟨h0, by omega, by rw [g.K h1]; exact h2⟩, ⟨by rw [F]; exact h3.1, by rw [F]; exact h3.2.1, by rw [F]; exact h3.2.2.1, by rw [F]; exact h3.2.2.2.1, by rw [F]; exact h3.2.2.2.2.1, by rw [F]; exact h3.2.2.2.2.2⟩, by rw [F]; exact p1, ?_⟩
  rw [F, p2, g.K h4.2.2.1.2.1]
  rcases k.2.2.2.1 with q | q
  · rw [q]; exact h5
  · have := h4.2.2.1; omega
theorem stC.cf {zz : pvS} (h : stC u y zz) (k : cF u w R x b S X Y) (I : rdI u R x b a g n) (B : bkI u b) (hy : ¬ y = S) : stC w y zz := by
  obtain ⟨⟨h0, h1, h2⟩, h3⟩ := h
  have hr := I.1.2.2
  have hx := I.row
  obtain ⟨⟨e1, e2, e3⟩, -, ⟨a1, a2⟩, ⟨b1, b2⟩, ⟨c1, c2⟩, ⟨d1, d2⟩, f1, f2⟩ := B
  have F : ∀ j, jf w 62 y j = jf u 62 y j := fun j => k.2.2.1 _ _ _ h1 (fun z => by
    rcases z with z | z | z <;> rw [z] at h2 <;> omega) (fun z => by
    have : y = b ∨ y = b + 1 ∨ y = b + 2 ∨ y = b + 3 ∨ y = b + 4 ∨ y = b + 5 := by omega
    rcases this with q | q | q | q | q | q <;> rw [q] at h2 <;> omega) hy
  have := k.1.1
  exact ⟨⟨h0, by omega, by rw [(k.2.1 y h1).1]; exact h2⟩, by rw [F, F, F, F, F, F]; exact h3⟩
theorem opsC.cf (h : opsC u b x OL) (k : cF u w R x b S X Y) (e : sm5 u w b) (I : rdI u R x b a g n) (B : bkI u b) (hS : S < 0 ∨ jK u S = 62) : opsC w b x OL :=
  ⟨by rw [e.1 6 (.inr rfl)]; exact h.1, h.2.1, fun i hi => by rw [e.2.1]; exact ⟨(h.2.2 i hi).1, (h.2.2 i hi).2.cf k I B hS⟩⟩
theorem stsC.cf (h : stsC u b SL) (k : cF u w R x b S X Y) (e : sm5 u w b) (I : rdI u R x b a g n) (B : bkI u b) (hS : ∀ i : Nat, i < SL.length → ¬ jf u 1025 (b + 1) i = S) : stsC w b SL :=
  ⟨by rw [e.1 5 (.inl rfl)]; exact h.1, h.2.1, fun i hi => by rw [e.2.2]; exact ⟨(h.2.2 i hi).1, (h.2.2 i hi).2.cf k I B (hS i hi)⟩⟩
/-- from place p to p', lines read -/
def cGo (u w : jS) (R x b S : Int) (g : Int → Int) (n p p' : Int) : Prop := cF u w R x b S (40 * (p' - p) + (lkc w R (wd g n p') - lkc u R (wd g n p))) (5400 * (p' - p) + (lkq w R (wd g n p') - lkq u R (wd g n p)))
def cFm (u : jS) (R x b S : Int) (g : Int → Int) (n p f pl : Int) (q : jS × Bool × Int) : Prop := q.2.1 = true ∧ rFl R f pl q ∧ jGw u q.1 (40 * (n - p) + 10 - lkc u R (wd g n p)) (5400 * (n - p) + 100 - lkq u R (wd g n p)) (fA u R x b S)
def cRn (u : jS) (R : Int) (g : Int → Int) (n p : Int) : Prop := 0 ≤ jn u ∧ jBd u (40 * (n - p) + 2200 - lkc u R (wd g n p)) (5400 * (n - p) + 900200 - lkq u R (wd g n p))
theorem cGo.trans (h : cGo u w R x b S g n p p') (k : cGo w v' R x b S g n p' q) : cGo u v' R x b S g n p q := (cF.trans h k).mono (by omega) (by omega)
theorem cRn.after (h : cRn u R g n p) (k : cGo u w R x b S g n p p') : cRn w R g n p' := by
  obtain ⟨h0, h1, h2⟩ := h
  obtain ⟨⟨k1, k2, k3, k4, k5, k6⟩, -⟩ := k
  exact ⟨by omega, by rw [k4]; omega, by rw [k5]; omega⟩
theorem cRn.rm (h : cRn u R g n p) (hp : p ≤ n) : cRm u R g n p := ⟨h.1, by have := h.2.1; omega, by have := h.2.2; omega⟩
theorem fA.after (k : cF u w R x b S X Y) (h : fA w R x b S y) (hy : y < jn u) : fA u R x b S y := by
  rcases h with h | h
  · rcases h with h | h | h
    · exact .inl (.inl h)
    · exact .inl (.inr (.inl h))
    · rcases k.2.2.2.1 with e | e
      · exact .inl (.inr (.inr (by rw [← e]; exact h)))
      · omega
  · exact .inr h
theorem cFm.after (k : cFm w R x b S g n p' f pl qq) (h : cGo u w R x b S g n p p') : cFm u R x b S g n p f pl qq := by
  obtain ⟨k0, k1, k2⟩ := k
  refine ⟨k0, k1, ((cF.gw h).trans k2 fun y hy z => ?_).mono (by omega) (by omega) fun y _ z => z⟩
  rcases z with z | z
  · exact z
  · exact fA.after h z hy
theorem cSt.cg (h : cSt u w R x b g n p p') (hp : p ≤ p') : cGo u w R x b S g n p p' := (kpE.cf h).mono (by omega) (by omega)
theorem cFl.fm (h : cFl u R x b g n p f pl qq) (hp : p ≤ n) (hq : qq.2.1 = true) : cFm u R x b S g n p f pl qq := ⟨hq, h.1, h.2.mono (by omega) (by omega) fun y _ z => by
  unfold fA
  rcases z with z | z | z
  · exact .inl z
  · exact .inr (.inl (by omega))
  · exact .inr (.inl (by omega))⟩
end jCbook
