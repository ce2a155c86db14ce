/-! the twin reads a file: the object told -/
section jTread7
variable {s t u w : jS} {X n p q f a b x y z e k m lo hi lo' hi' : Int} {g g' : Int → Int} {o : Int → Int → Int → Int} {L M : List (Prop × Int × Int)} {c : Prop} {S : Int} {P : jS → Prop}
/-- the second object's places in the twin's rows -/
def rD (X a k : Int) : Prop := a = X + 1 ∧ 6144 ≤ k ∨ (a = X + 2 ∨ a = X + 3) ∧ 4 ≤ k ∨ a = X + 4 ∧ 1024 ≤ k ∨ (a = X + 5 ∨ a = X + 13 ∨ a = X + 19) ∧ 1 ≤ k ∨ X + 6 ≤ a ∧ a ≤ X + 11 ∧ 100 ≤ k ∨ a = X + 12 ∧ 1600 ≤ k ∨ X + 14 ≤ a ∧ a ≤ X + 18 ∧ 300 ≤ k
def fRw (s t : jS) (X lo hi : Int) : Prop := jSm s t ∧ ∀ c a k, ¬ (c = 1000 ∧ X + lo ≤ a ∧ a ≤ X + hi ∧ rD X a k) → jf t c a k = jf s c a k
theorem fRw.rfl : fRw s s X lo hi := ⟨jSm.rfl, fun _ _ _ _ => Eq.refl _⟩
theorem fRw.trans (h : fRw s t X lo hi) (g : fRw t u X lo hi) : fRw s u X lo hi := ⟨h.1.trans g.1, fun c a k p => (g.2 c a k p).trans (h.2 c a k p)⟩
theorem fRw.wide (h : fRw s t X lo hi) (e : lo' ≤ lo) (e' : hi ≤ hi') : fRw s t X lo' hi' := ⟨h.1, fun c a k p => h.2 c a k fun ⟨q1, q2, q3, q4⟩ => p ⟨q1, by omega, by omega, q4⟩⟩
theorem fRw.jp {a k v : Int} (h : fRw s t X lo hi) (e : X + lo ≤ a ∧ a ≤ X + hi) (e' : rD X a k) : fRw s (jp t 1000 a k v) X lo hi := ⟨h.1.jp, fun c' a' k' p => by
  rw [jf_jp, if_neg (fun ⟨q1, q2, q3⟩ => p ⟨q1, by omega, by omega, by rw [q2, q3]; exact e'⟩)]; exact h.2 c' a' k' p⟩
theorem fRw.r (h : fRw s t X lo hi) {a : Int} (e : a < X + lo ∨ X + hi < a) (k : Int) : jf t 1000 a k = jf s 1000 a k := h.2 _ _ _ fun ⟨_, _, _, _⟩ => by omega
theorem fRw.i (h : fRw s t X lo hi) (k : Int) : jf t 44 X k = jf s 44 X k := h.2 _ _ _ fun ⟨q, _⟩ => by omega
theorem tX.rw (h : tX s u X g n) (k : fRw u t X 1 19) : tCf t X g n ∧ ∃ s', tX s' t X g n := by
  have C : tCf t X g n := by
    obtain ⟨h1, h2, h3, h4, h5, h6⟩ := h.C
    exact ⟨fun i i0 i1 => (k.r (by omega) i).trans (h1 i i0 i1), h2, h3, h4, (k.i _).trans h5, h6.keep fun a k' e => k.r (by omega) k'⟩
  exact ⟨C, t, C, ⟨fRd.rfl, (k.i _).trans h.2.1.2.1, (k.i _).trans h.2.1.2.2⟩, ⟨fun j hj => (k.r (by omega) _).trans (h.2.2.1.1 j hj), fun e e0 e1 => (k.r (by omega) _).trans (h.2.2.1.2 e e0 e1)⟩, h.2.2.2⟩
/-- the same tables, from anywhere -/
def tY (u : jS) (X : Int) (g : Int → Int) (n : Int) : Prop := ∃ s, tX s u X g n
theorem tY.rw (h : tY u X g n) (k : fRw u t X 1 19) : tY t X g n := by
  obtain ⟨s, h⟩ := h
  exact (h.rw k).2
/-- sections -/
def rA (t : jS) (X : Int) (g : Int → Int) (x : Int) : Prop := ∀ y, 0 ≤ y → y < x → jf t 1000 (X + 2) (4 + y) = sR g y.toNat ∧ jf t 1000 (X + 3) (4 + y) = aRd g y.toNat ∧ (y < 3 → ∀ k, 0 ≤ k → k < sR g y.toNat → jf t 1000 (X + 1) (6144 + (2048 * y + k)) = g (fR g y.toNat + k))
theorem tR_sec (h : tY u X g n) {Q : jS × Int → Prop} (cont : ∀ t, fRw u t X 1 3 → rA t X g 4 → jE (u_X40_read_131 t X) Q) : jE (u_X40_read_18 u X 0) Q := by
  rw [eu_X40_read_18]; unfold du_X40_read_18
  refine jS_for (fun x t => fRw u t X 1 3 ∧ rA t X g x) (fun x => [X, x]) 0 4 (by omega) ⟨fRw.rfl, fun y y0 y1 => by omega⟩ (fun x t x0 x1 ⟨e1, e2⟩ => ?_) (fun t ⟨e1, e2⟩ => ?_)
  · show jE (b_X40_read_18 t X x) _
    unfold b_X40_read_18
    obtain ⟨s1, T⟩ := h.rw (e1.wide (by omega) (by omega))
    have hP := T.2.2.2
    have hn := T.1.n8
    have zlo : 0 ≤ sR g x.toNat ∧ sR g x.toNat ≤ 4096 ∧ (x < 3 → sR g x.toNat ≤ 2048) := by
      by_cases c : x = 3
      · subst c; have := hP.part3; exact ⟨this.1, this.2, fun z => by omega⟩
      · have := (hP.part (k := x.toNat) (by omega)).2.1
        have := hP.sec (k := x.toNat) (by omega)
        exact ⟨by omega, by omega, fun _ => this⟩
    have alo := (aRd_pw hP x.toNat).lo
    rw [if_pos x1, T.2.2.1.ep x0 (by omega), Option.bind_some, T.by x0 (by omega), Option.bind_some, W32_in (z := 4 + x) (by omega) (by omega), jst_in (by omega) (by omega), Option.bind_some, l2i_p, W32_in (z := sR g x.toNat) (by omega) (by omega)]
    have k2 : fRw u (jp t 1000 (X + 2) (4 + x) (sR g x.toNat)) X 1 3 := e1.jp (by omega) (by unfold rD; omega)
    obtain ⟨s2, T2⟩ := h.rw (k2.wide (by omega) (by omega))
    have e67 : (if ep g x.toNat = 0 then u_X40_read_67 (jp t 1000 (X + 2) (4 + x) (sR g x.toNat)) X x 1 (4 + x) (X + 3) else (m_X40_told (jp t 1000 (X + 2) (4 + x) (sR g x.toNat)) X (ep g x.toNat) 8).bind fun v4 => u_X40_read_67 (jp t 1000 (X + 2) (4 + x) (sR g x.toNat)) X x (L2i v4) (4 + x) (X + 3)) = u_X40_read_67 (jp t 1000 (X + 2) (4 + x) (sR g x.toNat)) X x (aRd g x.toNat) (4 + x) (X + 3) := by
      unfold aRd at alo ⊢
      by_cases c : ep g x.toNat = 0
      · rw [if_pos c, if_pos c]
      · obtain ⟨q1, q2, q3, q4⟩ := hP.en c
        rw [if_neg c] at alo
        rw [if_neg c, if_neg c, T2.2.1.to T2.1 hP.1 (by omega) q2 (by omega) (by omega), Option.bind_some, l2i_p, W32_in (by omega) (by omega)]
    rw [e67, eu_X40_read_67]; unfold du_X40_read_67
    rw [jst_in (by omega) (by omega), Option.bind_some, eu_X40_read_71]; unfold du_X40_read_71
    have k3 : fRw u (jp (jp t 1000 (X + 2) (4 + x) (sR g x.toNat)) 1000 (X + 3) (4 + x) (aRd g x.toNat)) X 1 3 := k2.jp (by omega) (by unfold rD; omega)
    have e125 : ∀ w, u_X40_read_125 w X x = some (.inl (w, [X, x + 1])) := fun w => by
      rw [eu_X40_read_125]; unfold du_X40_read_125
      rw [W32_in (by omega) (by omega)]
    have old : ∀ w, (∀ k, jf w 1000 (X + 2) k = if k = 4 + x then sR g x.toNat else jf t 1000 (X + 2) k) → (∀ k, jf w 1000 (X + 3) k = if k = 4 + x then aRd g x.toNat else jf t 1000 (X + 3) k) → (∀ k, k < 6144 + 2048 * x → jf w 1000 (X + 1) k = jf t 1000 (X + 1) k) → (x < 3 → ∀ k, 0 ≤ k → k < sR g x.toNat → jf w 1000 (X + 1) (6144 + (2048 * x + k)) = g (fR g x.toNat + k)) → rA w X g (x + 1) := fun w w1 w2 w3 w4 y y0 y1 => by
      by_cases c : y = x
      · subst c
        exact ⟨by rw [w1, if_pos rfl], by rw [w2, if_pos rfl], w4⟩
      · obtain ⟨a1, a2, a3⟩ := e2 y y0 (by omega)
        refine ⟨by rw [w1, if_neg (by omega)]; exact a1, by rw [w2, if_neg (by omega)]; exact a2, fun y3 k k0 k1 => ?_⟩
        have := hP.sec (k := y.toNat) (by omega)
        rw [w3 _ (by omega)]; exact a3 y3 k k0 k1
    by_cases c3 : x = 3
    · have ez : jlpW (jc3 b_X40_read_71) [X, x, 0] (jp (jp t 1000 (X + 2) (4 + x) (sR g x.toNat)) 1000 (X + 3) (4 + x) (aRd g x.toNat)) = some (.inl (jp (jp t 1000 (X + 2) (4 + x) (sR g x.toNat)) 1000 (X + 3) (4 + x) (aRd g x.toNat), [X, x + 1])) := by
        rw [← e125]
        refine jlpW_r ?_
        show b_X40_read_71 _ X x 0 = _
        unfold b_X40_read_71
        rw [W32_in (z := 4 + x) (by omega) (by omega), jlt_in (by omega) (by omega), Option.bind_some, if_neg (show ¬ x < 3 by omega), ite_self]
      rw [ez]
      refine jS_end ⟨rfl, k3, old _ (fun k => ?_) (fun k => ?_) (fun k hk => by (repeat (first | rw [jf_neg (by omega)] | rw [jf_pos (by omega)] | rw [ou_neg (by omega)] | rw [ou_pos (by omega)]))) (fun z => by omega)⟩
      · by_cases c : k = 4 + x
        · rw [if_pos c, jf_neg (by omega), jf_pos ⟨rfl, rfl, c⟩]
        · rw [if_neg c]; (repeat (first | rw [jf_neg (by omega)] | rw [jf_pos (by omega)] | rw [ou_neg (by omega)] | rw [ou_pos (by omega)]))
      · by_cases c : k = 4 + x
        · rw [if_pos c, jf_pos ⟨rfl, rfl, c⟩]
        · rw [if_neg c]; (repeat (first | rw [jf_neg (by omega)] | rw [jf_pos (by omega)] | rw [ou_neg (by omega)] | rw [ou_pos (by omega)]))
    · have x3 : x < 3 := by omega
      have z2 := zlo.2.2 x3
      obtain ⟨p1, p2, p3, p4, -⟩ := hP.part (k := x.toNat) (by omega)
      refine jS_for (fun i w => fRw u w X 1 3 ∧ (∀ k, jf w 1000 (X + 2) k = if k = 4 + x then sR g x.toNat else jf t 1000 (X + 2) k) ∧ (∀ k, jf w 1000 (X + 3) k = if k = 4 + x then aRd g x.toNat else jf t 1000 (X + 3) k) ∧ (∀ k, k < 6144 + 2048 * x → jf w 1000 (X + 1) k = jf t 1000 (X + 1) k) ∧ ∀ k, 0 ≤ k → k < i → jf w 1000 (X + 1) (6144 + (2048 * x + k)) = g (fR g x.toNat + k)) (fun i => [X, x, i]) 0 (sR g x.toNat) (by omega) ⟨k3, fun k => ?_, fun k => ?_, fun k hk => by (repeat (first | rw [jf_neg (by omega)] | rw [jf_pos (by omega)] | rw [ou_neg (by omega)] | rw [ou_pos (by omega)])), fun k k0 k1 => by omega⟩ (fun i w i0 i1 ⟨w0, w1, w2, w3, w4⟩ => ?_) (fun w ⟨w0, w1, w2, w3, w4⟩ => ?_)
      · by_cases c : k = 4 + x
        · rw [if_pos c, jf_neg (by omega), jf_pos ⟨rfl, rfl, c⟩]
        · rw [if_neg c]; (repeat (first | rw [jf_neg (by omega)] | rw [jf_pos (by omega)] | rw [ou_neg (by omega)] | rw [ou_pos (by omega)]))
      · by_cases c : k = 4 + x
        · rw [if_pos c, jf_pos ⟨rfl, rfl, c⟩]
        · rw [if_neg c]; (repeat (first | rw [jf_neg (by omega)] | rw [jf_pos (by omega)] | rw [ou_neg (by omega)] | rw [ou_pos (by omega)]))
      · show jE (b_X40_read_71 w X x i) _
        unfold b_X40_read_71
        obtain ⟨s4, T4⟩ := h.rw (w0.wide (by omega) (by omega))
        rw [W32_in (z := 4 + x) (by omega) (by omega), jlt_in (by omega) (by omega), Option.bind_some, w1, if_pos rfl, if_pos i1, if_pos x3, T4.fr x0 (by omega) c3, Option.bind_some, W32_in (z := fR g x.toNat + i) (by omega) (by omega), t_u1 T4.C (by omega) (by omega), Option.bind_some, W32_in (z := 2048 * x) (by omega) (by omega), W32_in (z := 6144 + 2048 * x) (by omega) (by omega), W32_in (z := 6144 + 2048 * x + i) (by omega) (by omega), jst_in (by omega) (by omega), Option.bind_some, W32_in (by omega) (by omega)]
        refine jS_end ⟨rfl, w0.jp (by omega) (by unfold rD; omega), fun k => by (repeat (first | rw [jf_neg (by omega)] | rw [jf_pos (by omega)] | rw [ou_neg (by omega)] | rw [ou_pos (by omega)])); exact w1 k, fun k => by (repeat (first | rw [jf_neg (by omega)] | rw [jf_pos (by omega)] | rw [ou_neg (by omega)] | rw [ou_pos (by omega)])); exact w2 k, fun k hk => by (repeat (first | rw [jf_neg (by omega)] | rw [jf_pos (by omega)] | rw [ou_neg (by omega)] | rw [ou_pos (by omega)])); exact w3 k hk, fun k k0 k1 => ?_⟩
        by_cases c : k = i
        · rw [jf_pos ⟨rfl, rfl, by omega⟩, c]
        · (repeat (first | rw [jf_neg (by omega)] | rw [jf_pos (by omega)] | rw [ou_neg (by omega)] | rw [ou_pos (by omega)])); exact w4 k k0 (by omega)
      · show jE (b_X40_read_71 w X x (sR g x.toNat)) _
        unfold b_X40_read_71
        rw [W32_in (z := 4 + x) (by omega) (by omega), jlt_in (by omega) (by omega), Option.bind_some, w1, if_pos rfl, if_neg (by omega), e125]
        exact jS_inr (jS_end ⟨rfl, w0, old w w1 w2 w3 fun _ => w4⟩)
  · show jE (b_X40_read_18 t X 4) _
    unfold b_X40_read_18
    rw [if_neg (by omega)]
    exact jS_inr (cont t e1 e2)
end jTread7
