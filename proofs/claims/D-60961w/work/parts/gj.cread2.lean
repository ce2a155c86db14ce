/-! the component's text is read; fed; ended *-/
section jCread2
variable {s t u u0 u1 w v' : jS} {R x b b' a a' n p p' p'' p0 q r k c f v y e d o z K S T X Y X' Y' P Q pl lo lo' ln y0 eX eY f0 f1 f2 : Int} {g g' wg fl : Int → Int} {l m : List Int} {NL : List (List Int)} {W : wR4} {st st' : pS} {I I' L L1 L2 : pI} {A : Int → Prop} {OL : List pvO} {SL : List pvS} {qq : jS × Bool × Int} {zz : pvO} {ss : pvS}
/-- the component's text: what waits, what is there, its books -/
def cTx (s : jS) (T : Int) (wg g : Int → Int) (n b c : Int) : Prop := (0 ≤ T ∧ T + 16 < jn s ∧ jK s T = 15) ∧ (jK s (T + 1) = 1001 ∧ jN s (T + 1) = 20) ∧ (jK s (T + 2) = 1001 ∧ jN s (T + 2) = 3000) ∧ jf s 15 T 2 = n ∧ (∀ k, 0 ≤ k → k < 20 → 0 ≤ wg k ∧ wg k < 256 ∧ jf s 1001 (T + 1) k = sb (wg k)) ∧ (∀ k, 0 ≤ k → k < n → jf s 1001 (T + 2) k = sb (g k)) ∧ (byG g n ∧ 0 ≤ n ∧ n ≤ 640) ∧ (jf s 15 T 5 = b ∧ jf s 15 T 6 = c) ∧ ((b = T + 3 ∧ c = T + 9) ∨ (b = T + 9 ∧ c = T + 3)) ∧ bkI s c
theorem rdI.gw (h : rdI u R x b a g n) (k : jGw u w X Y A) (hA : ∀ z, A z → ¬ z = R ∧ ¬ z = a ∧ ¬ z = x ∧ ¬ z = jf u 8 x 0 ∧ jK u z < 3000) : rdI w R x b a g n := by
  obtain ⟨⟨h1, h2, h3⟩, h4, h5, h6, h7, ⟨h8, h9, h10, h11⟩, h12, h13, ⟨l, hl⟩, h15, h16⟩ := h
  have nR : ¬ A R := fun z => (hA _ z).1 rfl
  have na : ¬ A a := fun z => (hA _ z).2.1 rfl
  obtain ⟨p1, p2⟩ := hl.keep k (fun z => (hA _ z).2.2.1 rfl) (fun z => (hA _ z).2.2.2.1 rfl)
  have := k.1.1
  exact ⟨⟨h1, by omega, by rw [k.K h2]; exact h3⟩, by rw [k.2.2 _ _ _ h2 nR]; exact h4, by rw [k.2.2 _ _ _ h2 nR]; exact h5, by rw [k.2.2 _ _ _ h2 nR]; exact h6, by rw [k.2.2 _ _ _ h2 nR]; exact h7, ⟨h8, by omega, by rw [k.K h9]; exact h10, by rw [k.N h9]; exact h11⟩, fun j j0 j1 => by rw [k.2.2 _ _ _ h9 na]; exact h12 j j0 j1, h13, ⟨l, p1⟩, by rw [p2]; exact h15, h16.keep k fun a z => (hA _ z).2.2.2.2⟩
/-- an empty book's reader -/
theorem lB.gw0 (h : lB u R x b a g n (0, [], 0, 0) [] [] []) (k : jGw u w X Y A) (hA : ∀ z, A z → ¬ z = R ∧ ¬ z = a ∧ ¬ z = x ∧ ¬ z = jf u 8 x 0 ∧ jK u z < 3000) (hb : ∀ z, A z → ¬ (b ≤ z ∧ z ≤ b + 5)) (h4 : jf u 53 R 4 = 0) : lB w R x b a g n (0, [], 0, 0) [] [] [] := by
  obtain ⟨⟨I, B, p0, tk, N, c14, c15, cb⟩, hI, hO, hS, hl⟩ := h
  have hR := I.1
  have F : ∀ j, jf w 53 R j = jf u 53 R j := fun j => k.2.2 _ _ _ hR.2.1 fun z => (hA _ z).1 rfl
  have hb6 := B.1
  have G : ∀ j, jf w 16 b j = jf u 16 b j := fun j => k.2.2 _ _ _ (by omega) fun z => hb _ z (by omega)
  refine ⟨⟨I.gw k hA, B.gw k hb, p0, .inl ?_, ⟨by rw [G]; exact N.1, Nat.zero_le _, fun i hi => absurd hi (Nat.not_lt_zero _)⟩, by rw [F]; exact c14, by rw [F]; exact c15, cb⟩, ⟨by rw [G]; exact hI.1, fun i hi => absurd hi (Nat.not_lt_zero _)⟩, ⟨by rw [G]; exact hO.1, Nat.zero_le _, fun i hi => absurd hi (Nat.not_lt_zero _)⟩, ⟨by rw [G]; exact hS.1, Nat.zero_le _, fun i hi => absurd hi (Nat.not_lt_zero _)⟩, hl⟩
  rcases tk with ⟨t1, t2⟩ | t
  · exact ⟨by rw [F]; exact t1, by rw [F]; exact t2⟩
  · exact absurd t.2.1 (by omega)
/-- what reading writes -/
def rdX (T c : Int) : Int → Prop := fun z => z = T ∨ (c ≤ z ∧ z ≤ c + 5)
def rdC (u : jS) (T n b c : Int) (lo : Int) (pr : fE ⊕ pvB) (q : jS × Bool × Int) : Prop := jGw u q.1 (40 * n + 20) (5400 * n + 200) (rdX T c) ∧ jf q.1 15 T 2 = 0 ∧ (∀ k, k = 0 ∨ k = 1 ∨ k = 7 → jf q.1 15 T k = jf u 15 T k) ∧ match pr with
  | .inl e => q.2.1 = true ∧ (0 ≤ q.2.2 ∧ jK q.1 q.2.2 = 2054) ∧ (jf q.1 15 T 3 = e.1 ∧ jf q.1 15 T 4 = e.2) ∧ jf q.1 15 T 5 = b ∧ jf q.1 15 T 6 = c
  | .inr z => q.2 = (false, (z.2.2.2.length : Int)) ∧ (jf q.1 15 T 3 = 0 ∧ jf q.1 15 T 4 = -1) ∧ (jf q.1 15 T 5 = c ∧ jf q.1 15 T 6 = b) ∧ bkP q.1 c lo z.1.2.1 z.2.1 z.2.2.1 z.2.2.2
theorem x_readT (h : cTx u T wg g n b c) (hC : pCon u) (hB : jBd u (40 * n + 2400) (5400 * n + 902000)) (hlo : lo ≤ jn u + 1) : jE (m_X11_read u T) (rdC u T n b c lo (pvAll g n (n + 1).toNat 0 ((0, [], 0), [], [], []))) := by
  obtain ⟨⟨h1, h2, h3⟩, ⟨a1, a2⟩, ⟨b1, b2⟩, h4, h5, h6, h7, ⟨h8, h9⟩, h10, h11⟩ := h
  have n0 : 0 ≤ jn u := by omega
  have nc : ¬ (c ≤ T ∧ T ≤ c + 5) := by omega
  obtain ⟨v, w, e1, e2, e3, e4, e5, e6, e7, e8, e9⟩ := x_rdNew (T := T) (c := c) n0 ⟨by have := hB.1; omega, by have := hB.2; omega⟩ ⟨h1, by omega⟩ ⟨b1, b2⟩ h6 h7 h11 hC ⟨by have := hB.1; omega, by have := hB.2; omega⟩
  rw [em_X11_read]; unfold dm_X11_read
  have fv : ∀ k, jf v 15 T k = jf u 15 T k := fun k => e9.2.2 _ _ _ (by omega) fun z => z
  have c2 : jf v 15 T 2 = n := (fv 2).trans h4
  have c6 : jf v 15 T 6 = c := (fv 6).trans h9
  rw [e1, Option.bind_some, jck0_in n0]
  show jE ((m_X44_init v (jn u) (T + 2) (jf v 15 T 2) (jf v 15 T 6)).bind _) _
  rw [c2, c6, e2, Option.bind_some]
  simp only [jls]
  have hT : T < jn u := by omega
  have kT : jK w T = 15 := by rw [e7.K hT]; exact h3
  have fT : ∀ k, jf w 15 T k = jf u 15 T k := fun k => e7.2.2 _ _ _ hT (by omega)
  have hx := e3.1.1.row
  have hbuf : jn u ≤ jf w 8 (jn u + 1) 0 := by omega
  -- the size is cleared
  obtain ⟨w2, E2⟩ : ∃ w2, w2 = jp w 15 T 2 0 := ⟨_, rfl⟩
  obtain ⟨f2, p2, K2, N2, n2⟩ := jpF E2
  have Gs : jGw w w2 0 0 (fun z => z = T) := jGw_wr jGw.rfl E2 (.inl rfl)
  have L2 := e3.gw0 Gs (fun z hz => by subst hz; exact ⟨by omega, by omega, by omega, by omega, by rw [kT]; decide⟩) (fun z hz => by subst hz; exact nc) e6
  have r4 : jf w2 53 (jn u) 4 = 0 := by rw [f2 _ _ _ (by omega)]; exact e6
  have l0 : ∀ W, lkc w2 (jn u) W = 0 := fun W => by unfold lkc; rw [if_neg (by omega)]
  have q0 : ∀ W, lkq w2 (jn u) W = 0 := fun W => by unfold lkq; rw [if_neg (by omega)]
  have l0' : ∀ W, lkc w (jn u) W = 0 := fun W => by unfold lkc; rw [if_neg (by omega)]
  have q0' : ∀ W, lkq w (jn u) W = 0 := fun W => by unfold lkq; rw [if_neg (by omega)]
  have M2 : cRn w2 (jn u) g n 0 := by
    obtain ⟨m0, m1, m2⟩ := e4
    rw [l0'] at m1; rw [q0'] at m2
    exact ⟨by omega, by rw [l0, Gs.1.2.2.2.1]; have := Gs.1; omega, by rw [q0, Gs.1.2.2.2.2.1]; have := Gs.1; omega⟩
  rw [← E2]
  have hA := x_allLoop (n + 1).toNat w2 (0, [], 0, 0) [] [] [] 0 (by show (n + 1 - 0).toNat ≤ (n + 1).toNat; omega) L2 M2 (by rw [f2 _ _ _ (by omega)]; exact e5) (Int.le_refl _) (Int.le_refl _)
  have eA : m_X44_all w2 (jn u) = jlpW (jc2 b_X44_all_2) [jn u, 1] w2 := by
    rw [em_X44_all]; unfold dm_X44_all
    rw [eu_X44_all_2]; unfold du_X44_all_2; rfl
  rw [eA]
  refine jE_bind.mpr (jE_mono hA fun q hq => ?_)
  obtain ⟨g1, g2⟩ := hq
  have g1' : jGw w2 q.1 (40 * n + 10) (5400 * n + 100) (fA w2 (jn u) (jn u + 1) c c) := g1.mono (by rw [l0]; show 40 * (n - 0) + 10 - 0 ≤ _; omega) (by rw [q0]; show 5400 * (n - 0) + 100 - 0 ≤ _; omega) fun _ _ z => z
  have bufw2 : jf w2 8 (jn u + 1) 0 = jf w 8 (jn u + 1) 0 := f2 _ _ _ (by omega)
  have nn2 : jn w2 = jn w := n2
  have fAT : ¬ fA w2 (jn u) (jn u + 1) c c T := fun z => by
    rcases z with z | z | z
    · rcases z with z | z | z
      · omega
      · omega
      · rw [bufw2] at z; omega
    · exact nc z
    · omega
  have Gall : jGw u q.1 (40 * n + 20) (5400 * n + 200) (rdX T c) := by
    refine ((e7.trans Gs (C := rdX T c) fun y _ z => ?_).trans g1' fun y hy z => ?_).mono (by omega) (by omega) fun _ _ z => z
    · rcases z with z | z
      · exact .inr (by omega)
      · exact .inl z
    · rcases z with z | z
      · exact z
      · rcases z with z | z | z
        · rcases z with z | z | z
          · omega
          · omega
          · rw [bufw2] at z; omega
        · exact .inr z
        · exact .inr (by omega)
  have qT : ∀ k, jf q.1 15 T k = jf w2 15 T k := fun k => g1'.2.2 _ _ _ (by omega) fAT
  have qT2 : ∀ k, ¬ k = 2 → jf q.1 15 T k = jf u 15 T k := fun k hk => by rw [qT, f2 _ _ _ (by omega), fT]
  cases hP : pvAll g n (n + 1).toNat 0 ((0, [], 0), [], [], []) with
  | inl e =>
    have g2' : rFl (jn u) e.1 e.2 q := by
      have := g2
      rw [show pvAll g n (n + 1).toNat 0 (((((0, [], 0, 0) : pS).1, ((0, [], 0, 0) : pS).2.1, ((0, [], 0, 0) : pS).2.2.1), [], [], []) : pvB) = _ from hP] at this
      exact this
    obtain ⟨r1, r2, r3, r4⟩ := g2'
    rw [r1]
    show jE (jth true _ _) _
    have eth : ∀ {α : Type} {A B : Option α}, jth true A B = A := rfl
    have q20 : 0 ≤ q.2.2 := r2.1
    rw [eth, if_pos (by rw [r2.2]; exact List.mem_singleton.mpr rfl), jf_neg (by omega), r3, r4, jck0_in q20]
    have G2 := jGw_wr (jGw_wr Gall (v2 := jp q.1 15 T 3 e.1) rfl (.inl (.inl rfl))) (v2 := jp (jp q.1 15 T 3 e.1) 15 T 4 e.2) rfl (.inl (.inl rfl))
    refine jS_end ⟨G2, ?_, fun k hk => ?_, rfl, r2, ⟨?_, ?_⟩, ?_, ?_⟩
    · rw [jf_neg (by omega), jf_neg (by omega), qT]; exact p2
    · rw [jf_neg (by omega), jf_neg (by omega)]; exact qT2 k (by omega)
    · rw [jf_neg (by omega), jf_pos ⟨rfl, rfl, rfl⟩]
    · rw [jf_pos ⟨rfl, rfl, rfl⟩]
    · rw [jf_neg (by omega), jf_neg (by omega), qT2 5 (by omega)]; exact h8
    · rw [jf_neg (by omega), jf_neg (by omega), qT2 6 (by omega)]; exact h9
  | inr z =>
    have g2' : q.2.1 = false ∧ jf q.1 53 (jn u) 10 = c ∧ bkC q.1 c (jn u + 1) z.1.2.1 z.2.1 z.2.2.1 z.2.2.2 := by
      have := g2
      rw [show pvAll g n (n + 1).toNat 0 (((((0, [], 0, 0) : pS).1, ((0, [], 0, 0) : pS).2.1, ((0, [], 0, 0) : pS).2.2.1), [], [], []) : pvB) = _ from hP] at this
      exact this
    obtain ⟨r1, r2, r3⟩ := g2'
    rw [r1]
    show jE (jth false _ _) _
    rw [jth_ff]
    obtain ⟨w3, E3⟩ : ∃ w3, w3 = jp q.1 15 T 3 0 := ⟨_, rfl⟩
    obtain ⟨w4, E4⟩ : ∃ w4, w4 = jp w3 15 T 4 (-1) := ⟨_, rfl⟩
    obtain ⟨w5, E5⟩ : ∃ w5, w5 = jp w4 15 T 6 b := ⟨_, rfl⟩
    obtain ⟨w6, E6⟩ : ∃ w6, w6 = jp w5 15 T 5 c := ⟨_, rfl⟩
    obtain ⟨f3, p3, K3, N3, n3⟩ := jpF E3
    obtain ⟨f4, p4, K4, N4, n4⟩ := jpF E4
    obtain ⟨f5, p5, K5, N5, n5⟩ := jpF E5
    obtain ⟨f6, p6, K6, N6, n6⟩ := jpF E6
    have G6 := jGw_wr (jGw_wr (jGw_wr (jGw_wr Gall E3 (.inl (.inl rfl))) E4 (.inl (.inl rfl))) E5 (.inl (.inl rfl))) E6 (.inl (.inl rfl))
    have Gq : jGw q.1 w6 0 0 (fun z => z = T) := jGw_wr (jGw_wr (jGw_wr (jGw_wr jGw.rfl E3 (.inl rfl)) E4 (.inl rfl)) E5 (.inl rfl)) E6 (.inl rfl)
    have kq : jK q.1 T = 15 := by rw [g1'.K (by omega), K2]; exact kT
    have bP := (r3.bkP hlo).keep Gq fun z hz => by subst hz; exact ⟨nc, by rw [kq]; decide, fun q => by omega⟩
    rw [← E3, ← E4, show jf w4 15 T 5 = b by rw [f4 _ _ _ (by omega), f3 _ _ _ (by omega), qT2 5 (by omega)]; exact h8, ← E5, show jf w5 53 (jn u) 10 = c by rw [f5 _ _ _ (by omega), f4 _ _ _ (by omega), f3 _ _ _ (by omega)]; exact r2, ← E6, p6, jrd_in bP.1.1.1 bP.1.1.2.2, Option.bind_some, bP.2.2.2.2.1]
    refine jS_end ⟨G6, ?_, fun k hk => ?_, rfl, ⟨?_, ?_⟩, ⟨p6, ?_⟩, bP⟩
    · rw [f6 _ _ _ (by omega), f5 _ _ _ (by omega), f4 _ _ _ (by omega), f3 _ _ _ (by omega), qT]; exact p2
    · rw [f6 _ _ _ (by omega), f5 _ _ _ (by omega), f4 _ _ _ (by omega), f3 _ _ _ (by omega)]; exact qT2 k (by omega)
    · rw [f6 _ _ _ (by omega), f5 _ _ _ (by omega), f4 _ _ _ (by omega)]; exact p3
    · rw [f6 _ _ _ (by omega), f5 _ _ _ (by omega)]; exact p4
    · rw [f6 _ _ _ (by omega)]; exact p5
end jCread2
