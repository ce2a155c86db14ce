/-! check, object: on both sides -/
section jCheck
variable {s t u : jS} {C T O X A B n m k b v i x l w : Int} {g g' : Int → Int}
theorem fB.kp (h : fB s B g n) (e : ∀ c a k, B ≤ a → a < B + 2 → jf t c a k = jf s c a k) (hN : jN t (B + 1) = jN s (B + 1)) (x : jEx s t) : fB t B g n := by
  obtain ⟨⟨h1, h2, h3⟩, h4, h5⟩ := h
  refine ⟨⟨by rw [hN]; exact h1, h2, ?_⟩, h4, h5.ext x⟩
  rw [e 23 B 1 (by omega) (by omega), e 23 B 2 (by omega) (by omega)]
  rcases h3 with h3 | h3
  · exact .inl ⟨h3.1, h3.2.1, h3.2.2.1, fun i i0 i1 => by rw [e _ _ _ (by omega) (by omega)]; exact h3.2.2.2 i i0 i1⟩
  · exact .inr h3
theorem iB.kp (h : iB s B g n) (e : ∀ c a k, B ≤ a → a < B + 2 → jf t c a k = jf s c a k) (x : jEx s t) : iB t B g n := by
  obtain ⟨⟨h1, h2, h3, h4⟩, h5, h6⟩ := h
  exact ⟨⟨by rw [e _ _ _ (by omega) (by omega)]; exact h1, h2, h3, fun j j0 j1 => by rw [e _ _ _ (by omega) (by omega)]; exact h4 j j0 j1⟩, h5, h6.ext x⟩
/-- all files stay -/
theorem Fls.kp {r q : jS} (h : Fls s C t T) (hc : 0 ≤ C) (hn : C + 15464 ≤ jn s) {p z : Int} {A : Int → Prop} (k : jGw s r p z A) (x : jEx s r) (hA : ∀ a, A a → ¬ (C + 4011 ≤ a ∧ a < C + 4013) ∧ ∀ u, 0 ≤ u → u < 6 → ¬ (fAt C u + 1229 ≤ a ∧ a < fAt C u + 1231)) (e : ∀ c a k, c = 1000 ∧ T + 1 ≤ a ∧ a ≤ T + 3 ∨ c = 41 ∧ a = T ∧ k = 3 → jf q c a k = jf t c a k) : Fls r C q T := by
  refine ⟨fun u u0 u1 => ?_, ?_⟩
  · obtain ⟨g, n, h1, h2, h3⟩ := h.1 u u0 u1
    exact ⟨g, n, h1.kp (fun c a j a0 a1 => k.2.2 c a j (by unfold fAt at a1; omega) fun z => (hA a z).2 u u0 u1 ⟨a0, by omega⟩) (k.N (by unfold fAt; omega)) x, by rw [e _ _ _ (.inl ⟨rfl, by omega, by omega⟩)]; exact h2, fun j j0 j1 => by rw [e _ _ _ (.inl ⟨rfl, by omega, by omega⟩)]; exact h3 j j0 j1⟩
  · obtain ⟨g, n, h1, h2, h3⟩ := h.2
    exact ⟨g, n, h1.kp (fun c a j a0 a1 => k.2.2 c a j (by omega) fun z => (hA a z).1 ⟨by omega, by omega⟩) x, by rw [e _ _ _ (.inr ⟨rfl, rfl, rfl⟩)]; exact h2, fun j j0 j1 => by rw [e _ _ _ (.inl ⟨rfl, by omega, by omega⟩)]; exact h3 j j0 j1⟩
/-- the checked object -/
def kO (s : jS) (C : Int) (t : jS) (T : Int) : Prop := (∃ o, cOb s (C + 2134 + 614) o ∧ tOb t (T + 59) 1 o ∧ vOb o ∧ gOb o) ∧ jf s 17 (C + 2134) 6 = jf t 44 (T + 59) 23 ∧ ∃ g n, fB s (C + 2134 + 1229) g n
/-- the parts of all together -/
theorem T17 (h : jTt s 17 C) : (0 ≤ C ∧ jK s C = 1) ∧ jTt s 18 (C + 1) ∧ jTt s 31 (C + 258) ∧ jTt s 33 (C + 276) ∧ jTt s 33 (C + 2134) ∧ jTt s 42 (C + 3992) ∧ jTt s 49 (C + 4029) ∧ jTt s 53 (C + 4148) ∧ jTt s 55 (C + 4275) ∧ ∀ u, 0 ≤ u → u < 6 → jTt s 33 (fAt C u) :=
  ⟨⟨h.zz.1, h.zz.2.2.1⟩, (h.fld (k := 0) (o := 1) (by decide)).2, (h.fld (k := 1) (o := 258) (by decide)).2, (h.fld (k := 3) (o := 276) (by decide)).2, (h.fld (k := 4) (o := 2134) (by decide)).2, (h.fld (k := 5) (o := 3992) (by decide)).2, (h.fld (k := 6) (o := 4029) (by decide)).2, (h.fld (k := 7) (o := 4148) (by decide)).2, (h.fld (k := 8) (o := 4275) (by decide)).2, fun u u0 u1 => ((h.fld (k := 2) (o := 275) (t' := 12582919) (by decide)).2.elt (show jStA 12582919 = some (4041, 1858, 33) by decide) u0 u1).2⟩
def isOb (C b : Int) : Prop := b = C + 276 ∨ b = C + 2134 ∨ ∃ u, 0 ≤ u ∧ u < 6 ∧ b = fAt C u
def oLn (s : jS) (C : Int) : Prop := ∀ b, isOb C b → cObL s (b + 1) ∧ cObL s (b + 614) ∧ cObL s (b + 1239 + 3)
/-- only an object of the twin, what is thrown -/
def tXf (t q : jS) (T X : Int) : Prop := jSm t q ∧ ∀ c a k, ¬ (X ≤ a ∧ a < X + 34) → ¬ (c = 41 ∧ a = T ∧ k = 4) → jf q c a k = jf t c a k
theorem f_object2 (h : kO s C t T) (hk : jin k) (hw : jin w) : jE2 (m_X1_object s C l k w) (m_X37_object t T l k w) fun r q => r = q.2 ∧ q.1 = jp t 41 T 4 0 := by
  obtain ⟨⟨o, h1, h2, h3, h4⟩, h5, -⟩ := h
  rw [em_X1_object, em_X37_object]; unfold dm_X1_object dm_X37_object
  simp only [jls]
  have g2 : tOb (jp t 41 T 4 0) (T + 59) 1 o := h2.keep (fun a k _ _ => jf_neg (by omega)) h3
  by_cases c0 : l = 0
  · rw [if_pos c0, if_pos c0, c_qSec h1, t_qSec g2]; exact jE2_mk rfl rfl ⟨rfl, rfl⟩
  rw [if_neg c0, if_neg c0]
  by_cases c1 : l = 1
  · rw [if_pos c1, if_pos c1]
    by_cases d : w = 0
    · rw [if_pos d, if_pos d, c_qSt h1 h3 hk, t_qSt g2 h3]; exact jE2_mk rfl rfl ⟨rfl, rfl⟩
    · rw [if_neg d, if_neg d]; exact jE2_mk rfl rfl ⟨rfl, rfl⟩
  rw [if_neg c1, if_neg c1]
  by_cases c2 : l = 2
  · rw [if_pos c2, if_pos c2, c_qSy h1 h3 hw, t_qSy g2 h3 hw]; exact jE2_mk rfl rfl ⟨rfl, rfl⟩
  rw [if_neg c2, if_neg c2]
  by_cases c3 : l = 3
  · rw [if_pos c3, if_pos c3, c_qRl h1 h3, t_qRl g2 h3]; exact jE2_mk rfl rfl ⟨rfl, rfl⟩
  rw [if_neg c3, if_neg c3]
  by_cases c4 : l = 4
  · rw [if_pos c4, if_pos c4, c_qCt h1 h3 h4, t_qCt g2 h3 h4]; exact jE2_mk rfl rfl ⟨rfl, rfl⟩
  rw [if_neg c4, if_neg c4]
  by_cases c5 : l = 5
  · rw [if_pos c5, if_pos c5]
    by_cases d : w = 0
    · rw [if_pos d, if_pos d, e_X13_place, e_X40_place, Option.bind_some, Option.bind_some, jf_neg (by omega), h5]; exact jE2_mk rfl rfl ⟨rfl, rfl⟩
    · rw [if_neg d, if_neg d]; exact jE2_mk rfl rfl ⟨rfl, rfl⟩
  rw [if_neg c5, if_neg c5]
  exact jE2_mk rfl rfl ⟨rfl, rfl⟩
/-- a unit that is not there -/
theorem X1_there1 (k0 : 0 ≤ k) (k1 : k < 6) : m_X1_there s k = some (s, false, 0) := by
  rw [em_X1_there]; unfold dm_X1_there
  rw [(isU1 (s := s) (t := s) k0 k1).1, Option.bind_some, if_neg (by decide)]
theorem X1_there0 (h : ¬ (0 ≤ k ∧ k < 6)) (hB : 0 ≤ jn s ∧ jBd s 1 6) : m_X1_there s k = some (jmk s 2051 0 (fun _ => 0) 6, true, jn s) := by
  obtain ⟨n0, b1, b2⟩ := hB
  rw [em_X1_there]; unfold dm_X1_there
  rw [(isU0 (s := s) (t := s) h).1, Option.bind_some, if_pos rfl]
  have hx : jnx s 2051 = some (jmk s 2051 0 (fun _ => 0) 6, jn s) := by
    unfold jnx; exact if_pos ⟨n0, b1, b2⟩
  rw [hx, Option.bind_some, jck0_in n0]
/-- what a new exception leaves -/
theorem jmk_f {c a j : Int} {K z : Int} (h : ¬ a = jn s) : jf (jmk s K 0 (fun _ => 0) z) c a j = jf s c a j := by
  show (if c = K ∧ a = jn s then (0 : Int) else jf s c a j) = _
  rw [if_neg fun q => h q.2]
theorem kO.kp {r q : jS} (h : kO s C t T) (e : ∀ c a k, C + 2134 ≤ a → a < C + 3365 → jf r c a k = jf s c a k) (hN : ∀ a, C + 2134 ≤ a → a < C + 3365 → jN r a = jN s a) (x : jEx s r) (e' : ∀ c a k, T + 59 ≤ a → a < T + 79 → jf q c a k = jf t c a k) : kO r C q T := by
  obtain ⟨⟨o, h1, h2, h3, h4⟩, h5, g, n, h6⟩ := h
  exact ⟨⟨o, h1.keep (fun a a0 a1 => hN a (by omega) (by omega)) (fun c a k a0 a1 => e c a k (by omega) (by omega)) h3.2.2.1, h2.keep (fun a k a0 a1 => e' _ _ _ (by omega) (by omega)) h3, h3, h4⟩, by rw [e _ _ _ (by omega) (by omega), e' _ _ _ (by omega) (by omega)]; exact h5, g, n, h6.kp (fun c a k a0 a1 => e c a k (by omega) (by omega)) (hN _ (by omega) (by omega)) x⟩
/-- cells of ours are of living kinds -/
def cKs (s : jS) (C : Int) : Prop := ∀ a, C ≤ a → a < C + 15674 → jK s a < 3000
def CkQ (s : jS) (C : Int) (t : jS) (T : Int) (r q : jS) : Prop := Fls r C q T ∧ kO r C q T ∧ (jGw s r 1 6 (fun a => C + 2134 ≤ a ∧ a < C + 3992) ∧ jEx s r) ∧ tXf t q T (T + 59)
theorem f_check2 (hT : jTt s 17 C) (hL : oLn s C) (hF : Fls s C t T) (hk : kO s C t T) (hP : pCon s) (hK : cKs s C) (hB : 0 ≤ jn s ∧ jBd s 1 6) (hn : C + 15464 ≤ jn s) (hI : pTi t (T + 59)) : jE2 (m_X1_check s C k) (m_X37_check t T k) fun r q => CkQ s C t T r.1 q.1 ∧ ((0 ≤ k ∧ k < 6) ∧ r.2.1 = false ∧ r.2.2 = q.2 ∧ jf q.1 41 T 4 = 0 ∨ ¬ (0 ≤ k ∧ k < 6) ∧ r.2.1 = true ∧ jK r.1 r.2.2 = 2051 ∧ jf q.1 41 T 4 = 1) := by
  obtain ⟨⟨C0, -⟩, -, -, -, hTc, -, -, -, -, hTu⟩ := T17 hT
  have hA : ∀ a, (fun a => C + 2134 ≤ a ∧ a < C + 3992) a → ¬ (C + 4011 ≤ a ∧ a < C + 4013) ∧ ∀ u, 0 ≤ u → u < 6 → ¬ (fAt C u + 1229 ≤ a ∧ a < fAt C u + 1231) := fun a ha => ⟨by omega, fun u u0 u1 z => by unfold fAt at z; omega⟩
  rw [em_X1_check, em_X37_check]; unfold dm_X1_check dm_X37_check
  by_cases c : 0 ≤ k ∧ k < 6
  · obtain ⟨g, n, hb, hs, hr⟩ := hF.1 k c.1 c.2
    obtain ⟨l0, l1, -, -⟩ := hb.len
    obtain ⟨⟨o, h1, h2, h3, h4⟩, h5, gc, nc, hc⟩ := hk
    obtain ⟨hL1, hL2, hL3⟩ := hL (C + 2134) (.inr (.inl rfl))
    obtain ⟨q1, eq1, k1, f1⟩ := c_copy hb (hTu k c.1 c.2) hc hTc (by unfold fAt; omega)
    obtain ⟨z1, z2, z3, z4, z5, z6, z7⟩ := k1.1.1
    have e0 : ∀ c a j, ¬ (c = 41 ∧ a = T ∧ j = 4) → jf (jp t 41 T 4 0) c a j = jf t c a j := fun c a j hc => jf_neg (by omega)
    obtain ⟨q2, eq2, w1, w2, w3⟩ := T_give (g := g) (n := n) (x := k) (T := T) (t := jp t 41 T 4 0) (X := T + 59) (by rw [e0 _ _ _ (by omega)]; exact hs) (fun j j0 j1 => by rw [e0 _ _ _ (by omega)]; exact hr j j0 j1) l0 l1 c.1 c.2 (by omega)
    have w0 : ∀ c a j, ¬ (c = 41 ∧ a = T ∧ j = 4) → ¬ (c = 44 ∧ a = T + 59 ∧ j = 22) → ¬ (c = 1000 ∧ a = T + 59 + 21) → jf q2.1 c a j = jf t c a j := fun c a j i1 i2 i3 => (w1.2 c a j i2 i3).trans (e0 c a j i1)
    have wt : jf q2.1 41 T 4 = 0 := by rw [w1.2 _ _ _ (by omega) (by omega)]; exact jf_pos ⟨rfl, rfl, rfl⟩
    obtain ⟨-, -, -, -, -, -, hT41, -⟩ := T33 (hTc.ext k1.2)
    have C1 : rC q1.1 (C + 2134 + 1239) (C + 2134 + 1229) g n := ⟨f1, .inl (by omega), ⟨by rw [z3]; exact hB.1, by unfold jBd; rw [z3, z4, z5, z6]; exact hB.2⟩, hT41⟩
    have P1 : pCon q1.1 := hP.fx k1 fun a a0 a1 => hK a (by omega) (by omega)
    have N1 : ∀ b, cObL s b → cObL q1.1 b := fun b h x x0 x1 => by rw [k1.N]; exact h x x0 x1
    have I1 : pTi q2.1 (T + 59) := fun j hj => by
      obtain ⟨i1, i2, i3, i4⟩ := hI j hj
      have e23 : ∀ j, jf q2.1 1000 (T + 59 + 23) j = jf t 1000 (T + 59 + 23) j := fun j => w0 _ _ _ (by omega) (by omega) (by omega)
      have e22 : ∀ j, jf q2.1 1000 (T + 59 + 22) j = jf t 1000 (T + 59 + 22) j := fun j => w0 _ _ _ (by omega) (by omega) (by omega)
      simp only [e23, e22]
      exact ⟨i1, i2, i3, i4⟩
    obtain ⟨r, er, q, eq, ⟨r1, r2, ⟨⟨r3, r4⟩, r5⟩, r6, r7⟩, r8⟩ := o_read3 (O := C + 2134) (X := T + 59) C1 P1 (N1 _ hL3) (N1 _ hL2) (hT41.fld (k := 7) (o := 3) (by decide)).2 ⟨w3, hb.by, l0, l1, w2, I1⟩
    rw [X1_there1 c.1 c.2, Option.bind_some, (isU1 (s := t) (t := t) c.1 c.2).2, Option.bind_some, if_neg (show ¬ (1 : Int) = 0 by decide), eu_X37_check_13]; unfold du_X37_check_13
    simp only [jls]
    dsimp only [jth]
    rw [if_neg (show ¬ false = true by decide), jix_in c.1 c.2, Option.bind_some, show m_X1_copy s (C + 275 + 4041 + 1858 * k) (C + 2134) = some q1 from eq1, Option.bind_some, er, Option.bind_some, jf_pos ⟨rfl, rfl, rfl⟩, if_pos rfl, eq2, Option.bind_some, eq, Option.bind_some]
    have K : jGw s r.1 1 6 (fun a => C + 2134 ≤ a ∧ a < C + 3992) := ((k1.gk (lo' := C + 2134) (m' := 1858) (by omega) (by omega)).trans r3 (fun a _ h => h.elim id id)).mono (by omega) (by omega) fun a _ h => ⟨h.1, by omega⟩
    have E : jEx s r.1 := k1.2.trans r4
    have W : tXf t q.1 T (T + 59) := ⟨jSm.trans (jSm.trans jSm.rfl.jp w1.1) r6.1, fun c a j i1 i2 => by
      rw [r6.2 c a j (by omega) (by omega) (by unfold rD; omega)]
      exact w0 c a j i2 (by omega) (by omega)⟩
    have V : jf q.1 41 T 4 = 0 := by rw [r6.2 _ _ _ (by omega) (by omega) (by omega)]; exact wt
    have hj : jn q1.1 = jn s := z3
    have F1 : fB r.1 (C + 2134 + 1229) g n := f1.kp (fun c a j a0 a1 => r5 c a j (by omega) (.inr ⟨by omega, by omega⟩)) (r3.N (by omega)) r4
    refine jE2_mk rfl rfl ⟨⟨hF.kp C0 hn K E hA fun c a j h => W.2 c a j (by omega) (by omega), ⟨?_, r2, g, n, F1⟩, ⟨K, E⟩, W⟩, .inl ⟨c, rfl, r1, V⟩⟩
    rcases r7 with ⟨y1, y2, y3, y4⟩ | ⟨y1, y2, y3⟩
    · exact ⟨oR g, y2, y3, y4, r8 y1⟩
    · refine ⟨o, h1.keep (fun a a0 a1 => K.N (by omega)) (fun c a j a0 a1 => ?_) h3.2.2.1, h2.keep (fun a j a0 a1 => ?_) h3, h3, h4⟩
      · rw [y3 c a j (by omega) (by omega) (by omega) (by omega), k1.F (by omega)]
      · rw [y2.2 _ _ _ (by omega) (by omega)]; exact w0 _ _ _ (by omega) (by omega) (by omega)
  · rw [X1_there0 c hB, Option.bind_some, (isU0 (s := t) (t := t) c).2, Option.bind_some, if_pos rfl, eu_X37_check_13]; unfold du_X37_check_13
    simp only [jls]
    rw [jf_pos ⟨rfl, rfl, rfl⟩, if_neg (show ¬ (1 : Int) = 0 by decide)]
    have k1 : jGw s (jmk s 2051 0 (fun _ => 0) 6) 1 6 (fun a => C + 2134 ≤ a ∧ a < C + 3992) := jGw.rfl.mk
    refine jE2_mk rfl rfl ⟨⟨hF.kp C0 hn k1 jEx_mk hA fun c a k h => jf_neg (by omega), hk.kp (fun c a j a0 a1 => jmk_f (by omega)) (fun a a0 a1 => k1.N (by omega)) jEx_mk (fun c a j a0 a1 => jf_neg (by omega)), ⟨k1, jEx_mk⟩, jSm.rfl.jp, fun c a j h1 h2 => jf_neg (by omega)⟩, .inr ⟨c, rfl, ?_, jf_pos ⟨rfl, rfl, rfl⟩⟩⟩
    show (if jn s = jn s then (2051 : Int) else jK s (jn s)) = _
    rw [if_pos rfl]
end jCheck
