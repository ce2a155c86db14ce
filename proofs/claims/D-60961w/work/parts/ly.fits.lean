/-! the linker: a word gets another number, both sides *-/
set_option maxRecDepth 100000
section jLfs
variable {s t u w' s' t' : jS} {a b k m n nn o p q v l x c f g i j A H C K S X P Q rr n' sec w r how : Int} {O : Int → Int → Int → Int → Int} {d e z y : Int → Int → Int} {G B : Int → Int}
/-- a relocation's outcome in bytes -/
def rwE (C H : Int) (s t : jS) (sec A m : Int) (r : jS × Bool × Int) (q : jS × Int) : Prop := (q.2 = 0 ∧ lkX C H s t 1 6 r q.1) ∨ (q.2 = 1 ∧ r.2 = (false, 0) ∧ rwW C H s t sec A m r.1 q.1)
theorem rwE.out {r : jS × Bool × Int} {q : jS × Int} (g : rwE C H s t sec A m r q) (h : outI C H O s t d z n) (v : vLy d) (rg : rgP d z n k sec A m) : rlE C H O s t d z n r q := by
  rcases g with g | ⟨g1, g2, g3⟩
  · exact .inl g
  · exact .inr ⟨g1, g2, g3.1, g3.2.1, g3.out h v rg⟩
theorem rwE.pre {r : jS × Bool × Int} {q : jS × Int} (g : rwE C H s t' sec A m r q) (h : tW6 H t t') : rwE C H s t sec A m r q := by
  rcases g with ⟨g1, g2⟩ | ⟨g1, g2, g3⟩
  · exact .inl ⟨g1, g2.rs .rfl h.rw⟩
  · exact .inr ⟨g1, g2, g3.pre h⟩
/-- a place in both -/
def atR (C H : Int) (s t : jS) (x j sec A : Int) : Prop := (jf s 39 (C + 4275) 35 = x ∧ jf s 39 (C + 4275) 36 = j ∧ jf s 39 (C + 4275) 38 = A) ∧ jf t 41 H 113 = x ∧ jf t 41 H 115 = 4096 * sec + A
theorem atR.w6 (h : atR C H s t x j sec A) (g : tW6 H t t') : atR C H s t' x j sec A := ⟨h.1, by rw [g.2 _ _ _ (by omega)]; exact h.2.1, by rw [g.2 _ _ _ (by omega)]; exact h.2.2⟩
theorem rlS.w6 (h : rlS C H S O s t e d z G) (g : tW6 H t t') : rlS C H S O s t' e d z G := h.rw cRW.rfl g.rw
/-- refused, both -/
theorem x_no (h : rlS C H S O s t e d z G) (hb : jBd s 1 6) (ha : atR C H s t x j sec A) (x0 : 0 ≤ x) (x1 : x < 6) (j0 : 0 ≤ j) (j1 : j < 300) (hf : ¬ f = 0) : ∃ u e w, m_X35_need s (C + 4275) 0 f = some (u, true, e) ∧ m_X37_wrong t H f (300 * x + j) = some (w, 0) ∧ rwE C H s t sec A m (u, true, e) (w, 0) := by
  obtain ⟨u, e, w, e1, e2, hx, -⟩ := rl_bad h hb ha.1.1 ha.1.2.1 ha.2.1 x0 x1 j0 j1 hf
  exact ⟨u, e, w, e1, e2, .inl ⟨rfl, hx⟩⟩
/-- the word is one that is wanted: its number is tried -/
theorem x_fitL (h : rlS C H S O s t e d z G) (hb : jBd s 1 6) (ha : atR C H s t x j 0 A) (x0 : 0 ≤ x) (x1 : x < 6) (j0 : 0 ≤ j) (j1 : j < 300) (b0 : 0 ≤ A) (b1 : A + nn ≤ 4096) (hk : isKd w r) (hj : jin w) (hA : m_X35_wordAt s (C + 4275) nn = some w) (hh : hwK how) (hn : nn = 2 ∨ nn = 4) (ok : okW how nn w r) : ∃ r' q, m_X35_fit s (C + 4275) how nn i = some r' ∧ m_X37_fitted t H (300 * x + j) (4096 * 0 + A) w i = some q ∧ rwE C H s t 0 A nn r' q := by
  obtain ⟨k0, k1, ks, kl⟩ := tkW_k ok.2
  obtain ⟨-, d2, d3⟩ := c_fitR (i := i) h.2.1.1.1 hk hj hA hh hn
  obtain ⟨g1, g2⟩ := t_fittedR (rr := 300 * x + j) (at0 := 4096 * 0 + A) (i := i) h.2.1.2.1 hk hj (by omega) ks
  by_cases c : pImm r.toNat i = true
  · obtain ⟨t1, w1, e2⟩ := g2 c
    have len : (if fitW r w i % 4 = 3 then (4 : Int) else 2) = nn := by
      have := fitW_4 (w := w) (i := i) k0 k1
      have ok1 := ok.1
      have h48 : how = 44 ∨ how = 45 ↔ nn = 2 := by
        rcases hn with q | q
        · refine ⟨fun _ => q, fun _ => kl.mpr ?_⟩
          have n3 : ¬ w % 4 = 3 := fun z => by have := ok1.mp z; omega
          have := (isKd_t hk (by omega)).2.2.2.2 n3
          exact this
        · refine ⟨fun z => ?_, fun z => by omega⟩
          have w3 : w % 4 = 3 := ok1.mpr q
          have := (isKd_t hk (by omega)).2.2.2.1 w3
          have := kl.mp z
          omega
      split <;> omega
    have wb := fitW_in (r := r) (w := w) (i := i)
    obtain ⟨u, w', e3, e4, hw, -⟩ := x_puts (sec := 0) (l := C + 4275) (t := t1) (H := H) (p := fitW r w i) (q := fitW r w i) h.2.2.2 (by decide) (by decide) b0 b1 (by omega) (by omega) ⟨by have := wb.1; omega, by have := wb.2; omega⟩ ⟨by have := wb.1; omega, by have := wb.2; omega⟩ (fun _ _ _ => rfl)
    refine ⟨_, _, by rw [d3 ok c, ha.1.2.2, e3, Option.bind_some], by rw [e2, len, e4, Option.bind_some], .inr ⟨rfl, rfl, hw.pre w1⟩⟩
  · obtain ⟨t1, w1, e2⟩ := g1 c
    obtain ⟨u, e', w', e3, e4, hx⟩ := x_no (m := nn) (f := 8) (h.w6 w1) hb (ha.w6 w1) x0 x1 j0 j1 (by decide)
    exact ⟨_, _, d2 ok c u e' e3, e2 w' e4, hx.pre w1⟩
/-- the twin: a word's kind, whether it is wanted, and its number -/
noncomputable def tFit (t : jS) (H n how w i : Int) : Option (jS × Int) := (m_X38_kind t (H + 4) w).bind fun q2 => (m_X37_takes q2.1 how q2.2).bind fun v3 => if v3 = 0 then (m_X37_wrong q2.1 H 7 n).bind fun q4 => some (q4.1, Wz q4.2) else (m_X37_fitted q2.1 H n (jf q2.1 41 H 115) w i).bind fun q1 => some (q1.1, Wz q1.2)
/-- the word that the twin takes for one of nn bytes -/
noncomputable def twW (nn : Int) (B : Int → Int) : Int := if nn = 4 ∧ leN B 2 % 4 = 3 then W32 (leN B 4) else leN B 2
theorem twW_in (hB : ∀ k, 0 ≤ k → k < nn → 0 ≤ B k ∧ B k < 256) (hn : nn = 2 ∨ nn = 4) : jin (twW nn B) := by
  have l2 := leN_lo hB 2 (by omega)
  have e2 : (256 : Int) ^ 2 = 65536 := by decide
  unfold twW
  split
  · exact W32_lo _
  · exact ⟨by omega, by omega⟩
theorem w32_4 {v : Int} : W32 v % 4 = v % 4 := W32_mod_p v 2 (by decide)
theorem leN_24 : leN B 4 % 4 = leN B 2 % 4 := by rw [leN_4, leN_2]; omega
theorem kn48 (hk : isKd w r) (h4 : ¬ w % 4 = 3) : r = -1 ∨ 48 ≤ r := by
  by_cases c : r = -1
  · exact .inl c
  · exact .inr ((isKd_t hk c).2.2.2.2 h4)
/-- both take the same word, or none that is wanted -/
theorem x_word (hB : ∀ k, 0 ≤ k → k < nn → 0 ≤ B k ∧ B k < 256) (hn : nn = 2 ∨ nn = 4) (h44 : how = 44 ∨ how = 45 ↔ nn = 2) (hk : isKd (W32 (leN B nn.toNat)) r) (hk' : isKd (twW nn B) k) : (tkW how k ↔ okW how nn (W32 (leN B nn.toNat)) r) ∧ (tkW how k → twW nn B = W32 (leN B nn.toNat)) := by
  have l2 := leN_lo hB 2 (by omega)
  have e2 : (256 : Int) ^ 2 = 65536 := by decide
  rcases hn with rfl | rfl
  · have e : W32 (leN B (2 : Int).toNat) = leN B 2 := W32_in (by show _ ≤ leN B 2; omega) (by show leN B 2 ≤ _; omega)
    have tw : twW 2 B = leN B 2 := by unfold twW; rw [if_neg (by omega)]
    rw [e] at hk ⊢
    rw [tw] at hk' ⊢
    have := isKd_one hk hk'
    subst this
    refine ⟨⟨fun q => ⟨?_, q⟩, fun q => q.2⟩, fun _ => rfl⟩
    have r48 := (tkW_k q).2.2.2.mp (h44.mpr rfl)
    have k0 := (tkW_k q).1
    refine ⟨fun z => ?_, fun z => absurd z (by decide)⟩
    have := (isKd_t hk (by omega)).2.2.2.1 z
    omega
  · show (tkW how k ↔ okW how 4 (W32 (leN B 4)) r) ∧ (tkW how k → twW 4 B = W32 (leN B 4))
    have hk : isKd (W32 (leN B 4)) r := hk
    by_cases c : leN B 2 % 4 = 3
    · have tw : twW 4 B = W32 (leN B 4) := by unfold twW; rw [if_pos ⟨rfl, c⟩]
      rw [tw] at hk' ⊢
      have := isKd_one hk hk'
      subst this
      refine ⟨⟨fun q => ⟨⟨fun _ => rfl, fun _ => ?_⟩, q⟩, fun q => q.2⟩, fun _ => rfl⟩
      rw [w32_4, leN_24]; exact c
    · have tw : twW 4 B = leN B 2 := by unfold twW; rw [if_neg (fun q => c q.2)]
      rw [tw] at hk' ⊢
      have no : ¬ tkW how k := fun q => by
        have := tkW_k q
        rcases kn48 hk' c with z | z
        · omega
        · have := this.2.2.2.mpr z
          omega
      refine ⟨⟨fun q => absurd q no, fun q => ?_⟩, fun q => absurd q no⟩
      have := q.1.mpr rfl
      rw [w32_4, leN_24] at this
      exact absurd this c
theorem x_fitT (h : rlS C H S O s t e d z G) (hb : jBd s 1 6) (ha : atR C H s t x j 0 A) (x0 : 0 ≤ x) (x1 : x < 6) (j0 : 0 ≤ j) (j1 : j < 300) (b0 : 0 ≤ A) (b1 : A + nn ≤ 4096) (hB : ∀ k, 0 ≤ k → k < nn → 0 ≤ B k ∧ B k < 256) (hc : ∀ k, 0 ≤ k → k < nn → cBy s C 0 (A + k) = sb (B k)) (hh : hwK how) (hn : nn = 2 ∨ nn = 4) (h44 : how = 44 ∨ how = 45 ↔ nn = 2) : ∃ r' q, m_X35_fit s (C + 4275) how nn i = some r' ∧ tFit t H (300 * x + j) how (twW nn B) i = some q ∧ rwE C H s t 0 A nn r' q := by
  have hA := c_wordA h.2.2.2 ha.1.2.2 b0 b1 (by omega) hB hc
  have hj : jin (W32 (leN B nn.toNat)) := W32_lo _
  obtain ⟨r, e1, hk⟩ := c_kind h.2.1.1.1.1 hj
  obtain ⟨k, t1, -, e2, hk', w1, -⟩ := x_kind h.2.1 (twW_in hB hn)
  obtain ⟨xw, xe⟩ := x_word hB hn h44 hk hk'
  obtain ⟨y, e3, y01, y1⟩ := t_takes (t := t1) (r := k) hh
  unfold tFit
  rw [e2, Option.bind_some]
  dsimp only
  rw [e3, Option.bind_some]
  by_cases c : tkW how k
  · rw [if_neg (by have := y1.mpr c; omega), xe c, (ha.w6 w1).2.2]
    obtain ⟨r', q, e4, e5, hq⟩ := x_fitL (i := i) (h.w6 w1) hb (ha.w6 w1) x0 x1 j0 j1 b0 b1 hk hj hA hh hn (xw.mp c)
    rw [e4, e5, Option.bind_some]
    refine ⟨_, _, rfl, rfl, ?_⟩
    have : Wz q.2 = q.2 := by
      rcases hq with ⟨g, -⟩ | ⟨g, -⟩
      · rw [g, Wz_0]
      · rw [g, Wz_1]
    rw [this]
    exact hq.pre w1
  · obtain ⟨d1, -⟩ := c_fitR (i := i) h.2.1.1.1 hk hj hA hh hn
    obtain ⟨u, e', w', e4, e5, hx⟩ := x_no (m := nn) (f := 7) (h.w6 w1) hb (ha.w6 w1) x0 x1 j0 j1 (by decide)
    have y0 : y = 0 := by
      rcases y01 with q | q
      · exact q
      · exact absurd (y1.mp q) c
    rw [if_pos y0, e5, Option.bind_some, Wz_0]
    exact ⟨_, _, d1 (fun q => c (xw.mpr q)) u e' e4, rfl, hx.pre w1⟩
end jLfs
