/-! the words' objects where the heap grows; names and bounds; registers' names -/
section jWgrow
variable {s t u : jS} {W V p q r : Int} {A : Int → Prop} {l : List Int}
/-- bounds and names of the kinds -/
def pWn (s : jS) (W : Int) : Prop := 0 ≤ W ∧ W + 27 ≤ jn s ∧ ∀ k : Nat, k < 75 → jf s 11 (jf s 1008 (W + 23) k) 0 = jc s (73 + k : Nat) ∧ jf s 11 (jf s 1008 (W + 23) k) 5 < jn s ∧ (48 ≤ k → jf s 11 (jf s 1008 (W + 23) k) 6 < jn s) ∧ ∀ e : Nat, e < 4 → (cFd k e).1 = 6 ∨ (cFd k e).1 = 12 ∨ (cFd k e).1 = 14 → jf s (cFd k e).1 (jf s 1007 (jf s 11 (jf s 1008 (W + 23) k) 5) e) 0 < jn s
theorem pFA.gw {f : Int} {d : Nat × Int × List Int} (h : pFA s f d) (g : jGw s t p q A) (hA : ∀ a, A a → jK s a = 8 ∨ jK s a = 1001) (hb : d.1 = 6 ∨ d.1 = 12 ∨ d.1 = 14 → jf s d.1 f 0 < jn s) : pFA t f d ∧ (∀ c k, jf t c f k = jf s c f k) := by
  obtain ⟨f0, f1, f2, h⟩ := h
  have hn := g.n
  have hd : d.1 = 4 ∨ d.1 = 5 ∨ d.1 = 6 ∨ d.1 = 12 ∨ d.1 = 14 := by
    rcases h with h | h | h
    · exact .inl h.1
    · exact .inr (.inl h.1)
    · exact .inr (.inr h.1)
  have e : ∀ c k, jf t c f k = jf s c f k := fun c k => g.2.2 _ _ _ f1 fun z => by have := hA _ z; omega
  refine ⟨⟨f0, by omega, by rw [g.K f1]; exact f2, ?_⟩, e⟩
  rcases h with h | h | ⟨c, h1, h2, h3, h4, h5⟩
  · refine .inl ⟨h.1, ?_, ?_⟩
    · rw [e]; exact h.2.1
    · rw [e]; exact h.2.2
  · refine .inr (.inl ⟨h.1, ?_⟩)
    rw [e]; exact h.2
  · have hb' := hb c
    refine .inr (.inr ⟨c, by rw [e]; exact h1, by rw [e]; exact h2, by rw [e, g.K hb']; exact h3, by rw [e, g.N hb']; exact h4, fun i hi => ?_⟩)
    rw [e, g.2.2 _ _ _ hb' fun z => by have := hA _ z; omega]; exact h5 i hi
theorem pWd.gw (h : pWd s W) (n : pWn s W) (g : jGw s t p q A) (hA : ∀ a, A a → (jK s a = 8 ∨ jK s a = 1001) ∧ (a < W + 23 ∨ W + 25 < a)) : pWd t W ∧ pWn t W := by
  obtain ⟨h1, h2⟩ := h
  obtain ⟨n0, n1, n2⟩ := n
  have hn := g.n
  have e8 : ∀ k, jf t 1008 (W + 23) k = jf s 1008 (W + 23) k := fun k => g.2.2 _ _ _ (by omega) fun z => by have := hA _ z; omega
  have hA' : ∀ a, A a → jK s a = 8 ∨ jK s a = 1001 := fun a z => (hA a z).1
  have key : ∀ k : Nat, k < 75 → pKA t (jf s 1008 (W + 23) k) k ∧ (∀ j, jf t 11 (jf s 1008 (W + 23) k) j = jf s 11 (jf s 1008 (W + 23) k) j) ∧ (∀ j, jf t 1007 (jf s 11 (jf s 1008 (W + 23) k) 5) j = jf s 1007 (jf s 11 (jf s 1008 (W + 23) k) 5) j) ∧ ∀ e : Nat, e < 4 → ¬ (cFd k e).1 = 0 → ∀ c j, jf t c (jf s 1007 (jf s 11 (jf s 1008 (W + 23) k) 5) e) j = jf s c (jf s 1007 (jf s 11 (jf s 1008 (W + 23) k) 5) e) j := by
    intro k hk
    obtain ⟨a1, a2, a3, a4, a5, a6, a7, a8, a9, a10⟩ := h1 k hk
    obtain ⟨b1, b2, b3, b4⟩ := n2 k hk
    have hK : jK s (jf s 1008 (W + 23) k) = 11 := a1.2.2.1
    have e11 : ∀ j, jf t 11 (jf s 1008 (W + 23) k) j = jf s 11 (jf s 1008 (W + 23) k) j := fun j => g.2.2 _ _ _ a1.2.1 fun z => by have := hA' _ z; omega
    have e7 : ∀ j, jf t 1007 (jf s 11 (jf s 1008 (W + 23) k) 5) j = jf s 1007 (jf s 11 (jf s 1008 (W + 23) k) 5) j := fun j => g.2.2 _ _ _ b2 fun z => by have := hA' _ z; omega
    have eF : ∀ e : Nat, e < 4 → ¬ (cFd k e).1 = 0 → pFA t (jf s 1007 (jf s 11 (jf s 1008 (W + 23) k) 5) e) (cFd k e) ∧ ∀ c j, jf t c (jf s 1007 (jf s 11 (jf s 1008 (W + 23) k) 5) e) j = jf s c (jf s 1007 (jf s 11 (jf s 1008 (W + 23) k) 5) e) j := fun e he z => ((a9 e he).2 z).gw g hA' (b4 e he)
    refine ⟨?_, e11, e7, fun e he z => (eF e he z).2⟩
    unfold pKA
    simp only [e11]
    refine ⟨⟨a1.1, by have := a1.2.1; omega, by rw [g.K a1.2.1]; exact a1.2.2.1, fun q => absurd q (by decide)⟩, a2, a3, a4, a5, a6, by rw [g.K b2]; exact a7, by rw [g.N b2]; exact a8, fun e he => ?_, fun q => ?_⟩
    · rw [e7]
      exact ⟨(a9 e he).1, fun z => (eF e he z).1⟩
    · obtain ⟨c1, c2, c3⟩ := a10 q
      have b3 := b3 q
      have e13 : ∀ j, jf t 13 (jf s 11 (jf s 1008 (W + 23) k) 6) j = jf s 13 (jf s 11 (jf s 1008 (W + 23) k) 6) j := fun j => g.2.2 _ _ _ b3 fun z => by have := hA' _ z; omega
      simp only [e13]
      exact ⟨c1, by rw [g.K b3]; exact c2, c3⟩
  refine ⟨⟨fun k hk => by rw [e8]; exact (key k hk).1, fun k hk e he c => ?_⟩, ⟨n0, by omega, fun k hk => ?_⟩⟩
  · obtain ⟨-, k1, k2, k3⟩ := key k hk
    rw [e8, k1, k2, k3 e he (by omega)]
    exact h2 k hk e he c
  · obtain ⟨-, k1, k2, k3⟩ := key k hk
    obtain ⟨b1, b2, b3, b4⟩ := n2 k hk
    simp only [e8, k1, g.c]
    refine ⟨b1, by omega, fun q => by have := b3 q; omega, fun e he c => ?_⟩
    rw [k2, k3 e he (by omega)]
    have := b4 e he c
    omega
/-! registers -/
def rgL (r : Int) : List Int := nmL (v_X38_registerOf r)
theorem tab_rg : ∀ r : Nat, r < 32 → 0 ≤ v_X38_registerOf r ∧ v_X38_registerOf r < 2560000 ∧ (rgL r).length ≤ 4 ∧ rgL r = (if r < 5 then cS (148 + r) else if r < 8 then cS 153 ++ decL (r - 5 : Int) else if r < 10 then cS 154 ++ decL (r - 8 : Int) else if r < 18 then cS 155 ++ decL (r - 10 : Int) else if r < 28 then cS 154 ++ decL (r - 16 : Int) else cS 153 ++ decL (r - 25 : Int)) := by decide
/-- what a text's maker leaves: a constant or a new string -/
def pRs (s u : jS) (a : Int) (l : List Int) (P Q : Int) : Prop := pSg u a l ∧ jGw s u P Q (fun _ => False) ∧ (jK u (jF u a 0) = 4001 ∨ jn s ≤ jF u a 0)
theorem pNs.rs {a P Q P' Q' : Int} (h : pNs s u a l P Q) (h1 : P ≤ P') (h2 : Q ≤ Q') : pRs s u a l P' Q' := ⟨h.1, h.2.2.2.1.mono h1 h2 (fun _ _ z => z), .inr h.2.2.1⟩
theorem c_reg2 (hC : pCon s) (h0 : 0 ≤ jn s) (hB : jBd s 6 150) {i : Nat} (hi : i < 202) (hl : (cS i).length = 1) {c : Int} (c0 : 0 ≤ c) (c1 : c < 32) : jE ((jnw s 8 4 (jdf 8)).bind fun q1 => (jck0 q1.2 (m_J1_init q1.1 q1.2)).bind fun q2 => (m_J1_append q2.1 q1.2 (jc q2.1 i)).bind fun q3 => (jct q3.1 24 q3.2 (m_J1_append_2 q3.1 q3.2 (W32 c))).bind fun q4 => (jct q4.1 24 q4.2 (m_J1_toString q4.1 q4.2)).bind fun q5 => some (q5.1, q5.2)) fun q => pRs s q.1 q.2 (cS i ++ decL c) 6 150 := by
  have hd := decL_le c
  obtain ⟨s1, t, e1, e2, h1⟩ := bc_new (M := 20) h0 (by omega) (hB.le (by omega) (by omega))
  rw [e1, Option.bind_some, e2, Option.bind_some, h1.2.1.c, jE_bind]
  refine jE_mono (bc_old h1 (hC.str hi) (by omega) (by rw [hl]; show (0 : Int) + 1 ≤ 20; omega) (hB.le (by omega) (by omega))) fun r ⟨r1, r2⟩ => ?_
  rw [List.nil_append] at r2
  rw [r1, jct_in r2.1.tt, W32_in (by omega) (by omega), jE_bind]
  refine jE_mono (bc_int r2 hC (by omega) (by omega) (by rw [hl]; omega) (hB.le (by omega) (by omega))) fun q ⟨q1, q2⟩ => ?_
  rw [q1, jct_in q2.1.tt, jE_bind]
  refine jE_mono (bc_end q2 (by omega) (hB.le (by omega) (by omega))) fun z hz => jE_some.mpr ?_
  exact hz.rs (by omega) (by omega)
theorem c_reg (hC : pCon s) (h0 : 0 ≤ jn s) (hB : jBd s 6 150) (r0 : 0 ≤ r) (r1 : r < 32) : jE (m_X2_register s r) fun q => pRs s q.1 q.2 (rgL r) 6 150 := by
  obtain ⟨a1, a2, a3, a4⟩ := tab_rg r.toNat (by omega)
  rw [show ((r.toNat : Nat) : Int) = r by omega] at a4
  rw [em_X2_register]; unfold dm_X2_register
  have con : ∀ i : Nat, i < 202 → rgL r = cS i → jE (some (s, jc s i)) fun q => pRs s q.1 q.2 (rgL r) 6 150 := fun i hi e => jE_some.mpr ⟨by rw [e]; exact hC.str hi, jGw.rfl.mono (by omega) (by omega) (fun _ _ z => z), .inl (hC.1 i hi).2.2⟩
  by_cases c5 : r < 5
  · rw [if_pos c5]
    rw [if_pos (by omega)] at a4
    have : r = 0 ∨ r = 1 ∨ r = 2 ∨ r = 3 ∨ r = 4 := by omega
    rcases this with rfl | rfl | rfl | rfl | rfl
    · exact con 148 (by omega) a4
    · exact con 149 (by omega) a4
    · exact con 150 (by omega) a4
    · exact con 151 (by omega) a4
    · exact con 152 (by omega) a4
  rw [if_neg c5]
  rw [if_neg (by omega)] at a4
  by_cases c8 : r < 8
  · rw [if_pos c8]
    rw [if_pos (by omega)] at a4
    rw [a4]; exact c_reg2 hC h0 hB (i := 153) (by omega) (by decide) (by omega) (by omega)
  rw [if_neg c8]
  rw [if_neg (by omega)] at a4
  by_cases c10 : r < 10
  · rw [if_pos c10]
    rw [if_pos (by omega)] at a4
    rw [a4]; exact c_reg2 hC h0 hB (i := 154) (by omega) (by decide) (by omega) (by omega)
  rw [if_neg c10]
  rw [if_neg (by omega)] at a4
  by_cases c18 : r < 18
  · rw [if_pos c18]
    rw [if_pos (by omega)] at a4
    rw [a4]; exact c_reg2 hC h0 hB (i := 155) (by omega) (by decide) (by omega) (by omega)
  rw [if_neg c18]
  rw [if_neg (by omega)] at a4
  by_cases c28 : r < 28
  · rw [if_pos c28]
    rw [if_pos (by omega)] at a4
    rw [a4]; exact c_reg2 hC h0 hB (i := 154) (by omega) (by decide) (by omega) (by omega)
  rw [if_neg c28]
  rw [if_neg (by omega)] at a4
  rw [a4]; exact c_reg2 hC h0 hB (i := 153) (by omega) (by decide) (by omega) (by omega)
end jWgrow
