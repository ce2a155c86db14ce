/-! the linker: globals; what is told of them -/
set_option maxRecDepth 100000
section jGlobals
variable {s t u w r q' : jS} {a b g k m n p v l x y z c j X f i H C P Q P' Q' S : Int} {O : Int → Int → Int → Int → Int} {d e : Int → Int → Int} {E : Int → Int}
/-- both have read the units S, O -/
def lkB (C H S : Int) (O : Int → Int → Int → Int → Int) (s t : jS) : Prop := (0 ≤ C ∧ C + 15464 ≤ jn s) ∧ ordR C S s 6 ∧ rdUn C H S O s t 6 ∧ (∀ x, 0 ≤ x → x < 6 → jTt s 33 (fAt C x)) ∧ jf t 41 H 107 = S ∧ jf t 41 H 99 = 0
theorem lkB.kp (h : lkB C H S O s t) (hn : jn s ≤ jn u) (F : ∀ a, C + 4316 ≤ a → a < C + 15464 → jK u a = jK s a ∧ jN u a = jN s a ∧ ∀ c k, jf u c a k = jf s c a k) (F1 : jf u 39 (C + 4275) 5 = jf s 39 (C + 4275) 5) (F2 : ∀ k, jf u 1000 (C + 4275 + 13) k = jf s 1000 (C + 4275 + 13) k) (G : ∀ c a k, H + 170 ≤ a → a ≤ H + 188 → jf w c a k = jf t c a k) (G1 : jf w 41 H 107 = jf t 41 H 107) (G2 : jf w 41 H 99 = jf t 41 H 99) : lkB C H S O u w := by
  obtain ⟨⟨h1, h2⟩, ⟨h3, h4⟩, h5, h6, h7, h8⟩ := h
  refine ⟨⟨h1, by omega⟩, ⟨by rw [F1]; exact h3, fun v v0 v1 hv => by rw [F2]; exact h4 v v0 v1 hv⟩, fun v v0 v1 hv => ?_, fun x x0 x1 => ?_, by rw [G1]; exact h7, by rw [G2]; exact h8⟩
  · obtain ⟨z1, z2, z3, z4⟩ := h5 v v0 v1 hv
    exact ⟨z1.keep (fun a a0 a1 => (F a (by unfold fAt at a0; omega) (by unfold fAt at a1; omega)).2.1) (fun c a k a0 a1 => (F a (by unfold fAt at a0; omega) (by unfold fAt at a1; omega)).2.2 c k) z3.2.2.1, z2.cg z3 fun c a k q => G c a k (by unfold uPl at q; omega) (by unfold uPl at q; omega), z3, z4⟩
  · refine Lo_33 s u _ (h6 x x0 x1) hn fun a a0 a1 => ?_
    obtain ⟨k1, k2, k3⟩ := F a (by unfold fAt at a0; omega) (by unfold fAt at a1; omega)
    refine ⟨k1, k2, fun k => ?_⟩
    show jf u (jK u a) a k = jf s (jK s a) a k
    rw [k1]; exact k3 _ _
abbrev sy (O : Int → Int → Int → Int → Int) (x : Int) : Int → Int := O (x / 100) 4 (x % 100)
abbrev vsy (S : Int) (O : Int → Int → Int → Int → Int) (x : Int) : Prop := (0 ≤ x ∧ x < 600) ∧ sIn S (x / 100) ∧ x % 100 < O (x / 100) 2 1 0
abbrev gsy (S : Int) (O : Int → Int → Int → Int → Int) (x : Int) : Prop := vsy S O x ∧ ¬ sy O x 3 = 0
def syA (C x : Int) : Int := fAt C (x / 100) + 614 + 3 + 10 + 3 * (x % 100)
theorem lkB.sym (h : lkB C H S O s t) (hv : vsy S O x) : m_X35_symbol s (C + 4275) (x / 100) (x % 100) = some (syA C x) ∧ cSy s (syA C x) (sy O x) ∧ (0 ≤ syA C x ∧ jK s (syA C x) = 20 ∧ jf s 20 (syA C x) 0 = syA C x + 1 ∧ jTt s 37 (syA C x + 1)) ∧ vSy (sy O x) ∧ tUy t H x (sy O x) := by
  obtain ⟨⟨v0, v1⟩, v2, v3⟩ := hv
  obtain ⟨z1, z2, z3, z4⟩ := h.2.2.1 (x / 100) (by omega) (by omega) v2
  obtain ⟨-, -, ⟨-, -, n2, n3, -, -⟩, -, hs, -⟩ := id z3
  obtain ⟨-, -, T614, -⟩ := T33 (h.2.2.2.1 (x / 100) (by omega) (by omega))
  obtain ⟨-, -, -, ⟨-, -, -, -, T5⟩, -⟩ := T34 T614
  obtain ⟨-, t6⟩ := T5 (x % 100) (by omega) (by omega)
  have eA : C + 4275 + -4000 + 4041 + 1858 * (x / 100) + 614 + 3 + 10 + 3 * (x % 100) = syA C x := by unfold syA fAt; omega
  have y1 := z1.2.2.2.2.2.1 (x % 100) (by omega) v3
  have y2 := z2.2.2.2.1.2 (x % 100) (by omega) v3
  rw [show 100 * (x / 100) + x % 100 = x by omega] at y2
  refine ⟨by rw [e_X35_symbol _ _ _ _ ⟨by omega, by omega⟩ ⟨by omega, by omega⟩, eA], y1, T36 t6, hs (x % 100) (by omega) v3, y2⟩
/-- common ones so far: size, alignment -/
noncomputable def cmS (S : Int) (O : Int → Int → Int → Int → Int) (E : Int → Int) : Nat → Int → Int
  | 0, _ => 0
  | n + 1, g => if gsy S O n ∧ E n = g ∧ sy O n 0 = 5 then jmx (cmS S O E n g) (sy O n 2) else cmS S O E n g
noncomputable def cmA (S : Int) (O : Int → Int → Int → Int → Int) (E : Int → Int) : Nat → Int → Int
  | 0, _ => 1
  | n + 1, g => if gsy S O n ∧ E n = g ∧ sy O n 0 = 5 then jmx (cmA S O E n g) (sy O n 1) else cmA S O E n g
theorem cm_s (x0 : 0 ≤ x) : (cmS S O E (x + 1).toNat g = if gsy S O x ∧ E x = g ∧ sy O x 0 = 5 then jmx (cmS S O E x.toNat g) (sy O x 2) else cmS S O E x.toNat g) ∧ (cmA S O E (x + 1).toNat g = if gsy S O x ∧ E x = g ∧ sy O x 0 = 5 then jmx (cmA S O E x.toNat g) (sy O x 1) else cmA S O E x.toNat g) := by
  rw [show (x + 1).toNat = x.toNat + 1 by omega]
  constructor
  · show (if gsy S O ((x.toNat : Nat) : Int) ∧ E ((x.toNat : Nat) : Int) = g ∧ sy O ((x.toNat : Nat) : Int) 0 = 5 then jmx (cmS S O E x.toNat g) (sy O ((x.toNat : Nat) : Int) 2) else cmS S O E x.toNat g) = _
    rw [show ((x.toNat : Nat) : Int) = x by omega]
  · show (if gsy S O ((x.toNat : Nat) : Int) ∧ E ((x.toNat : Nat) : Int) = g ∧ sy O ((x.toNat : Nat) : Int) 0 = 5 then jmx (cmA S O E x.toNat g) (sy O ((x.toNat : Nat) : Int) 1) else cmA S O E x.toNat g) = _
    rw [show ((x.toNat : Nat) : Int) = x by omega]
theorem cm_cg {E' : Int → Int} : ∀ n : Nat, (∀ x : Int, 0 ≤ x → x < n → E' x = E x) → cmS S O E' n g = cmS S O E n g ∧ cmA S O E' n g = cmA S O E n g
  | 0, _ => ⟨rfl, rfl⟩
  | n + 1, h => by
    obtain ⟨h1, h2⟩ := cm_cg n fun x x0 x1 => h x x0 (by omega)
    have e := h n (by omega) (by omega)
    constructor
    · show (if gsy S O n ∧ E' n = g ∧ sy O n 0 = 5 then jmx (cmS S O E' n g) (sy O n 2) else cmS S O E' n g) = if gsy S O n ∧ E n = g ∧ sy O n 0 = 5 then jmx (cmS S O E n g) (sy O n 2) else cmS S O E n g
      rw [h1, e]
    · show (if gsy S O n ∧ E' n = g ∧ sy O n 0 = 5 then jmx (cmA S O E' n g) (sy O n 1) else cmA S O E' n g) = if gsy S O n ∧ E n = g ∧ sy O n 0 = 5 then jmx (cmA S O E n g) (sy O n 1) else cmA S O E n g
      rw [h2, e]
theorem cm_no : ∀ n : Nat, (∀ x : Int, 0 ≤ x → x < n → gsy S O x → ¬ E x = g) → cmS S O E n g = 0 ∧ cmA S O E n g = 1
  | 0, _ => ⟨rfl, rfl⟩
  | n + 1, h => by
    obtain ⟨h1, h2⟩ := cm_no n fun x x0 x1 => h x x0 (by omega)
    have hn : ¬ (gsy S O n ∧ E n = g ∧ sy O n 0 = 5) := fun z => h n (by omega) (by omega) z.1 z.2.1
    constructor
    · show (if gsy S O n ∧ E n = g ∧ sy O n 0 = 5 then _ else cmS S O E n g) = 0
      rw [if_neg hn, h1]
    · show (if gsy S O n ∧ E n = g ∧ sy O n 0 = 5 then _ else cmA S O E n g) = 1
      rw [if_neg hn, h2]
theorem cm_skip (n : Nat) : ∀ m : Nat, (∀ x : Int, n ≤ x → x < n + m → ¬ vsy S O x) → cmS S O E (n + m) g = cmS S O E n g ∧ cmA S O E (n + m) g = cmA S O E n g
  | 0, _ => ⟨rfl, rfl⟩
  | m + 1, h => by
    obtain ⟨h1, h2⟩ := cm_skip n m fun x x0 x1 => h x x0 (by omega)
    have hn : ¬ (gsy S O ((n + m : Nat) : Int) ∧ E ((n + m : Nat) : Int) = g ∧ sy O ((n + m : Nat) : Int) 0 = 5) := fun z => h ((n + m : Nat) : Int) (by omega) (by omega) z.1.1
    constructor
    · show (if gsy S O ((n + m : Nat) : Int) ∧ E ((n + m : Nat) : Int) = g ∧ sy O ((n + m : Nat) : Int) 0 = 5 then _ else cmS S O E (n + m) g) = _
      rw [if_neg hn, h1]
    · show (if gsy S O ((n + m : Nat) : Int) ∧ E ((n + m : Nat) : Int) = g ∧ sy O ((n + m : Nat) : Int) 0 = 5 then _ else cmA S O E (n + m) g) = _
      rw [if_neg hn, h2]
/-- how a global is, as the component tells it -/
def hC (h : Int) : Int := if h = 0 then 4 else if h = 1 then 0 else if h = 2 then 1 else if h = 3 then 2 else 3
/-- globals of symbols below n: e = 0 count; of symbols 1 global; of globals 2 first symbol, 3 how, 4 by which symbol -/
def gRc (C S : Int) (O : Int → Int → Int → Int → Int) (s : jS) (n : Int) (e : Int → Int → Int) : Prop := jf s 39 (C + 4275) 20 = e 0 0 ∧ (∀ x, x < n → vsy S O x → (jf s 1000 (C + 4275 + 14) x = if sy O x 3 = 0 then -1 else e 1 x) ∧ jf s 1000 (C + 4275 + 24) x = -1) ∧
  (∀ g, 0 ≤ g → g < e 0 0 → (jf s 1000 (C + 4275 + 15) g = e 2 g / 100 ∧ jf s 1000 (C + 4275 + 16) g = e 2 g % 100) ∧ jf s 1000 (C + 4275 + 17) g = hC (e 3 g) ∧ (e 3 g = 1 → jf s 1000 (C + 4275 + 18) g = e 4 g / 100 ∧ jf s 1000 (C + 4275 + 19) g = e 4 g % 100) ∧ jf s 1000 (C + 4275 + 23) g = -1) ∧
  ∀ g, 0 ≤ g → g < e 0 0 → jf s 1000 (C + 4275 + 20) g = cmS S O (e 1) n.toNat g ∧ jf s 1000 (C + 4275 + 21) g = cmA S O (e 1) n.toNat g
def gRt (H S : Int) (O : Int → Int → Int → Int → Int) (t : jS) (n : Int) (e : Int → Int → Int) : Prop := jf t 41 H 81 = e 0 0 ∧ (∀ x, x < n → gsy S O x → jf t 1000 (H + 189) x = e 1 x) ∧
  ∀ g, 0 ≤ g → g < e 0 0 → jf t 1000 (H + 190) g = e 2 g ∧ jf t 1000 (H + 191) g = e 3 g ∧ (e 3 g = 1 → jf t 1000 (H + 192) g = e 4 g) ∧ (jf t 1000 (H + 193) g = 0 ∧ jf t 1000 (H + 194) g = 0)
/-- names of globals differ -/
def gDs (O : Int → Int → Int → Int → Int) (e : Int → Int → Int) : Prop := ∀ j g, 0 ≤ j → j < g → g < e 0 0 → ¬ sameNm (sy O (e 2 j)) (sy O (e 2 g))
def gVd (S : Int) (O : Int → Int → Int → Int → Int) (n : Int) (e : Int → Int → Int) : Prop := (0 ≤ e 0 0 ∧ e 0 0 ≤ n ∧ gDs O e) ∧ (∀ g, 0 ≤ g → g < e 0 0 → (gsy S O (e 2 g) ∧ e 2 g < n ∧ e 1 (e 2 g) = g) ∧ (e 3 g = 0 ∨ e 3 g = 1 ∧ (gsy S O (e 4 g) ∧ e 4 g < n ∧ e 1 (e 4 g) = g) ∧ 0 ≤ sy O (e 4 g) 0 ∧ sy O (e 4 g) 0 ≤ 4)) ∧ ∀ x, x < n → gsy S O x → 0 ≤ e 1 x ∧ e 1 x < e 0 0
/-- the global of a symbol's name, or the next number -/
def isF (O : Int → Int → Int → Int → Int) (e : Int → Int → Int) (x g : Int) : Prop := (0 ≤ g ∧ g ≤ e 0 0) ∧ (∀ j, 0 ≤ j → j < g → ¬ sameNm (sy O (e 2 j)) (sy O x)) ∧ (g < e 0 0 → sameNm (sy O (e 2 g)) (sy O x))
theorem isF_one (h : isF O e x g) (h' : isF O e x k) : g = k := by
  obtain ⟨⟨a0, a1⟩, a2, a3⟩ := h
  obtain ⟨⟨b0, b1⟩, b2, b3⟩ := h'
  by_cases c : g < k
  · exact absurd (a3 (by omega)) (b2 g a0 c)
  · by_cases c' : k < g
    · exact absurd (b3 (by omega)) (a2 k b0 c')
    · omega
def gAd (e : Int → Int → Int) (x g : Int) : Int → Int → Int := fun f k => if g = e 0 0 ∧ f = 0 ∧ k = 0 then g + 1 else if g = e 0 0 ∧ f = 2 ∧ k = g then x else if g = e 0 0 ∧ f = 3 ∧ k = g then 0 else e f k
def gB (e : Int → Int → Int) (x g : Int) : Int → Int → Int := dU (dU e 3 g 1) 4 g x
abbrev strg (O : Int → Int → Int → Int → Int) (x : Int) : Prop := sy O x 3 = 1 ∧ 0 ≤ sy O x 0 ∧ sy O x 0 ≤ 4
/-- one symbol more -/
def gS (O : Int → Int → Int → Int → Int) (e : Int → Int → Int) (x g : Int) : Int → Int → Int := dU (if strg O x then gB (gAd e x g) x g else gAd e x g) 1 x g
theorem gAd_no (h : ¬ (g = e 0 0 ∧ (f = 0 ∧ k = 0 ∨ (f = 2 ∨ f = 3) ∧ k = g))) : gAd e x g f k = e f k := by unfold gAd; rw [if_neg (by omega), if_neg (by omega), if_neg (by omega)]
theorem gAd_0 (h : g ≤ e 0 0) : gAd e x g 0 0 = if g = e 0 0 then g + 1 else e 0 0 := by
  unfold gAd
  by_cases c : g = e 0 0
  · rw [if_pos c, if_pos ⟨c, rfl, rfl⟩]
  · rw [if_neg c, if_neg (fun z => c z.1), if_neg (by omega), if_neg (by omega)]
theorem gAd_2 (h : g = e 0 0) : gAd e x g 2 g = x := by unfold gAd; rw [if_neg (by omega), if_pos ⟨h, rfl, rfl⟩]
theorem gAd_3 (h : g = e 0 0) : gAd e x g 3 g = 0 := by unfold gAd; rw [if_neg (by omega), if_neg (by omega), if_pos ⟨h, rfl, rfl⟩]
theorem gB_no (h : ¬ ((f = 3 ∨ f = 4) ∧ k = g)) : gB e x g f k = e f k := by unfold gB; rw [dU_no (by omega), dU_no (by omega)]
theorem gB_3 : gB e x g 3 g = 1 := by unfold gB; rw [dU_no (by omega), dU_at]
theorem gB_4 : gB e x g 4 g = x := by unfold gB; rw [dU_at]
theorem gVd.step (h : gVd S O x e) (hx : gsy S O x) (hf : isF O e x g) : gVd S O (x + 1) (gS O e x g) := by
  obtain ⟨⟨n0, n1⟩, h2, h3⟩ := h
  obtain ⟨⟨a0, a1⟩, a2, a3⟩ := hf
  have E0 := gAd_0 (x := x) a1
  have S0 : gS O e x g 0 0 = gAd e x g 0 0 := by
    unfold gS
    rw [dU_no (by omega)]
    split
    · exact gB_no (by omega)
    · rfl
  have S1 : ∀ k, gS O e x g 1 k = if k = x then g else e 1 k := fun k => by
    unfold gS
    by_cases c : k = x
    · rw [c, dU_at, if_pos rfl]
    · rw [dU_no (by omega), if_neg c]
      split
      · rw [gB_no (by omega), gAd_no (by omega)]
      · exact gAd_no (by omega)
  have S2 : ∀ k, gS O e x g 2 k = gAd e x g 2 k := fun k => by
    unfold gS
    rw [dU_no (by omega)]
    split
    · exact gB_no (by omega)
    · rfl
  have hge : e 0 0 ≤ gAd e x g 0 0 ∧ gAd e x g 0 0 ≤ e 0 0 + 1 ∧ g < gAd e x g 0 0 := by
    rw [E0]; split <;> omega
  refine ⟨⟨by rw [S0]; omega, by rw [S0]; omega, fun j i j0 j1 i1 => ?_⟩, fun j j0 j1 => ?_, fun k k1 hk => ?_⟩
  · rw [S0] at i1
    rw [S2, S2]
    by_cases c : i < e 0 0
    · rw [gAd_no (by omega), gAd_no (by omega)]; exact n1.2 j i j0 j1 c
    · have hi : i = g ∧ g = e 0 0 := by rw [E0] at i1; split at i1 <;> omega
      rw [hi.1, gAd_2 hi.2, gAd_no (by omega)]; exact a2 j j0 (by omega)
  · rw [S0] at j1
    rw [S2, S1]
    have old : j < e 0 0 → ((gsy S O (e 2 j) ∧ e 2 j < x ∧ e 1 (e 2 j) = j) ∧ (e 3 j = 0 ∨ e 3 j = 1 ∧ (gsy S O (e 4 j) ∧ e 4 j < x ∧ e 1 (e 4 j) = j) ∧ 0 ≤ sy O (e 4 j) 0 ∧ sy O (e 4 j) 0 ≤ 4)) := h2 j j0
    constructor
    · by_cases c : j < e 0 0
      · obtain ⟨⟨b1, b2, b3⟩, -⟩ := old c
        rw [gAd_no (by omega), if_neg (by omega)]
        exact ⟨b1, by omega, b3⟩
      · have hj : j = g ∧ g = e 0 0 := by rw [E0] at j1; split at j1 <;> omega
        rw [hj.1, gAd_2 hj.2, if_pos rfl]
        exact ⟨hx, by omega, rfl⟩
    · by_cases cs : strg O x ∧ j = g
      · refine .inr ?_
        have e3 : gS O e x g 3 j = 1 := by
          unfold gS; rw [dU_no (by omega), if_pos cs.1, cs.2, gB_3]
        have e4 : gS O e x g 4 j = x := by
          unfold gS; rw [dU_no (by omega), if_pos cs.1, cs.2, gB_4]
        rw [e3, e4, S1, if_pos rfl]
        exact ⟨rfl, ⟨hx, by omega, cs.2.symm⟩, cs.1.2.1, cs.1.2.2⟩
      · have e3 : gS O e x g 3 j = gAd e x g 3 j := by
          unfold gS; rw [dU_no (by omega)]
          split
          · exact gB_no (fun z => cs ⟨by assumption, z.2⟩)
          · rfl
        have e4 : gS O e x g 4 j = gAd e x g 4 j := by
          unfold gS; rw [dU_no (by omega)]
          split
          · exact gB_no (fun z => cs ⟨by assumption, z.2⟩)
          · rfl
        rw [e3, e4]
        by_cases c : j < e 0 0
        · obtain ⟨-, b⟩ := old c
          rw [gAd_no (by omega), gAd_no (by omega)]
          rcases b with b | ⟨b, ⟨b1, b2, b3⟩, b4⟩
          · exact .inl b
          · refine .inr ⟨b, ⟨b1, by omega, ?_⟩, b4⟩
            rw [S1, if_neg (by omega)]; exact b3
        · have hj : j = g ∧ g = e 0 0 := by rw [E0] at j1; split at j1 <;> omega
          rw [hj.1, gAd_3 hj.2]; exact .inl rfl
  · rw [S0, S1]
    by_cases c : k = x
    · rw [if_pos c]; omega
    · rw [if_neg c]
      have := h3 k (by omega) hk
      omega
theorem gVd.skip (h : gVd S O n e) (hm : n ≤ m) (hk : ∀ x, n ≤ x → x < m → ¬ vsy S O x) : gVd S O m e := by
  obtain ⟨⟨n0, n1⟩, h2, h3⟩ := h
  refine ⟨⟨n0, by omega, n1.2⟩, fun j j0 j1 => ?_, fun k k1 hv => ?_⟩
  · obtain ⟨⟨b1, b2, b3⟩, b⟩ := h2 j j0 j1
    refine ⟨⟨b1, by omega, b3⟩, b.imp id fun ⟨c1, ⟨c2, c3, c4⟩, c5⟩ => ⟨c1, ⟨c2, by omega, c4⟩, c5⟩⟩
  · by_cases c : k < n
    · exact h3 k c hv
    · exact absurd hv.1 (hk k (by omega) k1)
theorem gRc.skip (h : gRc C S O s n e) (n0 : 0 ≤ n) (hm : n ≤ m) (hk : ∀ x, n ≤ x → x < m → ¬ vsy S O x) : gRc C S O s m e := by
  obtain ⟨h1, h2, h3, h4⟩ := h
  refine ⟨h1, fun k k1 hv => ?_, h3, fun g g0 g1 => ?_⟩
  · by_cases c : k < n
    · exact h2 k c hv
    · exact absurd hv (hk k (by omega) k1)
  · obtain ⟨e1, e2⟩ := cm_skip (S := S) (O := O) (E := e 1) (g := g) n.toNat (m.toNat - n.toNat) fun x x0 x1 => hk x (by omega) (by omega)
    rw [show n.toNat + (m.toNat - n.toNat) = m.toNat by omega] at e1 e2
    rw [e1, e2]; exact h4 g g0 g1
theorem gRt.skip (h : gRt H S O t n e) (hm : n ≤ m) (hk : ∀ x, n ≤ x → x < m → ¬ vsy S O x) : gRt H S O t m e := by
  obtain ⟨h1, h2, h3⟩ := h
  refine ⟨h1, fun k k1 hv => ?_, h3⟩
  by_cases c : k < n
  · exact h2 k c hv
  · exact absurd hv.1 (hk k (by omega) k1)
end jGlobals
