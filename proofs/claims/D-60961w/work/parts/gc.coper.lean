/-! the component's operand -/
section jCoper
variable {s t u u0 u1 w v' : jS} {R x b a a' n p p' p0 q r k c f v y e d o z K S X Y X' Y' P Q pl lo lo' ln y0 eX eY f0 f1 f2 : Int} {g fl : Int → Int} {l m : List Int} {NL : List (List Int)} {W : wR4} {st st' : pS} {I I' L L1 L2 : pI} {A : Int → Prop} {OL : List pvO} {SL : List pvS} {qq : jS × Bool × Int} {zz : pvO} {ss : pvS}
/-- a sum goes on -/
theorem pvSum_lt (hb : byG g n) {q : qS} (p0 : 0 ≤ q.1) (p1 : q.1 ≤ n) {z : qS × pI} (h : pvSum g n q = .inr z) : q.1 < z.1.1 := by
  have sg : ∀ st z', 0 ≤ st.1 → st.1 ≤ n → sglF g n (gp g n 448) st 1 = .inr z' → st.1 < z'.1.1 := fun st z' h0 h1 hz => by
    have hw := wd_in hb h0 h1
    rw [sglF_eq] at hz
    by_cases c6 : (wd g n st.1).1 = 6
    · rw [if_pos c6] at hz; cases hz
    rw [if_neg c6] at hz
    by_cases c5 : ¬ ((wd g n st.1).1 = 5 ∧ ((wd g n st.1).2.1 = 45 ∨ (wd g n st.1).2.1 = 126 ∨ (wd g n st.1).2.1 = 40)) ∧ ¬ ((wd g n st.1).1 = 1 ∨ (wd g n st.1).1 = 7 ∨ (wd g n st.1).1 = 2 ∨ (wd g n st.1).1 = 3)
    · rw [if_pos c5] at hz; cases hz
    rw [if_neg c5] at hz
    have hlt : st.1 < (wd g n st.1).2.2.2 ∧ (wd g n st.1).2.2.2 ≤ n := by have := hw.2.2.2.1 c6; have := hw.1; omega
    by_cases cr : ((wd g n st.1).1 = 1 ∨ (wd g n st.1).1 = 7) ∧ ¬ rgO (nmO g (wd g n st.1).2.2.1 (wd g n st.1).2.2.2) = -1
    · rw [if_pos cr] at hz; cases hz
    rw [if_neg cr] at hz
    unfold sgR at hz
    rw [if_neg (by decide)] at hz
    by_cases cb : (wd g n st.1).1 = 5 ∧ (wd g n st.1).2.1 = 40
    · rw [if_pos cb] at hz
      have ok := (gp_ok hb 448 ((wd g n st.1).2.2.2, st.2) (by show 0 ≤ (wd g n st.1).2.2.2; omega) hlt.2).2.2.2 (1 + 1)
      rw [hz] at ok
      have := ok.1
      have : (wd g n st.1).2.2.2 ≤ z'.1.1 := this
      omega
    rw [if_neg cb] at hz
    by_cases cc : st.2.2.1 = 2000 ∨ st.2.2.2 = 60
    · rw [if_pos cc] at hz; cases hz
    rw [if_neg cc] at hz
    by_cases cu : (wd g n st.1).1 = 5
    · rw [if_pos cu] at hz
      have ok := (gp_ok hb 448 ((wd g n st.1).2.2.2, st.2.1, st.2.2.1 + 1, st.2.2.2 + 1) (by show 0 ≤ (wd g n st.1).2.2.2; omega) hlt.2).2.2.1 (1 + 1)
      cases hG : (gp g n 448).2.2.1 ((wd g n st.1).2.2.2, st.2.1, st.2.2.1 + 1, st.2.2.2 + 1) (1 + 1) with
      | inl e => rw [hG] at hz; cases hz
      | inr z2 =>
        rw [hG] at hz ok
        have e := Sum.inr.inj hz
        have := ok.1
        have h3 : (wd g n st.1).2.2.2 ≤ z2.1.1 := this
        rw [← e]; show st.1 < z2.1.1; omega
    rw [if_neg cu] at hz
    by_cases c1 : (wd g n st.1).1 = 1
    · rw [if_pos c1] at hz
      by_cases c150 : nmIx st.2.1 (nmO g (wd g n st.1).2.2.1 (wd g n st.1).2.2.2) = 150
      · rw [if_pos c150] at hz; cases hz
      · rw [if_neg c150] at hz
        rw [← Sum.inr.inj hz]; exact hlt.1
    · rw [if_neg c1] at hz
      rw [← Sum.inr.inj hz]; exact hlt.1
  unfold pvSum at h
  have e0 : (gp g n 450).1 (q.1, q.2.1, q.2.2, 0) 1 1 = sumF (gp g n 449) (q.1, q.2.1, q.2.2, 0) 1 1 := rfl
  rw [e0] at h
  unfold sumF at h
  have e1 : (gp g n 449).2.2.1 (q.1, q.2.1, q.2.2, 0) 1 = sglF g n (gp g n 448) (q.1, q.2.1, q.2.2, 0) 1 := rfl
  rw [e1] at h
  cases hS : sglF g n (gp g n 448) (q.1, q.2.1, q.2.2, 0) 1 with
  | inl e => rw [hS] at h; cases h
  | inr z1 =>
    rw [hS] at h
    have l1 := sg _ _ p0 p1 hS
    have l1' : q.1 < z1.1.1 := l1
    have ok1 := (gp_ok hb 449 (q.1, q.2.1, q.2.2, 0) p0 p1).2.2.1 1
    rw [e1, hS] at ok1
    have ok2 := (gp_ok hb 449 z1.1 (by omega) ok1.2.1).2.1 z1.2 1 1
    have h' : (match (gp g n 449).2.1 z1.2 z1.1 1 1 with | .inl e => .inl e | .inr z => .inr ((z.1.1, z.1.2.1, z.1.2.2.1), z.2) : fE ⊕ (qS × pI)) = .inr z := h
    cases hM : (gp g n 449).2.1 z1.2 z1.1 1 1 with
    | inl e => rw [hM] at h'; cases h'
    | inr z2 =>
      rw [hM] at h' ok2
      have e := Sum.inr.inj h'
      have := ok2.1
      rw [← e]; show q.1 < z2.1.1; omega
theorem pvVal_lt (hb : byG g n) {q : qS} (p0 : 0 ≤ q.1) (p1 : q.1 ≤ n) (c6 : ¬ (wd g n q.1).1 = 6) {v : qS × pI × Int × Int × Int} (h : pvVal g n q = .inr v) : q.1 < v.1.1 := by
  have hw := wd_in hb p0 p1
  have hlt : ¬ (wd g n q.1).1 = 0 → q.1 < (wd g n q.1).2.2.2 ∧ (wd g n q.1).2.2.2 ≤ n := fun c0 => by have := hw.2.2.2.1 c6; have := hw.1; omega
  unfold pvVal at h
  by_cases c37 : (wd g n q.1).1 = 5 ∧ (wd g n q.1).2.1 = 37
  · rw [if_pos c37] at h
    have hl := hlt (by omega)
    cases hM : pvMarked g n ((wd g n q.1).2.2.2, q.2) with
    | inl e => rw [hM] at h; cases h
    | inr z =>
      rw [hM] at h
      obtain ⟨o1, o2, -⟩ := pvMarked_ok (q := ((wd g n q.1).2.2.2, q.2)) hb (by show 0 ≤ (wd g n q.1).2.2.2; omega) hl.2 hM
      have o1' : (wd g n q.1).2.2.2 ≤ z.1.1 := o1
      have := pvTail_ok hb (by omega) o2 h
      omega
  rw [if_neg c37] at h
  by_cases cm : ((wd g n q.1).1 = 5 ∧ (wd g n q.1).2.1 = 40) ∧ ¬ pvReg g (wd g n (wd g n q.1).2.2.2) = -1
  · rw [if_pos cm] at h
    have hl := hlt (by omega)
    by_cases c2 : q.2.2 = 2000
    · rw [if_pos c2] at h; cases h
    rw [if_neg c2] at h
    cases hB : pvBased g n (wd g n q.1).2.2.2 with
    | inl e => rw [hB] at h; cases h
    | inr z =>
      rw [hB] at h
      have := pvBased_ok hb (by omega) hl.2 hB
      rw [← Sum.inr.inj h]; show q.1 < z.2; omega
  rw [if_neg cm] at h
  cases hS : pvSum g n q with
  | inl e => rw [hS] at h; cases h
  | inr z =>
    rw [hS] at h
    have l1 := pvSum_lt hb p0 p1 hS
    have o := pvSum_ok hb p0 p1 hS
    have := pvTail_ok hb (by omega) o.2.1 h
    omega
theorem cF.any (h : cF u w R x b b X Y) : cF u w R x b S X Y := ⟨h.1, h.2.1, fun c y k hy z z1 _ => h.2.2.1 c y k hy z z1 (by omega), h.2.2.2⟩
theorem cFm.any (h : cFm u R x b b g n p f pl qq) : cFm u R x b S g n p f pl qq := ⟨h.1, h.2.1, h.2.2.mono (Int.le_refl _) (Int.le_refl _) fun y _ z => by
  rcases z with z | z | z
  · exact .inl z
  · exact .inr (.inl z)
  · exact .inr (.inl (by omega))⟩
theorem cF.wr (h : cF u w R x b S X Y) (k : jGw w v' 0 0 fun z => (b ≤ z ∧ z ≤ b + 5) ∨ z = S) (hR : ¬ (b ≤ R ∧ R ≤ b + 5) ∧ R < jn u ∧ ¬ R = S) (hx : ¬ (b ≤ x ∧ x ≤ b + 5) ∧ x < jn u ∧ ¬ x = S) : cF u v' R x b S X Y := by
  obtain ⟨⟨h1, h2, h3, h4, h5, h6⟩, h7, h8, h9, h10⟩ := h
  obtain ⟨⟨k1, k2, k3, k4, k5, k6⟩, k7, k8⟩ := k
  refine ⟨⟨by omega, by omega, by omega, k4.trans h4, k5.trans h5, k6.trans h6⟩, fun y hy => ⟨((k7 y (by omega)).1).trans (h7 y hy).1, ((k7 y (by omega)).2).trans (h7 y hy).2⟩, fun c y j hy z z1 z2 => ?_, ?_, fun j hj => ?_⟩
  · rw [k8 c y j (by omega) (by omega)]; exact h8 c y j hy z z1 z2
  · rw [k8 8 x 0 (by omega) (by omega)]; exact h9
  · rw [k8 53 R j (by omega) (by omega)]; exact h10 j hj
theorem bkI.no (B : bkI u b) (h : jK u z = 53 ∨ jK u z = 8 ∨ jK u z = 62 ∨ jK u z = 63) : ¬ (b ≤ z ∧ z ≤ b + 5) := fun q => by
  obtain ⟨⟨e1, e2, e3⟩, -, ⟨a1, a2⟩, ⟨b1, b2⟩, ⟨c1, c2⟩, ⟨d1, d2⟩, f1, f2⟩ := B
  have : z = b ∨ z = b + 1 ∨ z = b + 2 ∨ z = b + 3 ∨ z = b + 4 ∨ z = b + 5 := by omega
  rcases this with q | q | q | q | q | q <;> rw [q] at h <;> omega
theorem opC.gw (h : opC u x y zz) (k : jGw u w X Y A) (hA : ∀ z, A z → jK u z = 16 ∨ jK u z = 1024 ∨ jK u z = 1025 ∨ jK u z = 62 ∨ jK u z = 53) (hx : x < jn u ∧ jK u x = 8) : opC w x y zz := by
  obtain ⟨⟨h0, h1, h2⟩, h3, h4, h5⟩ := h
  have ny : ¬ A y := fun z => by have := hA _ z; omega
  have F : ∀ j, jf w 63 y j = jf u 63 y j := fun j => k.2.2 _ _ _ h1 ny
  obtain ⟨p1, p2⟩ := h4.keep k (fun z => by have := hA _ z; have := h4.1.2.2; omega) (fun z => by have := hA _ z; have := h4.2.2.1.2.2; omega)
  have := k.1.1
  refine ⟨⟨h0, by omega, by rw [k.K h1]; exact h2⟩, ⟨by rw [F]; exact h3.1, by rw [F]; exact h3.2.1, by rw [F]; exact h3.2.2.1, by rw [F]; exact h3.2.2.2.1, by rw [F]; exact h3.2.2.2.2.1, by rw [F]; exact h3.2.2.2.2.2⟩, by rw [F]; exact p1, ?_⟩
  rw [F, p2, k.K h4.2.2.1.2.1, k.2.2 8 x 0 hx.1 (fun z => by have := hA _ z; omega)]; exact h5
/-- the statement at hand is the last one -/
def stS (u : jS) (b : Int) (SL : List pvS) (S : Int) (ss : pvS) : Prop := (jf u 16 b 5 = SL.length + 1 ∧ SL.length + 1 ≤ 400) ∧ (∀ i : Nat, i < SL.length → b + 5 < jf u 1025 (b + 1) i ∧ ¬ jf u 1025 (b + 1) i = S ∧ stC u (jf u 1025 (b + 1) i) (SL.getD i sZ)) ∧ jf u 1025 (b + 1) SL.length = S ∧ b + 5 < S ∧ stC u S ss
def lS (u : jS) (R x b a S : Int) (g : Int → Int) (n : Int) (st : pS) (I : pI) (OL : List pvO) (SL : List pvS) (ss : pvS) : Prop := cR u R x b a g n st ∧ itC u b I ∧ opsC u b x OL ∧ stS u b SL S ss ∧ (I.length : Int) ≤ st.2.2.1
theorem stC.gw (h : stC u y ss) (k : jGw u w X Y A) (hA : ¬ A y) : stC w y ss := by
  obtain ⟨⟨h0, h1, h2⟩, h3⟩ := h
  have F : ∀ j, jf w 62 y j = jf u 62 y j := fun j => k.2.2 _ _ _ h1 hA
  have := k.1.1
  exact ⟨⟨h0, by omega, by rw [k.K h1]; exact h2⟩, by rw [F, F, F, F, F, F]; exact h3⟩
/-- an operand is put into the book -/
theorem x_o141 (C : cR u R x b a g n st) (hI : itC u b I) (hO : opsC u b x OL) (hS : stS u b SL S ss) (hl : (I.length : Int) ≤ st.2.2.1) (ho : opC u x y zz) (hy : b + 5 < y) (h8 : OL.length < 800) (hm : 0 ≤ ss.2.2.2.1 ∧ ss.2.2.2.1 ≤ 1000) : ∃ w, u_X44_operand_141 u R S y = some (w, false, 0) ∧ lS w R x b a S g n st I (OL ++ [zz]) SL (sMany ss (ss.2.2.2.1 + 1)) ∧ jGw u w 0 0 (fun z => z = b ∨ z = b + 2 ∨ z = S) ∧ ∀ j, jf w 53 R j = jf u 53 R j := by
  have B := C.2.1
  have hr := C.1.1
  have hx := C.1.row
  have eb := C.1.2.2.2.1
  obtain ⟨⟨e1, e2, e3⟩, ⟨g0, g1, g2, g3, g4⟩, ⟨a1, a2⟩, ⟨b1, b2⟩, ⟨c1, c2⟩, ⟨d1, d2⟩, k1, k2⟩ := B
  obtain ⟨⟨s0, s1⟩, s2, s3, s4, s5⟩ := hS
  obtain ⟨⟨t0, t1, t2⟩, t3⟩ := s5
  obtain ⟨o1, o2, o3⟩ := hO
  obtain ⟨⟨y0, y1, y2⟩, y3⟩ := ho
  rw [eu_X44_operand_141]; unfold du_X44_operand_141
  rw [eb, jrd_in e1 e3, Option.bind_some, jrd_in e1 e3, Option.bind_some, g1, o1]
  rw [show jas u 1024 63 (b + 2) OL.length y = some (jp u 1024 (b + 2) OL.length y) from by unfold jas; rw [if_pos ⟨by omega, b1, by omega, by omega, .inr ⟨y0, y2⟩⟩], Option.bind_some]
  have eR1 : jf (jp u 1024 (b + 2) (OL.length : Int) y) 53 R 10 = b := by rw [jf_neg (by omega)]; exact eb
  rw [eR1, jrd_in (s := jp u 1024 (b + 2) (OL.length : Int) y) e1 e3, Option.bind_some, jwr_in (s := jp u 1024 (b + 2) (OL.length : Int) y) e1 e3, Option.bind_some, jf_neg (by omega), o1, W32_in (by omega) (by omega), jrd_in (s := jp (jp u 1024 (b + 2) (OL.length : Int) y) 16 b 6 (OL.length + 1)) t0 t2, Option.bind_some, jwr_in (s := jp (jp u 1024 (b + 2) (OL.length : Int) y) 16 b 6 (OL.length + 1)) t0 t2, Option.bind_some, jf_neg (by omega), jf_neg (by omega), t3.2.2.2.1, W32_in (by omega) (by omega)]
  have G : jGw u (jp (jp (jp u 1024 (b + 2) (OL.length : Int) y) 16 b 6 (OL.length + 1)) 62 S 3 (ss.2.2.2.1 + 1)) 0 0 (fun z => z = b ∨ z = b + 2 ∨ z = S) := ((jGw.rfl.jp (.inl (.inr (.inl rfl)))).jp (.inl (.inl rfl))).jp (.inl (.inr (.inr rfl)))
  have bk : bkF u (jp (jp (jp u 1024 (b + 2) (OL.length : Int) y) 16 b 6 (OL.length + 1)) 62 S 3 (ss.2.2.2.1 + 1)) b 0 0 := ⟨G.mono (Int.le_refl _) (Int.le_refl _) fun z _ q => by
    rcases q with q | q | q
    · exact .inl q
    · exact .inr (.inr (.inl q))
    · exact .inr (.inr (.inr (.inr (.inr (.inl (by rw [q]; exact t2)))))), fun k hk => by rw [jf_neg (by omega), jf_neg (by omega), jf_neg (by omega)]⟩
  have hk : ∀ z, (z = b ∨ z = b + 2 ∨ z = S) → jK u z = 16 ∨ jK u z = 1024 ∨ jK u z = 1025 ∨ jK u z = 62 ∨ jK u z = 53 := fun z q => by
    rcases q with q | q | q <;> rw [q] <;> omega
  have hlen : ((OL ++ [zz]).length : Int) = OL.length + 1 := by rw [List.length_append]; rfl
  have f1025 : ∀ i, jf (jp (jp (jp u 1024 (b + 2) (OL.length : Int) y) 16 b 6 (OL.length + 1)) 62 S 3 (ss.2.2.2.1 + 1)) 1025 (b + 1) i = jf u 1025 (b + 1) i := fun i => by rw [jf_neg (by omega), jf_neg (by omega), jf_neg (by omega)]
  refine ⟨_, rfl, ⟨(C.bk bk).1, ?_, ⟨?_, by omega, fun i hi => ?_⟩, ⟨⟨?_, s1⟩, fun i hi => ?_, by rw [f1025]; exact s3, s4, ?_⟩, hl⟩, G, fun j => by rw [jf_neg (by omega), jf_neg (by omega), jf_neg (by omega)]⟩
  · exact hI.sm ⟨by rw [jf_neg (by omega), jf_neg (by omega), jf_neg (by omega)], fun i => ⟨by rw [jf_neg (by omega), jf_neg (by omega), jf_neg (by omega)], by rw [jf_neg (by omega), jf_neg (by omega), jf_neg (by omega)]⟩⟩
  · rw [jf_neg (by omega), jf_pos ⟨rfl, rfl, rfl⟩, hlen]
  · have hi' : i < OL.length + 1 := by omega
    by_cases c : i = OL.length
    · subst c
      rw [jf_neg (by omega), jf_neg (by omega), jf_pos ⟨rfl, rfl, rfl⟩, show (OL ++ [zz]).getD OL.length oZ = zz by simp]
      exact ⟨hy, opC.gw ⟨⟨y0, y1, y2⟩, y3⟩ G hk ⟨hx.2.1, hx.2.2.1⟩⟩
    · rw [jf_neg (by omega), jf_neg (by omega), jf_neg (by omega), show (OL ++ [zz]).getD i oZ = OL.getD i oZ by rw [List.getD_eq_getElem?_getD, List.getD_eq_getElem?_getD, List.getElem?_append_left (by omega)]]
      exact ⟨(o3 i (by omega)).1, (o3 i (by omega)).2.gw G hk ⟨hx.2.1, hx.2.2.1⟩⟩
  · rw [jf_neg (by omega), jf_neg (by omega), jf_neg (by omega)]; exact s0
  · rw [f1025]
    obtain ⟨r1, r2, r3⟩ := s2 i hi
    exact ⟨r1, r2, r3.gw G (fun q => by
      rcases q with q | q | q
      · omega
      · omega
      · exact r2 q)⟩
  · refine ⟨⟨t0, t1, t2⟩, ?_⟩
    unfold sMany
    refine ⟨?_, ?_, ?_, ?_, ?_, ?_⟩
    · rw [jf_neg (by omega), jf_neg (by omega), jf_neg (by omega)]; exact t3.1
    · rw [jf_neg (by omega), jf_neg (by omega), jf_neg (by omega)]; exact t3.2.1
    · rw [jf_neg (by omega), jf_neg (by omega), jf_neg (by omega)]; exact t3.2.2.1
    · rw [jf_pos ⟨rfl, rfl, rfl⟩]
    · rw [jf_neg (by omega), jf_neg (by omega), jf_neg (by omega)]; exact t3.2.2.2.2.1
    · rw [jf_neg (by omega), jf_neg (by omega), jf_neg (by omega)]; exact t3.2.2.2.2.2
end jCoper
