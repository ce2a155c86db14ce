/-! the linker: a taken piece, both sides *-/
set_option maxRecDepth 100000
section jTk2
variable {s t u w s' t' q' : jS} {a b g k m n p v l x y0 c j X f i H C P Q P' Q' S Si w0 l0 c0 z0 N M : Int} {O : Int → Int → Int → Int → Int} {o : Int → Int → Int → Int} {d d' e z y y' : Int → Int → Int}
theorem lpO.bw {r : jS × Int} (h : lpO s (C + 4275 + 1) N M e r) : cBW C s r.1 1 9 := by
  rcases h with ⟨-, rfl⟩ | ⟨-, -, -, h⟩
  · exact cBW.rfl.mono (by omega) (by omega)
  · exact h.bw
/-- rows that laying pieces leaves alone -/
def jRb (C H : Int) (s t u w : jS) : Prop := ((∀ k, jf u 1000 (C + 4275 + 22) k = jf s 1000 (C + 4275 + 22) k) ∧ ∀ k, jf u 1002 (C + 4275 + 37) k = jf s 1002 (C + 4275 + 37) k) ∧ ∀ a k, a = H + 195 ∨ a = H + 202 → jf w 1000 a k = jf t 1000 a k
theorem jRb.rfl : jRb C H s t s t := ⟨⟨fun _ => Eq.refl _, fun _ => Eq.refl _⟩, fun _ _ _ => Eq.refl _⟩
theorem jRb.trans (h : jRb C H s t s' t') (g : jRb C H s' t' u w) : jRb C H s t u w := ⟨⟨fun k => (g.1.1 k).trans (h.1.1 k), fun k => (g.1.2 k).trans (h.1.2 k)⟩, fun a k ha => (g.2 a k ha).trans (h.2 a k ha)⟩
theorem jLb.rb (h : jLb C H s t u w) : jRb C H s t u w := ⟨⟨fun k => h.1.1 _ _ (by omega), h.1.2.2⟩, fun a k ha => h.2 _ _ (by omega)⟩
theorem tW6.rb (h : tW6 H t w) : jRb C H s t s w := ⟨⟨fun _ => Eq.refl _, fun _ => Eq.refl _⟩, fun a k ha => h.2 _ _ _ (by omega)⟩
/-- the sort of a taken place -/
def srT (k : Int) : Int := if k = 43 then 4 else if k = 19 then 1 else if k = 26 then 2 else 3
/-- what a piece that moves aims at, its size at first -/
def pcY (S : Int) (O : Int → Int → Int → Int → Int) (e d y z : Int → Int → Int) (k : Int) : Prop := (¬ d 5 k = 0 → d 1 (d 11 k) = 0 ∧ d 11 k = 4 * nIn S (z 3 k).toNat ∧ sIn S (z 3 k)) ∧ (mvK d k → kyO O e (y 1 (d 8 k)) = kyO O e (100 * z 3 k + O (z 3 k) 5 (z 2 k - 300 * z 3 k) 3) ∧ d 9 k = O (z 3 k) 5 (z 2 k - 300 * z 3 k) 4 ∧ d 15 k = grK d k ∧ (d 5 k = 2 → d 10 k = 1 → ¬ uW (O (z 3 k)) (z 0 k) / 128 % 32 = 0 ∧ ¬ uW (O (z 3 k)) (z 0 k) / 128 % 32 = 2) ∧ okT (O (z 3 k)) (z 2 k - 300 * z 3 k))
theorem pcY_1 {rr : Int} (e01 : d' 0 1 = d 0 1) (h0 : ¬ Si = 0 → d' 1 (d' 0 0 - 1) = 0 ∧ d' 0 0 - 1 = 4 * nIn S x.toNat ∧ sIn S x) : ¬ dPc d' Si m w0 l0 c0 z0 5 (d 0 1) = 0 → dPc d' Si m w0 l0 c0 z0 1 (dPc d' Si m w0 l0 c0 z0 11 (d 0 1)) = 0 ∧ dPc d' Si m w0 l0 c0 z0 11 (d 0 1) = 4 * nIn S (zP z (d 0 1) a n rr x 3 (d 0 1)).toNat ∧ sIn S (zP z (d 0 1) a n rr x 3 (d 0 1)) := by
  obtain ⟨h5, -, -, -, -, -, h11, -⟩ := dPc_at (d := d') (S := Si) (n := m) (w := w0) (l := l0) (c := c0) (z := z0)
  rw [e01] at h5 h11
  obtain ⟨-, -, -, z3⟩ := zP_at (z := z) (p := d 0 1) (a := a) (n := n) (rr := rr) (x := x)
  rw [h5, h11, z3, dPc_no (by omega) (by omega) (by omega)]; exact h0
theorem pcY.no {rr : Int} (e01 : d' 0 1 = d 0 1) (hS : Si = 0 ∨ Si = 4) (h0 : ¬ Si = 0 → d' 1 (d' 0 0 - 1) = 0 ∧ d' 0 0 - 1 = 4 * nIn S x.toNat ∧ sIn S x) : pcY S O e (dPc d' Si m w0 l0 c0 z0) y (zP z (d 0 1) a n rr x) (d 0 1) := ⟨pcY_1 e01 h0, fun hm => by
  have h5 := (dPc_at (d := d') (S := Si) (n := m) (w := w0) (l := l0) (c := c0) (z := z0)).1
  rw [e01] at h5
  unfold mvK at hm
  rw [h5] at hm; omega⟩
theorem pcY.mk (e01 : d' 0 1 = d 0 1) (h1 : kyO O e (y 1 l0) = kyO O e (100 * x + O x 5 j 3)) (h2 : c0 = O x 5 j 4) (h3 : Si = 2 → z0 = 1 → ¬ uW (O x) a / 128 % 32 = 0 ∧ ¬ uW (O x) a / 128 % 32 = 2) (h4 : okT (O x) j) (h0 : ¬ Si = 0 → d' 1 (d' 0 0 - 1) = 0 ∧ d' 0 0 - 1 = 4 * nIn S x.toNat ∧ sIn S x) : pcY S O e (dPc d' Si m w0 l0 c0 z0) y (zP z (d 0 1) a n (300 * x + j) x) (d 0 1) := ⟨pcY_1 e01 h0, fun hm => by
  obtain ⟨h5, -, -, h8, h9, h10, -, h15, -⟩ := dPc_at (d := d') (S := Si) (n := m) (w := w0) (l := l0) (c := c0) (z := z0)
  obtain ⟨z0', -, z2, z3⟩ := zP_at (z := z) (p := d 0 1) (a := a) (n := n) (rr := 300 * x + j) (x := x)
  rw [e01] at h5 h8 h9 h10 h15
  unfold grK
  rw [h5, h8, h9, h10, h15, z0', z2, z3, show 300 * x + j - 300 * x = j by omega]
  exact ⟨h1, h2, rfl, h3, h4⟩⟩
/-- all pieces -/
def pcYs (S : Int) (O : Int → Int → Int → Int → Int) (e d y z : Int → Int → Int) : Prop := (∀ k, 0 ≤ k → k < d 0 1 → pcY S O e d y z k) ∧ unP d
theorem pcYs.add (h : pcYs S O e d y z) (v : vLy d) (hd : dOnly d d') (hy : yKp d d' y y') (hn : pcY S O e (dPc d' Si m w0 l0 c0 z0) y' (zP z (d 0 1) a n f x) (d 0 1)) : pcYs S O e (dPc d' Si m w0 l0 c0 z0) y' (zP z (d 0 1) a n f x) := ⟨fun k k0 k1 => by
  have e01 : d' 0 1 = d 0 1 := hd.1 _ _ (by omega) (by omega) (by omega)
  rw [dPc_0, e01] at k1
  by_cases c : k = d 0 1
  · rw [c]; exact hn
  · have P : ∀ g, 5 ≤ g → ¬ g = 12 → ¬ g = 13 → dPc d' Si m w0 l0 c0 z0 g k = d g k := fun g g0 g1 g2 => by
      rw [dPc_no (by omega) (by omega) (by omega)]; exact hd.1 _ _ (by omega) g1 g2
    refine ⟨fun h5 => ?_, fun hm => ?_⟩
    · rw [P 5 (by decide) (by decide) (by decide)] at h5
      rw [P 11 (by decide) (by decide) (by decide), dPc_no (by omega) (by omega) (by omega), hd.1 _ _ (by omega) (by omega) (by omega), zP_no (by omega)]
      exact (h.1 k k0 (by omega)).1 h5
    have hm' : mvK d k := by unfold mvK at hm ⊢; rw [P 5 (by decide) (by decide) (by decide)] at hm; exact hm
    obtain ⟨q1, q2, q3⟩ := (h.1 k k0 (by omega)).2 hm'
    have l8 := ((v.2.2.2.2.2.2.1 k k0 (by omega)).2.2.2.2 hm').1
    unfold grK at q3 ⊢
    rw [P 8 (by decide) (by decide) (by decide), P 9 (by decide) (by decide) (by decide), P 15 (by decide) (by decide) (by decide), P 5 (by decide) (by decide) (by decide), P 10 (by decide) (by decide) (by decide), hy.1 _ l8.2, zP_no (by omega), zP_no (by omega), zP_no (by omega)]
    exact ⟨q1, q2, q3⟩, fun l l0 l1 => by
  rw [dPc_no (by omega) (by omega) (by omega)] at l1 ⊢
  exact hy.2 h.2 l l0 l1⟩
/-- what laying a piece leaves -/
def pcQ (C H S : Int) (O : Int → Int → Int → Int → Int) (s t : jS) (e d z y : Int → Int → Int) (P Q a n rr x Si m : Int) (r : jS × Bool × Int) (q : jS × Int) : Prop := (lkX C H s t P Q r q.1 ∧ q.2 = 0) ∨ (r.2.1 = false ∧ q.2 = 1 ∧ d 0 1 < 256 ∧ ∃ d' y' w0 l0 c0 z0, dOnly d d' ∧ (yKp d d' y y' ∧ pcY S O e (dPc d' Si m w0 l0 c0 z0) y' (zP z (d 0 1) a n rr x) (d 0 1)) ∧ LBR C H r.1 q.1 (dPc d' Si m w0 l0 c0 z0) (zP z (d 0 1) a n rr x) ∧ LBL C H S O r.1 q.1 e (dPc d' Si m w0 l0 c0 z0) y' ∧ (cBW C s r.1 P Q ∧ tBW H t q.1) ∧ jRb C H s t r.1 q.1)
theorem lgF_c (n0 : 1 ≤ n) (n1 : n ≤ 62) : 0 ≤ lgF n ∧ lgF n ≤ 5 ∧ n < 2 ^ (lgF n + 1).toNat ∧ ∀ k, 0 ≤ k → k ≤ lgF n → (2 : Int) ^ k.toNat ≤ n := by
  have p : ∀ k : Int, 0 ≤ k → k ≤ 6 → (k = 0 ∧ (2 : Int) ^ k.toNat = 1) ∨ (k = 1 ∧ (2 : Int) ^ k.toNat = 2) ∨ (k = 2 ∧ (2 : Int) ^ k.toNat = 4) ∨ (k = 3 ∧ (2 : Int) ^ k.toNat = 8) ∨ (k = 4 ∧ (2 : Int) ^ k.toNat = 16) ∨ (k = 5 ∧ (2 : Int) ^ k.toNat = 32) ∨ (k = 6 ∧ (2 : Int) ^ k.toNat = 64) := fun k k0 k1 => by
    have : k = 0 ∨ k = 1 ∨ k = 2 ∨ k = 3 ∨ k = 4 ∨ k = 5 ∨ k = 6 := by omega
    rcases this with rfl | rfl | rfl | rfl | rfl | rfl | rfl <;> decide
  have c : (lgF n = 0 ∧ n < 2) ∨ (lgF n = 1 ∧ 2 ≤ n ∧ n < 4) ∨ (lgF n = 2 ∧ 4 ≤ n ∧ n < 8) ∨ (lgF n = 3 ∧ 8 ≤ n ∧ n < 16) ∨ (lgF n = 4 ∧ 16 ≤ n ∧ n < 32) ∨ (lgF n = 5 ∧ 32 ≤ n) := by
    unfold lgF
    split
    · omega
    split
    · omega
    split
    · omega
    split
    · omega
    split
    · omega
    split <;> omega
  refine ⟨by omega, by omega, ?_, fun k k0 k1 => ?_⟩
  · have := p (lgF n + 1) (by omega) (by omega)
    omega
  · have := p k k0 (by omega)
    omega
theorem tk_fin {r1 q1 : jS × Int} (hB : LBR C H s' t' d' z) (hL : LBL C H S O s' t' e d' y') (hd : dOnly d d') (h0 : 0 < d 0 0) (g : cBW C s s' 1 9) (g' : tBW H t t') (gr : jRb C H s t s' t') (hb : jBd s 3 24) (hC : 0 ≤ C ∧ C + 15464 ≤ jn s) (ht : jf t 41 H 99 = 0) (v' : d' 0 1 < 256 → vLy (dPc d' Si m w0 l0 c0 z0)) (e1 : lpO s' (C + 4275 + 1) (d' 0 1) 256 (dPc d' Si m w0 l0 c0 z0) r1) (e2 : tpO t' (H + 93) (d' 0 1) 256 (dPc d' Si m w0 l0 c0 z0) q1) (j0 : 0 ≤ j) (j1 : j < 300) (x0 : 0 ≤ x) (x1 : x < 6) (hz : ∀ k, 0 ≤ k → k < d 0 1 → ¬ z 2 k = 300 * x + j) (hyk : yKp d d' y y') (hpy : pcY S O e (dPc d' Si m w0 l0 c0 z0) y' (zP z (d 0 1) a n (300 * x + j) x) (d 0 1)) : ∃ r q, m_X35_piece r1.1 (C + 4275) r1.2 (d 0 0 - 1) x a n j = some r ∧ u_X37_takenPiece_385 q1.1 H (d 0 0 - 1) (300 * x + j) a n q1.2 = some q ∧ pcQ C H S O s t e d z y 3 24 a n (300 * x + j) x Si m r q := by
  have e00 : d' 0 0 = d 0 0 := hd.1 _ _ (by omega) (by omega) (by omega)
  have e01 : d' 0 1 = d 0 1 := hd.1 _ _ (by omega) (by omega) (by omega)
  have hn := g.1.n
  have ht' : jf t' 41 H 99 = 0 := by rw [g'.2 _ _ _ (by omega) (by omega)]; exact ht
  have hbd : jBd s' 2 15 := by
    obtain ⟨a1, a2, a3, a4, a5, -⟩ := g.1.1
    exact ⟨by have := hb.1; omega, by have := hb.2; omega⟩
  obtain ⟨r, q, f1, f2, f3⟩ := x_put (a := a) (n := n) (x := x) (y := j) (rr := 300 * x + j) hB (by omega) hbd (by omega) ht' v' e1 e2 (by rw [if_neg (by omega)]; omega) (.inr ⟨by omega, fun k k0 k1 => hz k k0 (by omega)⟩)
  rw [e00] at f1 f2
  rw [f1, eu_X37_takenPiece_385]; unfold du_X37_takenPiece_385
  rw [f2, Option.bind_some, Wz_ic]
  refine ⟨r, _, rfl, rfl, ?_⟩
  rcases f3 with ⟨b1, b2⟩ | ⟨b1, b2, b3, b4, b5, b6⟩
  · exact .inl ⟨(b1.pre (g.lf hB.2.1.1.2.1) g'.lf).mono (by omega) (by omega), by show (if d' 0 1 < 256 then (1 : Int) else 0) = 0; rw [if_neg b2]⟩
  · refine .inr ⟨b1, by show (if d' 0 1 < 256 then (1 : Int) else 0) = 1; rw [if_pos b2], by omega, d', y', w0, l0, c0, z0, hd, ⟨hyk, hpy⟩, ?_, hL.cg (dPc_no (by omega) (by omega) (by omega)) b6, ⟨(g.trans b4).mono (by omega) (by omega), g'.trans b5⟩, gr.trans b6.rb⟩
    rw [e01] at b3; exact b3
theorem x_taken (h : LBR C H s t d z) (hL : LBL C H S O s t e d y) (hh : LB0 C H S O s t e) (x0 : 0 ≤ x) (x1 : x < 6) (hS : sIn S x) (hp : 0 < d 0 0) (hb : jBd s 3 24) (j0 : 0 ≤ j) (j1 : j < O x 2 2 0) (tk : tkP (O x) j) (hz : ∀ k, 0 ≤ k → k < d 0 1 → ¬ z 2 k = 300 * x + j) (hs : y0 = if 0 < cn (isH (O x)) (O x 2 0 0) then 1 else 0) (hp1 : d 1 (d 0 0 - 1) = 0 ∧ d 0 0 - 1 = 4 * nIn S x.toNat ∧ sIn S x) : ∃ q1 q, m_X35_madeOf s (C + 4275) (d 0 0 - 1) x j (fAt C x + 614) y0 = some q1 ∧ m_X37_takenPiece t H x (d 0 0 - 1) (300 * x + j) = some q ∧ ((q1.2.1 = true ∧ lkX C H s t 3 24 q1 q.1 ∧ q.2 = 0) ∨ (q1.2.1 = false ∧ cBW C s q1.1 3 24 ∧ ∃ r, m_X35_piece q1.1 (C + 4275) q1.2.2 (d 0 0 - 1) x (O x 5 j 1) (kW (O x 5 j 2) (O x 5 j 4)) j = some r ∧ pcQ C H S O s t e d z y 3 24 (O x 5 j 1) (kW (O x 5 j 2) (O x 5 j 4)) (300 * x + j) x (srT (O x 5 j 2)) (if O x 5 j 2 = 43 then O x 5 j 4 else 0) r q)) := by
  obtain ⟨hk, ⟨hg, hgt, gv⟩, hw, hcd⟩ := id hh
  obtain ⟨hC, -, hrd, hTs, -, ht⟩ := id hk
  obtain ⟨hO, hu, v, g⟩ := hrd x x0 x1 hS
  have hT := (T33 (hTs x x0 x1)).2.2.1
  have n3 := v.2.2.1.2.2.2.2.2
  have hT' := id hT
  obtain ⟨⟨r0, r1⟩, rA, ⟨a0, a1, a2, a3, a4⟩, ⟨b0, b1, b2⟩, ⟨c0, c1⟩, c5, c6⟩ := c_rel hO hT v j0 j1
  obtain ⟨-, t1, t2, t3, t4⟩ := t_relr hu j0 j1
  obtain ⟨-, l1, l2, l3, l4⟩ := rel_lo v g j0 j1
  obtain ⟨w1, w2, w3, w4, w5, w6, w7, w8, w9⟩ := v.2.2.2.2.2 j j0 j1
  have eB : jld s 1012 (fAt C x + 614 + 4) j = some (rlA (fAt C x + 614) j) := by
    unfold jld; rw [if_pos ⟨b0, b1, j0, by rw [b2]; omega⟩, rA]
  have hb1 : jBd s 1 9 := ⟨by have := hb.1; omega, by have := hb.2; omega⟩
  have hb2 : jBd s 2 15 := ⟨by have := hb.1; omega, by have := hb.2; omega⟩
  have vl := h.1
  have od : dOnly d d := ⟨fun _ _ _ _ _ => rfl, Int.le_refl _⟩
  obtain ⟨tz, tk⟩ := tk
  rcases tk with ⟨k43, kp⟩ | ⟨kk, kl⟩
  · -- fill
    have w9 := w9 k43
    obtain ⟨lg0, lg1, lg2, lg3⟩ := lgF_c (n := O x 5 j 4) (by omega) (by omega)
    obtain ⟨L, hLg⟩ : ∃ L, L = lgF (O x 5 j 4) := ⟨_, rfl⟩
    rw [← hLg] at lg0 lg1 lg2 lg3
    obtain ⟨r1', e1, h1⟩ := c_lfill h.2.1.1 vl hp hb1 (w := L + 1) (n := O x 5 j 4) (by omega) (by omega)
    obtain ⟨q1', e2, h2⟩ := t_lfill h.2.2.1 vl hp (w := L + 1) (n := O x 5 j 4) (by omega) (by omega)
    rw [em_X35_madeOf, em_X37_takenPiece]; unfold dm_X35_madeOf dm_X37_takenPiece
    rw [jrd_in c0 c1, Option.bind_some, c5, eB, Option.bind_some, jrd_in r0 r1, Option.bind_some, a2, if_pos k43, jrd_in r0 r1, Option.bind_some, a4, c_power (by omega) (by omega), Option.bind_some, Option.bind_some, ← hLg, W32_in (by omega) (by omega), e1, Option.bind_some]
    rw [jlt_in (by omega) (by omega), Option.bind_some, t_widthOf hu v x0 x1 j0 j1 (.inl k43), Option.bind_some, jlt_in (by omega) (by omega), Option.bind_some, t1, t2, if_pos k43, eu_X37_takenPiece_29]; unfold du_X37_takenPiece_29
    have lp := jforW (C := jc6 b_X37_takenPiece_29) (fun k => [H, d 0 0 - 1, 300 * x + j, O x 5 j 1, kW (O x 5 j 2) (O x 5 j 4), k]) (fun _ => t) 0 (L + 1) (by omega) (fun k k0 k1 => by
      show b_X37_takenPiece_29 t H (d 0 0 - 1) (300 * x + j) (O x 5 j 1) (kW (O x 5 j 2) (O x 5 j 4)) k = _
      unfold b_X37_takenPiece_29
      have := lg3 k k0 (by omega)
      rw [jlt_in (by omega) (by omega), Option.bind_some, t4, one_shl k0 (by omega), if_neg (by omega), W32_in (by omega) (by omega)]) (r := u_X37_takenPiece_48 t H (d 0 0 - 1) (300 * x + j) (O x 5 j 1) (kW (O x 5 j 2) (O x 5 j 4)) (L + 1)) (by
      show b_X37_takenPiece_29 t H (d 0 0 - 1) (300 * x + j) (O x 5 j 1) (kW (O x 5 j 2) (O x 5 j 4)) (L + 1) = _
      unfold b_X37_takenPiece_29
      rw [jlt_in (by omega) (by omega), Option.bind_some, t4, one_shl (by omega) (by omega), if_pos lg2])
    rw [lp, eu_X37_takenPiece_48]; unfold du_X37_takenPiece_48
    rw [jlt_in (by omega) (by omega), Option.bind_some, t4, e2, Option.bind_some]
    obtain ⟨r, q, f1, f2, f3⟩ := tk_fin (x := x) (j := j) (a := O x 5 j 1) (n := kW (O x 5 j 2) (O x 5 j 4)) h hL od hp (cBW.rfl.mono (by omega) (by omega)) tBW.rfl jRb.rfl hb hC ht (fun c => vl.pc hp c (by omega) (fun _ => by omega) (fun _ => by omega) fun z => absurd z (by decide)) h1 h2 j0 (by omega) x0 x1 hz ⟨fun _ _ => rfl, id⟩ (pcY.no rfl (.inr rfl) fun _ => hp1)
    rw [eu_X37_takenPiece_385] at f2; unfold du_X37_takenPiece_385 at f2
    refine ⟨_, q, rfl, f2, .inr ⟨rfl, h1.bw.mono (by omega) (by omega), r, f1, ?_⟩⟩
    rw [if_pos k43, show srT (O x 5 j 2) = 4 from by unfold srT; rw [if_pos k43]]
    exact f3
  · have nn : ¬ O x 5 j 2 = 43 := by omega
    obtain ⟨t1', W2, f, et, T1, R1, hW2, f01, fok⟩ := t_takeHead (p := d 0 0 - 1) hw hu v g x0 x1 j0 j1 kk tz
    obtain ⟨f', ec, f01', fok'⟩ := c_madeHead (p := d 0 0 - 1) (y0 := y0) (x := x) hw hO hT v g j0 j1 kk tz
    have ff : f' = f := by
      rcases f01 with q | q
      · rcases f01' with q' | q'
        · omega
        · exact absurd (fok.mpr (fok'.mp q')) (by omega)
      · rcases f01' with q' | q'
        · exact absurd (fok'.mpr (fok.mp q)) (by omega)
        · omega
    rw [ec, et, ff, eu_X35_madeOf_128, eu_X37_takenPiece_192]; unfold du_X35_madeOf_128 du_X37_takenPiece_192
    by_cases cf : f = 0
    · rw [if_pos cf, if_pos cf]
      obtain ⟨u, x', w, e1, e2, xp, hx⟩ := lkX.mk (C := C) (H := H) (f := 7) (s := s) (t := t1') (by omega) ⟨by have := hb.1; omega, by have := hb.2; omega⟩ (by omega) (by rw [T1.2 _ _ _ (by omega)]; exact ht) (by decide) x j
      rw [W32_in (z := 300 * x) (by omega) (by omega), W32_in (by omega) (by omega), show 300 * x + j - 300 * x = j by omega, e1, e2, Option.bind_some, Option.bind_some]
      dsimp only
      rw [jck0_in xp, Wz_0]
      exact ⟨_, _, rfl, rfl, .inl ⟨rfl, (hx.pre (cBW.rfl.lf h.2.1.1.2.1) T1.bw.lf).mono (by omega) (by omega), rfl⟩⟩
    · rw [if_neg cf, if_neg cf]
      have okj := fok.mp (by omega)
      have X0 : (100 * x + O x 5 j 3) / 100 = x ∧ (100 * x + O x 5 j 3) % 100 = O x 5 j 3 ∧ 0 ≤ O x 5 j 3 ∧ O x 5 j 3 < 100 := by
        have g3 := (g.2.2 j j0 j1).2.1
        have n1 := v.2.2.1.2.2.2.1
        have : ¬ O x 5 j 3 = -1 := fun q => by have := g3.mp q; omega
        omega
      have hX : vsy S O (100 * x + O x 5 j 3) := ⟨by omega, by rw [X0.1]; exact hS, by rw [X0.1, X0.2.1]; exact w7⟩
      have hh1 := hh.t6 T1
      obtain ⟨r, q, e1, e2, hq⟩ := x_labelFor (h.t6 T1) (hL.t6 T1) hh1.1 hh1.2.1.1 hh1.2.1.2.1 gv hb2 hX (j := 300 * x + j) (by rw [T1.2 _ _ _ (by omega), t3, X0.2.1]) (by omega) (by omega)
      rw [X0.1, X0.2.1] at e1
      rw [X0.1] at e2
      rw [jrd_in r0 r1, Option.bind_some, a3, e1, e2, Option.bind_some, Option.bind_some]
      rcases hq with ⟨q1, q2⟩ | ⟨q1, q2, q3, d', y', hd, yk, B', L', ⟨⟨lb0, lb1⟩, lb2⟩, ⟨G1, G2⟩, ⟨G3, G4⟩, G5⟩
      · rw [if_pos q2, Wz_0, q1.1.1]
        exact ⟨_, _, rfl, rfl, .inl ⟨rfl, ⟨⟨rfl, q1.1.2⟩, (q1.pre (cBW.rfl.lf h.2.1.1.2.1) T1.bw.lf).mono (by omega) (by omega) |>.2⟩, rfl⟩⟩
      · rw [q1, jth_ff, if_neg q3, q2]
        simp only [jlet]
        obtain ⟨lb, hlb⟩ : ∃ lb, lb = r.2.2 := ⟨_, rfl⟩
        rw [← hlb] at lb0 lb1 ⊢
        have GT := T1.bw.trans G2
        have hh2 := hh.bw G1 GT
        obtain ⟨hk2, -, hw2, -⟩ := id hh2
        obtain ⟨hO2, hu2, -, -⟩ := hk2.2.2.1 x x0 x1 hS
        have hT2 := (T33 (hk2.2.2.2.1 x x0 x1)).2.2.1
        obtain ⟨⟨s0, s1⟩, -, ⟨d0', d1', d2', d3', d4'⟩, -⟩ := c_rel hO2 hT2 v j0 j1
        obtain ⟨-, u1, u2, u3, u4⟩ := t_relr hu2 j0 j1
        have u5 : jf q.1 1002 (H + 175) x = y0 := by rw [hu2.2.2.1.2.1, hs]
        have e00 : d' 0 0 = d 0 0 := hd.1 _ _ (by omega) (by omega) (by omega)
        have v2 := B'.1
        have bd1 : jBd r.1 1 9 := by
          obtain ⟨a1, a2, a3, a4, a5, -⟩ := G1.1.1
          exact ⟨by have := hb.1; omega, by have := hb.2; omega⟩
        have fin : ∀ (Si z0 : Int) (t3 : jS) (r1 q1 : jS × Int), (Si = 2 → z0 = 1 → ¬ uW (O x) (O x 5 j 1) / 128 % 32 = 0 ∧ ¬ uW (O x) (O x 5 j 1) / 128 % 32 = 2) → Si = srT (O x 5 j 2) → (Si = 1 ∨ Si = 2 ∨ Si = 3) → (z0 = 0 ∨ z0 = 1) → tW6 H q.1 t3 → lpO r.1 (C + 4275 + 1) (d' 0 1) 256 (dPc d' Si 0 0 lb (O x 5 j 4) z0) r1 → tpO t3 (H + 93) (d' 0 1) 256 (dPc d' Si 0 0 lb (O x 5 j 4) z0) q1 → ∃ Q1 Q, some (r1.1, false, r1.2) = some Q1 ∧ u_X37_takenPiece_385 q1.1 H (d 0 0 - 1) (300 * x + j) (O x 5 j 1) (kW (O x 5 j 2) (O x 5 j 4)) q1.2 = some Q ∧ ((Q1.2.1 = true ∧ lkX C H s t 3 24 Q1 Q.1 ∧ Q.2 = 0) ∨ (Q1.2.1 = false ∧ cBW C s Q1.1 3 24 ∧ ∃ r, m_X35_piece Q1.1 (C + 4275) Q1.2.2 (d 0 0 - 1) x (O x 5 j 1) (kW (O x 5 j 2) (O x 5 j 4)) j = some r ∧ pcQ C H S O s t e d z y 3 24 (O x 5 j 1) (kW (O x 5 j 2) (O x 5 j 4)) (300 * x + j) x (srT (O x 5 j 2)) (if O x 5 j 2 = 43 then O x 5 j 4 else 0) r Q)) := fun Si z0 t3 r1 q1 hrr hSi hS3 hz0 T3 hr1 hq1 => by
          obtain ⟨r', Q, f1, f2, f3⟩ := tk_fin (x := x) (j := j) (a := O x 5 j 1) (n := kW (O x 5 j 2) (O x 5 j 4)) (B'.t6 T3) (L'.t6 T3) hd hp G1 (GT.trans T3.bw) ((T1.rb.trans ⟨⟨G3, G4⟩, G5⟩).trans T3.rb) hb hC ht (fun c => v2.pc (by omega) c (by omega) (fun z => by omega) (fun z => by omega) fun z => ⟨⟨lb0, lb1⟩, w8, hz0⟩) hr1 hq1 j0 (by omega) x0 x1 hz yk (pcY.mk (hd.1 _ _ (by omega) (by omega) (by omega)) (by rw [hlb]; exact lb2) rfl hrr okj fun _ => by rw [hd.1 _ _ (by omega) (by omega) (by omega), hd.1 _ _ (by omega) (by omega) (by omega)]; exact hp1)
          refine ⟨_, Q, rfl, f2, .inr ⟨rfl, (G1.trans hr1.bw).mono (by omega) (by omega), r', f1, ?_⟩⟩
          rw [if_neg nn, ← hSi]; exact f3
        have R2 : pRows q.1 (H + 5) := hw2.2.1
        rcases kk with k19 | k23 | k26
        · obtain ⟨t3, rd, e3, hrd3, T3⟩ := t_partD R2 (v := uW (O x) (O x 5 j 1 + 4)) uW_in
          have okk := okj
          unfold okT at okk
          rw [if_neg (by omega)] at okk
          have hrd3 := hrd3 (.inr (okk.2 k19))
          have lw8 : kW (O x 5 j 2) (O x 5 j 4) = 8 := by
            unfold kW
            rw [if_neg (by omega), if_neg (by omega), if_neg (by omega), if_neg (by omega), if_pos k19]
          rw [tz] at l4
          have B3 := B'.t6 T3
          have F186 : jf t3 1000 (H + 186) (300 * x + j) = O x 5 j 2 := by rw [T3.2 _ _ _ (by omega)]; exact u2
          have F188 : jf t3 1000 (H + 188) (300 * x + j) = O x 5 j 4 := by rw [T3.2 _ _ _ (by omega)]; exact u4
          have F175 : jf t3 1002 (H + 175) x = y0 := by rw [T3.2 _ _ _ (by omega)]; exact u5
          have go : ∀ z0, (z0 = 0 ∨ z0 = 1) → ∃ Q1 Q, u_X35_madeOf_220 r.1 z0 (O x 5 j 4) lb (d 0 0 - 1) (C + 4275 + 1) = some Q1 ∧ u_X37_takenPiece_302 t3 H (d 0 0 - 1) (300 * x + j) (O x 5 j 1) (kW (O x 5 j 2) (O x 5 j 4)) z0 (O x 5 j 4) lb (d 0 0 - 1) (H + 93) = some Q ∧ ((Q1.2.1 = true ∧ lkX C H s t 3 24 Q1 Q.1 ∧ Q.2 = 0) ∨ (Q1.2.1 = false ∧ cBW C s Q1.1 3 24 ∧ ∃ r, m_X35_piece Q1.1 (C + 4275) Q1.2.2 (d 0 0 - 1) x (O x 5 j 1) (kW (O x 5 j 2) (O x 5 j 4)) j = some r ∧ pcQ C H S O s t e d z y 3 24 (O x 5 j 1) (kW (O x 5 j 2) (O x 5 j 4)) (300 * x + j) x (srT (O x 5 j 2)) (if O x 5 j 2 = 43 then O x 5 j 4 else 0) r Q)) := fun z0 hz0 => by
            obtain ⟨r1', g1, h1⟩ := c_lcall (c := O x 5 j 4) B'.2.1.1 v2 (by omega) bd1 ⟨lb0, lb1⟩ hz0
            obtain ⟨q1', g2, h2⟩ := t_lcall (c := O x 5 j 4) B3.2.2.1 v2 (by omega) ⟨lb0, lb1⟩ hz0
            rw [e00] at g1 g2
            rw [eu_X35_madeOf_220, eu_X37_takenPiece_302]; unfold du_X35_madeOf_220 du_X37_takenPiece_302
            rw [g1, g2, Option.bind_some, Option.bind_some]
            exact fin 1 z0 t3 r1' q1' (fun q => absurd q (by decide)) (by unfold srT; rw [if_neg nn, if_pos k19]) (.inl rfl) hz0 T3 h1 h2
          rw [jrd_in s0 s1, Option.bind_some, d2', if_pos k19, jrd_in s0 s1, Option.bind_some, d4', jlt_in (by omega) (by omega), Option.bind_some, u2, if_pos k19, hW2 k19, eu_X37_takenPiece_252]; unfold du_X37_takenPiece_252
          rw [e3, Option.bind_some]
          dsimp only
          rw [jlt_in (by omega) (by omega), Option.bind_some, F186, if_pos k19, jlt_in (by omega) (by omega), Option.bind_some, F188, jlt_in (by omega) (by omega), Option.bind_some, F175]
          by_cases cy : y0 = 0
          · rw [if_pos cy, if_pos cy, eu_X35_madeOf_219, eu_X37_takenPiece_301]; unfold du_X35_madeOf_219 du_X37_takenPiece_301
            exact go 0 (.inl rfl)
          · rw [if_neg cy, if_neg cy, jrd_in s0 s1, Option.bind_some, d1', W32_in (by omega) (by omega), c_wordIn hO2 hT2 v (by omega) (by omega), Option.bind_some, c_d uW_in, ← hrd3]
            by_cases c2 : rd < 2
            · rw [if_pos c2, if_pos c2]; exact go 1 (.inr rfl)
            · rw [if_neg c2, if_neg c2, eu_X35_madeOf_219, eu_X37_takenPiece_301]; unfold du_X35_madeOf_219 du_X37_takenPiece_301
              exact go 0 (.inl rfl)
        · obtain ⟨t3, rd, e3, -, T3⟩ := t_partD R2 (v := uW (O x) (O x 5 j 1)) uW_in
          have B3 := B'.t6 T3
          have F186 : jf t3 1000 (H + 186) (300 * x + j) = O x 5 j 2 := by rw [T3.2 _ _ _ (by omega)]; exact u2
          have F188 : jf t3 1000 (H + 188) (300 * x + j) = O x 5 j 4 := by rw [T3.2 _ _ _ (by omega)]; exact u4
          rw [jrd_in s0 s1, Option.bind_some, d2', if_neg (by omega), Option.bind_some, if_neg (by omega), jrd_in s0 s1, Option.bind_some, d4', jlt_in (by omega) (by omega), Option.bind_some, u2, if_neg (by omega), eu_X37_takenPiece_252]; unfold du_X37_takenPiece_252
          rw [e3, Option.bind_some]
          dsimp only
          rw [jlt_in (by omega) (by omega), Option.bind_some, F186, if_neg (by omega), Option.bind_some, if_pos k23, jlt_in (by omega) (by omega), Option.bind_some, F188]
          obtain ⟨r1', g1, h1⟩ := c_lnear (c := O x 5 j 4) B'.2.1.1 v2 (by omega) bd1 ⟨lb0, lb1⟩
          obtain ⟨q1', g2, h2⟩ := t_lnear (c := O x 5 j 4) B3.2.2.1 v2 (by omega) ⟨lb0, lb1⟩
          rw [e00] at g1 g2
          rw [g1, g2, Option.bind_some, Option.bind_some]
          exact fin 3 0 t3 r1' q1' (fun q => absurd q (by decide)) (by unfold srT; rw [if_neg nn, if_neg (by omega), if_neg (by omega)]) (.inr (.inr rfl)) (.inl rfl) T3 h1 h2
        · obtain ⟨t3, rd, e3, hrd3, T3⟩ := t_partD R2 (v := uW (O x) (O x 5 j 1)) uW_in
          have okk := okj
          unfold okT at okk
          rw [if_pos k26] at okk
          have hrd3 := hrd3 (.inl okk)
          have B3 := B'.t6 T3
          have F186 : jf t3 1000 (H + 186) (300 * x + j) = O x 5 j 2 := by rw [T3.2 _ _ _ (by omega)]; exact u2
          have F188 : jf t3 1000 (H + 188) (300 * x + j) = O x 5 j 4 := by rw [T3.2 _ _ _ (by omega)]; exact u4
          have F175 : jf t3 1002 (H + 175) x = y0 := by rw [T3.2 _ _ _ (by omega)]; exact u5
          have go : ∀ z0, (z0 = 0 ∨ z0 = 1) → (z0 = 1 → ¬ uW (O x) (O x 5 j 1) / 128 % 32 = 0 ∧ ¬ uW (O x) (O x 5 j 1) / 128 % 32 = 2) → ∃ Q1 Q, u_X35_madeOf_267 r.1 z0 (O x 5 j 4) lb (d 0 0 - 1) (C + 4275 + 1) = some Q1 ∧ u_X37_takenPiece_380 t3 H (d 0 0 - 1) (300 * x + j) (O x 5 j 1) (kW (O x 5 j 2) (O x 5 j 4)) z0 (O x 5 j 4) lb (d 0 0 - 1) (H + 93) = some Q ∧ ((Q1.2.1 = true ∧ lkX C H s t 3 24 Q1 Q.1 ∧ Q.2 = 0) ∨ (Q1.2.1 = false ∧ cBW C s Q1.1 3 24 ∧ ∃ r, m_X35_piece Q1.1 (C + 4275) Q1.2.2 (d 0 0 - 1) x (O x 5 j 1) (kW (O x 5 j 2) (O x 5 j 4)) j = some r ∧ pcQ C H S O s t e d z y 3 24 (O x 5 j 1) (kW (O x 5 j 2) (O x 5 j 4)) (300 * x + j) x (srT (O x 5 j 2)) (if O x 5 j 2 = 43 then O x 5 j 4 else 0) r Q)) := fun z0 hz0 hzr => by
            obtain ⟨r1', g1, h1⟩ := c_lupper (c := O x 5 j 4) B'.2.1.1 v2 (by omega) bd1 ⟨lb0, lb1⟩ hz0
            obtain ⟨q1', g2, h2⟩ := t_lupper (c := O x 5 j 4) B3.2.2.1 v2 (by omega) ⟨lb0, lb1⟩ hz0
            rw [e00] at g1 g2
            rw [eu_X35_madeOf_267, eu_X37_takenPiece_380]; unfold du_X35_madeOf_267 du_X37_takenPiece_380
            rw [g1, g2, Option.bind_some, Option.bind_some]
            exact fin 2 z0 t3 r1' q1' (fun _ => hzr) (by unfold srT; rw [if_neg nn, if_neg (by omega), if_pos k26]) (.inr (.inl rfl)) hz0 T3 h1 h2
          rw [jrd_in s0 s1, Option.bind_some, d2', if_neg (by omega), Option.bind_some, if_pos k26, jrd_in s0 s1, Option.bind_some, d4', jlt_in (by omega) (by omega), Option.bind_some, u2, if_neg (show ¬ O x 5 j 2 = 19 by omega), eu_X37_takenPiece_252]; unfold du_X37_takenPiece_252
          rw [e3, Option.bind_some]
          dsimp only
          rw [jlt_in (by omega) (by omega), Option.bind_some, F186, if_neg (show ¬ O x 5 j 2 = 19 by omega), Option.bind_some, if_neg (show ¬ O x 5 j 2 = 23 by omega), jlt_in (by omega) (by omega), Option.bind_some, F188, jlt_in (by omega) (by omega), Option.bind_some, F175, c_d uW_in, ← hrd3]
          have g0 : ∃ Q1 Q, u_X35_madeOf_266 r.1 (O x 5 j 4) lb (d 0 0 - 1) (C + 4275 + 1) = some Q1 ∧ u_X37_takenPiece_379 t3 H (d 0 0 - 1) (300 * x + j) (O x 5 j 1) (kW (O x 5 j 2) (O x 5 j 4)) (O x 5 j 4) lb (d 0 0 - 1) (H + 93) = some Q ∧ ((Q1.2.1 = true ∧ lkX C H s t 3 24 Q1 Q.1 ∧ Q.2 = 0) ∨ (Q1.2.1 = false ∧ cBW C s Q1.1 3 24 ∧ ∃ r, m_X35_piece Q1.1 (C + 4275) Q1.2.2 (d 0 0 - 1) x (O x 5 j 1) (kW (O x 5 j 2) (O x 5 j 4)) j = some r ∧ pcQ C H S O s t e d z y 3 24 (O x 5 j 1) (kW (O x 5 j 2) (O x 5 j 4)) (300 * x + j) x (srT (O x 5 j 2)) (if O x 5 j 2 = 43 then O x 5 j 4 else 0) r Q)) := by
            rw [eu_X35_madeOf_266, eu_X37_takenPiece_379]; unfold du_X35_madeOf_266 du_X37_takenPiece_379
            exact go 0 (.inl rfl) (fun q => absurd q (by decide))
          by_cases cy : y0 = 0
          · rw [if_pos cy, if_pos cy]; exact g0
          · rw [if_neg cy, if_neg cy]
            by_cases c0 : rd = 0
            · rw [if_pos c0, if_pos c0]; exact g0
            · rw [if_neg c0, if_neg c0]
              by_cases c2 : rd = 2
              · rw [if_pos c2, if_pos c2]; exact g0
              · rw [if_neg c2, if_neg c2]; exact go 1 (.inr rfl) (fun _ => ⟨by rw [← hrd3]; exact c0, by rw [← hrd3]; exact c2⟩)
end jTk2
