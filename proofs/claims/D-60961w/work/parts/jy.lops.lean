/-! the component's layout is built: each kind of piece, labels -/
set_option maxRecDepth 100000
section jLops
variable {s t u w' : jS} {a k m o p v l n x y c j X f z B i q w S P Q P' Q' K : Int} {d e : Int → Int → Int}
/-- an object for a new piece was taken -/
def NXo (s : jS) (B : Int) (d : Int → Int → Int) (K : Int) (u : jS) (x : Int) : Prop := lbW B s u 1 9 ∧ cLs u B d ∧ cPool u B ∧ 0 ≤ jn u ∧ (0 ≤ x ∧ x < jn u ∧ jK u x = K) ∧ (∀ k, 0 ≤ k → k < d 0 1 → ¬ poK u B k = x) ∧
  (∀ K', isPk K' → (0 ≤ cNp u B K' ∧ cNp u B K' ≤ d 0 1 + 1) ∧ ((∀ k, 0 ≤ k → k < d 0 1 → kOf (d 5 k) = K' → ∃ j, 0 ≤ j ∧ j < cNp u B K' ∧ poK u B k = jf u (plC K') (B + plA K') j) ∧ (K' = K → ∃ j, 0 ≤ j ∧ j < cNp u B K' ∧ x = jf u (plC K') (B + plA K') j))) ∧ jf u 40 B 19 = 0 ∧ ∀ l, poL u B l = poL s B l
theorem plS_ne {K' : Int} (h : isPk K) (h' : isPk K') (hne : ¬ K' = K) : ¬ plA K' = plA K := by
  have := plC_c h; have := plC_c h'; omega
theorem nx_two {nf sl : Int} {g : Int → Int} {ini : jS → Int → Option (jS × Int)} (hk : isPk K) (hc : c = plC K) (ha : a = B + plA K) (hsl : sl = plA K + 3) (h : cBu s B d) (v : vLy d) (h1 : d 0 1 < 256) (hb : jBd s 1 nf) (hi : ∀ q x, 0 ≤ x → ini q x = some (q, 0)) (hnf : 0 ≤ nf ∧ nf ≤ 9) :
    ∃ u x, ((jlt s c a 256 (jf s 40 B sl)).bind fun v1 => if v1 < 0 then (jnw s K nf g).bind fun q2 => (jck0 q2.2 (ini q2.1 q2.2)).bind fun q3 => (jst q3.1 c a 256 (jf s 40 B sl) q2.2).bind fun s4 => jls (jp s4 40 B sl (W32 (jf s4 40 B sl + 1))) fun s1 => (jlt s1 c a 256 (W32 (jf s1 40 B sl - 1))).bind fun v2 => some (s1, v2) else jls (jp s 40 B sl (W32 (jf s 40 B sl + 1))) fun s1 => (jlt s1 c a 256 (W32 (jf s1 40 B sl - 1))).bind fun v2 => some (s1, v2)) = some (u, x) ∧ NXo s B d K u x := by
  obtain ⟨h, hp, h19, hn0, hN⟩ := h
  obtain ⟨⟨n0, n1⟩, nk⟩ := hN K hk
  have nN := hN
  have eN : jf s 40 B sl = cNp s B K := by rw [hsl]; rfl
  have hpi := plC_in hk
  have hps := plS_in hk
  have hpo : plP B c a := by rw [hc, ha]; exact plP_in hk
  have hlk : lKk K := by rcases hk with z | z | z | z <;> omega
  have hpa : 4 ≤ plA K ∧ plA K ≤ 7 := by omega
  obtain ⟨u, hu, ⟨x0, x1, x2⟩, hr, hj, hK, F, hor, hw1⟩ := nx_gen (c := c) (a := a) (K := K) (n := 256) (i := jf s 40 B sl) (g := g) (nf := nf) (ini := ini) (G := fun s => jls (jp s 40 B sl (W32 (jf s 40 B sl + 1))) fun s1 => (jlt s1 c a 256 (W32 (jf s1 40 B sl - 1))).bind fun v2 => some (s1, v2)) (by rw [hc, ha]; exact hp.2.2 K hk) (by rw [eN]; exact n0) (by rw [eN]; omega) hb hn0 hi (by rw [hc]; rcases hk with z | z | z | z <;> rw [z] <;> decide) (by have := h.1.2.1; omega) (by rcases hk with z | z | z | z <;> omega) hnf.1
  have LW := (nx_w (B := B) hlk (by rw [hc]; omega) (by omega) hnf.1 hw1).mono (Int.le_refl _) hnf.2
  clear hor hw1
  rw [eN] at x0 x1 x2
  have hKc : K = 72 ∨ K = 73 ∨ K = 76 ∨ K = 77 := hk
  have F' : ∀ c' a' k', ¬ (c' = c ∧ a' = a ∧ k' = cNp s B K) → ¬ (c' = K ∧ a' = jn s) → jf u c' a' k' = jf s c' a' k' := fun c' a' k' q1 q2 => F c' a' k' (by rw [eN]; exact q1) q2
  clear F
  have lt1 : ∀ p, 0 ≤ p → p < d 0 1 → poK s B p < jn s := fun p p0 p1 => (h.2.2.2.2.1 p p0 p1).1.2.1
  have hcc : 1015 ≤ c ∧ c ≤ 1021 ∧ ¬ c = 1019 ∧ ¬ c = 1017 ∧ ¬ c = 1020 := by rw [hc]; exact hpi
  have cu : cLs u B d := h.cg v hj.1 hK (fun k _ _ => F' _ _ _ (by omega) (by omega)) (fun k => F' _ _ _ (by omega) (by omega)) (fun p p0 p1 => F' _ _ _ (by omega) (by omega)) (fun k k0 k1 => F' _ _ _ (by omega) (by omega)) (fun l l0 l1 => F' _ _ _ (by omega) (by omega)) (fun p p0 p1 k => F' _ _ _ (by omega) (by omega)) (fun k k0 k1 c j hc => F' _ _ _ (by omega) (fun q => by have := lt1 k k0 k1; omega)) (fun l l0 l1 k => F' _ _ _ (by omega) (by omega))
  have pu : cPool u B := ⟨hp.1.cg hj.1 (fun x hx => (hK x hx).1) fun k => F' _ _ _ (by omega) (by omega), hp.2.1.cg hj.1 (fun x hx => (hK x hx).1) fun k => F' _ _ _ (by omega) (by omega), fun K' hk' => by
    by_cases e : K' = K
    · rw [e, ← hc, ← ha]; exact hr
    · have := plS_ne hk hk' e
      have := plC_in hk'
      exact (hp.2.2 K' hk').cg hj.1 (fun x hx => (hK x hx).1) fun k => F' _ _ _ (by omega) (by omega)⟩
  have e4 : jf u 40 B sl = cNp s B K := by rw [F' _ _ _ (by omega) (by omega)]; exact eN
  obtain ⟨x, X⟩ : ∃ x, x = jf u c a (cNp s B K) := ⟨_, rfl⟩
  rw [← X] at x0 x1 x2
  obtain ⟨y, Y⟩ : ∃ y, y = jp u 40 B sl (cNp s B K + 1) := ⟨_, rfl⟩
  obtain ⟨fy, py, -⟩ := jpF Y
  have my : jSm u y := jSm.rfl.wr Y
  have ey : ∀ K', isPk K' → ¬ K' = K → cNp y B K' = cNp s B K' := fun K' hk' e => by
    have := plS_ne hk hk' e
    unfold cNp
    have := plS_in hk'
    rw [fy _ _ _ (by omega), F' _ _ _ (by omega) (by omega)]
  have eyK : cNp y B K = cNp s B K + 1 := by
    unfold cNp at py ⊢
    rw [← hsl]; rw [← hsl] at py; exact py
  have Fy : ∀ c a k, ¬ c = 40 → jf y c a k = jf u c a k := fun c a k q => fy _ _ _ (by omega)
  have rowK : ∀ j, ¬ j = cNp s B K → jf y c a j = jf s c a j := fun j hj => by rw [Fy _ _ _ (by omega), F' _ _ _ (by omega) (by omega)]
  have pk : ∀ k, poK y B k = poK s B k := fun k => by
    show jf y 1020 (B + 2) k = _
    rw [Fy _ _ _ (by omega), F' _ _ _ (by omega) (by omega)]
  refine ⟨y, x, ?_, LW.of my (fun c a k q => fy _ _ _ (fun z => q ⟨.inl (.inl z.1), .inl (by omega)⟩)), cu.cg v (by rw [my.2.2.1]; exact Int.le_refl _) (fun a _ => by rw [my.1, my.2.1]; exact ⟨rfl, rfl⟩) (fun k k0 k1 => fy _ _ _ (by omega)) (fun k => Fy _ _ _ (by omega)) (fun p _ _ => Fy _ _ _ (by omega)) (fun p _ _ => Fy _ _ _ (by omega)) (fun p _ _ => Fy _ _ _ (by omega)) (fun p _ _ k => Fy _ _ _ (by omega)) (fun p _ _ c j hc => Fy _ _ _ (by omega)) (fun p _ _ k => Fy _ _ _ (by omega)), pu.cg (by rw [my.2.2.1]; exact Int.le_refl _) (fun a _ => by rw [my.1]) (fun c a k hq => Fy _ _ _ (by omega)), by rw [my.2.2.1]; omega, by rw [my.1, my.2.2.1]; exact ⟨x0, x1, x2⟩, fun k k0 k1 => ?_, fun K' hk' => ?_, ?_, fun l => ?_⟩
  · refine hu.trans ?_
    rw [jls_e]
    rw [e4, W32_in (by omega) (by omega), ← Y, py, W32_in (by omega) (by omega), show cNp s B K + 1 - 1 = cNp s B K by omega, jlt_in n0 (by omega), Option.bind_some, Fy _ _ _ (by omega), ← X]
  · rw [pk]
    obtain ⟨b1, b2, b3⟩ := (h.2.2.2.2.1 k k0 k1).1
    intro hx
    by_cases e : kOf (d 5 k) = K
    · obtain ⟨j, j0, j1, j2⟩ := nk k k0 k1 e
      rw [← hc, ← ha] at j2
      rcases hr (cNp s B K) n0 (by omega) with z | ⟨-, z⟩
      · omega
      · refine z j j0 (by omega) (by omega) ?_
        rw [F' _ _ _ (by omega) (by omega), ← j2, hx, X]
    · have : jK u x = kOf (d 5 k) := by rw [← hx, (hK _ b2).1]; exact b3
      omega
  · by_cases e : K' = K
    · rw [e, eyK, ← hc, ← ha]
      refine ⟨by omega, fun k k0 k1 hz => ?_, fun _ => ⟨cNp s B K, n0, by omega, by rw [Fy _ _ _ (by omega)]; exact X⟩⟩
      obtain ⟨j, j0, j1, j2⟩ := nk k k0 k1 hz
      exact ⟨j, j0, by omega, by rw [pk, rowK _ (by omega), j2, hc, ha]⟩
    · obtain ⟨⟨a1, a1'⟩, a2⟩ := nN K' hk'
      have hci := plC_in hk'
      have hne := plS_ne hk hk' e
      rw [ey K' hk' e]
      refine ⟨⟨a1, by omega⟩, fun k k0 k1 hz => ?_, fun q => absurd q e⟩
      obtain ⟨j, j0, j1, j2⟩ := a2 k k0 k1 hz
      exact ⟨j, j0, j1, by rw [pk, Fy _ _ _ (by omega), F' _ _ _ (by omega) (by omega)]; exact j2⟩
  · rw [fy _ _ _ (by omega), F' _ _ _ (by omega) (by omega)]; exact h19
  · show jf y 1017 (B + 3) l = _
    rw [Fy _ _ _ (by omega), F' _ _ _ (by omega) (by omega)]
/-- it becomes a piece -/
theorem NXo.fin {u2 : jS} (h : NXo s B d K u x) (v : vLy d) (h0 : 0 < d 0 0) (h1 : d 0 1 < 256) (hS : 0 ≤ S ∧ S ≤ 4) (hKS : kOf S = K) (m : jSm u u2) (F : ∀ c a k, ¬ (c = K ∧ a = x) → jf u2 c a k = jf u c a k) (hf : cFlw u2 B x S n w l c z) : ∃ y, m_X36_add u2 B (d 0 0 - 1) x = some (y, d 0 1) ∧ cBu y B (dPc d S n w l c z) ∧ lbW B s y 1 9 := by
  obtain ⟨LW, cu, pu, hn, ⟨x0, x1, x2⟩, hne, hN, h19, hL⟩ := h
  have hk : isPk K := by rw [← hKS]; exact (kOf_o S).1
  have hKc : K = 72 ∨ K = 73 ∨ K = 76 ∨ K = 77 := hk
  have c2 : cLs u2 B d := cu.cg v (by rw [m.2.2.1]; exact Int.le_refl _) (fun a _ => by rw [m.1, m.2.1]; exact ⟨rfl, rfl⟩) (fun k k0 k1 => F _ _ _ (by omega)) (fun k => F _ _ _ (by omega)) (fun p _ _ => F _ _ _ (by omega)) (fun p _ _ => F _ _ _ (by omega)) (fun p _ _ => F _ _ _ (by omega)) (fun p _ _ k => F _ _ _ (by omega)) (fun p p0 p1 c j hc => F _ _ _ (fun q => hne p p0 p1 q.2)) (fun p _ _ k => F _ _ _ (by omega))
  have hne2 : ∀ k, 0 ≤ k → k < d 0 1 → ¬ poK u2 B k = x := fun k k0 k1 => by
    show ¬ jf u2 1020 (B + 2) k = x
    rw [F _ _ _ (by omega)]; exact hne k k0 k1
  obtain ⟨y, ey, cy, my, y19, yx, yk, Fy, Fr⟩ := c_ladd c2 v h0 h1 hS (by rw [m.1, m.2.2.1, hKS]; exact ⟨x0, x1, x2⟩) hne2 hf
  have L2 : lbW B s u2 1 9 := LW.of m fun c a k q => F _ _ _ fun z => q ⟨.inl (by rw [z.1]; omega), .inr (by rw [z.2, x2]; omega)⟩
  have mm := m.trans my
  obtain ⟨e5, -⟩ := dPc_at (d := d) (S := S) (n := n) (w := w) (l := l) (c := c) (z := z)
  refine ⟨y, ey, ⟨cy, pu.cg (by rw [mm.2.2.1]; exact Int.le_refl _) (fun a _ => by rw [mm.1]) (fun c a k q => ?_), y19, by rw [mm.2.2.1]; exact hn, fun K' hk' => ?_⟩, L2.of my fun c a k q => ?_⟩
  · have hc : 1015 ≤ c ∧ ¬ c = 1020 := by omega
    rw [Fy c a k (by omega) (fun z => by rcases z with z | z | z | z <;> omega) (by omega) (by omega), F _ _ _ (by omega)]
  · obtain ⟨a1, a2, a3'⟩ := hN K' hk'
    have a3 : hid (K' = K → ∃ j, 0 ≤ j ∧ j < cNp u B K' ∧ x = jf u (plC K') (B + plA K') j) := a3'
    clear a3'
    have hci := plC_in hk'
    have hsi := plS_in hk'
    have eN : cNp y B K' = cNp u B K' := by
      unfold cNp
      rw [Fy _ _ _ (by omega) (fun z => by rcases z with z | z | z | z <;> omega) (by omega) (by omega), F _ _ _ (by omega)]
    have eR : ∀ j, jf y (plC K') (B + plA K') j = jf u (plC K') (B + plA K') j := fun j => by
      rw [Fy _ _ _ (by omega) (fun z => by rcases z with z | z | z | z <;> omega) (by omega) (by omega), F _ _ _ (by omega)]
    rw [eN, dPc_0]
    refine ⟨a1, fun k k0 k1 hz => ?_⟩
    by_cases ck : k = d 0 1
    · rw [ck, e5, hKS] at hz
      obtain ⟨j, j0, j1, j2⟩ := (show K' = K → ∃ j, 0 ≤ j ∧ j < cNp u B K' ∧ x = jf u (plC K') (B + plA K') j from a3) hz.symm
      exact ⟨j, j0, j1, by rw [ck, eR, ← j2]; exact yx⟩
    · rw [dPc_no (by omega) (by omega) (by omega)] at hz
      obtain ⟨j, j0, j1, j2⟩ := a2 k k0 (by omega) hz
      exact ⟨j, j0, j1, by rw [eR, ← j2]; show jf y 1020 (B + 2) k = _; rw [yk k ck, F _ _ _ (by omega)]⟩
  · by_cases hh : (B ≤ a ∧ a ≤ B + 11) ∨ 70 ≤ jK u2 a ∧ jK u2 a ≤ 77
    · have : ¬ lKk c := fun z => q ⟨.inl z, hh⟩
      exact Fy _ _ _ (by omega) (fun z => by rcases z with z | z | z | z <;> omega) (by omega) (by omega)
    · exact Fr _ _ _ hh
end jLops
