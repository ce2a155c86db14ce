/-! the linker: a text as a whole, both sides *-/
set_option maxRecDepth 100000
section jTxw
variable {s t u w s' t' q' : jS} {a b g k m n p v l x y0 c j X f i H C P Q P' Q' S Si w0 l0 c0 z0 N M rr : Int} {O : Int → Int → Int → Int → Int} {o : Int → Int → Int → Int} {d d' d2 e z z' z2 y y' : Int → Int → Int}
/-- rows that laying out leaves alone, loose places aside -/
def jRc (C H : Int) (s t u w : jS) : Prop := (∀ k, jf u 1000 (C + 4275 + 22) k = jf s 1000 (C + 4275 + 22) k) ∧ ∀ a k, a = H + 195 ∨ a = H + 202 → jf w 1000 a k = jf t 1000 a k
theorem jRb.rc (h : jRb C H s t u w) : jRc C H s t u w := ⟨h.1.1, h.2⟩
theorem jRc.rfl : jRc C H s t s t := ⟨fun _ => Eq.refl _, fun _ _ _ => Eq.refl _⟩
theorem jRc.trans (h : jRc C H s t s' t') (g : jRc C H s' t' u w) : jRc C H s t u w := ⟨fun k => (g.1 k).trans (h.1 k), fun a k ha => (g.2 a k ha).trans (h.2 a k ha)⟩
/-- what the pieces of a part leave -/
def ptQ (C H S : Int) (O : Int → Int → Int → Int → Int) (s t : jS) (e d z : Int → Int → Int) (P Q x sz : Int) (r : jS × Bool × Int) (q : jS × Int) : Prop := (lkX C H s t P Q r q.1 ∧ q.2 = 0) ∨ (r.2.1 = false ∧ q.2 = 1 ∧ ∃ d' z' y', sK d z d' z' ∧ LBR C H r.1 q.1 d' z' ∧ LBL C H S O r.1 q.1 e d' y' ∧ (∀ k, 0 ≤ k → k < d' 0 1 → pcI O d' z' k ∧ z' 3 k ≤ x) ∧ (pCt d' z' (d 0 0 - 1) sz ∧ pcYs S O e d' y' z') ∧ (cBW C s r.1 (3 * (d' 0 1 - d 0 1)) (24 * (d' 0 1 - d 0 1)) ∧ tBW H t q.1) ∧ jRc C H s t r.1 q.1)
theorem x_text (h : LBR C H s t d z) (hL : LBL C H S O s t e d y) (hh : LB0 C H S O s t e) (x0 : 0 ≤ x) (x1 : x < 6) (hS : sIn S x) (hp : 0 < d 0 0) (he : d 3 (d 0 0 - 1) = d 4 (d 0 0 - 1)) (hpc : ∀ k, 0 ≤ k → k < d 0 1 → pcI O d z k ∧ z 3 k < x) (hyz : pcYs S O e d y z) (hp1 : d 1 (d 0 0 - 1) = 0 ∧ d 0 0 - 1 = 4 * nIn S x.toNat ∧ sIn S x) (hb : jBd s (3 * (257 - d 0 1)) (24 * (257 - d 0 1))) : ∃ r q, m_X35_textPieces s (C + 4275) (d 0 0 - 1) x = some r ∧ m_X37_textPieces t H x (d 0 0 - 1) = some q ∧ ptQ C H S O s t e d z (3 * (257 - d 0 1)) (24 * (257 - d 0 1)) x (O x 1 0 0) r q := by
  obtain ⟨hk, -, -, -⟩ := id hh
  obtain ⟨hC, -, hrd, hTs, -, ht⟩ := id hk
  obtain ⟨hO, hu, v, g⟩ := hrd x x0 x1 hS
  have hT := (T33 (hTs x x0 x1)).2.2.1
  have nb : ¬ bd1 (O x) := fun ⟨k, k0, k1, k2⟩ => by have := (g.1 k k0 k1).2.1; omega
  have N2 := (v.1 0 (by decide) (by decide)).2.1
  rw [if_neg (by decide)] at N2
  have N0 := (v.1 0 (by decide) (by decide)).1
  have eF : C + 4275 + -4000 + 4041 + 1858 * x = fAt C x := by unfold fAt; omega
  rw [em_X35_textPieces, em_X37_textPieces]; unfold dm_X35_textPieces dm_X37_textPieces
  rw [jix_in x0 x1, Option.bind_some, eF, c_shorts hO v nb, Option.bind_some]
  obtain ⟨Y, hY⟩ : ∃ Y : Int, Y = if 0 < cn (isH (O x)) (O x 2 0 0) then 1 else 0 := ⟨_, rfl⟩
  have e22 : (if 0 < cn (isH (O x)) (O x 2 0 0) then u_X35_textPieces_22 s (C + 4275) (d 0 0 - 1) x (fAt C x + 614) 1 else u_X35_textPieces_22 s (C + 4275) (d 0 0 - 1) x (fAt C x + 614) 0) = u_X35_textPieces_22 s (C + 4275) (d 0 0 - 1) x (fAt C x + 614) Y := by
    rw [hY]
    by_cases c : 0 < cn (isH (O x)) (O x 2 0 0)
    · rw [if_pos c, if_pos c]
    · rw [if_neg c, if_neg c]
  rw [e22, eu_X35_textPieces_22]; unfold du_X35_textPieces_22
  obtain ⟨u, eu, sm, Fu, rx⟩ := c_relax (C := C) hO hT v g ⟨by unfold fAt; omega, by unfold fAt; omega⟩
  have gu : cBW C s u 0 0 := cBW.sm sm fun c b k h1 h2 h3 => Fu _ _ _ h3
  have hh1 := hh.bw gu (tBW.rfl (H := H) (t := t))
  obtain ⟨hO1, -, -, -⟩ := hh1.1.2.2.1 x x0 x1 hS
  have hT1 := (T33 (hh1.1.2.2.2.1 x x0 x1)).2.2.1
  have hB1 : LBR C H u t d z := ⟨h.1, ⟨h.2.1.1.fr h.1 sm fun c a k h1 h2 h3 => Fu _ _ _ h3, h.2.1.2.cg (fun a k a0 a1 => Fu _ _ _ (by omega)) (Fu _ _ _ (by omega))⟩, h.2.2⟩
  have hL1 : LBL C H S O u t e d y := by
    obtain ⟨l1, ⟨l2, l3, l4, l5⟩, l6⟩ := hL
    exact ⟨l1, ⟨by rw [Fu _ _ _ (by omega)]; exact l2, fun X hX h0 => by rw [Fu _ _ _ (by omega)]; exact l3 X hX h0, fun g g0 g1 => by rw [Fu _ _ _ (by omega)]; exact l4 g g0 g1, fun l l0 l1 => by rw [Fu _ _ _ (by omega), Fu _ _ _ (by omega)]; exact l5 l l0 l1⟩, l6⟩
  rw [eu, Option.bind_some, e_X14_room _ _ _ ⟨by decide, by decide⟩, Option.bind_some, (hO1.2.1 0 (by decide) (by decide)).1]
  obtain ⟨j, f1, n1⟩ := c_nextMove (C := C) (a := 0) hO1 hT1 v g rx
  obtain ⟨j2, f2, n2⟩ := t_nextTaken (a := 0) hu v g x0 x1
  rw [f1, f2, Option.bind_some, Option.bind_some, nxT_one n2 n1]
  have hb1 : jBd u (3 * (257 - d 0 1)) (24 * (257 - d 0 1)) := by
    obtain ⟨-, -, m3, m4, m5, m6, -⟩ := sm
    unfold jBd; rw [m3, m4, m5, m6]; exact hb
  obtain ⟨r, q, g1, g2, g3⟩ := tx_loop x0 x1 hS rfl N2 hY (O x 1 0 0).toNat ⟨hB1, hL1, hh1, rx, fun k k0 k1 => ⟨(hpc k k0 k1).1, .inr (.inl (hpc k k0 k1).2), by have := (hpc k k0 k1).2; omega⟩, .inl ⟨he, rfl⟩, hyz, hp1⟩ hp n1 (by omega) (by omega) (by omega) hb1
  refine ⟨r, q, g1, g2, ?_⟩
  have ru : jRc C H s t u t := ⟨fun k => Fu _ _ _ (by omega), fun _ _ _ => rfl⟩
  rcases g3 with ⟨a1, a2⟩ | ⟨a1, a2, d2, z2, y2, a3, a4, a5, a6, a7, ⟨a8, a9⟩, aa⟩
  · exact .inl ⟨(a1.pre (gu.lf hB1.2.1.1.2.1) tBW.rfl.lf).mono (by omega) (by omega), a2⟩
  · exact .inr ⟨a1, a2, d2, z2, y2, a3, a4, a5, a6, a7, ⟨(gu.trans a8).mono (by omega) (by omega), a9⟩, ru.trans aa.rc⟩
end jTxw
