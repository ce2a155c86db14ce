/-! the linker: all parts, pieces and labels, both sides *-/
set_option maxRecDepth 100000
section jLbo
variable {s t u w s0 t0 : jS} {a b k m n p v l x c f i H B C S K : Int} {O : Int → Int → Int → Int → Int} {d d' e z y : Int → Int → Int} {G : Int → Int} {QQ : jS × Bool × Int → jS × Int → Prop}
/-- where a piece's aim is put, or that it is not -/
def pcU (S : Int) (O : Int → Int → Int → Int → Int) (e d z : Int → Int → Int) (G : Int → Int) (k : Int) : Prop := (¬ d 5 k = 0 → d 1 (d 11 k) = 0 ∧ d 11 k = 4 * nIn S (z 3 k).toNat ∧ sIn S (z 3 k)) ∧ (mvK d k → (d 12 (d 8 k) = -1 ∨ lT S O e d z G (kyO O e (100 * z 3 k + O (z 3 k) 5 (z 2 k - 300 * z 3 k) 3)) (d 12 (d 8 k)) (d 13 (d 8 k))) ∧ d 9 k = O (z 3 k) 5 (z 2 k - 300 * z 3 k) 4 ∧ (d 5 k = 2 → d 10 k = 1 → ¬ uW (O (z 3 k)) (z 0 k) / 128 % 32 = 0 ∧ ¬ uW (O (z 3 k)) (z 0 k) / 128 % 32 = 2) ∧ okT (O (z 3 k)) (z 2 k - 300 * z 3 k))
theorem pcYs.U (h : pcYs S O e d y z) (v : vLy d) (k0 : 0 ≤ k) (k1 : k < d 0 1) : pcU S O e (lPx S O e d z y G (lTb S O e d z y G (d 0 2))) z G k := by
  have ls : dLs d (lPx S O e d z y G (lTb S O e d z y G (d 0 2))) := dPs_ls
  refine ⟨fun h5 => ?_, fun hm => ?_⟩
  · rw [ls 5 _ (by decide) (by decide)] at h5
    rw [ls 11 _ (by decide) (by decide), ls 1 _ (by decide) (by decide)]; exact (h.1 k k0 k1).1 h5
  have hm' : mvK d k := by unfold mvK at hm ⊢; rw [ls 5 _ (by decide) (by decide)] at hm; exact hm
  obtain ⟨q1, q2, -, q4⟩ := (h.1 k k0 k1).2 hm'
  have l8 := ((v.2.2.2.2.2.2.1 k k0 k1).2.2.2.2 hm').1
  rw [ls 8 _ (by decide) (by decide), ls 9 _ (by decide) (by decide), ls 5 _ (by decide) (by decide), ls 10 _ (by decide) (by decide)]
  refine ⟨?_, q2, q4⟩
  rw [← q1, lT_ls ls]
  by_cases c : lTb S O e d z y G (d 0 2) (d 8 k)
  · obtain ⟨-, m, a, hT⟩ := id c
    right
    have e12 : lPx S O e d z y G (lTb S O e d z y G (d 0 2)) 12 (d 8 k) = (lQ S O e d z G (kyO O e (y 1 (d 8 k)))).1 := by unfold lPx dPs; rw [if_pos ⟨rfl, c⟩]
    have e13 : lPx S O e d z y G (lTb S O e d z y G (d 0 2)) 13 (d 8 k) = (lQ S O e d z G (kyO O e (y 1 (d 8 k)))).2 := by unfold lPx dPs; rw [if_neg (fun q => absurd q.1 (by decide)), if_pos ⟨rfl, c⟩]
    rw [e12, e13]; exact lQ_of hT
  · left
    unfold lPx dPs; rw [if_neg (fun q => c q.2), if_neg (fun q => absurd q.1 (by decide))]
    exact h.2 _ l8.1 l8.2
theorem pcYs.T (h : pcYs S O e d y z) (ls : dLs d d') : noT d' ∧ szD d' := by
  have g : ∀ k, 0 ≤ k → k < d' 0 1 → mvK d' k → d' 15 k = grK d' k := fun k k0 k1 hm => by
    rw [ls 0 _ (by decide) (by decide)] at k1
    have hm' : mvK d k := by unfold mvK at hm ⊢; rw [ls 5 _ (by decide) (by decide)] at hm; exact hm
    have := ((h.1 k k0 k1).2 hm').2.2.1
    unfold grK at this ⊢
    rw [ls 15 _ (by decide) (by decide), ls 5 _ (by decide) (by decide)]; exact this
  refine ⟨fun k k0 k1 q => ?_, fun k k0 k1 hm => .inl (g k k0 k1 hm)⟩
  have := g k k0 k1 q.1
  have := q.2
  rcases lstK_lo (d := d') (k := k) with z | z
  · omega
  · exact z q.1
/-- what laying all out leaves -/
def LYD (C H S : Int) (O : Int → Int → Int → Int → Int) (s0 t0 s t : jS) (e d z y : Int → Int → Int) : Prop := LY s t (C + 4275 + 1) (H + 93) d ∧ (cPz C s d z ∧ tPz H t d z) ∧ (∃ G, lpR H S O t d z e G ∧ (∀ g, 0 ≤ g → g < e 0 0 → e 3 g = 2 → (jf s 1000 (C + 4275 + 22) g = G g ∧ jf t 1000 (H + 195) g = G g)) ∧ ∀ k, 0 ≤ k → k < d 0 1 → pcU S O e d z G k) ∧ LB0 C H S O s t e ∧ cBW C s0 s 837 6663 ∧ tBW H t0 t ∧ noT d ∧ szD d ∧ cPool s (C + 4275 + 1)
theorem lu_labels (h : shJ C H S O s0 t0 e (e 0 0) s t) (hQ : ∀ (r : jS × Bool × Int) (q : jS × Int), r.2 = (false, 0) → q.2 = 1 → (∃ d z y, LYD C H S O s0 t0 r.1 q.1 e d z y) → QQ r q) : jE2 (u_X35_layOut_250 s (C + 4275)) (u_X37_layParts_191 t H) QQ := by
  obtain ⟨d, z, y, ⟨h1, ⟨yo, hc, ty⟩, h3, h4, h5, hY⟩, h6, h7, h8, h9⟩ := h
  obtain ⟨vl, ⟨hB, cz⟩, tl, tz⟩ := h1
  have v0 := vl.1
  have v1 := vl.2.1
  obtain ⟨G, hGe⟩ : ∃ G : Int → Int, G = fun g => jf s 1000 (C + 4275 + 22) g := ⟨_, rfl⟩
  have hG1 : ∀ g, 0 ≤ g → g < e 0 0 → e 3 g = 2 → jf s 1000 (C + 4275 + 22) g = G g := fun g _ _ _ => by rw [hGe]
  have hG2 : ∀ g, 0 ≤ g → g < e 0 0 → e 3 g = 2 → jf t 1000 (H + 195) g = G g := fun g g0 g1 g2 => by
    obtain ⟨p, -, q1, q2, -⟩ := h8 g g0 g1 g2
    rw [hGe]; show _ = jf s 1000 (C + 4275 + 22) g
    rw [q1, q2]
  have n6 := (nIn_lo (S := S) 6).1
  have hR : lpR H S O t d z e G := ⟨fun v j v0 v1 hv j0 j1 => ⟨h7 v j v0 v1 hv j0 j1, by
    have : nIn S v.toNat < nIn S 6 := nIn_lt hv v0 (x := 6) v1
    omega⟩, fun g g0 g1 g2 => by
    obtain ⟨p, ⟨p0, p1⟩, q1, -, q3, q4⟩ := h8 g g0 g1 g2
    have : G g = p := by rw [hGe]; exact q1
    rw [this]
    exact ⟨⟨by omega, p1⟩, q3, q4⟩, fun i i0 i1 => (h9 i i0 i1).1⟩
  obtain ⟨u, eu, u1, u2, u3, u4⟩ := c_labels h3 yo hc vl ⟨hB.1, .inl hB.2.2.1⟩ cz hR hG1
  obtain ⟨w, ew, w1, w2⟩ := t_labels h3 yo ty vl tl tz hR hG2
  have ls : dLs d (lPx S O e d z y G (lTb S O e d z y G (d 0 2))) := dPs_ls
  rw [eu, ew]
  refine jE2_some.mpr (hQ _ _ rfl rfl ⟨_, z, y, ⟨u1, u2, w1⟩, ⟨cz.ls ls u4, tz.ls ls w2⟩, ⟨G, (hR.ls ls).fr fun k => w2.2 _ _ _ (by omega) (by omega), fun g g0 g1 g2 => ?_, fun k k0 k1 => hY.U vl k0 (by rw [ls 0 _ (by decide) (by decide)] at k1; exact k1)⟩, h3.bw u3 (tbW.bw w2), (h4.trans u3).mono (by omega) (by omega), h5.trans (tbW.bw w2), (hY.T ls).1, (hY.T ls).2, hB.2.1.cg u3.1.n (fun x hx => u3.1.K hx) fun c a k q => u4 _ _ _ (by omega) (by omega)⟩)
  rw [u4 _ _ _ (by omega) (by omega), w2.2 _ _ _ (by omega) (by omega)]
  exact ⟨hG1 g g0 g1 g2, hG2 g g0 g1 g2⟩
/-- from the empty layout on -/
theorem lu_whole (h : uJ C H S O s0 t0 e 0 0 s t) (hb : jBd s0 837 6663) (hF : ∀ (r : jS × Bool × Int) (q : jS × Int), q.2 = 0 → lkX C H s0 t0 837 6663 r q.1 → QQ r q) (hQ : ∀ (r : jS × Bool × Int) (q : jS × Int), r.2 = (false, 0) → q.2 = 1 → (∃ d z y, LYD C H S O s0 t0 r.1 q.1 e d z y) → QQ r q) : jE2 (u_X35_layOut_60 s (C + 4275)) (u_X37_layParts_6 t H 0) QQ := by
  rw [eu_X35_layOut_60]; unfold du_X35_layOut_60
  exact lu_all h hb hF fun s t h6 => lu_shared h6 hb hF fun s t hs => lu_labels hs hQ
end jLbo
