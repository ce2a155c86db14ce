/-! the facade: linking, both sides *-/
set_option maxRecDepth 100000
section jFlk
variable {s t u w s' t' : jS} {a b k m n o p q v l x y c f g j H C S X P Q sh : Int} {i i' : Int → Int → Int → Int} {G : Int → Int → Int} {N : Int → Int}
/-- no set of units -/
theorem f_link0 (hk : ¬ (1 ≤ S ∧ S ≤ 63)) (hB : 0 ≤ jn s ∧ jBd s 1 6) : m_X1_link s C S sh = some (jmk s 2054 0 (fun _ => 0) 6, true, jn s) ∧ m_X37_link t H S sh = some (jp t 41 H 4 1, 0) := by
  have hx : jnx s 2054 = some (jmk s 2054 0 (fun _ => 0) 6, jn s) := by
    unfold jnx
    exact if_pos ⟨hB.1, hB.2.1, hB.2.2⟩
  have e11 : u_X1_link_11 s = some (jmk s 2054 0 (fun _ => 0) 6, true, jn s) := by
    rw [eu_X1_link_11]; unfold du_X1_link_11
    rw [hx, Option.bind_some]; exact jck0_in hB.1
  have e12 : u_X37_link_12 t H S sh H = some (jp t 41 H 4 1, 0) := by
    rw [eu_X37_link_12]; unfold du_X37_link_12
    rw [eu_X37_link_17]; unfold du_X37_link_17
    rw [jls_e, jf_pos ⟨rfl, rfl, rfl⟩, if_neg n10]
  rw [em_X1_link, em_X37_link]; unfold dm_X1_link dm_X37_link
  by_cases c : S < 1
  · rw [if_pos c, if_pos c]; exact ⟨e11, e12⟩
  · rw [if_neg c, if_neg c, if_neg (by omega), if_pos (by omega)]; exact ⟨e11, e12⟩
/-- linked, as the facade tells it -/
def lnU (C H : Int) (s t : jS) (P Q : Int) (r : jS × Bool × Int) (q : jS × Int) : Prop := (r.2.1 = false ∧ r.2.2 = q.2) ∧ jf q.1 41 H 4 = 0 ∧ cNG C s r.1 P Q ∧ tNG H t q.1 ∧ ((jf r.1 39 (C + 4275) 6 = 0 ∧ jf r.1 39 (C + 4275) 7 = -1 ∧ jf r.1 39 (C + 4275) 8 = -1) ∧ jf q.1 41 H 99 = 0 ∧ jf q.1 41 H 100 = -1 ∧ jf q.1 41 H 101 = -1) ∧ imI C H r.1 q.1 ∧ kpR C H r.1 q.1 ∧ (jf r.1 39 (C + 4275) 46 = jf q.1 41 H 102 ∧ jf r.1 39 (C + 4275) 47 = jf q.1 41 H 103)
theorem f_link (hS : lkSt C H s G N t) (hcd : cKdl C s) (hc : cBs s (C + 4276)) (hw : wrS C H s t) (im : imI C H s t) (hI : pTi t (H + 25)) (S0 : 1 ≤ S) (S1 : S ≤ 63) (hsh : sh = 0 ∨ sh = 1) (hb : jBd s 850 6760) : ∃ r q, m_X1_link s C S sh = some r ∧ m_X37_link t H S sh = some q ∧ (lnF C H s t 850 6760 r q ∨ lnU C H s t 850 6760 r q) := by
  obtain ⟨r, q, er, eq, hq⟩ := x_link hS hcd hc hw im hI S0 S1 hsh hb
  rw [em_X1_link]; unfold dm_X1_link
  rw [if_neg (by omega), if_pos (by omega), er, Option.bind_some, eq]
  rcases hq with hq | ⟨z1, z2, z3, z4, z5, z8, z9, z10, gg, n, ib, z11, -, -⟩
  · refine ⟨r, q, ?_, rfl, .inl hq⟩
    rw [hq.2.2.1.1]
    obtain ⟨r1, r2, r3⟩ := r
    have : r2 = true := hq.2.2.1.1
    subst this; rfl
  · rw [show r.2.1 = false by rw [z1], jth_ff]
    obtain ⟨s1, E1⟩ : ∃ s1, s1 = jp r.1 39 (C + 4275) 6 0 := ⟨_, rfl⟩
    obtain ⟨f1, p1, -⟩ := jpF E1
    obtain ⟨s2, E2⟩ : ∃ s2, s2 = jp s1 39 (C + 4275) 7 (-1) := ⟨_, rfl⟩
    obtain ⟨f2, p2, -⟩ := jpF E2
    obtain ⟨s3, E3⟩ : ∃ s3, s3 = jp s2 39 (C + 4275) 8 (-1) := ⟨_, rfl⟩
    obtain ⟨f3, p3, -⟩ := jpF E3
    have F : ∀ c a k, ¬ (c = 39 ∧ a = C + 4275 ∧ 6 ≤ k ∧ k ≤ 8) → jf s3 c a k = jf r.1 c a k := fun c a k q => by rw [f3 _ _ _ (by omega), f2 _ _ _ (by omega), f1 _ _ _ (by omega)]
    have m3 : jSm r.1 s3 := by rw [E3, E2, E1]; exact ((jSm.rfl.jp).jp).jp
    have x3 : jEx r.1 s3 := by rw [E3, E2, E1]; exact ((jEx.rfl.jp rfl).jp rfl).jp rfl
    have NG : cNG C r.1 s3 0 0 := ⟨jGw.sm m3 fun c a k hA => F c a k fun q => hA (by unfold lnA lkA; omega), fun q => q.cg (by rw [m3.2.2.1]; exact Int.le_refl _) (fun _ _ => by rw [m3.1]) fun c a k q' => F c a k (by omega)⟩
    have ib3 : iB s3 (C + 3992 + 19) gg n := by
      obtain ⟨⟨b1, b2, b3, b4⟩, b5, b6⟩ := ib
      exact ⟨⟨by rw [F _ _ _ (by omega)]; exact b1, b2, b3, fun k k0 k1 => by rw [F _ _ _ (by omega)]; exact b4 k k0 k1⟩, b5, b6.ext x3⟩
    rw [jls_e, ← E1, jls_e, ← E2, jls_e, ← E3, i_fsize ib3, Option.bind_some]
    obtain ⟨i1, i2, i3, i4⟩ := z8
    obtain ⟨M, n1, n2, n3, n4, n5⟩ := z9
    refine ⟨(s3, false, n), q, rfl, rfl, .inr ⟨⟨rfl, z11.symm⟩, z2, (z3.trans NG).mono (by decide) (by decide), z4, ⟨⟨?_, ?_, p3⟩, z5⟩, ⟨i1.ext x3, fun x x0 x1 => ?_, fun x x0 x1 => ?_, i4.kp (fun c a k _ => F c a k (by omega)) (T42 (i1.ext x3)).2.2.2.1 rfl fun _ => rfl⟩, ⟨M, ?_, n2, n3, n4, fun g g0 g1 => ?_⟩, ?_, ?_⟩⟩
    · show jf s3 39 (C + 4275) 6 = 0
      rw [f3 _ _ _ (by omega), f2 _ _ _ (by omega)]; exact p1
    · show jf s3 39 (C + 4275) 7 = -1
      rw [f3 _ _ _ (by omega)]; exact p2
    · show 0 ≤ jf s3 28 _ 4 ∧ jf s3 28 _ 4 ≤ 4096
      rw [F _ _ _ (by omega)]; exact i2 x x0 x1
    · show jf s3 28 _ 0 = x
      rw [F _ _ _ (by omega)]; exact i3 x x0 x1
    · show jf s3 39 (C + 4275) 45 = M
      rw [F _ _ _ (by omega)]; exact n1
    · obtain ⟨q1, q2, q3⟩ := n5 g g0 g1
      show (jf s3 1000 (C + 4275 + 39) g = _ ∧ _) ∧ (∀ i, _ → _ → jf s3 1001 (C + 4275 + 38) (16 * g + i) = _ ∧ _) ∧ jf s3 1000 (C + 4275 + 40) g = _
      rw [F _ _ _ (by omega), F _ (C + 4275 + 40) _ (by omega)]
      refine ⟨q1, fun i i0 i1 => ?_, q3⟩
      rw [F _ _ _ (by omega)]; exact q2 i i0 i1
    · show jf s3 39 (C + 4275) 46 = _
      rw [F _ _ _ (by omega)]; exact z10.1
    · show jf s3 39 (C + 4275) 47 = _
      rw [F _ _ _ (by omega)]; exact z10.2
end jFlk
