/-! reading on both sides: the answers agree -/
section jBoth
variable {s t : jS} {O X n f p : Int} {g : Int → Int} {L : List (Prop × Int × Int)} {R R' : Type}
theorem ck_two {ok : R → Prop} {ok' : R' → Prop} {bad : Int → Int → R → Prop} {bad' : Int → Int → R' → Prop} {x : Option R} {y : Option R'} (hx : jE x (ckR ok bad L)) (hy : jE y (ckR ok' bad' L)) : jE2 x y fun r q => (Gd L ∧ ok r ∧ ok' q) ∨ ∃ f p, Fst L f p ∧ bad f p r ∧ bad' f p q := by
  obtain ⟨r, er, hr⟩ := hx
  obtain ⟨q, eq, hq⟩ := hy
  refine ⟨r, er, q, eq, ?_⟩
  rcases hr with ⟨h1, h2⟩ | ⟨f, p, h1, h2⟩
  · rcases hq with ⟨-, k2⟩ | ⟨f', p', k1, -⟩
    · exact .inl ⟨h1, h2, k2⟩
    · exact absurd h1 fun h1 => Fst_gd k1 h1
  · rcases hq with ⟨k1, -⟩ | ⟨f', p', k1, k2⟩
    · exact absurd k1 fun k1 => Fst_gd h1 k1
    · obtain ⟨e1, e2⟩ := Fst_one h1 k1
      subst e1 e2
      exact .inr ⟨f, p, h1, h2, k2⟩
/-- within the cells of O, and a new cell for what is thrown -/
theorem jFx.gk {u : jS} {lo m lo' m' : Int} (k : jFx s u lo m) (h0 : lo' ≤ lo) (h1 : lo + m ≤ lo' + m') : jGw s u 0 0 (fun a => lo' ≤ a ∧ a < lo' + m') := k.gw.mono (by omega) (by omega) fun a _ h => ⟨by omega, by omega⟩
theorem bad_gw {u : jS} {lo m lo' m' c a i v : Int} (k : jFx s u lo m) (h0 : lo' ≤ lo) (h1 : lo + m ≤ lo' + m') (ha : lo' ≤ a) (hb : a < lo' + m') : jGw s (jp (jmk u 2054 0 (fun _ => 0) 6) c a i v) 1 6 (fun a => lo' ≤ a ∧ a < lo' + m') :=
  ((k.gk h0 h1).mk.mono (by omega) (by omega) fun a _ h => h).jp (.inl ⟨ha, hb⟩)
/-- an object's file is read -/
theorem o_read2 (C : rC s (O + 1239) (O + 1229) g n) (hL : pCon s) (h0 : cObL s (O + 1239 + 3)) (h1 : cObL s (O + 614)) (hT : jTt s 34 (O + 1239 + 3)) (C' : tCf t X g n) : jE2 (m_X13_read s O) (m_X40_read t X) fun r q =>
    r.2 = q.2 ∧ jf r.1 17 O 6 = jf q.1 44 X 23 ∧ ((jGw s r.1 1 6 (fun a => O ≤ a ∧ a < O + 1858) ∧ jEx s r.1) ∧ ∀ c a k, ¬ a = jn s → O + 1 ≤ a ∧ a < O + 614 ∨ O + 1227 ≤ a ∧ a < O + 1239 → jf r.1 c a k = jf s c a k) ∧ fRe t q.1 X ∧
    ((r.2 = 0 ∧ cOb r.1 (O + 614) (oR g) ∧ tOb q.1 X 1 (oR g) ∧ vOb (oR g)) ∨ (¬ r.2 = 0 ∧ fRd t q.1 X ∧ ∀ c a k, O ≤ a → a < O + 1239 → ¬ (c = 17 ∧ a = O ∧ k = 6) → ¬ a = jn s → jf r.1 c a k = jf s c a k)) := by
  obtain ⟨r, er, q, eq, h⟩ := ck_two (y_read C hL h0 h1 hT) (t_read C')
  refine ⟨r, er, q, eq, ?_⟩
  rcases h with ⟨-, ⟨a1, a2, a3, a4, a5, a6⟩, b1, b2, b3, b4⟩ | ⟨f, p, hf, ⟨a1, u, a2, a3⟩, b1, b2, b3, b4⟩
  · exact ⟨a1.trans b1.symm, a3.trans b3.symm, ⟨⟨(a2.gk (by omega) (by omega)).mono (by omega) (by omega) fun a _ h => h, a2.2⟩, fun c a k _ h => a6 c a k h⟩, b2, .inl ⟨a1, a4, b4, a5⟩⟩
  · refine ⟨a1.trans b2.symm, ?_, ⟨⟨by rw [a3]; exact bad_gw a2 (by omega) (by omega) (by omega) (by omega), by rw [a3]; exact (a2.2.trans jEx_mk).jp rfl⟩, fun c a k e3 e4 => ?_⟩, ⟨b3.1, fun c a k e1 e2 _ => b3.2 c a k e1 e2⟩, .inr ⟨by rw [a1]; exact b1, b3, fun c a k e0 e1 e2 e3 => ?_⟩⟩
    · rw [b4, a3]; exact jf_pos ⟨rfl, rfl, rfl⟩
    · have en : jn u = jn s := a2.1.1.2.2.1
      rw [a3, jf_neg (by omega)]
      show (if c = 2054 ∧ a = jn u then (0 : Int) else jf u c a k) = jf s c a k
      rw [if_neg (by omega), a2.F (by omega)]
    · have en : jn u = jn s := a2.1.1.2.2.1
      rw [a3, jf_neg e2]
      show (if c = 2054 ∧ a = jn u then (0 : Int) else jf u c a k) = jf s c a k
      rw [if_neg (by omega), a2.F (by omega)]
/-- an image's file is read -/
theorem i_read2 (C : iC s (O + 25) (O + 19) g n) (hz : cIz s (O + 25 + 1)) (hT : jTt s 43 (O + 25 + 1)) (C' : sC t X g n) : jE2 (m_X22_read s O) (m_X42_read t X) fun r q =>
    r.2 = q.2 ∧ jf r.1 26 O 5 = jf q.1 46 X 10 ∧ ((jGw s r.1 1 6 (fun a => O ≤ a ∧ a < O + 37) ∧ jEx s r.1) ∧ cIz r.1 (O + 25 + 1) ∧ ∀ c a k, ¬ a = jn s → O + 1 ≤ a ∧ a < O + 10 ∨ O + 19 ≤ a ∧ a < O + 25 → jf r.1 c a k = jf s c a k) ∧ sRe t q.1 X ∧
    ((r.2 = 0 ∧ cIm r.1 (O + 10) (iR g) ∧ tIm q.1 X 1 (iR g) ∧ vIm (iR g)) ∨ (¬ r.2 = 0 ∧ sRd t q.1 X ∧ ∀ c a k, O ≤ a → a < O + 25 → ¬ (c = 26 ∧ a = O ∧ k = 5) → ¬ a = jn s → jf r.1 c a k = jf s c a k)) := by
  obtain ⟨r, er, q, eq, h⟩ := ck_two (x_read C hz hT) (s_read C')
  refine ⟨r, er, q, eq, ?_⟩
  rcases h with ⟨-, ⟨a1, a2, a3, a4, a5, a6, a7⟩, b1, b2, b3, b4⟩ | ⟨f, p, hf, ⟨a1, u, ⟨a2, a6⟩, a3⟩, b1, b2, b3, b4⟩
  · exact ⟨a1.trans b1.symm, a3.trans b3.symm, ⟨⟨(a2.gk (by omega) (by omega)).mono (by omega) (by omega) fun a _ h => h, a2.2⟩, a6, fun c a k _ h => a7 c a k h⟩, b2, .inl ⟨a1, a4, b4, a5⟩⟩
  · refine ⟨a1.trans b2.symm, ?_, ⟨⟨by rw [a3]; exact bad_gw a2 (by omega) (by omega) (by omega) (by omega), by rw [a3]; exact (a2.2.trans jEx_mk).jp rfl⟩, fun x x0 x1 => ?_, fun c a k e3 e4 => ?_⟩, ⟨b3.1, fun c a k e1 e2 _ => b3.2 c a k e1 e2⟩, .inr ⟨by rw [a1]; exact b1, b3, fun c a k e0 e1 e2 e3 => ?_⟩⟩
    · rw [b4, a3]; exact jf_pos ⟨rfl, rfl, rfl⟩
    · rw [a3, jf_neg (by omega)]
      show 0 ≤ (if (28 : Int) = 2054 ∧ vsg (O + 25 + 1) x = jn u then (0 : Int) else jf u 28 (vsg (O + 25 + 1) x) 4) ∧ (if (28 : Int) = 2054 ∧ vsg (O + 25 + 1) x = jn u then (0 : Int) else jf u 28 (vsg (O + 25 + 1) x) 4) ≤ 4096
      rw [if_neg (by omega)]; exact a6 x x0 x1
    · have en : jn u = jn s := a2.1.1.2.2.1
      rw [a3, jf_neg (by omega)]
      show (if c = 2054 ∧ a = jn u then (0 : Int) else jf u c a k) = jf s c a k
      rw [if_neg (by omega), a2.F (by omega)]
    · have en : jn u = jn s := a2.1.1.2.2.1
      rw [a3, jf_neg e2]
      show (if c = 2054 ∧ a = jn u then (0 : Int) else jf u c a k) = jf s c a k
      rw [if_neg (by omega), a2.F (by omega)]
end jBoth
