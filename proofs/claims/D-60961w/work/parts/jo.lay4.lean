/-! the twin reckons places -/
set_option maxRecDepth 100000
section jLay4
variable {s t u w : jS} {a k m o p v l n x y c j X f z : Int} {d : Int → Int → Int}
def tLs (t : jS) (X : Int) (d : Int → Int → Int) : Prop := (jf t 45 X 0 = d 0 3 ∧ jf t 45 X 4 = d 0 0 ∧ jf t 45 X 12 = d 0 1 ∧ jf t 45 X 25 = d 0 2) ∧ (∀ o, 0 ≤ o → o < 4 → jf t 1000 (X + 1) o = 2 ^ (d 14 o).toNat) ∧ (∀ p, 0 ≤ p → p < d 0 0 → jf t 1000 (X + 4) p = d 1 p ∧ jf t 1000 (X + 5) p = 2 ^ (d 2 p).toNat) ∧ (∀ p, 0 ≤ p → p < 32 → jf t 1002 (X + 7) p = 0) ∧
  (∀ k, 0 ≤ k → k < d 0 1 → (jf t 1000 (X + 11) k = d 5 k ∧ jf t 1000 (X + 12) k = d 11 k) ∧ (d 5 k = 0 → jf t 1000 (X + 13) k = d 6 k) ∧ (mvK d k → jf t 1000 (X + 13) k = d 15 k) ∧ (d 5 k = 0 ∨ d 5 k = 4 → jf t 1000 (X + 14) k = d 6 k) ∧ (d 5 k = 4 → jf t 1000 (X + 15) k = d 7 k) ∧ (mvK d k → jf t 1000 (X + 16) k = d 8 k ∧ jf t 1000 (X + 17) k = d 9 k ∧ jf t 1002 (X + 18) k = d 10 k ∧ jf t 1002 (X + 19) k = d 16 k)) ∧
  (∀ k, 0 ≤ k → k < 256 → ¬ (k < d 0 1 ∧ mvK d k) → jf t 1002 (X + 19) k = 0) ∧ ∀ l, 0 ≤ l → l < d 0 2 → jf t 1000 (X + 23) l = d 12 l ∧ (¬ d 12 l = -1 → jf t 1000 (X + 24) l = d 13 l)
/-- the places -/
def lkK (d : Int → Int → Int) (k : Int) : Int := up2 (plK d k) (d 7 k) - plK d k
def tLq (t : jS) (X : Int) (d : Int → Int → Int) : Prop := (∀ k, 0 ≤ k → k < d 0 1 → jf t 1000 (X + 20) k = plK d k ∧ (d 5 k = 4 → jf t 1000 (X + 21) k = lkK d k ∧ jf t 1000 (X + 13) k = szK d k (plK d k))) ∧ (∀ p, 0 ≤ p → p < d 0 0 → jf t 1000 (X + 9) p = paB d p ∧ jf t 1000 (X + 10) p = paE d p) ∧ ∀ o, 0 ≤ o → o < 4 → jf t 1000 (X + 2) o = ouB d o ∧ jf t 1000 (X + 3) o = ouE d o
/-- only places are written -/
def tyW (X : Int) (d : Int → Int → Int) (s u : jS) : Prop := jSm s u ∧ ∀ c a k, ¬ (c = 1000 ∧ (a = X + 2 ∨ a = X + 3 ∨ a = X + 9 ∨ a = X + 10 ∨ a = X + 20 ∨ a = X + 21 ∨ a = X + 22)) → ¬ (c = 1000 ∧ a = X + 13 ∧ 0 ≤ k ∧ k < d 0 1 ∧ d 5 k = 4) → jf u c a k = jf s c a k
theorem tyW.rfl : tyW X d s s := ⟨jSm.rfl, fun _ _ _ _ _ => Eq.refl _⟩
theorem tyW.trans (h : tyW X d s u) (g : tyW X d u w) : tyW X d s w := ⟨h.1.trans g.1, fun c a k q1 q2 => (g.2 c a k q1 q2).trans (h.2 c a k q1 q2)⟩
theorem tyW.jp (h : tyW X d s u) (hc : (a = X + 2 ∨ a = X + 3 ∨ a = X + 9 ∨ a = X + 10 ∨ a = X + 20 ∨ a = X + 21 ∨ a = X + 22) ∨ a = X + 13 ∧ 0 ≤ k ∧ k < d 0 1 ∧ d 5 k = 4) : tyW X d s (jp u 1000 a k v) := ⟨h.1.jp, fun c' a' k' q1 q2 => by
  rw [jf_neg]
  · exact h.2 c' a' k' q1 q2
  · rintro ⟨rfl, rfl, rfl⟩; omega⟩
theorem tLs.keep (h : tLs t X d) (g : tyW X d t u) : tLs u X d := by
  obtain ⟨h1, h2, h3, h4, h5, h6, h7⟩ := h
  have F := g.2
  have R : ∀ a k, ¬ (a = X + 2 ∨ a = X + 3 ∨ a = X + 9 ∨ a = X + 10 ∨ a = X + 20 ∨ a = X + 21 ∨ a = X + 22) → ¬ a = X + 13 → jf u 1000 a k = jf t 1000 a k := fun a k q1 q2 => F _ _ _ (by omega) (by omega)
  have Z : ∀ a k, jf u 1002 a k = jf t 1002 a k := fun a k => F _ _ _ (by omega) (by omega)
  have V : ∀ a k, jf u 45 a k = jf t 45 a k := fun a k => F _ _ _ (by omega) (by omega)
  refine ⟨by rw [V, V, V, V]; exact h1, fun o o0 o1 => by rw [R _ _ (by omega) (by omega)]; exact h2 o o0 o1, fun p p0 p1 => by rw [R _ _ (by omega) (by omega), R _ _ (by omega) (by omega)]; exact h3 p p0 p1, fun p p0 p1 => by rw [Z]; exact h4 p p0 p1, fun k k0 k1 => ?_, fun k k0 k1 hk => by rw [Z]; exact h6 k k0 k1 hk, fun l l0 l1 => by rw [R _ _ (by omega) (by omega), R _ _ (by omega) (by omega)]; exact h7 l l0 l1⟩
  obtain ⟨q1, q2, q3, q4, q5, q6⟩ := h5 k k0 k1
  refine ⟨by rw [R _ _ (by omega) (by omega), R _ _ (by omega) (by omega)]; exact q1, fun z => ?_, fun z => ?_, fun z => ?_, fun z => ?_, fun z => ?_⟩
  · rw [F _ _ _ (by omega) (by omega)]; exact q2 z
  · rw [F _ _ _ (by omega) (by unfold mvK at z; omega)]; exact q3 z
  · rw [R _ _ (by omega) (by omega)]; exact q4 z
  · rw [R _ _ (by omega) (by omega)]; exact q5 z
  · rw [R _ _ (by omega) (by omega), R _ _ (by omega) (by omega), Z, Z]; exact q6 z
theorem lack_eq (hz : 0 < z) : (z - a % z) % z = (a + z - 1) / z * z - a := by
  have e := Int.emod_def a z
  have r0 := Int.emod_nonneg a (show z ≠ 0 by omega)
  have r1 := Int.emod_lt_of_pos a hz
  obtain ⟨r, hr⟩ : ∃ r, r = a % z := ⟨_, rfl⟩
  obtain ⟨q, hq⟩ : ∃ q, q = a / z := ⟨_, rfl⟩
  rw [← hr] at e r0 r1 ⊢
  rw [← hq] at e
  have ea : a = r + q * z := by rw [Int.mul_comm q z]; omega
  have e1 : (a + z - 1) / z = (r + z - 1) / z + q := by
    rw [ea, show r + q * z + z - 1 = r + z - 1 + q * z by omega, Int.add_mul_ediv_right _ _ (by omega)]
  rw [e1, Int.add_mul]
  by_cases c : r = 0
  · rw [c, show (0 : Int) + z - 1 = z - 1 by omega, Int.ediv_eq_zero_of_lt (by omega) (by omega), Int.sub_zero, Int.emod_self]
    omega
  · have e2 : (r + z - 1) / z = 1 := by
      rw [show r + z - 1 = (r - 1) + 1 * z by omega, Int.add_mul_ediv_right _ _ (by omega), Int.ediv_eq_zero_of_lt (by omega) (by omega)]; rfl
    rw [e2, Int.emod_eq_of_lt (by omega) (by omega)]
    omega
/-- a part is laid -/
theorem t_layPart (h : tLs t X d) (v : vLy d) (p0 : 0 ≤ p) (p1 : p < d 0 0) :
    ∃ u, m_X41_lay t X p (paB d p) = some (u, paE d p) ∧ tyW X d t u ∧ (∀ k, 0 ≤ k → k < d 0 1 → jf u 1000 (X + 20) k = (if d 11 k = p then plK d k else jf t 1000 (X + 20) k) ∧ (d 5 k = 4 → jf u 1000 (X + 21) k = (if d 11 k = p then lkK d k else jf t 1000 (X + 21) k) ∧ jf u 1000 (X + 13) k = if d 11 k = p then szK d k (plK d k) else jf t 1000 (X + 13) k)) ∧ (∀ q, jf u 1000 (X + 9) q = (if q = p then paB d p else jf t 1000 (X + 9) q) ∧ jf u 1000 (X + 10) q = if q = p then paE d p else jf t 1000 (X + 10) q) ∧ ∀ r k, r = X + 2 ∨ r = X + 3 → jf u 1000 r k = jf t 1000 r k := by
  obtain ⟨g1, g2, g3, g4⟩ := v.2.2.2.2.1 p p0 p1
  have vn := v.1
  have vk := v.2.1
  have pb := paB_lo v p0 p1
  rw [em_X41_lay]; unfold dm_X41_lay
  rw [jst_in p0 (by omega), Option.bind_some, eu_X41_lay_12]; unfold du_X41_lay_12
  obtain ⟨t1, E1⟩ : ∃ t1, t1 = jp t 1000 (X + 9) p (paB d p) := ⟨_, rfl⟩
  obtain ⟨f1, r1, -⟩ := jpF E1
  have L1 : tyW X d t t1 := by rw [E1]; exact tyW.rfl.jp (by omega)
  rw [← E1]
  have key : jE (jlpW (jc4 b_X41_lay_12) [X, p, paB d p, 0] t1) fun r => r.2 = paE d p ∧ tyW X d t r.1 ∧ (∀ k, 0 ≤ k → k < d 0 1 → jf r.1 1000 (X + 20) k = (if d 11 k = p then plK d k else jf t 1000 (X + 20) k) ∧ (d 5 k = 4 → jf r.1 1000 (X + 21) k = (if d 11 k = p then lkK d k else jf t 1000 (X + 21) k) ∧ jf r.1 1000 (X + 13) k = if d 11 k = p then szK d k (plK d k) else jf t 1000 (X + 13) k)) ∧ (∀ q, jf r.1 1000 (X + 9) q = (if q = p then paB d p else jf t 1000 (X + 9) q) ∧ jf r.1 1000 (X + 10) q = if q = p then paE d p else jf t 1000 (X + 10) q) ∧ ∀ r' k, r' = X + 2 ∨ r' = X + 3 → jf r.1 1000 r' k = jf t 1000 r' k := by
    have i0 : ((if (0 : Int) < d 4 p then 0 else d 4 p) - d 3 p).toNat = 0 := by split <;> omega
    have eV : [X, p, paB d p, 0] = (fun i => [X, p, lyK d (d 3 p) ((if i < d 4 p then i else d 4 p) - d 3 p).toNat (paB d p), i]) 0 := by
      show _ = [X, p, lyK d (d 3 p) ((if (0 : Int) < d 4 p then 0 else d 4 p) - d 3 p).toNat (paB d p), 0]
      rw [i0]; rfl
    rw [eV]
    refine jS_for (fun i u => tyW X d t u ∧ (∀ k, 0 ≤ k → k < d 0 1 → jf u 1000 (X + 20) k = (if d 11 k = p ∧ k < i then plK d k else jf t 1000 (X + 20) k) ∧ (d 5 k = 4 → jf u 1000 (X + 21) k = (if d 11 k = p ∧ k < i then lkK d k else jf t 1000 (X + 21) k) ∧ jf u 1000 (X + 13) k = if d 11 k = p ∧ k < i then szK d k (plK d k) else jf t 1000 (X + 13) k)) ∧ (∀ q, jf u 1000 (X + 9) q = (if q = p then paB d p else jf t 1000 (X + 9) q) ∧ jf u 1000 (X + 10) q = jf t 1000 (X + 10) q) ∧ ∀ r' k, r' = X + 2 ∨ r' = X + 3 → jf u 1000 r' k = jf t 1000 r' k) (fun i => [X, p, lyK d (d 3 p) ((if i < d 4 p then i else d 4 p) - d 3 p).toNat (paB d p), i]) 0 (d 0 1) vk.1 ?_ (fun i u i0 i1 ⟨e1, e2, e3, e4⟩ => ?_) (fun u ⟨e1, e2, e3, e4⟩ => ?_)
    · refine ⟨L1, fun k k0 k1 => ?_, fun q => ?_, fun r' k hr => f1 _ _ _ (by omega)⟩
      · rw [if_neg (by omega), if_neg (by omega), if_neg (by omega), f1 _ _ _ (by omega), f1 _ _ _ (by omega), f1 _ _ _ (by omega)]
        exact ⟨rfl, fun _ => ⟨rfl, rfl⟩⟩
      · rw [f1 (1000) (X + 10) q (by omega)]
        refine ⟨?_, rfl⟩
        by_cases c : q = p
        · rw [c, if_pos rfl, r1]
        · rw [if_neg c, f1 _ _ _ (by omega)]
    · show jE (b_X41_lay_12 u X p (lyK d (d 3 p) ((if i < d 4 p then i else d 4 p) - d 3 p).toNat (paB d p)) i) _
      have hs := h.keep e1
      obtain ⟨⟨q1, q1'⟩, q2, q3, q4, q5, q6⟩ := hs.2.2.2.2.1 i i0 i1
      obtain ⟨g5, ⟨w1, w2, w3, w4⟩, gn, gf, gm⟩ := v.2.2.2.2.2.2.1 i i0 i1
      have eW : W32 (i + 1) = i + 1 := W32_in (by omega) (by omega)
      unfold b_X41_lay_12
      rw [hs.1.2.2.1, if_pos i1, jlt_in i0 (by omega), Option.bind_some, q1']
      by_cases c : d 11 i = p
      rotate_left
      · have np : ¬ (d 3 p ≤ i ∧ i < d 4 p) := fun z => c (v.pt p0 p1 z.1 z.2)
        rw [if_neg c, eu_X41_lay_133]; unfold du_X41_lay_133
        rw [eW]
        refine jS_end ⟨?_, e1, fun k k0 k1 => ?_, e3, e4⟩
        · show [X, p, lyK d (d 3 p) ((if i < d 4 p then i else d 4 p) - d 3 p).toNat (paB d p), i + 1] = [X, p, lyK d (d 3 p) ((if i + 1 < d 4 p then i + 1 else d 4 p) - d 3 p).toNat (paB d p), i + 1]
          rw [show ((if i < d 4 p then i else d 4 p) - d 3 p).toNat = ((if i + 1 < d 4 p then i + 1 else d 4 p) - d 3 p).toNat by split <;> split <;> omega]
        · have := e2 k k0 k1
          have ee : (d 11 k = p ∧ k < i + 1) ↔ (d 11 k = p ∧ k < i) := by
            by_cases ck : k = i
            · rw [ck]; exact ⟨fun z => absurd z.1 c, fun z => absurd z.1 c⟩
            · constructor <;> intro z <;> exact ⟨z.1, by omega⟩
          simp only [ee]
          exact this
      rw [c] at w3 w4
      rw [if_pos c, if_pos w4]
      have ek : lyK d (d 3 p) (i - d 3 p).toNat (paB d p) = plK d i := by unfold plK; rw [c]
      have la := plK_lo v i0 i1
      have sz := szK_lo (k := i) (a := plK d i) v i0 i1
      rw [ek]
      have en : lyK d (d 3 p) ((if i + 1 < d 4 p then i + 1 else d 4 p) - d 3 p).toNat (paB d p) = plK d i + szK d i (plK d i) := by
        rw [show ((if i + 1 < d 4 p then i + 1 else d 4 p) - d 3 p).toNat = (i - d 3 p).toNat + 1 by split <;> omega]
        show lyK d (d 3 p) (i - d 3 p).toNat (paB d p) + szK d (d 3 p + ((i - d 3 p).toNat : Int)) (lyK d (d 3 p) (i - d 3 p).toNat (paB d p)) = _
        rw [ek, show d 3 p + ((i - d 3 p).toNat : Int) = i by omega]
      obtain ⟨u1, U1⟩ : ∃ u1, u1 = jp u 1000 (X + 20) i (plK d i) := ⟨_, rfl⟩
      obtain ⟨y1, z1, -⟩ := jpF U1
      have L2 : tyW X d t u1 := by rw [U1]; exact e1.jp (by omega)
      rw [jst_in i0 (by omega), ← U1, Option.bind_some, jlt_in i0 (by omega), Option.bind_some, y1 _ _ _ (by omega), q1]
      have nop : ∀ k, 0 ≤ k → k < d 0 1 → ¬ k = i → ((d 11 k = p ∧ k < i + 1) ↔ (d 11 k = p ∧ k < i)) := fun k k0 k1 ck => by constructor <;> intro z <;> exact ⟨z.1, by omega⟩
      have cpi : d 11 i = p ∧ i < i + 1 := ⟨c, by omega⟩
      by_cases c4 : d 5 i = 4
      rotate_left
      · have vs : jf u1 1000 (X + 13) i = szK d i (plK d i) := by
          rw [y1 _ _ _ (by omega)]
          unfold szK
          by_cases c0 : d 5 i = 0
          · rw [if_pos c0, q2 c0]
          · rw [if_neg c0, if_neg c4, q3 (by unfold mvK; omega)]
        rw [if_neg c4, eu_X41_lay_123]; unfold du_X41_lay_123
        rw [jlt_in i0 (by omega), Option.bind_some, vs]
        show jE (u_X41_lay_133 u1 X p (W32 (plK d i + szK d i (plK d i))) i) _
        rw [W32_in (by omega) (by omega), eu_X41_lay_133]; unfold du_X41_lay_133
        rw [eW]
        refine jS_end ⟨?_, L2, fun k k0 k1 => ?_, fun q => ?_, fun r' k hr => by rw [y1 _ _ _ (by omega)]; exact e4 r' k hr⟩
        · rw [← en]
        · show jf u1 1000 (X + 20) k = (if d 11 k = p ∧ k < i + 1 then plK d k else jf t 1000 (X + 20) k) ∧ (d 5 k = 4 → jf u1 1000 (X + 21) k = (if d 11 k = p ∧ k < i + 1 then lkK d k else jf t 1000 (X + 21) k) ∧ jf u1 1000 (X + 13) k = if d 11 k = p ∧ k < i + 1 then szK d k (plK d k) else jf t 1000 (X + 13) k)
          by_cases ck : k = i
          · rw [ck, if_pos cpi]
            exact ⟨z1, fun z => absurd z c4⟩
          · have := e2 k k0 k1
            rw [y1 _ (X + 20) _ (by omega), y1 _ (X + 21) _ (by omega), y1 _ (X + 13) _ (by omega)]
            simp only [nop k k0 k1 ck]
            exact this
        · rw [y1 _ _ _ (by omega), y1 _ _ _ (by omega)]; exact e3 q
      · obtain ⟨f1', f2, f3⟩ := gf c4
        obtain ⟨pw1, pw2⟩ := two_w f2 f3
        have lk : lkK d i = (2 ^ (d 7 i).toNat - plK d i % 2 ^ (d 7 i).toNat) % 2 ^ (d 7 i).toNat := by
          rw [lack_eq (by omega)]; rfl
        have lk0 : 0 ≤ lkK d i ∧ lkK d i ≤ 4095 := by have := up2_lo (a := plK d i) f2 f3; unfold lkK; omega
        have r0 := Int.emod_nonneg (plK d i) (show (2 : Int) ^ (d 7 i).toNat ≠ 0 by omega)
        have r1 := Int.emod_lt_of_pos (plK d i) (show (0 : Int) < 2 ^ (d 7 i).toNat by omega)
        obtain ⟨u2, U2⟩ : ∃ u2, u2 = jp u1 1000 (X + 21) i (lkK d i) := ⟨_, rfl⟩
        obtain ⟨y2, z2, -⟩ := jpF U2
        obtain ⟨u3, U3⟩ : ∃ u3, u3 = jp u2 1000 (X + 13) i (szK d i (plK d i)) := ⟨_, rfl⟩
        obtain ⟨y3, z3, -⟩ := jpF U3
        have L4 : tyW X d t u3 := by rw [U3, U2]; exact (L2.jp (by omega)).jp (by omega)
        have es : szK d i (plK d i) = if lkK d i < d 6 i then lkK d i else d 6 i := by
          unfold szK
          rw [if_neg (by omega), if_pos c4]
          show (if d 6 i < lkK d i then d 6 i else lkK d i) = _
          split <;> split <;> omega
        rw [if_pos c4, jlt_in i0 (by omega), Option.bind_some, y1 _ _ _ (by omega), q5 c4, one_shl f2 f3]
        show jE ((jdv (2 ^ (d 7 i).toNat) (I_rem (plK d i) (2 ^ (d 7 i).toNat))).bind _) _
        unfold jdv
        rw [if_neg (show ¬ (2 : Int) ^ (d 7 i).toNat = 0 by omega), Option.bind_some, if_neg (show ¬ (2 : Int) ^ (d 7 i).toNat = 0 by omega), Option.bind_some, I_rem_n (x := plK d i) (by omega) (by omega) (by omega) (by omega), W32_in (z := 2 ^ (d 7 i).toNat - plK d i % 2 ^ (d 7 i).toNat) (by omega) (by omega), I_rem_n (by omega) (by omega) (by omega) (by omega), ← lk, jst_in i0 (by omega), ← U2, Option.bind_some, jlt_in i0 (by omega), Option.bind_some, z2, jlt_in i0 (by omega), Option.bind_some, y2 _ _ _ (by omega), y1 _ _ _ (by omega), q4 (.inr c4)]
        have fin : jE (u_X41_lay_122 u2 X p (plK d i) i (szK d i (plK d i)) i (X + 13)) (fun x => match x with
            | .inl q => q.2 = (fun i => [X, p, lyK d (d 3 p) ((if i < d 4 p then i else d 4 p) - d 3 p).toNat (paB d p), i]) (i + 1) ∧ (fun i u => tyW X d t u ∧ (∀ k, 0 ≤ k → k < d 0 1 → jf u 1000 (X + 20) k = (if d 11 k = p ∧ k < i then plK d k else jf t 1000 (X + 20) k) ∧ (d 5 k = 4 → jf u 1000 (X + 21) k = (if d 11 k = p ∧ k < i then lkK d k else jf t 1000 (X + 21) k) ∧ jf u 1000 (X + 13) k = if d 11 k = p ∧ k < i then szK d k (plK d k) else jf t 1000 (X + 13) k)) ∧ (∀ q, jf u 1000 (X + 9) q = (if q = p then paB d p else jf t 1000 (X + 9) q) ∧ jf u 1000 (X + 10) q = jf t 1000 (X + 10) q) ∧ ∀ r' k, r' = X + 2 ∨ r' = X + 3 → jf u 1000 r' k = jf t 1000 r' k) (i + 1) q.1
            | .inr r => r.2 = paE d p ∧ tyW X d t r.1 ∧ (∀ k, 0 ≤ k → k < d 0 1 → jf r.1 1000 (X + 20) k = (if d 11 k = p then plK d k else jf t 1000 (X + 20) k) ∧ (d 5 k = 4 → jf r.1 1000 (X + 21) k = (if d 11 k = p then lkK d k else jf t 1000 (X + 21) k) ∧ jf r.1 1000 (X + 13) k = if d 11 k = p then szK d k (plK d k) else jf t 1000 (X + 13) k)) ∧ (∀ q, jf r.1 1000 (X + 9) q = (if q = p then paB d p else jf t 1000 (X + 9) q) ∧ jf r.1 1000 (X + 10) q = if q = p then paE d p else jf t 1000 (X + 10) q) ∧ ∀ r' k, r' = X + 2 ∨ r' = X + 3 → jf r.1 1000 r' k = jf t 1000 r' k) := by
          rw [eu_X41_lay_122]; unfold du_X41_lay_122
          rw [jst_in i0 (by omega), ← U3, Option.bind_some, eu_X41_lay_123]; unfold du_X41_lay_123
          rw [jlt_in i0 (by omega), Option.bind_some, z3]
          show jE (u_X41_lay_133 u3 X p (W32 (plK d i + szK d i (plK d i))) i) _
          rw [W32_in (by omega) (by omega), eu_X41_lay_133]; unfold du_X41_lay_133
          rw [eW]
          refine jS_end ⟨?_, L4, fun k k0 k1 => ?_, fun q => ?_, fun r' k hr => by rw [y3 _ _ _ (by omega), y2 _ _ _ (by omega), y1 _ _ _ (by omega)]; exact e4 r' k hr⟩
          · rw [← en]
          · show jf u3 1000 (X + 20) k = (if d 11 k = p ∧ k < i + 1 then plK d k else jf t 1000 (X + 20) k) ∧ (d 5 k = 4 → jf u3 1000 (X + 21) k = (if d 11 k = p ∧ k < i + 1 then lkK d k else jf t 1000 (X + 21) k) ∧ jf u3 1000 (X + 13) k = if d 11 k = p ∧ k < i + 1 then szK d k (plK d k) else jf t 1000 (X + 13) k)
            by_cases ck : k = i
            · rw [ck, if_pos cpi, if_pos cpi, if_pos cpi]
              exact ⟨by rw [y3 _ _ _ (by omega), y2 _ _ _ (by omega)]; exact z1, fun _ => ⟨by rw [y3 _ _ _ (by omega)]; exact z2, z3⟩⟩
            · have := e2 k k0 k1
              rw [y3 _ (X + 20) _ (by omega), y2 _ (X + 20) _ (by omega), y1 _ (X + 20) _ (by omega), y3 _ (X + 21) _ (by omega), y2 _ (X + 21) _ (by omega), y1 _ (X + 21) _ (by omega), y3 _ (X + 13) _ (by omega), y2 _ (X + 13) _ (by omega), y1 _ (X + 13) _ (by omega)]
              simp only [nop k k0 k1 ck]
              exact this
          · rw [y3 _ _ _ (by omega), y3 _ _ _ (by omega), y2 _ _ _ (by omega), y2 _ _ _ (by omega), y1 _ _ _ (by omega), y1 _ _ _ (by omega)]; exact e3 q
        rw [es] at fin
        by_cases cl : lkK d i < d 6 i
        · rw [if_pos cl] at fin ⊢
          rw [Option.bind_some]
          exact jE_mono fin fun x hx => match x, hx with
            | .inl _, hx => hx
            | .inr _, hx => hx
        · rw [if_neg cl] at fin ⊢
          rw [Option.bind_some]
          exact jE_mono fin fun x hx => match x, hx with
            | .inl _, hx => hx
            | .inr _, hx => hx
    · show jE (b_X41_lay_12 u X p (lyK d (d 3 p) ((if d 0 1 < d 4 p then d 0 1 else d 4 p) - d 3 p).toNat (paB d p)) (d 0 1)) _
      unfold b_X41_lay_12
      rw [(h.keep e1).1.2.2.1, if_neg (Int.lt_irrefl _), if_neg (show ¬ d 0 1 < d 4 p by omega), eu_X41_lay_139]; unfold du_X41_lay_139
      rw [jst_in p0 (by omega), Option.bind_some]
      refine jS_inr (jS_end ⟨rfl, e1.jp (by omega), fun k k0 k1 => ?_, fun q => ?_, fun r' k hr => by rw [jf_neg (by omega)]; exact e4 r' k hr⟩)
      · have := e2 k k0 k1
        rw [jf_neg (by omega), jf_neg (by omega), jf_neg (by omega)]
        simp only [k1, and_true] at this
        exact this
      · obtain ⟨z1, z2⟩ := e3 q
        refine ⟨by rw [jf_neg (by omega)]; exact z1, ?_⟩
        by_cases c : q = p
        · rw [c, if_pos rfl]; exact jf_pos ⟨rfl, rfl, rfl⟩
        · rw [if_neg c, jf_neg (by omega)]; exact z2
  obtain ⟨r, e, e1, e2⟩ := key
  exact ⟨r.1, by rw [e, ← e1], e2⟩
end jLay4
