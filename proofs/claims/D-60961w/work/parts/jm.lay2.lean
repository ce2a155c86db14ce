/-! the component reckons places -/
set_option maxRecDepth 100000
section jLay2
variable {s t u w : jS} {a k m o p v l n x y c j A B f : Int} {d : Int → Int → Int}
theorem vLy.mono (v : vLy d) (p0 : 0 ≤ p) : ∀ m : Nat, p + 1 + m < d 0 0 → d 4 p ≤ d 3 (p + 1 + m)
  | 0, h => by
    have := (v.2.2.2.2.1 p p0 (by omega)).2.2.2
    rw [if_pos (by omega)] at this
    have e : p + 1 + ((0 : Nat) : Int) = p + 1 := by omega
    rw [e]; omega
  | m + 1, h => by
    have i := vLy.mono v p0 m (by omega)
    obtain ⟨-, -, f, e⟩ := v.2.2.2.2.1 (p + 1 + m) (by omega) (by omega)
    rw [if_pos (by omega)] at e
    have e' : p + 1 + ((m + 1 : Nat) : Int) = p + 1 + m + 1 := by omega
    rw [e']; omega
/-- which part a piece is of -/
theorem vLy.pt (v : vLy d) (p0 : 0 ≤ p) (p1 : p < d 0 0) (k0 : d 3 p ≤ k) (k1 : k < d 4 p) : d 11 k = p := by
  obtain ⟨-, -, ⟨f1, f2, f3⟩, -⟩ := v.2.2.2.2.1 p p0 p1
  obtain ⟨-, ⟨w1, w2, w3, w4⟩, -⟩ := v.2.2.2.2.2.2.1 k (by omega) (by omega)
  obtain ⟨q, hq⟩ : ∃ q, q = d 11 k := ⟨_, rfl⟩
  rw [← hq] at w1 w2 w3 w4 ⊢
  by_cases c1 : p < q
  · have := vLy.mono v p0 (q - (p + 1)).toNat (by omega)
    rw [show p + 1 + ((q - (p + 1)).toNat : Int) = q by omega] at this
    omega
  · by_cases c2 : q < p
    · have := vLy.mono v w1 (p - (q + 1)).toNat (by omega)
      rw [show q + 1 + ((p - (q + 1)).toNat : Int) = p by omega] at this
      omega
    · omega
/-- a part is laid -/
theorem c_layPart (h : cLs s B d) (v : vLy d) (p0 : 0 ≤ p) (p1 : p < d 0 0) (ha : 0 ≤ a ∧ a ≤ 6000000) (hb : up2 a (d 2 p) = paB d p) :
    ∃ u, m_X36_layPart s B (poP s B p) a = some (u, paE d p) ∧ lyW B s u ∧ (∀ k, 0 ≤ k → k < d 0 1 → pcX u B d k 1 = if d 11 k = p then plK d k else pcX s B d k 1) ∧ (∀ q, 0 ≤ q → q < d 0 0 → jf u 70 (poP s B q) 2 = (if q = p then paB d p else jf s 70 (poP s B q) 2) ∧ jf u 70 (poP s B q) 3 = if q = p then paE d p else jf s 70 (poP s B q) 3) ∧ ∀ r k, jf u 1000 r k = jf s 1000 r k := by
  obtain ⟨⟨a1, a2, a3⟩, b1, b2, b3, b4, b5⟩ := h.2.2.2.1 p p0 p1
  obtain ⟨g1, g2, g3, g4⟩ := v.2.2.2.2.1 p p0 p1
  have hd := h.2.2.2.2.2.2.1
  have hk := h.2.2.2.2.2.2.2.1
  have pb := paB_lo v p0 p1
  rw [em_X36_layPart]; unfold dm_X36_layPart
  rw [jrd_in a1 a3, Option.bind_some, b2, c_up ha.1 (by omega) g2.1 g2.2, Option.bind_some, hb, jwr_in a1 a3, Option.bind_some]
  obtain ⟨s1, E1⟩ : ∃ s1, s1 = jp s 70 (poP s B p) 2 (paB d p) := ⟨_, rfl⟩
  obtain ⟨f1, r1, K1, N1, n1⟩ := jpF E1
  have L1 : lyW B s s1 := by rw [E1]; exact lyW.rfl.jp (.inl ⟨rfl, .inl rfl, by omega, by omega⟩)
  rw [← E1, jrd_in a1 (by rw [K1]; exact a3), Option.bind_some, r1, jrd_in a1 (by rw [K1]; exact a3), Option.bind_some, f1 _ _ _ (by omega), b4, eu_X36_layPart_23]; unfold du_X36_layPart_23
  have key : jE (jlpW (jc3 b_X36_layPart_23) [poP s B p, paB d p, if d 3 p < d 4 p then poK s B (d 3 p) else -1] s1) fun r => r.2 = paE d p ∧ lyW B s r.1 ∧ (∀ k, 0 ≤ k → k < d 0 1 → pcX r.1 B d k 1 = if d 11 k = p then plK d k else pcX s B d k 1) ∧ (∀ q, 0 ≤ q → q < d 0 0 → jf r.1 70 (poP s B q) 2 = (if q = p then paB d p else jf s 70 (poP s B q) 2) ∧ jf r.1 70 (poP s B q) 3 = if q = p then paE d p else jf s 70 (poP s B q) 3) ∧ ∀ r' k, jf r.1 1000 r' k = jf s 1000 r' k := by
    have i0 : (d 3 p - d 3 p).toNat = 0 := by omega
    have eV : [poP s B p, paB d p, if d 3 p < d 4 p then poK s B (d 3 p) else -1] = (fun i => [poP s B p, lyK d (d 3 p) (i - d 3 p).toNat (paB d p), if i < d 4 p then poK s B i else -1]) (d 3 p) := by
      show _ = [_, lyK d (d 3 p) (d 3 p - d 3 p).toNat (paB d p), _]
      rw [i0]; rfl
    rw [eV]
    refine jS_for (fun i u => lyW B s u ∧ (∀ k, 0 ≤ k → k < d 0 1 → pcX u B d k 1 = if d 11 k = p ∧ k < i then plK d k else pcX s B d k 1) ∧ (∀ q, 0 ≤ q → q < d 0 0 → jf u 70 (poP s B q) 2 = (if q = p then paB d p else jf s 70 (poP s B q) 2) ∧ jf u 70 (poP s B q) 3 = jf s 70 (poP s B q) 3) ∧ ∀ r' k, jf u 1000 r' k = jf s 1000 r' k) (fun i => [poP s B p, lyK d (d 3 p) (i - d 3 p).toNat (paB d p), if i < d 4 p then poK s B i else -1]) (d 3 p) (d 4 p) g3.2.1 ?_ (fun i u i0 i1 ⟨e1, e2, e3, e4⟩ => ?_) (fun u ⟨e1, e2, e3, e4⟩ => ?_)
    · refine ⟨L1, fun k k0 k1 => ?_, fun q q0 q1 => ?_, fun r' k => f1 _ _ _ (by omega)⟩
      · obtain ⟨-, ⟨w1, w2, w3, w4⟩, -⟩ := v.2.2.2.2.2.2.1 k k0 k1
        rw [if_neg (fun z => by rw [z.1] at w3; omega)]
        unfold pcX poK
        have kk := kOf_c (f := d 5 k)
        rw [f1 _ _ _ (by omega), f1 _ _ _ (by omega)]
      · by_cases c : q = p
        · rw [c, if_pos rfl, r1, f1 _ _ _ (by omega)]; exact ⟨rfl, rfl⟩
        · rw [if_neg c, f1 _ _ _ (by have := hd q p q0 q1 p0 p1 c; omega), f1 _ _ _ (by omega)]; exact ⟨rfl, rfl⟩
    · show jE (b_X36_layPart_23 u (poP s B p) (lyK d (d 3 p) (i - d 3 p).toNat (paB d p)) (if i < d 4 p then poK s B i else -1)) _
      unfold b_X36_layPart_23
      have f3 := g3.2.2
      have hi : 0 ≤ i ∧ i < d 0 1 := by omega
      have hpi : d 11 i = p := v.pt p0 p1 i0 i1
      obtain ⟨⟨q1, q1', q1''⟩, ⟨q2, q2'⟩, -⟩ := h.2.2.2.2.1 i hi.1 hi.2
      have hc := (h.keep e1).2.2.2.2.1 i hi.1 hi.2
      have la := ly_at v p0 p1 (i - d 3 p).toNat (by omega)
      have ek : lyK d (d 3 p) (i - d 3 p).toNat (paB d p) = plK d i := by unfold plK; rw [hpi]
      have kk := kOf_c (f := d 5 i)
      rw [ek] at la ⊢
      obtain ⟨u1, U1⟩ : ∃ u1, u1 = jp u (kOf (d 5 i)) (poK s B i) (1 + ofK (d 5 i)) (plK d i) := ⟨_, rfl⟩
      obtain ⟨y1, z1, K1', N1', n1'⟩ := jpF U1
      have L2 : lyW B s u1 := by rw [U1]; exact e1.jp (by omega)
      have hw : jwp u [(72, 1), (73, 1), (76, 5), (77, 5)] (poK s B i) (plK d i) = some u1 := by
        have ku : jK u (poK s B i) = kOf (d 5 i) := by rw [e1.1.1]; exact q1''
        rw [U1]
        rcases kk with ⟨k1, k2, k3⟩ | ⟨k1, k2, k3⟩ | ⟨k1, k2, k3⟩ | ⟨k1, k2, k3⟩ <;> rw [k1] at ku ⊢ <;> rw [k2] <;> simp [jwp, q1, ku]
      have eo : poK u1 B i = poK s B i := L2.po.1 i
      have hs : mp_X53_size u1 (poK s B i) = some (szK d i (plK d i)) := by
        have := c_sizeK (a := plK d i) v ((h.keep L2).2.2.2.2.1 i hi.1 hi.2) hi.1 hi.2 (by unfold pcX; rw [eo]; exact z1) la
        rw [eo] at this; exact this
      have hx : jrp u1 [(72, 2), (73, 2), (76, 6), (77, 6)] (poK s B i) = some (if i + 1 < d 4 p then poK s B (i + 1) else -1) := by
        have ku : jK u1 (poK s B i) = kOf (d 5 i) := by rw [L2.1.1]; exact q1''
        have e2' : jf u1 (kOf (d 5 i)) (poK s B i) (2 + ofK (d 5 i)) = if i + 1 < d 4 p then poK s B (i + 1) else -1 := by
          rw [L2.pc (by omega), ← hpi]; exact q2'
        rw [← e2']
        rcases kk with ⟨k1, k2, k3⟩ | ⟨k1, k2, k3⟩ | ⟨k1, k2, k3⟩ | ⟨k1, k2, k3⟩ <;> rw [k1] at ku ⊢ <;> rw [k2] <;> simp [jrp, q1, ku]
      have sz := szK_lo (k := i) (a := plK d i) v hi.1 hi.2
      have en : lyK d (d 3 p) (i + 1 - d 3 p).toNat (paB d p) = plK d i + szK d i (plK d i) := by
        rw [show (i + 1 - d 3 p).toNat = (i - d 3 p).toNat + 1 by omega]
        show lyK d (d 3 p) (i - d 3 p).toNat (paB d p) + szK d (d 3 p + ((i - d 3 p).toNat : Int)) (lyK d (d 3 p) (i - d 3 p).toNat (paB d p)) = _
        rw [ek, show d 3 p + ((i - d 3 p).toNat : Int) = i by omega]
      rw [if_pos i1, if_neg (by omega), hw, Option.bind_some, hs, Option.bind_some, hx, W32_in (by omega) (by omega)]
      refine jS_end ⟨?_, L2, fun k k0 k1 => ?_, fun q q0 q1 => ?_, fun r' k => by rw [y1 _ _ _ (by omega)]; exact e4 r' k⟩
      · rw [en]
      · show pcX u1 B d k 1 = if d 11 k = p ∧ k < i + 1 then plK d k else pcX s B d k 1
        by_cases c : k = i
        · rw [c, if_pos (show d 11 i = p ∧ i < i + 1 from ⟨hpi, by omega⟩)]; unfold pcX; rw [eo]; exact z1
        · have := e2 k k0 k1
          have nq := hk k i k0 k1 hi.1 hi.2 c
          have eu : poK u B k = poK s B k := e1.po.1 k
          have eu1 : poK u1 B k = poK s B k := L2.po.1 k
          have : pcX u1 B d k 1 = pcX u B d k 1 := by
            unfold pcX
            rw [eu, eu1]
            exact y1 _ _ _ (by omega)
          rw [this, e2 k k0 k1]
          by_cases c2 : d 11 k = p ∧ k < i
          · rw [if_pos c2, if_pos ⟨c2.1, by omega⟩]
          · rw [if_neg c2, if_neg (by omega)]
      · rw [y1 _ _ _ (by omega), y1 _ _ _ (by omega)]; exact e3 q q0 q1
    · show jE (b_X36_layPart_23 u (poP s B p) (lyK d (d 3 p) (d 4 p - d 3 p).toNat (paB d p)) (if d 4 p < d 4 p then poK s B (d 4 p) else -1)) _
      unfold b_X36_layPart_23
      rw [if_neg (Int.lt_irrefl _), if_pos (by omega), eu_X36_layPart_52]; unfold du_X36_layPart_52
      rw [jwr_in a1 (by rw [e1.1.1]; exact a3), Option.bind_some]
      refine jS_inr (jS_end ⟨rfl, e1.jp (.inl ⟨rfl, .inr rfl, by omega, by omega⟩), fun k k0 k1 => ?_, fun q q0 q1 => ?_, fun r' k => by rw [jf_neg (by omega)]; exact e4 r' k⟩)
      · have hh : pcX (jp u 70 (poP s B p) 3 (lyK d (d 3 p) (d 4 p - d 3 p).toNat (paB d p))) B d k 1 = pcX u B d k 1 := by
          unfold pcX poK
          have kk := kOf_c (f := d 5 k)
          rw [jf_neg (by omega), jf_neg (by omega)]
        rw [hh, e2 k k0 k1]
        obtain ⟨-, ⟨w1, w2, w3, w4⟩, -⟩ := v.2.2.2.2.2.2.1 k k0 k1
        by_cases c : d 11 k = p
        · rw [if_pos c, if_pos ⟨c, by rw [c] at w4; exact w4⟩]
        · rw [if_neg c, if_neg (fun z => c z.1)]
      · obtain ⟨z1, z2⟩ := e3 q q0 q1
        by_cases c : q = p
        · rw [c] at z1 ⊢
          rw [if_pos rfl] at z1 ⊢
          rw [if_pos rfl]
          exact ⟨by rw [jf_neg (by omega)]; exact z1, jf_pos ⟨rfl, rfl, rfl⟩⟩
        · have nq := hd q p q0 q1 p0 p1 c
          rw [jf_neg (by omega), jf_neg (by omega), if_neg c, if_neg c]
          rw [if_neg c] at z1
          exact ⟨z1, z2⟩
  obtain ⟨r, e, e1, e2⟩ := key
  exact ⟨r.1, by rw [e, ← e1], e2⟩
end jLay2
