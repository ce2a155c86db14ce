/-! strings of the JDK: equality, hash -/
section jStrs2
variable {s t u : jS} {x a b M p q : Int} {l m : List Int} {A : Int → Prop}
theorem sb_inj {x y : Int} (hx : 0 ≤ x ∧ x < 256) (hy : 0 ≤ y ∧ y < 256) (h : sb x = sb y) : x = y := by
  unfold sb at h; split at h <;> split at h <;> omega
theorem getD_gt {i : Nat} (h : i < l.length) : l.getD i 0 = l[i] := by rw [List.getD_eq_getElem?_getD, List.getElem?_eq_getElem h]; rfl
theorem pSg.uni (h : pSg s a l) (g : pSg s a m) : l = m := by
  have e : (l.length : Int) = m.length := by rw [← h.2.2.2.1, ← g.2.2.2.1]
  refine List.ext_getElem (by omega) fun i h1 h2 => ?_
  have b1 := h.2.2.2.2.2 i h1
  have b2 := g.2.2.2.2.2 i h2
  have c1 := h.2.2.2.2.1.at (i := i) h1
  have c2 := g.2.2.2.2.1.at (i := i) h2
  have := sb_inj c1 c2 (b1.symm.trans b2)
  rwa [getD_gt h1, getD_gt h2] at this
/-- where strings agree so far -/
theorem s_eqBytes (h : pSg s a l) (g : pSg s b m) (hl : (l.length : Int) ≤ 1000000) : m_J15_equals s (jF s a 0) (jF s b 0) = some (if l = m then 1 else 0) := by
  rw [em_J15_equals]; unfold dm_J15_equals
  rw [jlnE_in h.2.2.1.1 h.2.2.1.2.2, jlnE_in g.2.2.1.1 g.2.2.1.2.2, Option.bind_some, Option.bind_some, h.2.2.2.1, g.2.2.2.1]
  by_cases c : (l.length : Int) = m.length
  rotate_left
  · rw [if_neg c, if_neg (fun z => c (by rw [z])), Wz_0]
  rw [if_pos c, eu_J15_equals_9]; unfold du_J15_equals_9
  have key := jseekR (C := jc3 b_J15_equals_9) (s := s) (fun k => [jF s a 0, jF s b 0, k]) (fun k => ¬ l.getD k.toNat 0 = m.getD k.toNat 0) (fun k => some 0) (some 1) 0 l.length (by omega) (fun k k0 k1 hk => ?_) (fun k k0 k1 hk => ?_) (by
    show b_J15_equals_9 s (jF s a 0) (jF s b 0) l.length = _
    unfold b_J15_equals_9
    rw [jlnE_in h.2.2.1.1 h.2.2.1.2.2, Option.bind_some, h.2.2.2.1, if_neg (by omega), Wz_1])
  rotate_left
  · show b_J15_equals_9 s (jF s a 0) (jF s b 0) k = _
    unfold b_J15_equals_9
    have b1 := h.2.2.2.2.2 k.toNat (by omega)
    have b2 := g.2.2.2.2.2 k.toNat (by omega)
    rw [show ((k.toNat : Nat) : Int) = k by omega] at b1 b2
    rw [jlnE_in h.2.2.1.1 h.2.2.1.2.2, Option.bind_some, h.2.2.2.1, if_pos k1, jldE_in h.2.2.1.1 h.2.2.1.2.2 k0 (by rw [h.2.2.2.1]; exact k1), Option.bind_some, jldE_in g.2.2.1.1 g.2.2.1.2.2 k0 (by rw [g.2.2.2.1]; omega), Option.bind_some, b1, b2, if_pos (by rw [Classical.not_not.mp hk]), W32_in (by omega) (by omega)]
  · show b_J15_equals_9 s (jF s a 0) (jF s b 0) k = _
    unfold b_J15_equals_9
    have b1 := h.2.2.2.2.2 k.toNat (by omega)
    have b2 := g.2.2.2.2.2 k.toNat (by omega)
    have c1 := h.2.2.2.2.1.at (i := k.toNat) (by omega)
    have c2 := g.2.2.2.2.1.at (i := k.toNat) (by omega)
    rw [show ((k.toNat : Nat) : Int) = k by omega] at b1 b2
    rw [jlnE_in h.2.2.1.1 h.2.2.1.2.2, Option.bind_some, h.2.2.2.1, if_pos k1, jldE_in h.2.2.1.1 h.2.2.1.2.2 k0 (by rw [h.2.2.2.1]; exact k1), Option.bind_some, jldE_in g.2.2.1.1 g.2.2.1.2.2 k0 (by rw [g.2.2.2.1]; omega), Option.bind_some, b1, b2, if_neg (fun z => hk (sb_inj c1 c2 z)), Wz_0]
  rcases key with ⟨k, k0, k1, hk, -, e⟩ | ⟨hk, e⟩
  · rw [e, if_neg (fun z => hk (by rw [z]))]
  · rw [e, if_pos (List.ext_getElem (by omega) fun i h1 h2 => by
      have := Classical.not_not.mp (hk i (by omega) (by omega))
      rw [show ((i : Nat) : Int).toNat = i by omega] at this
      rwa [getD_gt h1, getD_gt h2] at this)]
theorem s_equals (h : pSg s a l) (g : pSg s b m) (hl : (l.length : Int) ≤ 1000000) : mp_J2_equals s a b = some (if l = m then 1 else 0) := by
  have hm : m_J2_equals s a b = some (if l = m then 1 else 0) := by
    rw [em_J2_equals]; unfold dm_J2_equals
    by_cases c : a = b
    · subst c
      rw [if_pos rfl, if_pos (h.uni g), Wz_1]
    have hk : jK s b ∈ ([9, 3009] : List Int) := by
      rcases g.1.2.2 with q | q <;> rw [q] <;> decide
    have j1 : jio1 s [9, 3009] [] b = some 1 := by unfold jio1; rw [if_neg (by have := g.1.1; omega), if_pos hk]
    rw [if_neg c, j1, Option.bind_some, if_neg (by decide)]
    unfold jkk
    rw [if_pos ⟨g.1.1, hk⟩, if_neg (by decide), jrp_s h, Option.bind_some, jrp_s g, Option.bind_some, h.2.1, g.2.1, if_pos rfl, eu_J2_equals_36]; unfold du_J2_equals_36
    rw [jrp_s h, Option.bind_some, jrp_s g, Option.bind_some, s_eqBytes h g hl, Option.bind_some]
    by_cases d : l = m
    · rw [if_pos d, if_neg (by decide), Wz_1]
    · rw [if_neg d, if_pos rfl, Wz_0]
  rw [emp_J2_equals]; unfold dmp_J2_equals
  rw [hm]
  rcases h.1.2.2 with q | q
  · rw [if_pos ⟨h.1.1, q⟩]
  · rw [if_neg (by omega), if_pos ⟨h.1.1, q⟩]
/-- the hash of a string -/
def hsF : Int → List Int → Int
  | h, [] => h
  | h, c :: l => hsF ((31 * h + c).bmod 4294967296) l
def hs (l : List Int) : Int := hsF 0 l
theorem hs_step (h c : Int) : W32 (W32 (31 * h) + c) = (31 * h + c).bmod 4294967296 := by
  have := W32_mod (31 * h)
  rw [W32_m (W32 (31 * h) + c)]
  unfold Int.bmod
  simp only []
  have e : (W32 (31 * h) + c) % 4294967296 = (31 * h + c) % 4294967296 := by omega
  rw [show ((4294967296 : Nat) : Int) = 4294967296 by rfl, e]
theorem hsF_lo : ∀ (l : List Int) (h : Int), -2147483648 ≤ h ∧ h ≤ 2147483647 → -2147483648 ≤ hsF h l ∧ hsF h l ≤ 2147483647
  | [], _, hh => hh
  | c :: l, h, hh => hsF_lo l _ (by rw [← hs_step]; exact W32_lo _)
theorem hsF_app (c : Int) : ∀ (l : List Int) (h : Int), hsF h (l ++ [c]) = (31 * hsF h l + c).bmod 4294967296
  | [], _ => rfl
  | _ :: l, h => hsF_app c l _
/-- a string's stored hash is its own -/
def pHs (s : jS) (a : Int) (l : List Int) : Prop := (jF s a 2 = 0 ∨ jF s a 2 = hs l) ∧ (jF s a 3 = 0 ∨ hs l = 0)
theorem s_hashBytes (h : pSg s a l) (hl : (l.length : Int) ≤ 1000000) : m_J15_hashCode s (jF s a 0) = some (s, hs l) := by
  rw [em_J15_hashCode]; unfold dm_J15_hashCode
  have el := jlnE_in h.2.2.1.1 h.2.2.1.2.2
  have at' : ∀ k : Nat, k < l.length → jldE s 1001 (jF s a 0) k = some (sb (l.getD k 0)) ∧ 0 ≤ l.getD k 0 ∧ l.getD k 0 < 256 := fun k hk => by
    have c1 := h.2.2.2.2.1.at (i := k) hk
    rw [jldE_in h.2.2.1.1 h.2.2.1.2.2 (by omega) (by rw [h.2.2.2.1]; omega), h.2.2.2.2.2 k hk]
    exact ⟨rfl, c1⟩
  rw [el, Option.bind_some, h.2.2.2.1]
  by_cases c0 : (l.length : Int) = 0
  · have : l = [] := List.length_eq_zero_iff.mp (by omega)
    rw [if_pos c0, this]; rfl
  rw [if_neg c0]
  by_cases c1 : (l.length : Int) = 1
  · obtain ⟨c, hc⟩ := List.length_eq_one_iff.mp (show l.length = 1 by omega)
    subst hc
    obtain ⟨e, b0, b1⟩ := at' 0 (by simp)
    have b0' : 0 ≤ c := b0
    have b1' : c < 256 := b1
    rw [if_pos c1, show jldE s 1001 (jF s a 0) 0 = some (sb c) from e, Option.bind_some, sb_and b0' b1']
    congr 2
    show c = (31 * 0 + c).bmod 4294967296
    unfold Int.bmod
    simp only []
    split <;> omega
  rw [if_neg c1, Option.bind_some, em_J11_vectorizedHashCode]; unfold dm_J11_vectorizedHashCode
  have hk : jK s (jF s a 0) ∈ ([1001, 4001] : List Int) := by
    rcases h.2.2.1.2.2 with q | q <;> rw [q] <;> decide
  unfold jkk
  rw [if_pos rfl, if_pos ⟨h.2.2.1.1, hk⟩, em_J11_signedHashCode]; unfold dm_J11_signedHashCode
  simp only [jlet]
  rw [W32_in (z := 0 + (l.length : Int)) (by omega) (by omega), Int.zero_add, eu_J11_signedHashCode_8]; unfold du_J11_signedHashCode_8
  have key : jlpR (jc4 b_J11_signedHashCode_8) [hsF 0 (l.take (0 : Int).toNat), jF s a 0, l.length, 0] s = some (hs l) := by
    refine jforR (C := jc4 b_J11_signedHashCode_8) (fun k => [hsF 0 (l.take k.toNat), jF s a 0, l.length, k]) 0 l.length (by omega) (fun k k0 k1 => ?_) ?_
    · show b_J11_signedHashCode_8 s (hsF 0 (l.take k.toNat)) (jF s a 0) l.length k = _
      unfold b_J11_signedHashCode_8
      obtain ⟨e, b0, b1⟩ := at' k.toNat (by omega)
      rw [show ((k.toNat : Nat) : Int) = k by omega] at e
      rw [if_pos k1, e, Option.bind_some]
      simp only [jlet]
      rw [sb_and b0 b1, hs_step, W32_in (by omega) (by omega)]
      have et : l.take (k + 1).toNat = l.take k.toNat ++ [l.getD k.toNat 0] := by
        rw [show (k + 1).toNat = k.toNat + 1 by omega, List.take_succ, List.getD_eq_getElem?_getD, List.getElem?_eq_getElem (by omega)]
        rfl
      rw [et, hsF_app]
    · show b_J11_signedHashCode_8 s (hsF 0 (l.take (l.length : Int).toNat)) (jF s a 0) l.length l.length = _
      unfold b_J11_signedHashCode_8
      rw [if_neg (by omega), show (l.length : Int).toNat = l.length by omega, List.take_length]; rfl
  rw [show hsF 0 (l.take (0 : Int).toNat) = 0 from rfl] at key
  rw [key, Option.bind_some, Option.bind_some]
/-- what asking for a hash leaves -/
def hsFr (s t : jS) (a : Int) : Prop := jSm s t ∧ jEx s t ∧ ∀ c b k, ¬ (c = 9 ∧ b = a ∧ (k = 2 ∨ k = 3)) → jf t c b k = jf s c b k
theorem s_hash (h : pSg s a l) (hk : jK s a = 9) (hh : pHs s a l) (hl : (l.length : Int) ≤ 1000000) : jE (mp_J2_hashCode s a) fun r => r.2 = hs l ∧ hsFr s r.1 a ∧ pHs r.1 a l := by
  rw [emp_J2_hashCode]; unfold dmp_J2_hashCode
  rw [if_pos ⟨h.1.1, hk⟩, em_J2_hashCode]; unfold dm_J2_hashCode
  have fr : hsFr s s a := ⟨jSm.rfl, jEx.rfl, fun _ _ _ _ => rfl⟩
  have hF : ∀ k, jF s a k = jf s 9 a k := fun k => by unfold jF; rw [hk]
  rw [jrp_s h, Option.bind_some]
  by_cases c2 : jF s a 2 = 0
  rotate_left
  · rw [if_neg c2]
    exact jS_end ⟨hh.1.resolve_left c2, fr, hh⟩
  rw [if_pos c2, jrp_s h, Option.bind_some]
  by_cases c3 : jF s a 3 = 0
  rotate_left
  · rw [if_neg c3]
    refine jS_end ⟨?_, fr, hh⟩
    show jF s a 2 = hs l
    rw [c2, hh.2.resolve_left c3]
  rw [if_pos c3, p_sLatin h, Option.bind_some, if_neg (by decide), jrp_s h, Option.bind_some, s_hashBytes h hl, Option.bind_some, eu_J2_hashCode_40]; unfold du_J2_hashCode_40
  have hw : ∀ k v, jwp s [(9, k)] a v = some (jp s 9 a k v) := fun k v => by unfold jwp; rw [if_pos ⟨h.1.1, hk⟩]
  have gr : ∀ k v, k = 2 ∨ k = 3 → hsFr s (jp s 9 a k v) a := fun k v hk => ⟨jSm.rfl.jp, jEx.rfl.jp (by rcases hk with e | e <;> rw [e] <;> rfl), fun c b j hn => jf_neg (by omega)⟩
  have hF' : ∀ k v j, jF (jp s 9 a k v) a j = jf (jp s 9 a k v) 9 a j := fun k v j => by unfold jF; rw [show jK (jp s 9 a k v) a = 9 from hk]
  by_cases c : hs l = 0
  · dsimp only
    rw [if_pos c, jzb_in (.inr rfl), Option.bind_some, hw, Option.bind_some]
    refine jS_end ⟨rfl, gr 3 1 (.inr rfl), .inl ?_, .inr c⟩
    rw [hF', jf_neg (by omega), ← hF]; exact c2
  · dsimp only
    rw [if_neg c, hw, Option.bind_some]
    refine jS_end ⟨rfl, gr 2 _ (.inl rfl), .inr ?_, .inl ?_⟩
    · rw [hF']; exact jf_pos ⟨rfl, rfl, rfl⟩
    · rw [hF', jf_neg (by omega), ← hF]; exact c3
end jStrs2
