/-! the component reads words: numbers, characters, strings, names, signs -/
section jClex2
variable {s t u w v' : jS} {R x b a n p q r k c f v y e P Q lo : Int} {g : Int → Int} {S S' : Int → Prop} {l m : List Int}
def kdO (k : Int) : Int := if k = 7 then 1 else k
/-- a string of our own -/
def rStr (v : jS) (y : Int) (l : List Int) (x : Int) : Prop := pSg v y l ∧ jK v y = 9 ∧ pHs v y l ∧ x < jF v y 0 ∧ ¬ jF v y 0 = jf v 8 x 0
/-- a word in the reader's slots -/
def lkd (v : jS) (R x : Int) (g : Int → Int) (n : Int) (w : wR4) : Prop := jf v 53 R 5 = kdO w.1 ∧ jf v 53 R 8 = w.2.2.2 ∧ (w.1 = 1 ∨ w.1 = 7 → rStr v (jf v 53 R 9) (nmO g w.2.2.1 w.2.2.2) x ∧ jf v 53 R 7 = rgO (nmO g w.2.2.1 w.2.2.2)) ∧ (w.1 = 4 → rStr v (jf v 53 R 9) (stB g n w.2.2.1) x) ∧ (w.1 = 2 ∨ w.1 = 3 ∨ w.1 = 5 → jf v 53 R 7 = w.2.1)
def rdF (u v : jS) (R x P Q : Int) : Prop := jGw u v P Q (rdA u R x) ∧ (jf v 8 x 0 = jf u 8 x 0 ∨ jn u ≤ jf v 8 x 0) ∧ ∀ k, ¬ (k = 5 ∨ k = 7 ∨ k = 8 ∨ k = 9) → jf v 53 R k = jf u 53 R k
/-- what reading a word leaves -/
def wdQ (u : jS) (R x b a : Int) (g : Int → Int) (n : Int) (w : wR4) (q : jS × Bool × Int) : Prop :=
  (w.1 = 6 ∧ rFl R w.2.1 w.2.2.1 q ∧ jGw u q.1 (n - w.2.2.1 + 1) (1300 * (n - w.2.2.1) + 6) (rdA u R x)) ∨
  (¬ w.1 = 6 ∧ q.2 = (false, 0) ∧ rdI q.1 R x b a g n ∧ lkd q.1 R x g n w ∧ rdF u q.1 R x (3 * (w.2.2.2 - w.2.2.1)) (2600 * (w.2.2.2 - w.2.2.1)) ∧ (w.1 = 1 ∨ w.1 = 7 ∨ w.1 = 4 → jn u ≤ jf q.1 53 R 9))
theorem x_is : m_X44_is s R k v e = some (jp (jp (jp s 53 R 5 k) 53 R 7 v) 53 R 8 e, 0) := by
  rw [em_X44_is]; unfold dm_X44_is; rfl
theorem x_isS : rSl s (jp (jp (jp s 53 R 5 k) 53 R 7 v) 53 R 8 e) R (fun k => k = 5 ∨ k = 7 ∨ k = 8 ∨ k = 9) := ((rSl.rfl.jp (.inl rfl)).jp (.inr (.inl rfl))).jp (.inr (.inr (.inl rfl)))
/-- a plain word is noted -/
theorem wdQ.plain (h : rdI u R x b a g n) (hk : k = 2 ∨ k = 3 ∨ k = 5) (hf : f ≤ e) : wdQ u R x b a g n (k, v, f, e) (jp (jp (jp u 53 R 5 k) 53 R 7 v) 53 R 8 e, false, 0) := by
  have ne : ∀ j, x = R → False := fun _ z => by obtain ⟨l, hl⟩ := h.2.2.2.2.2.2.2.2.1; have := hl.1.2.2; rw [z] at this; have := h.1.2.2; omega
  refine .inr ⟨by show ¬ k = 6; omega, rfl, h.sl x_isS (by omega), ⟨?_, ?_, fun z => ?_, fun z => ?_, fun _ => ?_⟩, ⟨(x_isS.gw.mono (by show (0 : Int) ≤ 3 * (e - f); omega) (by show (0 : Int) ≤ 2600 * (e - f); omega) fun a _ z => .inl z), .inl (by (repeat (first | rw [jf_neg (by omega)] | rw [jf_pos (by omega)] | rw [ou_neg (by omega)] | rw [ou_pos (by omega)]))), fun j hj => by (repeat (first | rw [jf_neg (by omega)] | rw [jf_pos (by omega)] | rw [ou_neg (by omega)] | rw [ou_pos (by omega)]))⟩, fun z => ?_⟩
  · show jf _ 53 R 5 = kdO k
    unfold kdO; rw [if_neg (by omega)]; (repeat (first | rw [jf_neg (by omega)] | rw [jf_pos (by omega)] | rw [ou_neg (by omega)] | rw [ou_pos (by omega)]))
  · show jf _ 53 R 8 = e
    (repeat (first | rw [jf_neg (by omega)] | rw [jf_pos (by omega)] | rw [ou_neg (by omega)] | rw [ou_pos (by omega)]))
  · exact absurd z (by show ¬ (k = 1 ∨ k = 7); omega)
  · exact absurd z (by show ¬ k = 4; omega)
  · show jf _ 53 R 7 = v
    (repeat (first | rw [jf_neg (by omega)] | rw [jf_pos (by omega)] | rw [ou_neg (by omega)] | rw [ou_pos (by omega)]))
  · exact absurd z (by show ¬ (k = 1 ∨ k = 7 ∨ k = 4); omega)
theorem wdQ.bad (hp : p ≤ n) (h0 : 0 ≤ jn u) : wdQ u R x b a g n (6, f, p, 0) (rWr u R f p, true, jn u) := .inl ⟨rfl, rWr.fl h0, rWr.gw.mono (by show (1 : Int) ≤ n - p + 1; omega) (by show (6 : Int) ≤ 1300 * (n - p) + 6; omega) fun a _ z => .inl z⟩
theorem dgVl_lo (hb : byG g n) (f0 : 0 ≤ f) (hx : ∀ j : Nat, 0 ≤ hxO (bt g n (f + j))) (b0 : 0 ≤ e) : ∀ m, 0 ≤ dgVl g n f e m
  | 0 => by show (0 : Int) ≤ 0; omega
  | m + 1 => by
    have := dgVl_lo hb f0 hx b0 m
    show 0 ≤ (if 4294967295 < dgVl g n f e m then dgVl g n f e m else dgVl g n f e m * e + hxO (bt g n (f + m)))
    split
    · exact this
    · have h1 := Int.mul_nonneg this b0
      have := hx m
      omega
theorem hxO_lo : 0 ≤ hxO c ∧ hxO c ≤ 16 := by
  unfold hxO
  split; omega
  split; omega
  split <;> omega
theorem x_digits (h : rdI u R x b a g n) (hr : jf u 53 R 2 = r) (f0 : 0 ≤ f) (f1 : f ≤ n) (rf : r ≤ f) (b0 : e = 2 ∨ e = 10 ∨ e = 16) (hB : 0 ≤ jn u ∧ jBd u 1 6) : jE (m_X44_digits u R f e) (wdQ u R x b a g n (wdG g n r f e)) := by
  obtain ⟨hb, n0, n1⟩ := h.2.2.2.2.2.2.2.1
  obtain ⟨⟨s1, s2, s3⟩, s4⟩ := up_to (g := g) (n := n) (P := fun c => hxO c < e) (show ¬ hxO (-1) < e by have : hxO (-1) = 16 := rfl; omega) f1
  unfold wdG
  generalize up g n (fun c => hxO c < e) f = q1 at *
  have dl := dgVl_lo (g := g) (n := n) (f := f) (e := e) hb f0 (fun j => hxO_lo.1) (by omega)
  rw [em_X44_digits]; unfold dm_X44_digits
  rw [eu_X44_digits_5]; unfold du_X44_digits_5
  have key := jstep1 (A := jc5 b_X44_digits_5) (s := u) (fun k => [R, f, e, k, dgVl g n f e (k - f).toNat]) f q1 s1 (fun k k0 k1 => by
    show b_X44_digits_5 u R f e k (dgVl g n f e (k - f).toNat) = _
    unfold b_X44_digits_5
    have hc := bt_lo (k := k) hb (by omega)
    have e1 : dgVl g n f e (k + 1 - f).toNat = if 4294967295 < dgVl g n f e (k - f).toNat then dgVl g n f e (k - f).toNat else dgVl g n f e (k - f).toNat * e + hxO (bt g n k) := by
      rw [show (k + 1 - f).toNat = (k - f).toNat + 1 by omega]
      show (if 4294967295 < dgVl g n f e (k - f).toNat then dgVl g n f e (k - f).toNat else dgVl g n f e (k - f).toNat * e + hxO (bt g n (f + ((k - f).toNat : Nat)))) = _
      rw [show f + (((k - f).toNat : Nat) : Int) = k by omega]
    have e46 : ∀ z, u_X44_digits_46 u R f e k z = some (.inl (u, [R, f, e, k + 1, z])) := fun z => by
      rw [eu_X44_digits_46]; unfold du_X44_digits_46; rw [W32_in (by omega) (by omega)]
    rw [c_bt h (by omega), Option.bind_some, c_hx hc.1 hc.2.1, Option.bind_some, if_pos (s2 k k0 k1), Option.bind_some, c_hx hc.1 hc.2.1, Option.bind_some, e46, e1]
    simp only [L_cmp_gt]
    have d0 := dl (k - f).toNat
    by_cases c : 4294967295 < dgVl g n f e (k - f).toNat
    · rw [if_pos c, if_pos c]
    · have hx := hxO_lo (c := bt g n k)
      have hm : 0 ≤ dgVl g n f e (k - f).toNat * e ∧ dgVl g n f e (k - f).toNat * e ≤ 4294967295 * 16 := by
        rcases b0 with z | z | z <;> subst z <;> omega
      rw [if_neg c, if_neg c]
      simp only [jlet]
      rw [W64_in (z := dgVl g n f e (k - f).toNat * e) (by omega) (by omega), W64_in (by omega) (by omega), e46])
  rw [show (f - f).toNat = 0 by omega] at key
  rw [show dgVl g n f e 0 = 0 from rfl] at key
  rw [key]
  have hc := bt_lo (k := q1) hb (by omega)
  rw [jlpW_r (r := u_X44_digits_54 u R f q1 (dgVl g n f e (q1 - f).toNat)) (by
    show b_X44_digits_5 u R f e q1 (dgVl g n f e (q1 - f).toNat) = _
    unfold b_X44_digits_5
    rw [c_bt h (by omega), Option.bind_some, c_hx hc.1 hc.2.1, Option.bind_some, if_neg s3]), eu_X44_digits_54]
  unfold du_X44_digits_54
  have e68 : u_X44_digits_68 u R = some (rWr u R 3 r, true, jn u) := by
    rw [eu_X44_digits_68]; unfold du_X44_digits_68
    rw [hr, c_thr hB]
  rw [e68, x_is, Option.bind_some, l2i_p]
  simp only [L_cmp_gt]
  by_cases c1 : 4294967295 < dgVl g n f e (q1 - f).toNat
  · rw [if_pos c1, if_pos (.inl c1)]; exact jS_end (wdQ.bad (by omega) hB.1)
  rw [if_neg c1]
  by_cases c2 : q1 = f
  · rw [if_pos c2, if_pos (.inr c2)]; exact jS_end (wdQ.bad (by omega) hB.1)
  rw [if_neg c2, if_neg (fun z => z.elim c1 c2)]
  exact jS_end (wdQ.plain h (.inl rfl) (by omega))
theorem jth_id {q : jS × Bool × Int} (hq : q.2.1 = true ∨ q.2 = (false, 0)) : jth q.2.1 (some (q.1, true, q.2.2)) (some (q.1, false, 0)) = some q := by
  obtain ⟨q1, q2, q3⟩ := q
  rcases hq with z | z
  · have z' : q2 = true := z
    subst z'; rfl
  · have : q2 = false := congrArg Prod.fst z
    have : q3 = 0 := congrArg Prod.snd z
    subst q2 q3; rfl
theorem wdQ.th {w : wR4} {q : jS × Bool × Int} (h : wdQ u R x b a g n w q) : q.2.1 = true ∨ q.2 = (false, 0) := h.elim (fun z => .inl z.2.1.1) fun z => .inr z.2.1
theorem x_number (h : rdI u R x b a g n) (hr : jf u 53 R 2 = r) (r0 : 0 ≤ r) (r1 : r < n) (hc : isDg (bt g n r)) (hB : 0 ≤ jn u ∧ jBd u 1 6) : jE (m_X44_number u R) (wdQ u R x b a g n (wdN g n r)) := by
  obtain ⟨hb, n0, n1⟩ := h.2.2.2.2.2.2.2.1
  unfold isDg at hc
  rw [em_X44_number]; unfold dm_X44_number
  rw [hr, c_bt h r0, Option.bind_some, W32_in (z := r + 1) (by omega) (by omega), c_bt h (by omega), Option.bind_some, W32_in (z := r + 2) (by omega) (by omega)]
  have b2 := (bt_lo (k := r + 1) hb (by omega)).2.2
  have b3 := (bt_lo (k := r + 2) hb (by omega)).2.2
  have dg : ∀ f e, 0 ≤ f → f ≤ n → r ≤ f → (e = 2 ∨ e = 10 ∨ e = 16) → jE ((m_X44_digits u R f e).bind fun q => jth q.2.1 (some (q.1, true, q.2.2)) <| some (q.1, false, 0)) (wdQ u R x b a g n (wdG g n r f e)) := fun f e f0 f1 f2 he => by
    refine jS_call (x_digits h hr f0 f1 f2 he hB) fun q hq => ?_
    rw [jth_id hq.th]; exact jS_end hq
  unfold wdN
  by_cases a1 : bt g n r = 48 ∧ bt g n (r + 1) = 120
  · rw [if_pos a1, if_pos a1.1, if_pos a1.2]
    exact dg _ _ (by omega) (by omega) (by omega) (.inr (.inr rfl))
  have e47 : (if bt g n r = 48 then if bt g n (r + 1) = 120 then (m_X44_digits u R (r + 2) 16).bind fun q3 => jth q3.2.1 (some (q3.1, true, q3.2.2)) <| some (q3.1, false, 0) else u_X44_number_47 u R (bt g n r) (bt g n (r + 1)) else u_X44_number_47 u R (bt g n r) (bt g n (r + 1))) = u_X44_number_47 u R (bt g n r) (bt g n (r + 1)) := by
    by_cases c1 : bt g n r = 48
    · rw [if_pos c1, if_neg (fun z => a1 ⟨c1, z⟩)]
    · rw [if_neg c1]
  rw [if_neg a1, e47, eu_X44_number_47]; unfold du_X44_number_47
  rw [hr, W32_in (z := r + 2) (by omega) (by omega), c_bt h (by omega), Option.bind_some, Option.bind_some]
  have e103 : jE (u_X44_number_103 u R (bt g n r) (bt g n (r + 1))) (wdQ u R x b a g n (cif ((bt g n (r + 1) = 98 ∨ bt g n (r + 1) = 102) ∧ ¬ isIn (bt g n (r + 2))) (3, 2 * (bt g n r - 48) + (if bt g n (r + 1) = 102 then 1 else 0), r, r + 2) (wdG g n r r 10))) := by
    have e163 : jE (u_X44_number_163 u R) (wdQ u R x b a g n (wdG g n r r 10)) := by
      rw [eu_X44_number_163]; unfold du_X44_number_163
      rw [hr]; exact dg _ _ r0 (by omega) (by omega) (.inr (.inl rfl))
    have e115 : bt g n (r + 1) = 98 ∨ bt g n (r + 1) = 102 → jE (u_X44_number_115 u R (bt g n r) (bt g n (r + 1))) (wdQ u R x b a g n (cif ((bt g n (r + 1) = 98 ∨ bt g n (r + 1) = 102) ∧ ¬ isIn (bt g n (r + 2))) (3, 2 * (bt g n r - 48) + (if bt g n (r + 1) = 102 then 1 else 0), r, r + 2) (wdG g n r r 10))) := fun hd => by
      rw [eu_X44_number_115]; unfold du_X44_number_115
      rw [hr, W32_in (z := r + 2) (by omega) (by omega), c_bt h (by omega), Option.bind_some, c_isIn, Option.bind_some]
      by_cases ci : isIn (bt g n (r + 2))
      · rw [cif_pos ci, if_neg (by decide), cif_neg (fun z => z.2 ci)]; exact e163
      · rw [cif_neg ci, if_pos rfl, cif_pos ⟨hd, ci⟩, W32_in (z := bt g n r - 48) (by omega) (by omega), W32_in (z := 2 * (bt g n r - 48)) (by omega) (by omega)]
        have e150 : ∀ z, 0 ≤ z → z ≤ 1 → u_X44_number_150 u R z (2 * (bt g n r - 48)) 3 R = some (jp (jp (jp u 53 R 5 3) 53 R 7 (2 * (bt g n r - 48) + z)) 53 R 8 (r + 2), false, 0) := fun z z0 z1 => by
          rw [eu_X44_number_150]; unfold du_X44_number_150
          rw [hr, x_is, Option.bind_some, W32_in (z := r + 2) (by omega) (by omega), W32_in (by omega) (by omega)]
        by_cases c2 : bt g n (r + 1) = 102
        · rw [if_pos c2, if_pos c2, e150 1 (by omega) (by omega)]; exact jS_end (wdQ.plain h (.inr (.inl rfl)) (by omega))
        · rw [if_neg c2, if_neg c2, e150 0 (by omega) (by omega)]; exact jS_end (wdQ.plain h (.inr (.inl rfl)) (by omega))
    rw [eu_X44_number_103]; unfold du_X44_number_103
    by_cases c1 : bt g n (r + 1) = 98
    · rw [if_pos c1]; exact e115 (.inl c1)
    · rw [if_neg c1]
      by_cases c2 : bt g n (r + 1) = 102
      · rw [if_pos c2]; exact e115 (.inr c2)
      · rw [if_neg c2, cif_neg (fun z => z.1.elim c1 c2)]; exact e163
  have e89 : 0 ≤ bt g n (r + 2) → jE (u_X44_number_89 u R) (wdQ u R x b a g n (wdG g n r (r + 2) 2)) := fun hz => by
    rw [eu_X44_number_89]; unfold du_X44_number_89
    rw [hr, W32_in (z := r + 2) (by omega) (by omega)]; exact dg _ _ (by omega) (by omega) (by omega) (.inl rfl)
  by_cases a2 : bt g n r = 48 ∧ bt g n (r + 1) = 98 ∧ (bt g n (r + 2) = 48 ∨ bt g n (r + 2) = 49)
  · rw [if_pos a2, if_pos a2.1, if_pos a2.2.1]
    by_cases c1 : bt g n (r + 2) = 48
    · rw [if_pos c1]; exact e89 (by omega)
    · rw [if_neg c1, if_pos (by omega)]; exact e89 (by omega)
  · rw [if_neg a2]
    by_cases c0 : bt g n r = 48
    · rw [if_pos c0]
      by_cases c1 : bt g n (r + 1) = 98
      · rw [if_pos c1, if_neg (fun z => a2 ⟨c0, c1, .inl z⟩), if_neg (fun z => a2 ⟨c0, c1, .inr z⟩)]; exact e103
      · rw [if_neg c1]; exact e103
    · rw [if_neg c0]; exact e103
theorem x_sign (h : rdI u R x b a g n) (hr : jf u 53 R 2 = r) (r0 : 0 ≤ r) (r1 : r < n) (hB : 0 ≤ jn u ∧ jBd u 1 6) : jE (m_X44_sign u R (bt g n r)) (wdQ u R x b a g n (wdY g n r)) := by
  obtain ⟨hb, n0, n1⟩ := h.2.2.2.2.2.2.2.1
  rw [em_X44_sign]; unfold dm_X44_sign wdY
  have e110 : ∀ c, u_X44_sign_110 u R c = some (jp (jp (jp u 53 R 5 5) 53 R 7 c) 53 R 8 (r + 1), false, 0) := fun c => by
    rw [eu_X44_sign_110]; unfold du_X44_sign_110
    rw [hr, x_is, Option.bind_some, W32_in (by omega) (by omega)]
  have e125 : u_X44_sign_125 u R = some (rWr u R 1 r, true, jn u) := by
    rw [eu_X44_sign_125]; unfold du_X44_sign_125
    rw [hr, c_thr hB]
  have e30 : jE (u_X44_sign_30 u R (bt g n r)) (wdQ u R x b a g n (cif (sgOK (bt g n r)) (5, bt g n r, r, r + 1) (6, 1, r, 0))) := by
    rw [eu_X44_sign_30]; unfold du_X44_sign_30
    rw [eu_X44_sign_31]; unfold du_X44_sign_31
    rw [if_pos rfl, e110, e125]
    have ok : sgOK (bt g n r) → jE (some (jp (jp (jp u 53 R 5 5) 53 R 7 (bt g n r)) 53 R 8 (r + 1), false, (0 : Int))) (wdQ u R x b a g n (cif (sgOK (bt g n r)) (5, bt g n r, r, r + 1) (6, 1, r, 0))) := fun z => by
      rw [cif_pos z]; exact jS_end (wdQ.plain h (.inr (.inr rfl)) (by omega))
    by_cases d1 : bt g n r = 44
    · rw [if_pos d1]; exact ok (by unfold sgOK; omega)
    rw [if_neg d1]
    by_cases d2 : bt g n r = 40
    · rw [if_pos d2]; exact ok (by unfold sgOK; omega)
    rw [if_neg d2]
    by_cases d3 : bt g n r = 41
    · rw [if_pos d3]; exact ok (by unfold sgOK; omega)
    rw [if_neg d3]
    by_cases d4 : bt g n r = 58
    · rw [if_pos d4]; exact ok (by unfold sgOK; omega)
    rw [if_neg d4]
    by_cases d5 : bt g n r = 126
    · rw [if_pos d5]; exact ok (by unfold sgOK; omega)
    rw [if_neg d5]
    by_cases d6 : bt g n r < 128
    · rw [if_pos d6, e_X11_sortOf, Option.bind_some]
      by_cases d7 : sgOK (bt g n r)
      · rw [if_neg (by unfold sgOK at d7; unfold v_X11_sortOf; repeat' split <;> omega)]; exact ok d7
      · rw [if_pos (by unfold sgOK at d7; unfold v_X11_sortOf; repeat' split <;> omega), cif_neg d7]; exact jS_end (wdQ.bad (by omega) hB.1)
    · rw [if_neg d6, cif_neg (by unfold sgOK; omega)]; exact jS_end (wdQ.bad (by omega) hB.1)
  have e12 : bt g n r = 60 ∨ bt g n r = 62 → jE (u_X44_sign_12 u R (bt g n r)) (wdQ u R x b a g n (if (bt g n r = 60 ∨ bt g n r = 62) ∧ bt g n (r + 1) = bt g n r then (5, if bt g n r = 60 then 256 else 257, r, r + 2) else cif (sgOK (bt g n r)) (5, bt g n r, r, r + 1) (6, 1, r, 0))) := fun hd => by
    rw [eu_X44_sign_12]; unfold du_X44_sign_12
    rw [hr, W32_in (by omega) (by omega), c_bt h (by omega), Option.bind_some]
    by_cases c1 : bt g n (r + 1) = bt g n r
    · rw [if_pos c1, if_pos ⟨hd, c1⟩, eu_X44_sign_31]; unfold du_X44_sign_31
      have e53 : ∀ z, u_X44_sign_53 u R z 5 R = some (jp (jp (jp u 53 R 5 5) 53 R 7 z) 53 R 8 (r + 2), false, 0) := fun z => by
        rw [eu_X44_sign_53]; unfold du_X44_sign_53
        rw [hr, x_is, Option.bind_some, W32_in (by omega) (by omega)]
      rw [if_neg (by decide), e53, e53]
      by_cases c2 : bt g n r = 60
      · rw [if_pos c2, if_pos c2]; exact jS_end (wdQ.plain h (.inr (.inr rfl)) (by omega))
      · rw [if_neg c2, if_neg c2]; exact jS_end (wdQ.plain h (.inr (.inr rfl)) (by omega))
    · rw [if_neg c1, if_neg (fun z => c1 z.2)]; exact e30
  by_cases c1 : bt g n r = 60
  · rw [if_pos c1]; exact e12 (.inl c1)
  rw [if_neg c1]
  by_cases c2 : bt g n r = 62
  · rw [if_pos c2]; exact e12 (.inr c2)
  · rw [if_neg c2, if_neg (fun z => z.1.elim c1 c2)]; exact e30
end jClex2
