/-! the twin reads words: the rest -/
section jTlex2
variable {t u w : jS} {U n p q r k c f v y e a' : Int} {g : Int → Int} {W : wR4}
def av (g : Int → Int) (n k : Int) : Int := if k < n then g k else 10
theorem av_eq (hc : ¬ c = 10) (hd : ¬ c = -1) : av g n k = c ↔ bt g n k = c := by
  unfold av bt; split
  · exact Iff.rfl
  · constructor <;> intro z <;> omega
theorem av_isIn : isIn (av g n k) ↔ isIn (bt g n k) := by
  unfold av bt; split
  · exact Iff.rfl
  · unfold isIn isBg isDg; constructor <;> intro z <;> omega
theorem av_hx : hxO (av g n k) = hxO (bt g n k) := by
  unfold av bt; split <;> rfl
theorem av_lo (hb : byG g n) (k0 : 0 ≤ k) : 0 ≤ av g n k ∧ av g n k < 256 := by
  unfold av; split
  · rename_i z; exact hb k k0 z
  · omega
theorem y_av (h : tdI t U g n) (k0 : 0 ≤ k) : m_X39_at t U k = some (av g n k) := y_at h k0
theorem y_digits (h : tdI t U g n) (h17 : jf t 43 U 17 = r) (r0 : 0 ≤ r) (f0 : r ≤ f) (f1 : f ≤ n) (hf : (e = 16 ∧ f = r + 2) ∨ (e = 10 ∧ f = r ∧ hxO (bt g n f) < 10) ∨ (e = 2 ∧ f = r + 2 ∧ hxO (bt g n f) < 2)) : jE (u_X39_numberWord_207 t U e f U) fun q => yRd t q.1 U ∧ tkS q.1 U g n (wdG g n r f e) := by
  obtain ⟨-, -, hb, n0, n1⟩ := id h
  obtain ⟨⟨s1, s2, s3⟩, s4⟩ := up_to (g := g) (n := n) (P := fun c => hxO c < e) (show ¬ hxO (-1) < e by have : hxO (-1) = 16 := rfl; omega) f1
  unfold wdG
  generalize up g n (fun c => hxO c < e) f = q1 at *
  have dl := dgVl_lo (g := g) (n := n) (f := f) (e := e) hb (by omega) (fun j => hxO_lo.1) (by omega)
  have nf : ¬ e = 16 → ¬ q1 = f := fun z z' => by rw [z'] at s3; omega
  rw [eu_X39_numberWord_207]; unfold du_X39_numberWord_207
  simp only [jls]
  rw [eu_X39_numberWord_212]; unfold du_X39_numberWord_212
  rw [show ([U, e, 0] : List Int) = [U, e, dgVl g n f e (f - f).toNat] by rw [show (f - f).toNat = 0 by omega]; rfl]
  refine jS_for (fun k w => yRd t w U ∧ jf w 43 U 18 = k ∧ jf w 43 U 17 = r) (fun k => [U, e, dgVl g n f e (k - f).toNat]) f q1 s1 ⟨yRd.rfl.slt (by omega), jf_pos ⟨rfl, rfl, rfl⟩, by rw [jf_neg (by omega)]; exact h17⟩ (fun k w k0 k1 ⟨e1, e2, e3⟩ => ?_) (fun w ⟨e1, e2, e3⟩ => ?_)
  · show jE (b_X39_numberWord_212 w U e (dgVl g n f e (k - f).toNat)) _
    unfold b_X39_numberWord_212
    have hw := h.kp e1
    have hav := av_lo (k := k) hb (by omega)
    obtain ⟨z, ez, hz⟩ := y_hx (t := w) hav.1 hav.2
    have s2' : hxO (bt g n k) < e := s2 k k0 k1
    rw [av_hx] at hz
    have ezh : z = hxO (bt g n k) := by omega
    rw [ezh] at ez
    have e1' : dgVl g n f e (k + 1 - f).toNat = if 4294967295 < dgVl g n f e (k - f).toNat then dgVl g n f e (k - f).toNat else dgVl g n f e (k - f).toNat * e + hxO (bt g n k) := by
      rw [show (k + 1 - f).toNat = (k - f).toNat + 1 by omega]
      show (if 4294967295 < dgVl g n f e (k - f).toNat then dgVl g n f e (k - f).toNat else dgVl g n f e (k - f).toNat * e + hxO (bt g n (f + ((k - f).toNat : Nat)))) = _
      rw [show f + (((k - f).toNat : Nat) : Int) = k by omega]
    have e256 : ∀ z, u_X39_numberWord_256 w U e z = some (.inl (jp w 43 U 18 (k + 1), [U, e, z])) := fun z => by
      rw [eu_X39_numberWord_256]; unfold du_X39_numberWord_256
      simp only [jls]
      rw [e2, W32_in (by omega) (by omega)]
    have d0 := dl (k - f).toNat
    have hx := hxO_lo (c := bt g n k)
    rw [e2, y_av hw (by omega), Option.bind_some, ez, Option.bind_some, if_pos s2', Option.bind_some, ez, Option.bind_some, e256]
    simp only [L_cmp_lt, jlet]
    by_cases c : 4294967295 < dgVl g n f e (k - f).toNat
    · rw [if_neg (by omega)]
      refine jS_end ⟨?_, e1.slt (by omega), jf_pos ⟨rfl, rfl, rfl⟩, by rw [jf_neg (by omega)]; exact e3⟩
      rw [e1', if_pos c]
    · have hm : 0 ≤ e * dgVl g n f e (k - f).toNat ∧ e * dgVl g n f e (k - f).toNat ≤ 4294967295 * 16 := by
        rcases hf with ⟨z, -⟩ | ⟨z, -⟩ | ⟨z, -⟩ <;> subst z <;> omega
      rw [if_pos (by omega), W64_in (z := e * dgVl g n f e (k - f).toNat) (by omega) (by omega), W64_in (by omega) (by omega), e256]
      refine jS_end ⟨?_, e1.slt (by omega), jf_pos ⟨rfl, rfl, rfl⟩, by rw [jf_neg (by omega)]; exact e3⟩
      rw [e1', if_neg c, Int.mul_comm e]
  show jE (b_X39_numberWord_212 w U e (dgVl g n f e (q1 - f).toNat)) _
  unfold b_X39_numberWord_212
  have hw := h.kp e1
  have hav := av_lo (k := q1) hb (by omega)
  obtain ⟨z, ez, hz⟩ := y_hx (t := w) hav.1 hav.2
  have s3' : ¬ hxO (bt g n q1) < e := s3
  rw [av_hx] at hz
  rw [e2, y_av hw (by omega), Option.bind_some, ez, Option.bind_some, if_neg (by omega)]
  refine jS_inr ?_
  rw [eu_X39_numberWord_270]; unfold du_X39_numberWord_270
  simp only [jls]
  generalize dgVl g n f e (q1 - f).toNat = V at *
  rw [jf_neg (by omega), jf_neg (by omega), e2, jf_neg (by omega), jf_neg (by omega), e3, W32_in (by omega) (by omega), l2i_p]
  have e308 : u_X39_numberWord_308 (jp (jp w 43 U 15 2) 43 U 16 (W32 V)) U = some (jp (jp (jp (jp (jp w 43 U 15 2) 43 U 16 (W32 V)) 43 U 15 6) 43 U 16 3) 43 U 17 r, 0) := by
    rw [eu_X39_numberWord_308]; unfold du_X39_numberWord_308
    rw [y_bad, Option.bind_some, jf_neg (by omega), jf_neg (by omega), e3]
  have bad : jE (u_X39_numberWord_308 (jp (jp w 43 U 15 2) 43 U 16 (W32 V)) U) fun q => yRd t q.1 U ∧ tkS q.1 U g n (6, 3, r, 0) := by
    rw [e308]; exact jS_end ⟨((e1.slt (by omega)).slt (by omega)).bad, tkS.bad rfl⟩
  have good : jE (some (jp (jp w 43 U 15 2) 43 U 16 (W32 V), (0 : Int))) fun q => yRd t q.1 U ∧ tkS q.1 U g n (2, W32 V, r, q1) := by
    refine jS_end ⟨(e1.slt (by omega)).slt (by omega), ?_, ?_, fun z => absurd z (show ¬ (2 : Int) = 6 by decide), fun _ => ?_, fun _ => jf_pos ⟨rfl, rfl, rfl⟩, fun z => absurd z (show ¬ (2 : Int) = 5 by decide), fun z => absurd z (show ¬ (2 : Int) = 4 by decide)⟩
    · show _ = (2 : Int)
      (repeat (first | rw [jf_neg (by omega)] | rw [jf_pos (by omega)] | rw [ou_neg (by omega)] | rw [ou_pos (by omega)]))
    · show _ = r
      rw [jf_neg (by omega), jf_neg (by omega)]; exact e3
    · show _ = q1
      rw [jf_neg (by omega), jf_neg (by omega)]; exact e2
  simp only [L_cmp_lt]
  by_cases c1 : 4294967295 < V
  · rw [if_neg (by omega), if_pos (.inl c1)]; exact bad
  rw [if_pos (by omega)]
  by_cases c2 : q1 = f
  · have e16 : e = 16 := Classical.not_not.mp fun z => nf z c2
    rw [if_pos e16, if_pos (by omega), if_pos (.inr c2)]; exact bad
  · rw [if_neg (show ¬ (4294967295 < V ∨ q1 = f) by omega)]
    by_cases e16 : e = 16
    · rw [if_pos e16, if_neg (by omega)]; exact good
    · rw [if_neg e16]; exact good
theorem y_number (h : tdI t U g n) (h17 : jf t 43 U 17 = r) (r0 : 0 ≤ r) (r1 : r < n) (hc : isDg (bt g n r)) : jE (m_X39_numberWord t U) fun q => yRd t q.1 U ∧ tkS q.1 U g n (wdN g n r) := by
  obtain ⟨-, -, hb, n0, n1⟩ := id h
  have hg : g r = bt g n r := (bt_in r1).symm
  unfold isDg at hc
  have b2 := (bt_lo (k := r + 1) hb (by omega)).2.2
  have b3 := (bt_lo (k := r + 2) hb (by omega)).2.2
  have e187 : ∀ b f, (b = 10 ∧ f = r ∨ ¬ b = 10 ∧ f = r + 2) → u_X39_numberWord_187 t U b = u_X39_numberWord_207 t U b f U := fun b f hb => by
    rw [eu_X39_numberWord_187]; unfold du_X39_numberWord_187
    rw [h17, W32_in (by omega) (by omega)]
    rcases hb with ⟨z1, z2⟩ | ⟨z1, z2⟩
    · rw [if_pos z1, z2]
    · rw [if_neg z1, z2]
  have e96 : ∀ b, u_X39_numberWord_96 t U b = (if b = 10 then if av g n (r + 1) = 98 then u_X39_numberWord_125 t U b (av g n (r + 1)) else if av g n (r + 1) = 102 then u_X39_numberWord_125 t U b (av g n (r + 1)) else u_X39_numberWord_187 t U b else u_X39_numberWord_187 t U b) := fun b => by
    rw [eu_X39_numberWord_96]; unfold du_X39_numberWord_96
    rw [h17, W32_in (by omega) (by omega), y_av h (by omega), Option.bind_some]
  have x10 : jE (u_X39_numberWord_96 t U 10) fun q => yRd t q.1 U ∧ tkS q.1 U g n (cif ((bt g n (r + 1) = 98 ∨ bt g n (r + 1) = 102) ∧ ¬ isIn (bt g n (r + 2))) (3, 2 * (bt g n r - 48) + (if bt g n (r + 1) = 102 then 1 else 0), r, r + 2) (wdG g n r r 10)) := by
    have dd : jE (u_X39_numberWord_187 t U 10) fun q => yRd t q.1 U ∧ tkS q.1 U g n (wdG g n r r 10) := by
      rw [e187 10 r (.inl ⟨rfl, rfl⟩)]
      exact y_digits h h17 r0 (by omega) (by omega) (.inr (.inl ⟨rfl, rfl, by unfold hxO; rw [if_pos hc]; omega⟩))
    have e125 : bt g n (r + 1) = 98 ∨ bt g n (r + 1) = 102 → jE (u_X39_numberWord_125 t U 10 (av g n (r + 1))) fun q => yRd t q.1 U ∧ tkS q.1 U g n (cif ((bt g n (r + 1) = 98 ∨ bt g n (r + 1) = 102) ∧ ¬ isIn (bt g n (r + 2))) (3, 2 * (bt g n r - 48) + (if bt g n (r + 1) = 102 then 1 else 0), r, r + 2) (wdG g n r r 10)) := fun hd => by
      rw [eu_X39_numberWord_125]; unfold du_X39_numberWord_125
      rw [h17, W32_in (z := r + 2) (by omega) (by omega), y_av h (by omega), Option.bind_some, y_isIn, Option.bind_some]
      by_cases ci : isIn (bt g n (r + 2))
      · rw [cif_pos (av_isIn.mpr ci), if_neg (by decide), cif_neg (fun z => z.2 ci)]; exact dd
      · rw [cif_neg (fun z => ci (av_isIn.mp z)), if_pos rfl, cif_pos ⟨hd, ci⟩]
        simp only [jls]
        rw [jf_neg (by omega), h17, jlt_in r0 (by omega), Option.bind_some, jf_neg (by omega), h.2.1 r r0 r1, hg, W32_in (z := bt g n r - 48) (by omega) (by omega), W32_in (z := 2 * (bt g n r - 48)) (by omega) (by omega)]
        have e172 : ∀ z, 0 ≤ z → z ≤ 1 → u_X39_numberWord_172 (jp t 43 U 15 3) U z (2 * (bt g n r - 48)) U = some (jp (jp (jp t 43 U 15 3) 43 U 16 (2 * (bt g n r - 48) + z)) 43 U 18 (r + 2), 0) := fun z z0 z1 => by
          rw [eu_X39_numberWord_172]; unfold du_X39_numberWord_172
          simp only [jls]
          rw [jf_neg (by omega), jf_neg (by omega), h17, W32_in (z := r + 2) (by omega) (by omega), W32_in (by omega) (by omega)]
        have fin : ∀ z, jE (some (jp (jp (jp t 43 U 15 3) 43 U 16 z) 43 U 18 (r + 2), (0 : Int))) fun q => yRd t q.1 U ∧ tkS q.1 U g n (3, z, r, r + 2) := fun z => by
          refine jS_end ⟨((yRd.rfl.slt (by omega)).slt (by omega)).slt (by omega), ?_, ?_, fun z => absurd z (show ¬ (3 : Int) = 6 by decide), fun _ => jf_pos ⟨rfl, rfl, rfl⟩, fun _ => ?_, fun z => absurd z (show ¬ (3 : Int) = 5 by decide), fun z => absurd z (show ¬ (3 : Int) = 4 by decide)⟩
          · show _ = (3 : Int)
            (repeat (first | rw [jf_neg (by omega)] | rw [jf_pos (by omega)] | rw [ou_neg (by omega)] | rw [ou_pos (by omega)]))
          · show _ = r
            rw [jf_neg (by omega), jf_neg (by omega), jf_neg (by omega)]; exact h17
          · show _ = z
            (repeat (first | rw [jf_neg (by omega)] | rw [jf_pos (by omega)] | rw [ou_neg (by omega)] | rw [ou_pos (by omega)]))
        by_cases c2 : bt g n (r + 1) = 102
        · rw [if_pos ((av_eq (by decide) (by decide)).mpr c2), if_pos c2, e172 1 (by omega) (by omega)]; exact fin _
        · rw [if_neg (fun z => c2 ((av_eq (by decide) (by decide)).mp z)), if_neg c2, e172 0 (by omega) (by omega)]; exact fin _
    rw [e96, if_pos rfl]
    by_cases c1 : bt g n (r + 1) = 98
    · rw [if_pos ((av_eq (by decide) (by decide)).mpr c1)]; exact e125 (.inl c1)
    · rw [if_neg (fun z => c1 ((av_eq (by decide) (by decide)).mp z))]
      by_cases c2 : bt g n (r + 1) = 102
      · rw [if_pos ((av_eq (by decide) (by decide)).mpr c2)]; exact e125 (.inr c2)
      · rw [if_neg (fun z => c2 ((av_eq (by decide) (by decide)).mp z)), cif_neg (fun z => z.1.elim c1 c2)]; exact dd
  have xb : ∀ b f, ¬ b = 10 → f = r + 2 → ((b = 16 ∧ f = r + 2) ∨ (b = 2 ∧ f = r + 2 ∧ hxO (bt g n f) < 2)) → f ≤ n → jE (u_X39_numberWord_96 t U b) fun q => yRd t q.1 U ∧ tkS q.1 U g n (wdG g n r f b) := fun b f hb hf hh hn => by
    rw [e96, if_neg hb, e187 b f (.inr ⟨hb, hf⟩)]
    exact y_digits h h17 r0 (by omega) hn (hh.elim .inl fun z => .inr (.inr z))
  rw [em_X39_numberWord]; unfold dm_X39_numberWord
  rw [h17, y_lt h r0 r1, hg, W32_in (z := r + 1) (by omega) (by omega), y_av h (by omega), Option.bind_some]
  have e35 : ∀ b, u_X39_numberWord_35 t U b = (if bt g n r = 48 then if av g n (r + 1) = 98 then if av g n (r + 2) = 48 then u_X39_numberWord_96 t U 2 else if av g n (r + 2) = 49 then u_X39_numberWord_96 t U 2 else u_X39_numberWord_96 t U b else u_X39_numberWord_96 t U b else u_X39_numberWord_96 t U b) := fun b => by
    rw [eu_X39_numberWord_35]; unfold du_X39_numberWord_35
    rw [h17, y_lt h r0 r1, hg, W32_in (z := r + 1) (by omega) (by omega), y_av h (by omega), Option.bind_some, W32_in (z := r + 2) (by omega) (by omega), y_av h (by omega), Option.bind_some, Option.bind_some, eu_X39_numberWord_94]
    unfold du_X39_numberWord_94; rfl
  unfold wdN
  by_cases a1 : bt g n r = 48 ∧ bt g n (r + 1) = 120
  · rw [if_pos a1, if_pos a1.1, if_pos ((av_eq (by decide) (by decide)).mpr a1.2), e35, if_pos a1.1, if_neg (fun z => by have := (av_eq (by decide) (by decide)).mp z; omega)]
    exact xb 16 (r + 2) (by decide) rfl (.inl ⟨rfl, rfl⟩) (by omega)
  have e0 : (if bt g n r = 48 then if av g n (r + 1) = 120 then u_X39_numberWord_35 t U 16 else u_X39_numberWord_35 t U 10 else u_X39_numberWord_35 t U 10) = u_X39_numberWord_35 t U 10 := by
    by_cases c1 : bt g n r = 48
    · rw [if_pos c1, if_neg (fun z => a1 ⟨c1, (av_eq (by decide) (by decide)).mp z⟩)]
    · rw [if_neg c1]
  rw [if_neg a1, e0, e35]
  by_cases a2 : bt g n r = 48 ∧ bt g n (r + 1) = 98 ∧ (bt g n (r + 2) = 48 ∨ bt g n (r + 2) = 49)
  · have hx : hxO (bt g n (r + 2)) < 2 := by unfold hxO; rw [if_pos (by omega)]; omega
    have X2 := xb 2 (r + 2) (by decide) rfl (.inr ⟨rfl, rfl, hx⟩) (by omega)
    rw [if_pos a2, if_pos a2.1, if_pos ((av_eq (by decide) (by decide)).mpr a2.2.1)]
    by_cases c1 : bt g n (r + 2) = 48
    · rw [if_pos ((av_eq (by decide) (by decide)).mpr c1)]; exact X2
    · rw [if_neg (fun z => c1 ((av_eq (by decide) (by decide)).mp z)), if_pos ((av_eq (by decide) (by decide)).mpr (by omega : bt g n (r + 2) = 49))]; exact X2
  · rw [if_neg a2]
    by_cases c0 : bt g n r = 48
    · rw [if_pos c0]
      by_cases c1 : bt g n (r + 1) = 98
      · rw [if_pos ((av_eq (by decide) (by decide)).mpr c1), if_neg (fun z => a2 ⟨c0, c1, .inl ((av_eq (by decide) (by decide)).mp z)⟩), if_neg (fun z => a2 ⟨c0, c1, .inr ((av_eq (by decide) (by decide)).mp z)⟩)]; exact x10
      · rw [if_neg (fun z => c1 ((av_eq (by decide) (by decide)).mp z))]; exact x10
    · rw [if_neg c0]; exact x10
end jTlex2
