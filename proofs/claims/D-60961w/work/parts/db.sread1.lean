/-! the twin reads a file of an image: numbers, the head, rows -/
section jSread
variable {s t u : jS} {X n p f a b x y e k v : Int} {g g' : Int → Int} {L : List (Prop × Int × Int)} {c : Prop}
/-- what a reading changes -/
def sRd (s t : jS) (X : Int) : Prop := jSm s t ∧ ∀ c a k, ¬ (c = 1000 ∧ a = X + 10) → ¬ (c = 46 ∧ a = X ∧ (k = 10 ∨ k = 11 ∨ k = 12 ∨ k = 15)) → jf t c a k = jf s c a k
theorem sRd.rfl : sRd s s X := ⟨jSm.rfl, fun _ _ _ _ _ => Eq.refl _⟩
theorem sRd.trans (h : sRd s t X) (g : sRd t u X) : sRd s u X := ⟨h.1.trans g.1, fun c a k p q => (g.2 c a k p q).trans (h.2 c a k p q)⟩
theorem sRd.jp {c a k v : Int} (h : sRd s t X) (e : c = 1000 ∧ a = X + 10 ∨ c = 46 ∧ a = X ∧ (k = 10 ∨ k = 11 ∨ k = 12 ∨ k = 15)) : sRd s (jp t c a k v) X := ⟨h.1.jp, fun c' a' k' p q => by rw [jf_jp, if_neg (by omega)]; exact h.2 c' a' k' p q⟩
theorem sRd.r (h : sRd s t X) {a : Int} (e : ¬ a = X + 10) (k : Int) : jf t 1000 a k = jf s 1000 a k := h.2 _ _ _ (by omega) (by omega)
theorem sRd.i (h : sRd s t X) {k : Int} (e : ¬ (k = 10 ∨ k = 11 ∨ k = 12 ∨ k = 15)) : jf t 46 X k = jf s 46 X k := h.2 _ _ _ (by omega) (by omega)
/-- a file in the twin -/
def sC (s : jS) (X : Int) (g : Int → Int) (n : Int) : Prop := (∀ i, 0 ≤ i → i < n → jf s 1000 (X + 9) i = g i) ∧ byG g n ∧ 0 ≤ n ∧ n ≤ 16384 ∧ jf s 46 X 9 = n
theorem sC.rd (h : sC s X g n) (k : sRd s t X) : sC t X g n := by
  obtain ⟨h1, h2, h3, h4, h5⟩ := h
  exact ⟨fun i i0 i1 => (k.r (by omega) i).trans (h1 i i0 i1), h2, h3, h4, (k.i (by omega)).trans h5⟩
theorem sC.n8 (h : sC s X g n) : n ≤ 16384 := h.2.2.2.1
theorem s_u1 (h : sC s X g n) (p0 : 0 ≤ p) (p1 : p < n) : jlt s 1000 (X + 9) 16384 p = some (g p) := by
  rw [jlt_in p0 (by have := h.n8; omega)]; exact congrArg some (h.1 p p0 p1)
theorem s_r2 (h : sC s X g n) (p0 : 0 ≤ p) (p1 : p + 1 < n) : m_X42_read2 s X p = some (r2 g p) := by
  have hn := h.n8
  have h1 := h.2.1 p p0 (by omega)
  have h2 := h.2.1 (p + 1) (by omega) p1
  rw [em_X42_read2]; unfold dm_X42_read2
  rw [s_u1 h p0 (by omega), Option.bind_some, W32_in (by omega) (by omega), s_u1 h (by omega) p1, Option.bind_some, W32_in (z := 256 * g (p + 1)) (by omega) (by omega), W32_in (by omega) (by omega)]; rfl
theorem s_r4 (h : sC s X g n) (p0 : 0 ≤ p) (p1 : p + 3 < n) : m_X42_read4 s X p = some (r4 g p) := by
  have hn := h.n8
  have h1 := r2_lo h.2.1 p0 (by omega)
  have h2 := r2_lo h.2.1 (p := p + 2) (by omega) (by omega)
  rw [em_X42_read4]; unfold dm_X42_read4
  rw [s_r2 h p0 (by omega), Option.bind_some, W32_in (by omega) (by omega), s_r2 h (by omega) (by omega), Option.bind_some, W64_in (z := 65536 * r2 g (p + 2)) (by omega) (by omega), W64_in (by omega) (by omega)]; rfl
/-- what comes of it -/
def sBD (s : jS) (X : Int) (f p : Int) (q : jS × Int) : Prop := ¬ f = 0 ∧ q.2 = f ∧ sRd s q.1 X ∧ jf q.1 46 X 10 = p
theorem s_fault (hu : sRd s u X) (hf : ¬ f = 0) : jE ((m_X42_fault u X f p).bind fun q => some (q.1, q.2)) (sBD s X f p) := by
  rw [em_X42_fault]; unfold dm_X42_fault
  exact jS_end ⟨hf, rfl, hu.jp (.inr ⟨rfl, rfl, .inl rfl⟩), by (repeat (first | rw [jf_neg (by omega)] | rw [jf_pos (by omega)] | rw [ou_neg (by omega)] | rw [ou_pos (by omega)]))⟩
theorem s_faultR {S : Type} (hu : sRd s u X) (hf : ¬ f = 0) : jE (jinr ((m_X42_fault u X f p).bind fun q => some (q.1, q.2)) : Option (S ⊕ (jS × Int))) fun x => ∃ r, x = .inr r ∧ sBD s X f p r := jS_inr (jE_mono (s_fault hu hf) fun r hr => ⟨r, rfl, hr⟩)
/-- behind the head; the rows found so far -/
def sH (s u : jS) (X : Int) (g : Int → Int) : Prop := sRd s u X ∧ jf u 46 X 11 = JT g ∧ jf u 46 X 12 = JE g
def sW (u : jS) (X : Int) (g : Int → Int) (e : Int) : Prop := ∀ x, 0 ≤ x → x < 4 → jf u 1000 (X + 10) x = rwI g x e
theorem s_head (C : sC s X g n) : jE (m_X42_headFault s X) (ckR (tOK fun t => sH s t X g) (sBD s X) (JHead g n)) := by
  have hn := C.n8
  have hr : sRd s s X := sRd.rfl
  unfold JHead
  rw [em_X42_headFault]; unfold dm_X42_headFault
  rw [C.2.2.2.2]
  refine tk_no (by omega) (s_fault hr (by omega)) fun c52 => ?_
  have G : ∀ k, 0 ≤ k → k < 52 → jlt s 1000 (X + 9) 16384 k = some (g k) := fun k k0 k1 => s_u1 C k0 (by omega)
  have e4 : ckF (fun k => [(g k = mgc k, 2, k)]) 0 4 = [(g 0 = 127, 2, 0), (g 1 = 69, 2, 1), (g 2 = 76, 2, 2), (g 3 = 70, 2, 3)] := rfl
  rw [e4, List.cons_append, List.cons_append, List.cons_append, List.cons_append, List.nil_append]
  rw [G 0 (by omega) (by omega), Option.bind_some]
  refine tk_if Iff.rfl (s_fault hr (by omega)) fun _ => ?_
  rw [G 1 (by omega) (by omega), Option.bind_some]
  refine tk_if Iff.rfl (s_fault hr (by omega)) fun _ => ?_
  rw [G 2 (by omega) (by omega), Option.bind_some]
  refine tk_if Iff.rfl (s_fault hr (by omega)) fun _ => ?_
  rw [G 3 (by omega) (by omega), Option.bind_some]
  refine tk_if Iff.rfl (s_fault hr (by omega)) fun _ => ?_
  rw [eu_X42_headFault_93]; unfold du_X42_headFault_93
  refine jk_for (fun k => [(g k = 1, k - 1, k)]) (fun _ w => w = s) (fun k => [X, k]) 4 7 (by omega) rfl (fun k w k0 k1 _ e => ?_) fun w e _ => ?_
  · subst e
    show jE (b_X42_headFault_93 w X k) _
    unfold b_X42_headFault_93
    rw [if_pos k1, G k (by omega) (by omega), Option.bind_some]
    refine tk_if Iff.rfl ?_ fun _ => jk_end ?_
    · rw [eu_X42_headFault_109]; unfold du_X42_headFault_109
      rw [W32_in (by omega) (by omega)]
      exact s_faultR hr (by omega)
    · rw [W32_in (by omega) (by omega)]
      exact jS_end ⟨w, rfl, rfl⟩
  subst e
  show jE (b_X42_headFault_93 w X 7) _
  unfold b_X42_headFault_93
  rw [if_neg (by omega), eu_X42_headFault_124]; unfold du_X42_headFault_124
  rw [eu_X42_headFault_127]; unfold du_X42_headFault_127
  refine jS_inr (jE_mono (?_ : jE _ (ckR (tOK fun t => sH w t X g) (sBD w X) _)) fun r hr => ⟨r, rfl, hr⟩)
  refine jk_for (fun k => [(g k = 0, 6, k)]) (fun _ t => t = w) (fun k => [X, k]) 7 16 (by omega) rfl (fun k t k0 k1 _ e => ?_) fun t e _ => ?_
  · subst e
    show jE (b_X42_headFault_127 t X k) _
    unfold b_X42_headFault_127
    rw [if_pos k1, G k (by omega) (by omega), Option.bind_some]
    refine tk_if Iff.rfl ?_ fun _ => jk_end ?_
    · rw [eu_X42_headFault_142]; unfold du_X42_headFault_142
      exact s_faultR hr (by omega)
    · rw [W32_in (by omega) (by omega)]
      exact jS_end ⟨t, rfl, rfl⟩
  subst e
  show jE (b_X42_headFault_127 t X 16) _
  unfold b_X42_headFault_127
  rw [if_neg (by omega), eu_X42_headFault_156]; unfold du_X42_headFault_156
  refine jS_inr (jE_mono (?_ : jE _ (ckR (tOK fun w => sH t w X g) (sBD t X) _)) fun r hr => ⟨r, rfl, hr⟩)
  have R2 : ∀ p, 0 ≤ p → p + 1 < 52 → m_X42_read2 t X p = some (r2 g p) := fun p p0 p1 => s_r2 C p0 (by omega)
  have R4 : ∀ p, 0 ≤ p → p + 3 < 52 → m_X42_read4 t X p = some (r4 g p) := fun p p0 p1 => s_r4 C p0 (by omega)
  rw [R2 16 (by omega) (by omega), Option.bind_some]
  refine tk_if Iff.rfl (s_fault hr (by omega)) fun _ => ?_
  rw [R2 18 (by omega) (by omega), Option.bind_some]
  refine tk_if Iff.rfl (s_fault hr (by omega)) fun _ => ?_
  rw [R4 20 (by omega) (by omega), Option.bind_some]
  refine tk_if (L_cmp_0 _ _) (s_fault hr (by omega)) fun _ => ?_
  have h28 := r4_lo C.2.1 (p := 28) (by omega) (by omega)
  have h44 := r2_lo C.2.1 (p := 44) (by omega) (by omega)
  rw [R4 28 (by omega) (by omega), Option.bind_some, jdv_in (by decide), Option.bind_some, L_rem_n (by omega) (by omega) (by omega) (by omega)]
  have e2 : ∀ A : Option (jS × Int), (if L_cmp (r4 g 28 % 4) 0 = 0 then if L_cmp (r4 g 28) 52 < 0 then u_X42_headFault_241 t X else A else u_X42_headFault_241 t X) = if r4 g 28 % 4 = 0 ∧ 52 ≤ r4 g 28 then A else u_X42_headFault_241 t X := fun A => by
    simp only [L_cmp_0, L_cmp_lt]
    by_cases c1 : r4 g 28 % 4 = 0
    · rw [if_pos c1]
      by_cases c2 : r4 g 28 < 52
      · rw [if_pos c2, if_neg (by omega)]
      · rw [if_neg c2, if_pos (by omega)]
    · rw [if_neg c1, if_neg (by omega)]
  rw [e2]
  refine tk_if Iff.rfl (by rw [eu_X42_headFault_241]; unfold du_X42_headFault_241; exact s_fault hr (by omega)) fun ⟨c1, c2⟩ => ?_
  rw [R4 32 (by omega) (by omega), Option.bind_some]
  refine tk_if (L_cmp_0 _ _) (s_fault hr (by omega)) fun _ => ?_
  rw [R4 36 (by omega) (by omega), Option.bind_some]
  refine tk_no (by rw [L_cmp_gt]; omega) (s_fault hr (by omega)) fun _ => ?_
  rw [R2 40 (by omega) (by omega), Option.bind_some]
  refine tk_if Iff.rfl (s_fault hr (by omega)) fun _ => ?_
  rw [R2 42 (by omega) (by omega), Option.bind_some]
  refine tk_if Iff.rfl (s_fault hr (by omega)) fun _ => ?_
  rw [R2 44 (by omega) (by omega), Option.bind_some]
  simp only [jls]
  have h2 : sRd t (jp t 46 X 12 (r2 g 44)) X := hr.jp (.inr ⟨rfl, rfl, by omega⟩)
  have e12 : jf (jp t 46 X 12 (r2 g 44)) 46 X 12 = r2 g 44 := jf_pos ⟨rfl, rfl, rfl⟩
  generalize jp t 46 X 12 (r2 g 44) = t2 at h2 e12 ⊢
  rw [e12]
  have e3 : ∀ A B : Option (jS × Int), (if r2 g 44 < 1 then B else if 8 < r2 g 44 then B else A) = if 1 ≤ r2 g 44 ∧ r2 g 44 ≤ 8 then A else B := fun A B => by
    by_cases c1 : r2 g 44 < 1
    · rw [if_pos c1, if_neg (by omega)]
    · rw [if_neg c1]
      by_cases c2 : 8 < r2 g 44
      · rw [if_pos c2, if_neg (by omega)]
      · rw [if_neg c2, if_pos (by omega)]
  rw [e3]
  refine tk_if Iff.rfl (by rw [eu_X42_headFault_357]; unfold du_X42_headFault_357; exact s_fault h2 (by omega)) fun ⟨c3, c4⟩ => ?_
  rw [eu_X42_headFault_369]; unfold du_X42_headFault_369
  show jE _ (ckR _ _ (ckF (fun k => [(r2 g (46 + 2 * k) = 0, 9, 46 + 2 * k)]) 0 3 ++ [(r4 g 28 + 32 * r2 g 44 ≤ n, 10, 28)]))
  refine jk_for (fun k => [(r2 g (46 + 2 * k) = 0, 9, 46 + 2 * k)]) (fun _ w => w = t2) (fun k => [X, r4 g 28, 46 + 2 * k]) 0 3 (by omega) rfl (fun k w k0 k1 _ e => ?_) fun w e _ => ?_
  · subst e
    show jE (b_X42_headFault_369 w X _ (46 + 2 * k)) _
    unfold b_X42_headFault_369
    rw [if_pos (by omega), s_r2 (C.rd h2) (by omega) (by omega), Option.bind_some]
    refine tk_if Iff.rfl ?_ fun _ => jk_end ?_
    · rw [eu_X42_headFault_383]; unfold du_X42_headFault_383
      exact s_faultR h2 (by omega)
    · rw [W32_in (by omega) (by omega), show 46 + 2 * k + 2 = 46 + 2 * (k + 1) by omega]
      exact jS_end ⟨w, rfl, rfl⟩
  subst e
  show jE (b_X42_headFault_369 w X _ 52) _
  unfold b_X42_headFault_369
  rw [if_neg (by omega), eu_X42_headFault_397]; unfold du_X42_headFault_397
  refine jS_inr (jE_mono (?_ : jE _ (ckR (tOK fun w => sH t w X g) (sBD t X) _)) fun r hr => ⟨r, rfl, hr⟩)
  rw [e12, (C.rd h2).2.2.2.2, W64_in (z := 32 * r2 g 44) (by omega) (by omega), W64_in (by omega) (by omega)]
  refine tk_no (by rw [L_cmp_gt]; omega) (s_fault h2 (by omega)) fun c7 => jk_end ?_
  refine jS_end ⟨rfl, h2.jp (.inr ⟨rfl, rfl, by omega⟩), ?_, ?_⟩
  · rw [jf_pos ⟨rfl, rfl, rfl⟩, l2i_p, W32_in (by omega) (by omega)]; rfl
  · rw [jf_neg (by omega), e12]; rfl
theorem sH.sp (C : sC s X g n) (h : sH s u X g) (hd : Jd g n) (e0 : 0 ≤ e) (e1 : e < JE g) (k0 : 0 ≤ k) (k1 : k < 8) : m_X42_spot u X e k = some (jt' g e k) := by
  obtain ⟨d1, d2, d3, d4, d5, d6⟩ := hd
  have hn := C.n8
  rw [e_X42_spot, h.2.1, W32_in (z := 32 * e) (by omega) (by omega), W32_in (z := 4 * k) (by omega) (by omega), W32_in (z := JT g + 32 * e) (by omega) (by omega), W32_in (by omega) (by omega)]; rfl
theorem sH.nu (C : sC s X g n) (h : sH s u X g) (hd : Jd g n) (e0 : 0 ≤ e) (e1 : e < JE g) (k0 : 0 ≤ k) (k1 : k < 8) : m_X42_number u X e k = some (it g e k) := by
  have hr := jt_in (g := g) hd C.n8 e0 e1 k0 k1
  rw [em_X42_number]; unfold dm_X42_number
  rw [h.sp C hd e0 e1 k0 k1, Option.bind_some, s_r4 (C.rd h.1) (by omega) hr.2]; rfl
theorem sC.lo (C : sC s X g n) (hd : Jd g n) (e0 : 0 ≤ e) (e1 : e < JE g) (k0 : 0 ≤ k) (k1 : k < 8) : 0 ≤ it g e k ∧ it g e k < 4294967296 := it_lo C.2.1 hd C.n8 e0 e1 k0 k1
/-- powers of 2 -/
theorem s_pow (v : Int) : m_X42_isPower u v = some (if p2B v = true then 1 else 0) := by
  have st : ∀ (z P : Int), 0 < P → P ≤ 4096 → (z = 0 ∨ z = 1) → jlpR (jc3 b_X42_isPower_4) [v, z, P] u = jlpR (jc3 b_X42_isPower_4) [v, if z = 1 ∨ v = P then 1 else 0, 2 * P] u := fun z P p0 p1 hz => by
    refine jlpR_l ?_
    show b_X42_isPower_4 u v z P = _
    unfold b_X42_isPower_4
    have e27 : ∀ y, u_X42_isPower_27 u v P y = some (.inl [v, y, 2 * P]) := fun y => by
      rw [eu_X42_isPower_27]; unfold du_X42_isPower_27
      simp only [jlet]
      rw [W64_in (by omega) (by omega)]
    have e22 : u_X42_isPower_22 u v P = some (.inl [v, 1, 2 * P]) := by rw [eu_X42_isPower_22]; unfold du_X42_isPower_22; exact e27 1
    rw [if_neg (fun q => by have := (L_cmp_gt _ _).mp q; omega), e22, e27]
    simp only [L_cmp_0]
    rcases hz with rfl | rfl
    · rw [if_pos rfl]
      by_cases c : v = P
      · rw [if_pos c, if_pos (.inr c)]
      · rw [if_neg c, if_neg (by omega)]
    · rw [if_neg (by decide), if_pos (.inl rfl)]
  have z01 : ∀ (d : Prop) [Decidable d], (if d then (1 : Int) else 0) = 0 ∨ (if d then (1 : Int) else 0) = 1 := fun d _ => by split; exact .inr rfl; exact .inl rfl
  have i1 : ∀ (d : Prop) [Decidable d], ((if d then (1 : Int) else 0) = 1 ↔ d) := fun d _ => by
    by_cases h : d
    · rw [if_pos h]; exact ⟨fun _ => h, fun _ => rfl⟩
    · rw [if_neg h]; exact ⟨fun z => absurd z (by decide), fun z => absurd z h⟩
  rw [em_X42_isPower]; unfold dm_X42_isPower
  rw [eu_X42_isPower_4]; unfold du_X42_isPower_4
  rw [st 0 1 (by omega) (by omega) (.inl rfl), st _ (2 * 1) (by omega) (by omega) (z01 _), st _ (2 * (2 * 1)) (by omega) (by omega) (z01 _), st _ (2 * (2 * (2 * 1))) (by omega) (by omega) (z01 _), st _ (2 * (2 * (2 * (2 * 1)))) (by omega) (by omega) (z01 _), st _ (2 * (2 * (2 * (2 * (2 * 1))))) (by omega) (by omega) (z01 _), st _ (2 * (2 * (2 * (2 * (2 * (2 * 1)))))) (by omega) (by omega) (z01 _), st _ (2 * (2 * (2 * (2 * (2 * (2 * (2 * 1))))))) (by omega) (by omega) (z01 _), st _ (2 * (2 * (2 * (2 * (2 * (2 * (2 * (2 * 1)))))))) (by omega) (by omega) (z01 _), st _ (2 * (2 * (2 * (2 * (2 * (2 * (2 * (2 * (2 * 1))))))))) (by omega) (by omega) (z01 _), st _ (2 * (2 * (2 * (2 * (2 * (2 * (2 * (2 * (2 * (2 * 1)))))))))) (by omega) (by omega) (z01 _), st _ (2 * (2 * (2 * (2 * (2 * (2 * (2 * (2 * (2 * (2 * (2 * 1))))))))))) (by omega) (by omega) (z01 _), st _ (2 * (2 * (2 * (2 * (2 * (2 * (2 * (2 * (2 * (2 * (2 * (2 * 1)))))))))))) (by omega) (by omega) (z01 _)]
  refine jlpR_r ?_
  simp only [i1]
  show b_X42_isPower_4 u v _ 8192 = _
  unfold b_X42_isPower_4
  rw [if_pos ((L_cmp_gt _ _).mpr (by omega)), Wz_in (z01 _)]
  congr 2
  have e : ∀ (A B : Prop) [Decidable A] [Decidable B], (A ↔ B) → (if A then (1 : Int) else 0) = if B then 1 else 0 := fun A B _ _ h => by
    by_cases q : A
    · rw [if_pos q, if_pos (h.mp q)]
    · rw [if_neg q, if_neg (fun z => q (h.mpr z))]
  refine e _ _ ?_
  rw [p2B_i]
  unfold pP2
  omega
end jSread
