/-! the twin reads a file: numbers, the head, the entries -/
section jTread
variable {s t u : jS} {X n p f a b x y e k : Int} {g g' : Int → Int} {o : Int → Int → Int → Int} {L : List (Prop × Int × Int)} {c : Prop}
/-- what a reading changes -/
def fRd (s t : jS) (X : Int) : Prop := jSm s t ∧ ∀ c a k, ¬ (c = 1000 ∧ (a = X + 32 ∨ a = X + 33)) → ¬ (c = 44 ∧ a = X ∧ (k = 23 ∨ k = 39 ∨ k = 40)) → jf t c a k = jf s c a k
theorem fRd.rfl : fRd s s X := ⟨jSm.rfl, fun _ _ _ _ _ => Eq.refl _⟩
theorem fRd.trans (h : fRd s t X) (g : fRd t u X) : fRd s u X := ⟨h.1.trans g.1, fun c a k p q => (g.2 c a k p q).trans (h.2 c a k p q)⟩
theorem fRd.jp {c a k v : Int} (h : fRd s t X) (e : c = 1000 ∧ (a = X + 32 ∨ a = X + 33) ∨ c = 44 ∧ a = X ∧ (k = 23 ∨ k = 39 ∨ k = 40)) : fRd s (jp t c a k v) X := ⟨h.1.jp, fun c' a' k' p q => by rw [jf_jp, if_neg (by omega)]; exact h.2 c' a' k' p q⟩
theorem fRd.r (h : fRd s t X) {a : Int} (e : ¬ (a = X + 32 ∨ a = X + 33)) (k : Int) : jf t 1000 a k = jf s 1000 a k := h.2 _ _ _ (by omega) (by omega)
theorem fRd.i (h : fRd s t X) {k : Int} (e : ¬ (k = 23 ∨ k = 39 ∨ k = 40)) : jf t 44 X k = jf s 44 X k := h.2 _ _ _ (by omega) (by omega)
/-- a file in the twin -/
def tCf (s : jS) (X : Int) (g : Int → Int) (n : Int) : Prop := (∀ i, 0 ≤ i → i < n → fG s X i = g i) ∧ byG g n ∧ 0 ≤ n ∧ n ≤ 8192 ∧ jf s 44 X 22 = n ∧ pTi s X
theorem tCf.rd (h : tCf s X g n) (k : fRd s t X) : tCf t X g n := by
  obtain ⟨h1, h2, h3, h4, h5, h6⟩ := h
  exact ⟨fun i i0 i1 => (k.r (by omega) i).trans (h1 i i0 i1), h2, h3, h4, (k.i (by omega)).trans h5, h6.keep fun a k' e => k.r (by omega) k'⟩
theorem tCf.n8 (h : tCf s X g n) : n ≤ 8192 := h.2.2.2.1
theorem t_u1 (h : tCf s X g n) (p0 : 0 ≤ p) (p1 : p < n) : jlt s 1000 (X + 21) 8192 p = some (g p) := by
  rw [jlt_in p0 (by have := h.n8; omega)]; exact congrArg some (h.1 p p0 p1)
theorem t_r2 (h : tCf s X g n) (p0 : 0 ≤ p) (p1 : p + 1 < n) : m_X40_read2 s X p = some (r2 g p) := by
  have hn := h.n8
  rw [em_X40_read2]; unfold dm_X40_read2
  rw [t_u1 h p0 (by omega), Option.bind_some, W32_in (by omega) (by omega), t_u1 h (by omega) p1, Option.bind_some, I_or_r2 (h.2.1 p p0 (by omega)) (h.2.1 (p + 1) (by omega) p1)]; rfl
theorem t_r4 (h : tCf s X g n) (p0 : 0 ≤ p) (p1 : p + 3 < n) : m_X40_read4 s X p = some (r4 g p) := by
  have hn := h.n8
  have h1 := r2_lo h.2.1 p0 (by omega)
  have h2 := r2_lo h.2.1 (p := p + 2) (by omega) (by omega)
  rw [em_X40_read4]; unfold dm_X40_read4
  rw [t_r2 h p0 (by omega), Option.bind_some, W32_in (by omega) (by omega), t_r2 h (by omega) (by omega), Option.bind_some, W64_in (z := 65536 * r2 g (p + 2)) (by omega) (by omega), W64_in (by omega) (by omega)]; rfl
/-- what comes of it -/
def tOK (P : jS → Prop) (q : jS × Int) : Prop := q.2 = 0 ∧ P q.1
def tBD (s : jS) (X : Int) (f p : Int) (q : jS × Int) : Prop := ¬ f = 0 ∧ q.2 = f ∧ fRd s q.1 X ∧ jf q.1 44 X 23 = p
theorem tBD.inr {S : Type} {q : jS × Int} (h : tBD s X f p q) : jE (jinr (some (q.1, q.2)) : Option (S ⊕ (jS × Int))) fun x => ∃ r, x = .inr r ∧ tBD s X f p r := jS_inr (jS_end ⟨_, rfl, h⟩)
theorem t_fault (hu : fRd s u X) (hf : ¬ f = 0) : jE ((m_X40_fault u X f p).bind fun q => some (q.1, q.2)) (tBD s X f p) := by
  rw [em_X40_fault]; unfold dm_X40_fault
  exact jS_end ⟨hf, rfl, hu.jp (.inr ⟨rfl, rfl, .inl rfl⟩), by (repeat (first | rw [jf_neg (by omega)] | rw [jf_pos (by omega)] | rw [ou_neg (by omega)] | rw [ou_pos (by omega)]))⟩
theorem t_faultR {S : Type} (hu : fRd s u X) (hf : ¬ f = 0) : jE (jinr ((m_X40_fault u X f p).bind fun q => some (q.1, q.2)) : Option (S ⊕ (jS × Int))) fun x => ∃ r, x = .inr r ∧ tBD s X f p r := jS_inr (jE_mono (t_fault hu hf) fun r hr => ⟨r, rfl, hr⟩)
/-- two branches -/
theorem tk_if {R' : Type} {Q : R' → Prop} {Q' : Int → Int → R' → Prop} {A B : Option R'} {d : Prop} [Decidable d] (hc : d ↔ c) (no : jE B (Q' f p)) (ok : c → jE A (ckR Q Q' L)) : jE (if d then A else B) (ckR Q Q' ((c, f, p) :: L)) := by
  by_cases h : d
  · rw [if_pos h]; exact jk_ok (hc.mp h) (ok (hc.mp h))
  · rw [if_neg h]; exact jk_no (fun z => h (hc.mpr z)) no
theorem tk_no {R' : Type} {Q : R' → Prop} {Q' : Int → Int → R' → Prop} {A B : Option R'} {d : Prop} [Decidable d] (hc : d ↔ ¬ c) (no : jE A (Q' f p)) (ok : c → jE B (ckR Q Q' L)) : jE (if d then A else B) (ckR Q Q' ((c, f, p) :: L)) := by
  by_cases h : d
  · rw [if_pos h]; exact jk_no (hc.mp h) no
  · rw [if_neg h]
    have hx : c := Classical.byContradiction fun z => h (hc.mpr z)
    exact jk_ok hx (ok hx)
/-- a loop that goes round once more behind a fault -/
theorem jk_soft {R : Type} {Q : R → Prop} {Q' : Int → Int → R → Prop} {C : List Int → jS → Option ((jS × List Int) ⊕ R)} {M : List (Prop × Int × Int)} (F : Int → List (Prop × Int × Int)) (J : Int → jS → Prop) (Z : Int → Int → jS → Prop) (V : Int → Int → List Int) (lo hi : Int) (hn : lo ≤ hi) {s : jS} (h : J lo s)
    (h1 : ∀ k s, lo ≤ k → k < hi → (∀ i, lo ≤ i → i < k → Gd (F i)) → J k s → jE (C (V k 0) s) (ckR (fun x => ∃ t, x = .inl (t, V (k + 1) 0) ∧ J (k + 1) t) (fun f p x => ∃ t, x = .inl (t, V (k + 1) f) ∧ Z f p t) (F k)))
    (hz : ∀ k f p t, lo ≤ k → k ≤ hi → Z f p t → jE (C (V k f) t) fun x => ∃ r, x = .inr r ∧ Q' f p r)
    (h2 : ∀ s, J hi s → (∀ i, lo ≤ i → i < hi → Gd (F i)) → jE (C (V hi 0) s) fun x => ∃ r, x = .inr r ∧ ckR Q Q' M r) : jE (jlpW C (V lo 0) s) (ckR Q Q' (ckF F lo hi ++ M)) := by
  have key : ∀ (m : Nat) (k : Int) (s : jS), lo ≤ k → k ≤ hi → hi - k = m → (∀ i, lo ≤ i → i < k → Gd (F i)) → J k s → jE (jlpW C (V k 0) s) (ckR Q Q' (ckF F k hi ++ M)) := by
    intro m
    induction m with
    | zero =>
      intro k s h0 hk hm hG hJ
      have : k = hi := by omega
      subst this
      obtain ⟨x, e, r, ex, q⟩ := h2 s hJ hG
      rw [jlpW_st, e, ex, ckF_nil (Int.le_refl _)]
      exact jE_some.mpr q
    | succ m ih =>
      intro k s h0 hk hm hG hJ
      obtain ⟨x, e, q⟩ := h1 k s h0 (by omega) hG hJ
      rw [jlpW_st, e, ckF_cons (by omega), List.append_assoc]
      rcases q with ⟨q1, t, ex, q2⟩ | ⟨f, p, q1, t, ex, q2⟩
      · subst ex
        exact jk_app q1 (ih (k + 1) t (by omega) (by omega) (by omega) (fun i i0 i1 => by
          by_cases e : i = k
          · subst e; exact q1
          · exact hG i i0 (by omega)) q2)
      · subst ex
        refine jk_bad q1 ?_
        obtain ⟨y, e', r, ey, q3⟩ := hz (k + 1) f p t (by omega) (by omega) q2
        show jE (jlpW C (V (k + 1) f) t) _
        rw [jlpW_st, e', ey]
        exact jE_some.mpr q3
  exact key (hi - lo).toNat lo s (Int.le_refl _) hn (by omega) (fun i a b => by omega) h
/-- behind the head -/
def tH (s u : jS) (X : Int) (g : Int → Int) : Prop := fRd s u X ∧ jf u 44 X 39 = RT g ∧ jf u 44 X 40 = RE g
theorem t_rhead (C : tCf s X g n) : jE (m_X40_head s X) (ckR (tOK fun t => tH s t X g) (tBD s X) (Lhead g n)) := by
  have hn := C.n8
  have hr : fRd s s X := fRd.rfl
  unfold Lhead
  rw [em_X40_head]; unfold dm_X40_head
  rw [C.2.2.2.2.1]
  refine tk_no (by omega) (t_fault hr (by omega)) fun c52 => ?_
  have G : ∀ k, 0 ≤ k → k < 52 → jlt s 1000 (X + 21) 8192 k = some (g k) := fun k k0 k1 => t_u1 C k0 (by omega)
  have e4 : ckF (fun k => [(g k = mgc k, 2, k)]) 0 4 = [(g 0 = 127, 2, 0), (g 1 = 69, 2, 1), (g 2 = 76, 2, 2), (g 3 = 70, 2, 3)] := rfl
  rw [e4, List.cons_append, List.cons_append, List.cons_append, List.cons_append, List.nil_append]
  rw [G 0 (by omega) (by omega), Option.bind_some]
  refine tk_if Iff.rfl (t_fault hr (by omega)) fun _ => ?_
  rw [G 1 (by omega) (by omega), Option.bind_some]
  refine tk_if Iff.rfl (t_fault hr (by omega)) fun _ => ?_
  rw [G 2 (by omega) (by omega), Option.bind_some]
  refine tk_if Iff.rfl (t_fault hr (by omega)) fun _ => ?_
  rw [G 3 (by omega) (by omega), Option.bind_some]
  refine tk_if Iff.rfl (t_fault hr (by omega)) fun _ => ?_
  rw [eu_X40_head_93]; unfold du_X40_head_93
  refine jk_for (fun k => [(g k = 1, k - 1, k)]) (fun _ w => w = s) (fun k => [X, k]) 4 7 (by omega) rfl (fun k w k0 k1 _ e => ?_) fun w e _ => ?_
  · subst e
    show jE (b_X40_head_93 w X k) _
    unfold b_X40_head_93
    rw [if_pos k1, G k (by omega) (by omega), Option.bind_some]
    refine tk_if Iff.rfl ?_ fun _ => jk_end ?_
    · rw [eu_X40_head_109]; unfold du_X40_head_109
      rw [W32_in (by omega) (by omega)]
      exact t_faultR hr (by omega)
    · rw [W32_in (by omega) (by omega)]
      exact jS_end ⟨w, rfl, rfl⟩
  subst e
  show jE (b_X40_head_93 w X 7) _
  unfold b_X40_head_93
  rw [if_neg (by omega), eu_X40_head_124]; unfold du_X40_head_124
  rw [eu_X40_head_127]; unfold du_X40_head_127
  refine jS_inr (jE_mono (?_ : jE _ (ckR (tOK fun t => tH w t X g) (tBD w X) _)) fun r hr => ⟨r, rfl, hr⟩)
  refine jk_for (fun k => [(g k = 0, 6, k)]) (fun _ t => t = w) (fun k => [X, k]) 7 16 (by omega) rfl (fun k t k0 k1 _ e => ?_) fun t e _ => ?_
  · subst e
    show jE (b_X40_head_127 t X k) _
    unfold b_X40_head_127
    rw [if_pos k1, G k (by omega) (by omega), Option.bind_some]
    refine tk_if Iff.rfl ?_ fun _ => jk_end ?_
    · rw [eu_X40_head_142]; unfold du_X40_head_142
      exact t_faultR hr (by omega)
    · rw [W32_in (by omega) (by omega)]
      exact jS_end ⟨t, rfl, rfl⟩
  subst e
  show jE (b_X40_head_127 t X 16) _
  unfold b_X40_head_127
  rw [if_neg (by omega), eu_X40_head_156]; unfold du_X40_head_156
  refine jS_inr (jE_mono (?_ : jE _ (ckR (tOK fun w => tH t w X g) (tBD t X) _)) fun r hr => ⟨r, rfl, hr⟩)
  have R2 : ∀ p, 0 ≤ p → p + 1 < 52 → m_X40_read2 t X p = some (r2 g p) := fun p p0 p1 => t_r2 C p0 (by omega)
  have R4 : ∀ p, 0 ≤ p → p + 3 < 52 → m_X40_read4 t X p = some (r4 g p) := fun p p0 p1 => t_r4 C p0 (by omega)
  rw [R2 16 (by omega) (by omega), Option.bind_some]
  refine tk_if Iff.rfl (t_fault hr (by omega)) fun _ => ?_
  rw [R2 18 (by omega) (by omega), Option.bind_some]
  refine tk_if Iff.rfl (t_fault hr (by omega)) fun _ => ?_
  rw [R4 20 (by omega) (by omega), Option.bind_some]
  refine tk_if (L_cmp_0 _ _) (t_fault hr (by omega)) fun _ => ?_
  rw [R4 24 (by omega) (by omega), Option.bind_some]
  refine tk_if (L_cmp_0 _ _) (t_fault hr (by omega)) fun _ => ?_
  rw [R4 28 (by omega) (by omega), Option.bind_some]
  refine tk_if (L_cmp_0 _ _) (t_fault hr (by omega)) fun _ => ?_
  have h32 := r4_lo C.2.1 (p := 32) (by omega) (by omega)
  have h48 := r2_lo C.2.1 (p := 48) (by omega) (by omega)
  have h50 := r2_lo C.2.1 (p := 50) (by omega) (by omega)
  rw [R4 32 (by omega) (by omega), Option.bind_some, jdv_in (by decide), Option.bind_some, L_rem_n (by omega) (by omega) (by omega) (by omega)]
  have e2 : ∀ A : Option (jS × Int), (if L_cmp (r4 g 32 % 4) 0 = 0 then if L_cmp (r4 g 32) 52 < 0 then u_X40_head_281 t X else A else u_X40_head_281 t X) = if r4 g 32 % 4 = 0 ∧ 52 ≤ r4 g 32 then A else u_X40_head_281 t X := fun A => by
    simp only [L_cmp_0, L_cmp_lt]
    by_cases c1 : r4 g 32 % 4 = 0
    · rw [if_pos c1]
      by_cases c2 : r4 g 32 < 52
      · rw [if_pos c2, if_neg (by omega)]
      · rw [if_neg c2, if_pos (by omega)]
    · rw [if_neg c1, if_neg (by omega)]
  rw [e2]
  refine tk_if Iff.rfl (by rw [eu_X40_head_281]; unfold du_X40_head_281; exact t_fault hr (by omega)) fun ⟨c1, c2⟩ => ?_
  rw [R4 36 (by omega) (by omega), Option.bind_some]
  refine tk_no (by rw [L_cmp_gt]; omega) (t_fault hr (by omega)) fun _ => ?_
  rw [R2 40 (by omega) (by omega), Option.bind_some]
  refine tk_if Iff.rfl (t_fault hr (by omega)) fun _ => ?_
  rw [R2 42 (by omega) (by omega), Option.bind_some]
  refine tk_if Iff.rfl (t_fault hr (by omega)) fun _ => ?_
  rw [R2 44 (by omega) (by omega), Option.bind_some]
  refine tk_if Iff.rfl (t_fault hr (by omega)) fun _ => ?_
  rw [R2 46 (by omega) (by omega), Option.bind_some]
  refine tk_if Iff.rfl (t_fault hr (by omega)) fun _ => ?_
  rw [R2 48 (by omega) (by omega), Option.bind_some]
  simp only [jls]
  have h2 : fRd t (jp t 44 X 40 (r2 g 48)) X := hr.jp (.inr ⟨rfl, rfl, by omega⟩)
  rw [jf_pos ⟨rfl, rfl, rfl⟩]
  have e3 : ∀ A B : Option (jS × Int), (if r2 g 48 < 1 then B else if 16 < r2 g 48 then B else A) = if 1 ≤ r2 g 48 ∧ r2 g 48 ≤ 16 then A else B := fun A B => by
    by_cases c1 : r2 g 48 < 1
    · rw [if_pos c1, if_neg (by omega)]
    · rw [if_neg c1]
      by_cases c2 : 16 < r2 g 48
      · rw [if_pos c2, if_neg (by omega)]
      · rw [if_neg c2, if_pos (by omega)]
  rw [e3]
  refine tk_if Iff.rfl (by rw [eu_X40_head_413]; unfold du_X40_head_413; exact t_fault h2 (by omega)) fun ⟨c3, c4⟩ => ?_
  rw [t_r2 (C.rd h2) (by omega) (by omega), Option.bind_some]
  have e5 : ∀ A B : Option (jS × Int), (if r2 g 50 < 1 then B else if r2 g 50 < r2 g 48 then A else B) = if 1 ≤ r2 g 50 ∧ r2 g 50 < r2 g 48 then A else B := fun A B => by
    by_cases c1 : r2 g 50 < 1
    · rw [if_pos c1, if_neg (by omega)]
    · rw [if_neg c1]
      by_cases c2 : r2 g 50 < r2 g 48
      · rw [if_pos c2, if_pos (by omega)]
      · rw [if_neg c2, if_neg (by omega)]
  rw [e5]
  refine tk_if Iff.rfl (by rw [eu_X40_head_442]; unfold du_X40_head_442; exact t_fault h2 (by omega)) fun ⟨c5, c6⟩ => ?_
  rw [jf_neg (by omega), C.2.2.2.2.1, W64_in (z := 40 * r2 g 48) (by omega) (by omega), W64_in (by omega) (by omega)]
  refine tk_no (by rw [L_cmp_gt]; omega) (t_fault h2 (by omega)) fun c7 => jk_end ?_
  refine jS_end ⟨rfl, h2.jp (.inr ⟨rfl, rfl, by omega⟩), ?_, ?_⟩
  · rw [jf_pos ⟨rfl, rfl, rfl⟩]
    rw [l2i_p, W32_in (by omega) (by omega)]; rfl
  · rw [jf_neg (by omega), jf_pos ⟨rfl, rfl, rfl⟩]; rfl
theorem tH.sp (C : tCf s X g n) (h : tH s u X g) (hd : Hd g n) (e0 : 0 ≤ e) (e1 : e < RE g) (k0 : 0 ≤ k) (k1 : k < 10) : m_X40_spotOf u X e k = some (rf g e k) := by
  obtain ⟨d1, d2, d3, d4, d5, d6, d7, d8, d9⟩ := hd
  have hn := C.n8
  rw [e_X40_spotOf, h.2.1, W32_in (z := 40 * e) (by omega) (by omega), W32_in (z := 4 * k) (by omega) (by omega), W32_in (z := RT g + 40 * e) (by omega) (by omega), W32_in (by omega) (by omega)]; rfl
theorem tH.to (C : tCf s X g n) (h : tH s u X g) (hd : Hd g n) (e0 : 0 ≤ e) (e1 : e < RE g) (k0 : 0 ≤ k) (k1 : k < 10) : m_X40_told u X e k = some (rt g e k) := by
  have hr := rf_in (g := g) hd C.n8 e0 e1 k0 k1
  rw [em_X40_told]; unfold dm_X40_told
  rw [h.sp C hd e0 e1 k0 k1, Option.bind_some, t_r4 (C.rd h.1) (by omega) hr.2]; rfl
theorem tCf.lo (C : tCf s X g n) (hd : Hd g n) (e0 : 0 ≤ e) (e1 : e < RE g) (k0 : 0 ≤ k) (k1 : k < 10) : 0 ≤ rt g e k ∧ rt g e k < 4294967296 := by
  have hr := rf_in (g := g) hd C.n8 e0 e1 k0 k1
  exact r4_lo C.2.1 (by omega) hr.2
/-- entries -/
theorem t_ent0 (C : tCf s X g n) (h : tH s u X g) (hd : Hd g n) : jE (m_X40_entryFault u X 0) (ckR (tOK fun t => t = u) (tBD s X) (ckF (fun k => [(rt g 0 k = 0, 11, rf g 0 k)]) 0 10 ++ [])) := by
  have hE : (0 : Int) < RE g := by have := hd.2.2.2.1; omega
  rw [em_X40_entryFault]; unfold dm_X40_entryFault
  rw [eu_X40_entryFault_2]; unfold du_X40_entryFault_2
  refine jk_for (fun k => [(rt g 0 k = 0, 11, rf g 0 k)]) (fun _ w => w = u) (fun k => [X, 0, k]) 0 10 (by omega) rfl (fun k w k0 k1 _ e => ?_) fun w e _ => ?_
  · subst e
    show jE (b_X40_entryFault_2 w X 0 k) _
    unfold b_X40_entryFault_2
    rw [if_pos k1, if_pos rfl, h.to C hd (by omega) hE k0 k1, Option.bind_some]
    refine tk_if (L_cmp_0 _ _) ?_ fun _ => jk_end ?_
    · rw [eu_X40_entryFault_23]; unfold du_X40_entryFault_23
      rw [h.sp C hd (by omega) hE k0 k1, Option.bind_some]
      exact t_faultR h.1 (by omega)
    · rw [W32_in (by omega) (by omega)]
      exact jS_end ⟨w, rfl, rfl⟩
  · subst e
    show jE (b_X40_entryFault_2 w X 0 10) _
    unfold b_X40_entryFault_2
    rw [if_neg (by omega), eu_X40_entryFault_42]; unfold du_X40_entryFault_42
    rw [if_pos rfl]
    exact jS_inr (jS_end ⟨_, rfl, ck_end ⟨rfl, rfl⟩⟩)
/-- one entry -/
theorem t_ent1 (C : tCf s X g n) (h : tH s u X g) (hd : Hd g n) (e0 : 1 ≤ e) (e1 : e < RE g) : jE (m_X40_entryFault u X e) (ckR (tOK fun t => t = u) (tBD s X) (Lent g n e)) := by
  have hn := C.n8
  have hr := h.1
  have T : ∀ k, 0 ≤ k → k < 10 → m_X40_told u X e k = some (rt g e k) := fun k k0 k1 => h.to C hd (by omega) e1 k0 k1
  have F : ∀ k, 0 ≤ k → k < 10 → m_X40_spotOf u X e k = some (rf g e k) := fun k k0 k1 => h.sp C hd (by omega) e1 k0 k1
  have v1 := C.lo hd (e := e) (k := 1) (by omega) e1 (by omega) (by omega)
  have v4 := C.lo hd (e := e) (k := 4) (by omega) e1 (by omega) (by omega)
  have v5 := C.lo hd (e := e) (k := 5) (by omega) e1 (by omega) (by omega)
  have v8 := C.lo hd (e := e) (k := 8) (by omega) e1 (by omega) (by omega)
  have h16 := hd.2.2.2.2.1
  have h52 := hd.2.2.1
  have htab := hd.2.2.2.2.2.2.2.1
  rw [em_X40_entryFault]; unfold dm_X40_entryFault
  rw [eu_X40_entryFault_2]; unfold du_X40_entryFault_2
  have e42 : jlpW (jc3 b_X40_entryFault_2) [X, e, 0] u = u_X40_entryFault_42 u X e := jlpW_r (by
    show b_X40_entryFault_2 u X e 0 = _
    unfold b_X40_entryFault_2
    rw [if_pos (by omega), if_neg (by omega)])
  rw [e42, eu_X40_entryFault_42]; unfold du_X40_entryFault_42
  rw [if_neg (by omega), T 1 (by omega) (by omega), Option.bind_some]
  unfold Lent
  have e1' : (if L_cmp (rt g e 1) 1 < 0 then u_X40_entryFault_77 u X e else if 0 < L_cmp (rt g e 1) 4 then if L_cmp (rt g e 1) 8 = 0 then u_X40_entryFault_90 u X e (rt g e 1) else u_X40_entryFault_77 u X e else u_X40_entryFault_90 u X e (rt g e 1)) = if 1 ≤ rt g e 1 ∧ rt g e 1 ≤ 4 ∨ rt g e 1 = 8 then u_X40_entryFault_90 u X e (rt g e 1) else u_X40_entryFault_77 u X e := by
    simp only [L_cmp_0, L_cmp_lt, L_cmp_gt]
    by_cases c1 : rt g e 1 < 1
    · rw [if_pos c1, if_neg (by omega)]
    · rw [if_neg c1]
      by_cases c2 : 4 < rt g e 1
      · rw [if_pos c2]
        by_cases c3 : rt g e 1 = 8
        · rw [if_pos c3, if_pos (.inr c3)]
        · rw [if_neg c3, if_neg (by omega)]
      · rw [if_neg c2, if_pos (.inl (by omega))]
  rw [e1']
  refine tk_if Iff.rfl ?_ fun _ => ?_
  · rw [eu_X40_entryFault_77]; unfold du_X40_entryFault_77
    rw [F 1 (by omega) (by omega), Option.bind_some]
    exact t_fault hr (by omega)
  rw [eu_X40_entryFault_90]; unfold du_X40_entryFault_90
  rw [T 4 (by omega) (by omega), Option.bind_some, T 5 (by omega) (by omega), Option.bind_some]
  -- behind: stored or not
  have last : ∀ y0 : Int, (y0 = if rt g e 1 = 8 then 0 else 1) → jE (u_X40_entryFault_119 u X e (rt g e 4) (rt g e 5) y0) (ckR (tOK fun t => t = u) (tBD s X) [(isS g e → rt g e 4 + rt g e 5 ≤ n ∧ (rt g e 5 = 0 ∨ 52 ≤ rt g e 4), 12, rf g e 4), (pPw (rt g e 8) ∧ (isS g e → rt g e 4 % rt g e 8 = 0), 13, rf g e 8),
      (isS g e → ¬ rt g e 5 = 0 → ¬ mt (rt g e 4) (rt g e 5) (RT g) (40 * RE g) ∧ ∀ k, 1 ≤ k → k < e → isS g k → ¬ rt g k 5 = 0 → ¬ mt (rt g e 4) (rt g e 5) (rt g k 4) (rt g k 5), 14, rf g e 4)]) := by
    intro y0 hy
    have yS : y0 = 0 ↔ ¬ isS g e := by
      unfold isS
      by_cases c : rt g e 1 = 8
      · rw [if_pos c] at hy; exact ⟨fun _ z => z c, fun _ => hy⟩
      · rw [if_neg c] at hy; exact ⟨fun z => by omega, fun z => absurd c z⟩
    rw [eu_X40_entryFault_119]; unfold du_X40_entryFault_119
    rw [(C.rd hr).2.2.2.2.1, W64_in (by omega) (by omega)]
    have e2 : ∀ A B : Option (jS × Int), (if y0 = 0 then A else if 0 < L_cmp (rt g e 4 + rt g e 5) n then B else if 0 < L_cmp (rt g e 5) 0 then if L_cmp (rt g e 4) 52 < 0 then B else A else A) = if y0 = 0 ∨ rt g e 4 + rt g e 5 ≤ n ∧ (rt g e 5 = 0 ∨ 52 ≤ rt g e 4) then A else B := fun A B => by
      simp only [L_cmp_lt, L_cmp_gt]
      by_cases c1 : y0 = 0
      · rw [if_pos c1, if_pos (.inl c1)]
      · rw [if_neg c1]
        by_cases c2 : n < rt g e 4 + rt g e 5
        · rw [if_pos c2, if_neg (by omega)]
        · rw [if_neg c2]
          by_cases c3 : 0 < rt g e 5
          · rw [if_pos c3]
            by_cases c4 : rt g e 4 < 52
            · rw [if_pos c4, if_neg (by omega)]
            · rw [if_neg c4, if_pos (by omega)]
          · rw [if_neg c3, if_pos (by omega)]
    rw [e2]
    refine tk_if ⟨fun z q => z.elim (fun a => absurd q (yS.mp a)) id, fun z => by
      by_cases c : y0 = 0
      · exact .inl c
      · exact .inr (z (Classical.byContradiction fun q => c (yS.mpr q)))⟩ (by rw [eu_X40_entryFault_156]; unfold du_X40_entryFault_156; rw [F 4 (by omega) (by omega), Option.bind_some]; exact t_fault hr (by omega)) fun c2 => ?_
    rw [eu_X40_entryFault_169]; unfold du_X40_entryFault_169
    rw [T 8 (by omega) (by omega), Option.bind_some]
    have e3 : (if 0 < L_cmp (rt g e 8) 64 then u_X40_entryFault_211 u X e else (m_X40_isPower u (L2i (rt g e 8))).bind fun v2 => if v2 = 0 then u_X40_entryFault_211 u X e else if y0 = 0 then u_X40_entryFault_225 u X e (rt g e 4) (rt g e 5) y0 else (jdv (rt g e 8) (L_rem (rt g e 4) (rt g e 8))).bind fun v3 => if L_cmp v3 0 = 0 then u_X40_entryFault_225 u X e (rt g e 4) (rt g e 5) y0 else u_X40_entryFault_211 u X e) = if pwB (rt g e 8) = true ∧ (y0 = 0 ∨ rt g e 4 % rt g e 8 = 0) then u_X40_entryFault_225 u X e (rt g e 4) (rt g e 5) y0 else u_X40_entryFault_211 u X e := by
      simp only [L_cmp_gt]
      by_cases c1 : 64 < rt g e 8
      · rw [if_pos c1, if_neg (fun z => by have := (pwB_i.mp z.1).lo; omega)]
      · rw [if_neg c1, l2i_p, W32_in (by omega) (by omega)]
        by_cases c3 : pPw (rt g e 8)
        · have := c3.lo
          rw [t_pow1 c3, Option.bind_some, if_neg (by decide)]
          by_cases c4 : y0 = 0
          · rw [if_pos c4, if_pos ⟨pwB_i.mpr c3, .inl c4⟩]
          · rw [if_neg c4, jdv_in (by omega), Option.bind_some, L_rem_n (by omega) (by omega) (by omega) (by omega)]
            simp only [L_cmp_0]
            by_cases c5 : rt g e 4 % rt g e 8 = 0
            · rw [if_pos c5, if_pos ⟨pwB_i.mpr c3, .inr c5⟩]
            · rw [if_neg c5, if_neg (fun z => z.2.elim c4 c5)]
        · rw [t_pow0 c3, Option.bind_some, if_pos rfl, if_neg (fun z => c3 (pwB_i.mp z.1))]
    rw [e3]
    refine tk_if ⟨fun z => ⟨pwB_i.mp z.1, fun q => z.2.elim (fun a => absurd q (yS.mp a)) id⟩, fun z => ⟨pwB_i.mpr z.1, by
      by_cases c : y0 = 0
      · exact .inl c
      · exact .inr (z.2 (Classical.byContradiction fun q => c (yS.mpr q)))⟩⟩ (by rw [eu_X40_entryFault_211]; unfold du_X40_entryFault_211; rw [F 8 (by omega) (by omega), Option.bind_some]; exact t_fault hr (by omega)) fun c3 => ?_
    rw [eu_X40_entryFault_225]; unfold du_X40_entryFault_225
    by_cases cS : isS g e
    · have y1 : ¬ y0 = 0 := fun z => yS.mp z cS
      rw [if_neg y1, e_X40_meets, Option.bind_some, h.2.1, h.2.2, W64_in (z := 40 * RE g) (by omega) (by omega), W64_in (z := RT g + 40 * RE g) (by omega) (by omega), W64_in (by omega) (by omega), jz]
      have bad : ∀ q : Prop, ¬ q → jE (u_X40_entryFault_319 u X e) (ckR (tOK fun t => t = u) (tBD s X) [(q, 14, rf g e 4)]) := fun q hq => jk_no hq (by
        rw [eu_X40_entryFault_319]; unfold du_X40_entryFault_319
        rw [F 4 (by omega) (by omega), Option.bind_some]
        exact t_fault hr (by omega))
      by_cases cm : 0 < rt g e 5 ∧ mt (rt g e 4) (rt g e 5) (RT g) (40 * RE g)
      · rw [if_pos (show 0 < rt g e 5 ∧ 0 < 40 * RE g ∧ rt g e 4 < RT g + 40 * RE g ∧ RT g < rt g e 4 + rt g e 5 from ⟨cm.1, by omega, cm.2.1, cm.2.2⟩)]
        refine jk_no (fun z => (z cS (by omega)).1 cm.2) ?_
        rw [F 4 (by omega) (by omega), Option.bind_some]
        exact t_fault hr (by omega)
      · rw [if_neg (show ¬ (0 < rt g e 5 ∧ 0 < 40 * RE g ∧ rt g e 4 < RT g + 40 * RE g ∧ RT g < rt g e 4 + rt g e 5) from fun z => cm ⟨z.1, z.2.2.1, z.2.2.2⟩), eu_X40_entryFault_267]; unfold du_X40_entryFault_267
        rw [eu_X40_entryFault_270]; unfold du_X40_entryFault_270
        rcases jseekW (R := jS × Int) (C := jc6 b_X40_entryFault_270) (s := u) (fun k => [X, e, rt g e 4, rt g e 5, y0, k]) (fun k => isS g k ∧ (0 < rt g e 5 ∧ 0 < rt g k 5 ∧ mt (rt g e 4) (rt g e 5) (rt g k 4) (rt g k 5))) (fun k => u_X40_entryFault_319 u X e) (some (u, 0)) 1 e (by omega) (fun k k0 k1 hk => by
            show b_X40_entryFault_270 u X e _ _ _ k = _
            unfold b_X40_entryFault_270
            have w4 := C.lo hd (e := k) (k := 4) (by omega) (by omega) (by omega) (by omega)
            have w5 := C.lo hd (e := k) (k := 5) (by omega) (by omega) (by omega) (by omega)
            have e332 : u_X40_entryFault_332 u X e (rt g e 4) (rt g e 5) y0 k = some (.inl (u, [X, e, rt g e 4, rt g e 5, y0, k + 1])) := by
              rw [eu_X40_entryFault_332]; unfold du_X40_entryFault_332
              rw [W32_in (by omega) (by omega)]
            rw [if_pos k1, if_neg y1, h.to C hd (by omega) (by omega) (by omega) (by omega), Option.bind_some, h.to C hd (by omega) (by omega) (by omega) (by omega), Option.bind_some, h.to C hd (by omega) (by omega) (by omega) (by omega), Option.bind_some, e332]
            simp only [L_cmp_0]
            by_cases c8 : rt g k 1 = 8
            · rw [if_pos c8]
            · rw [if_neg c8, e_X40_meets, Option.bind_some, jz, W64_in (z := rt g k 4 + rt g k 5) (by omega) (by omega), W64_in (by omega) (by omega), if_neg (fun z => hk ⟨c8, z.1, z.2.1, z.2.2⟩)]) (fun k k0 k1 hk => by
            show b_X40_entryFault_270 u X e _ _ _ k = _
            unfold b_X40_entryFault_270
            have w4 := C.lo hd (e := k) (k := 4) (by omega) (by omega) (by omega) (by omega)
            have w5 := C.lo hd (e := k) (k := 5) (by omega) (by omega) (by omega) (by omega)
            rw [if_pos k1, if_neg y1, h.to C hd (by omega) (by omega) (by omega) (by omega), Option.bind_some, h.to C hd (by omega) (by omega) (by omega) (by omega), Option.bind_some, h.to C hd (by omega) (by omega) (by omega) (by omega), Option.bind_some]
            simp only [L_cmp_0]
            rw [if_neg hk.1, e_X40_meets, Option.bind_some, jz, W64_in (z := rt g k 4 + rt g k 5) (by omega) (by omega), W64_in (by omega) (by omega), if_pos ⟨hk.2.1, hk.2.2.1, hk.2.2.2⟩]) (by
            show b_X40_entryFault_270 u X e _ _ _ e = _
            unfold b_X40_entryFault_270
            rw [if_neg (by omega)]) with ⟨k, k0, k1, k2, -, ek⟩ | ⟨k2, ek⟩
        · rw [ek]
          exact bad _ fun z => (z cS (by omega)).2 k k0 k1 k2.1 (by omega) k2.2.2.2
        · rw [ek]
          refine jk_ok (fun _ z5 => ⟨fun z => cm ⟨by omega, z⟩, fun k k0 k1 kS k5 z => ?_⟩) (jk_end (jS_end ⟨rfl, rfl⟩))
          have w5 := C.lo hd (e := k) (k := 5) (by omega) (by omega) (by omega) (by omega)
          exact k2 k k0 k1 ⟨kS, by omega, by omega, z⟩
    · have y1 : y0 = 0 := yS.mpr cS
      rw [if_pos y1, eu_X40_entryFault_267]; unfold du_X40_entryFault_267
      rw [eu_X40_entryFault_270]; unfold du_X40_entryFault_270
      have e0 : jlpW (jc6 b_X40_entryFault_270) [X, e, rt g e 4, rt g e 5, y0, 1] u = some (u, 0) := jlpW_r (by
        show b_X40_entryFault_270 u X e _ _ _ 1 = _
        unfold b_X40_entryFault_270
        rw [if_pos y1, ite_self])
      rw [e0]
      exact jk_ok (fun z => absurd z cS) (jk_end (jS_end ⟨rfl, rfl⟩))
  by_cases c8 : rt g e 1 = 8
  · rw [if_pos ((L_cmp_0 _ _).mpr c8)]
    exact last 0 (by rw [if_pos c8])
  · rw [if_neg (fun z => c8 ((L_cmp_0 _ _).mp z))]
    exact last 1 (by rw [if_neg c8])
end jTread
