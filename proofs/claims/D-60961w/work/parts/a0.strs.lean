/-! strings and builders of the JDK (Latin alone); heaps that grow -/
section jStrs
variable {s t u : jS} {x a b M p q p' q' : Int} {l m : List Int} {A B C : Int → Prop}
theorem Wc_p (x : Int) : Wc x = x % 65536 := by
  rw [Wc_eq]
  show ((Int32.ofInt x).toUInt32 % 65536).toInt32.toInt = _
  have e : ((Int32.ofInt x).toUInt32 % 65536).toInt32 = Int32.ofBitVec (((Int32.ofInt x).toBitVec) % 65536#32) := rfl
  rw [e]
  show ((BitVec.ofInt 32 x) % 65536#32).toInt = _
  have h2 : ((BitVec.ofInt 32 x) % 65536#32).toNat = (x % 65536).toNat := by
    rw [BitVec.toNat_umod, BitVec.toNat_ofInt]
    show (x % 4294967296).toNat % 65536 = _
    omega
  rw [BitVec.toInt_eq_toNat_of_lt (by rw [h2]; omega), h2]
  omega
theorem Wc_in {x : Int} (h0 : 0 ≤ x) (h1 : x < 65536) : Wc x = x := by rw [Wc_p]; omega
theorem sb_c {v : Int} (h0 : 0 ≤ v) (h1 : v < 256) : W8 v = sb v := by rw [W8_sb]; congr 1; omega
/-- new cells, at most p, of at most q slots; of the old ones A's alone are written -/
def jGw (s t : jS) (p q : Int) (A : Int → Prop) : Prop := (jn s ≤ jn t ∧ jn t ≤ jn s + p ∧ ju t ≤ ju s + q ∧ jlN t = jlN s ∧ jlU t = jlU s ∧ jc t = jc s) ∧ (∀ a, a < jn s → jK t a = jK s a ∧ jN t a = jN s a) ∧ ∀ c a k, a < jn s → ¬ A a → jf t c a k = jf s c a k
theorem jF_k {c : Int} (h : jK s b = c) (i : Int) : jF s b i = jf s c b i := by unfold jF; rw [h]
/-- room for p cells of q slots -/
def jBd (s : jS) (p q : Int) : Prop := jn s + p ≤ jlN s ∧ ju s + q ≤ jlU s
theorem jGw.rfl : jGw s s 0 0 A := ⟨⟨by omega, by omega, by omega, Eq.refl _, Eq.refl _, Eq.refl _⟩, fun _ _ => ⟨Eq.refl _, Eq.refl _⟩, fun _ _ _ _ _ => Eq.refl _⟩
theorem jGw.mono (h : jGw s t p q A) (hp : p ≤ p') (hq : q ≤ q') (hc : ∀ a, a < jn s → A a → C a) : jGw s t p' q' C := by
  obtain ⟨⟨h1, h2, h3, h4, h5, h6⟩, h7, h8⟩ := h
  exact ⟨⟨h1, by omega, by omega, h4, h5, h6⟩, h7, fun c a k ha hn => h8 c a k ha fun z => hn (hc a ha z)⟩
theorem jGw.trans (h : jGw s t p q A) (g : jGw t u p' q' B) (hc : ∀ a, a < jn s → A a ∨ B a → C a) : jGw s u (p + p') (q + q') C := by
  obtain ⟨⟨h1, h2, h3, h4, h5, h6⟩, h7, h8⟩ := h
  obtain ⟨⟨g1, g2, g3, g4, g5, g6⟩, g7, g8⟩ := g
  refine ⟨⟨by omega, by omega, by omega, g4.trans h4, g5.trans h5, g6.trans h6⟩, fun a ha => ?_, fun c a k ha hn => ?_⟩
  · obtain ⟨e1, e2⟩ := h7 a ha
    obtain ⟨e3, e4⟩ := g7 a (by omega)
    exact ⟨e3.trans e1, e4.trans e2⟩
  · rw [g8 c a k (by omega) fun z => hn (hc a ha (.inr z)), h8 c a k ha fun z => hn (hc a ha (.inl z))]
theorem jGw.jp {c k v : Int} (h : jGw s t p q A) (hc : A a ∨ jn s ≤ a) : jGw s (jp t c a k v) p q A :=
  ⟨h.1, h.2.1, fun c' a' k' ha hn => by
    have : ¬ a' = a := fun z => by subst z; rcases hc with z | z; exact hn z; omega
    rw [jf_jp, if_neg (fun z => this z.2.1)]
    exact h.2.2 c' a' k' ha hn⟩
theorem jGw.mk {k nn z : Int} {f : Int → Int} (h : jGw s t p q A) : jGw s (jmk t k nn f z) (p + 1) (q + z) A := by
  obtain ⟨⟨h1, h2, h3, h4, h5, h6⟩, h7, h8⟩ := h
  refine ⟨⟨by show jn s ≤ jn t + 1; omega, by show jn t + 1 ≤ _; omega, by show ju t + z ≤ _; omega, h4, h5, h6⟩, fun a ha => ?_, fun c a j ha hn => ?_⟩
  · have : ¬ a = jn t := by omega
    show (if a = jn t then k else jK t a) = _ ∧ (if a = jn t then nn else jN t a) = _
    rw [if_neg this, if_neg this]
    exact h7 a ha
  · have : ¬ (c = k ∧ a = jn t) := by omega
    show (if c = k ∧ a = jn t then f j else jf t c a j) = _
    rw [if_neg this]
    exact h8 c a j ha hn
theorem jf_cpy {sp b dp n c y k : Int} : jf (jcpy s a sp b dp n) c y k = if c = 1001 ∧ y = b ∧ dp ≤ k ∧ k < dp + n then jF s a (sp + (k - dp)) else jf s c y k := rfl
theorem jGw.cpy {sp dp n : Int} (h : jGw s t p q A) (hc : A b ∨ jn s ≤ b) : jGw s (jcpy t a sp b dp n) p q A :=
  ⟨h.1, h.2.1, fun c' a' k' ha hn => by
    have : ¬ a' = b := fun z => by subst z; rcases hc with z | z; exact hn z; omega
    rw [jf_cpy, if_neg (fun z => this z.2.1)]
    exact h.2.2 c' a' k' ha hn⟩
theorem jGw.n (h : jGw s t p q A) : jn s ≤ jn t := h.1.1
theorem jGw.c (h : jGw s t p q A) : jc t = jc s := h.1.2.2.2.2.2
theorem jGw.K (h : jGw s t p q A) (ha : a < jn s) : jK t a = jK s a := (h.2.1 a ha).1
theorem jGw.N (h : jGw s t p q A) (ha : a < jn s) : jN t a = jN s a := (h.2.1 a ha).2
theorem jGw.F (h : jGw s t p q A) (ha : a < jn s) (hn : ¬ A a) (k : Int) : jF t a k = jF s a k := by
  unfold jF; rw [h.K ha]; exact h.2.2 _ _ _ ha hn
theorem jBd.gw (h : jBd s (p + p') (q + q')) (g : jGw s t p q A) : jBd t p' q' := by
  obtain ⟨h1, h2⟩ := h
  obtain ⟨⟨g1, g2, g3, g4, g5, g6⟩, g7, g8⟩ := g
  exact ⟨by rw [g4]; omega, by rw [g5]; omega⟩
theorem jBd.le (h : jBd s p q) (hp : p' ≤ p) (hq : q' ≤ q) : jBd s p' q' := ⟨by have := h.1; omega, by have := h.2; omega⟩
/-- bytes of a text -/
def pBs (s : jS) (b : Int) (l : List Int) : Prop := ∀ i : Nat, i < l.length → jF s b i = sb (l.getD i 0)
def pCh (l : List Int) : Prop := ∀ c ∈ l, 0 ≤ c ∧ c < 256
theorem pCh.at (h : pCh l) {i : Nat} (hi : i < l.length) : 0 ≤ l.getD i 0 ∧ l.getD i 0 < 256 := by
  have : l.getD i 0 = l[i] := by simp [List.getD_eq_getElem?_getD, hi]
  rw [this]; exact h _ (List.getElem_mem hi)
theorem pCh.app (h : pCh l) (g : pCh m) : pCh (l ++ m) := fun c hc => by
  rcases List.mem_append.mp hc with q | q
  · exact h c q
  · exact g c q
theorem getD_app (i : Nat) : (l ++ m).getD i 0 = if i < l.length then l.getD i 0 else m.getD (i - l.length) 0 := by
  simp only [List.getD_eq_getElem?_getD, List.getElem?_append]
  split <;> rfl
theorem pBs.keep (h : pBs s b l) (g : jGw s t p q A) (hb : b < jn s) (hA : ¬ A b) : pBs t b l := fun i hi => by rw [g.F hb hA]; exact h i hi
/-- a string: old or new -/
def pSg (s : jS) (a : Int) (l : List Int) : Prop := (0 ≤ a ∧ a < jn s ∧ (jK s a = 9 ∨ jK s a = 3009)) ∧ jF s a 1 = 0 ∧ (0 ≤ jF s a 0 ∧ jF s a 0 < jn s ∧ (jK s (jF s a 0) = 1001 ∨ jK s (jF s a 0) = 4001)) ∧ jN s (jF s a 0) = l.length ∧ pCh l ∧ pBs s (jF s a 0) l
theorem pSg.keep (h : pSg s a l) (g : jGw s t p q A) (h1 : ¬ A a) (h2 : ¬ A (jF s a 0)) : pSg t a l ∧ jF t a 0 = jF s a 0 := by
  obtain ⟨⟨a0, a1, a2⟩, b, ⟨c0, c1, c2⟩, d, e, f⟩ := h
  have n := g.n
  have e0 := g.F a1 h1
  refine ⟨⟨⟨a0, by omega, by rw [g.K a1]; exact a2⟩, by rw [e0]; exact b, ?_⟩, e0 0⟩
  rw [e0]
  exact ⟨⟨c0, by omega, by rw [g.K c1]; exact c2⟩, by rw [g.N c1]; exact d, e, f.keep g c1 h2⟩
/-- a builder; its text is never longer than M -/
def pSb (s : jS) (x : Int) (l : List Int) (M : Int) : Prop := (0 ≤ x ∧ x < jn s ∧ jK s x = 8) ∧ jf s 8 x 1 = 0 ∧ jf s 8 x 3 = l.length ∧ (0 ≤ jf s 8 x 0 ∧ jf s 8 x 0 < jn s ∧ jK s (jf s 8 x 0) = 1001) ∧ ((l.length : Int) ≤ jN s (jf s 8 x 0) ∧ jN s (jf s 8 x 0) ≤ 2 * M + 2 ∧ jbyt s (jf s 8 x 0) 0 (jN s (jf s 8 x 0))) ∧ pCh l ∧ pBs s (jf s 8 x 0) l
theorem pSb.tt (h : pSb s x l M) : jTt s 24 x := (jTt_pl rfl rfl).mpr ⟨h.1.1, h.1.2.1, h.1.2.2, fun q => absurd q (by decide)⟩
theorem pSb.keep (h : pSb s x l M) (g : jGw s t p q A) (h1 : ¬ A x) (h2 : ¬ A (jf s 8 x 0)) : pSb t x l M ∧ jf t 8 x 0 = jf s 8 x 0 := by
  obtain ⟨⟨a0, a1, a2⟩, b, b', ⟨c0, c1, c2⟩, d, e, f⟩ := h
  have n := g.n
  have e0 : ∀ k, jf t 8 x k = jf s 8 x k := fun k => g.2.2 _ _ _ a1 h1
  refine ⟨⟨⟨a0, by omega, by rw [g.K a1]; exact a2⟩, by rw [e0]; exact b, by rw [e0]; exact b', ?_⟩, e0 0⟩
  rw [e0]
  exact ⟨⟨c0, by omega, by rw [g.K c1]; exact c2⟩, by rw [g.N c1]; exact ⟨d.1, d.2.1, fun i i0 i1 => by rw [g.F c1 h2]; exact d.2.2 i i0 i1⟩, e, f.keep g c1 h2⟩
theorem mp_J0 (h : pSb s x l M) : 0 ≤ x ∧ jK s x = 8 := ⟨h.1.1, h.1.2.2⟩
theorem s_isLatin (h : pSb s x l M) : mp_J0_isLatin1 s x = some 1 := by
  rw [emp_J0_isLatin1]; unfold dmp_J0_isLatin1
  rw [if_pos (mp_J0 h), em_J0_isLatin1]; unfold dm_J0_isLatin1
  rw [if_neg (by omega), if_pos h.2.1, Wz_1]
theorem jlnE_in {ty : Int} (h0 : 0 ≤ a) (h1 : jK s a = ty ∨ jK s a = 3000 + ty) : jlnE s ty a = some (jN s a) := by unfold jlnE; rw [if_pos ⟨h0, h1⟩]
theorem jldE_in {ty i : Int} (h0 : 0 ≤ a) (h1 : jK s a = ty ∨ jK s a = 3000 + ty) (h2 : 0 ≤ i) (h3 : i < jN s a) : jldE s ty a i = some (jF s a i) := by unfold jldE; rw [if_pos ⟨h0, h1, h2, h3⟩]
theorem jsa_in {ty i v : Int} (h0 : 0 ≤ a) (h1 : jK s a = ty) (h2 : 0 ≤ i) (h3 : i < jN s a) : jsa s ty a i v = some (jp s ty a i v) := by unfold jsa; rw [if_pos ⟨h0, h1, h2, h3⟩]
theorem I_shr_0 {v : Int} (h : -2147483648 ≤ v ∧ v ≤ 2147483647) : I_shr v 0 = v := by rw [i_shr_p h (by omega) (by omega)]; simp
theorem I_shl_0 {v : Int} (h : -2147483648 ≤ v ∧ v ≤ 2147483647) : I_shl v 0 = v := by rw [i_shl_p (by omega) (by omega)]; rw [W32_in] <;> simp <;> omega
theorem sb_byt {v : Int} (h : 0 ≤ v ∧ v < 256) : -128 ≤ sb v ∧ sb v ≤ 127 := sb_lo h.1 h.2
theorem jna_in {ty n v : Int} (h0 : 0 ≤ n) (h1 : n ≤ 1000000) (h2 : jn s + 1 ≤ jlN s) (h3 : ju s + n ≤ jlU s) : jna s ty n v = some (jmk s ty n (fun _ => v) n, jn s) := by unfold jna; rw [if_pos ⟨h0, h1, h2, h3⟩]
theorem jacp_in {sp d dp n : Int} (h1 : 0 ≤ a) (h2 : 0 ≤ d) (h3 : jK s a = 1001 ∨ jK s a = 4001) (h4 : jK s d = 1001) (h5 : 0 ≤ sp) (h6 : 0 ≤ dp) (h7 : 0 ≤ n) (h8 : sp + n ≤ jN s a) (h9 : dp + n ≤ jN s d) (h : jbyt s a sp (sp + n)) : jacp s a sp d dp n = some (jcpy s a sp d dp n) := by unfold jacp; rw [if_pos ⟨h1, h2, h3, h4, h5, h6, h7, h8, h9, h⟩]
theorem pBs.byt (h : pBs s b l) (hc : pCh l) {lo hi : Int} (h0 : 0 ≤ lo) (h1 : hi ≤ l.length) : jbyt s b lo hi := fun i a0 a1 => by
  have := h i.toNat (by omega)
  rw [show ((i.toNat : Nat) : Int) = i by omega] at this
  rw [this]; exact sb_byt (hc.at (by omega))
theorem jrp_s {k : Int} (h : pSg s a l) : jrp s [(9, k), (3009, k)] a = some (jF s a k) := by
  obtain ⟨⟨h0, h1, h2⟩, -⟩ := h
  unfold jrp jF
  rcases h2 with h2 | h2
  · rw [if_pos ⟨h0, h2⟩, h2]
  · rw [if_neg (by omega)]
    unfold jrp
    rw [if_pos ⟨h0, h2⟩, h2]
theorem s_coder (h : pSg s a l) : m_J2_coder s a = some 0 := by
  rw [em_J2_coder]; unfold dm_J2_coder
  rw [if_neg (by omega), jrp_s h, Option.bind_some, h.2.1, sb_c (by omega) (by omega)]
  rfl
theorem p_coder (h : pSg s a l) : mp_J2_coder s a = some 0 := by
  rw [emp_J2_coder]; unfold dmp_J2_coder
  rw [s_coder h]
  rcases h.1.2.2 with q | q
  · rw [if_pos ⟨h.1.1, q⟩]
  · rw [if_neg (by omega), if_pos ⟨h.1.1, q⟩]
theorem p_sLatin (h : pSg s a l) : mp_J2_isLatin1 s a = some 1 := by
  have hm : m_J2_isLatin1 s a = some 1 := by
    rw [em_J2_isLatin1]; unfold dm_J2_isLatin1
    rw [if_neg (by omega), jrp_s h, Option.bind_some, h.2.1, if_pos rfl, Wz_1]
  rw [emp_J2_isLatin1]; unfold dmp_J2_isLatin1
  rw [hm]
  rcases h.1.2.2 with q | q
  · rw [if_pos ⟨h.1.1, q⟩]
  · rw [if_neg (by omega), if_pos ⟨h.1.1, q⟩]
theorem s_len (h : pSg s a l) (hl : (l.length : Int) ≤ 1000000) : mp_J2_length s a = some (l.length : Int) := by
  rw [emp_J2_length]; unfold dmp_J2_length
  rw [em_J2_length]; unfold dm_J2_length
  rw [jrp_s h, Option.bind_some, jlnE_in h.2.2.1.1 h.2.2.1.2.2, Option.bind_some, p_coder h, Option.bind_some, h.2.2.2.1, I_shr_0 (by omega)]
  rcases h.1.2.2 with q | q
  · rw [if_pos ⟨h.1.1, q⟩]
  · rw [if_neg (by omega), if_pos ⟨h.1.1, q⟩]
theorem s_charAt (h : pSg s a l) {k : Int} (h0 : 0 ≤ k) (h1 : k < l.length) : mp_J2_charAt s a k = some (l.getD k.toNat 0) := by
  have hc := h.2.2.2.2.1.at (i := k.toNat) (by omega)
  have hb := h.2.2.2.2.2 k.toNat (by omega)
  rw [show ((k.toNat : Nat) : Int) = k by omega] at hb
  have hm : m_J2_charAt s a k = some (l.getD k.toNat 0) := by
    rw [em_J2_charAt]; unfold dm_J2_charAt
    rw [p_sLatin h, Option.bind_some, if_neg (by omega), jrp_s h, Option.bind_some, em_J15_charAt]; unfold dm_J15_charAt
    rw [jlnE_in h.2.2.1.1 h.2.2.1.2.2, Option.bind_some, em_J2_checkIndex]; unfold dm_J2_checkIndex
    rw [em_J14_checkIndex]; unfold dm_J14_checkIndex
    rw [if_neg (by omega), if_pos (by rw [h.2.2.2.1]; exact h1), Option.bind_some, Option.bind_some, jldE_in h.2.2.1.1 h.2.2.1.2.2 h0 (by rw [h.2.2.2.1]; exact h1), Option.bind_some, hb, sb_and hc.1 hc.2, Wc_in hc.1 (by omega), Wc_in hc.1 (by omega), Option.bind_some, Wc_in hc.1 (by omega)]
  rw [emp_J2_charAt]; unfold dmp_J2_charAt
  rw [hm]
  rcases h.1.2.2 with q | q
  · rw [if_pos ⟨h.1.1, q⟩]
  · rw [if_neg (by omega), if_pos ⟨h.1.1, q⟩]
/-- room for n characters -/
theorem s_ensure (h : pSb s x l M) (hM : M ≤ 400000) {n : Int} (h0 : 0 ≤ n) (h1 : n ≤ M) (hn : (l.length : Int) ≤ n) (hB : jBd s 1 (2 * M + 2)) :
    jE (mp_J0_ensureCapacityInternal s x n) fun r => pSb r.1 x l M ∧ n ≤ jN r.1 (jf r.1 8 x 0) ∧ jGw s r.1 1 (2 * M + 2) (fun a => a = x) ∧ (jf r.1 8 x 0 = jf s 8 x 0 ∨ jn s ≤ jf r.1 8 x 0) := by
  have hs := h
  obtain ⟨⟨a0, a1, a2⟩, b, b', ⟨c0, c1, c2⟩, ⟨d, d', hby⟩, e, f⟩ := h
  rw [emp_J0_ensureCapacityInternal]; unfold dmp_J0_ensureCapacityInternal
  rw [if_pos ⟨a0, a2⟩, em_J0_ensureCapacityInternal]; unfold dm_J0_ensureCapacityInternal
  rw [b, jlnE_in c0 (.inl c2), Option.bind_some]
  simp only [jlet]
  rw [I_shr_0 (by omega), W32_in (by omega) (by omega)]
  by_cases g : 0 < n - jN s (jf s 8 x 0)
  · rw [if_pos g, emp_J0_newCapacity]; unfold dmp_J0_newCapacity
    rw [if_pos ⟨a0, a2⟩, em_J0_newCapacity]; unfold dm_J0_newCapacity
    rw [b, jlnE_in c0 (.inl c2), Option.bind_some]
    simp only [jlet]
    rw [I_shl_0 (by omega), I_shl_0 (by omega), W32_in (z := n - jN s (jf s 8 x 0)) (by omega) (by omega), W32_in (z := jN s (jf s 8 x 0) + 2) (by omega) (by omega), em_J11_newLength]; unfold dm_J11_newLength
    simp only [jlet]
    have hx : jN s (jf s 8 x 0) + jmx (n - jN s (jf s 8 x 0)) (jN s (jf s 8 x 0) + 2) ≤ 2 * M + 2 ∧ n ≤ jN s (jf s 8 x 0) + jmx (n - jN s (jf s 8 x 0)) (jN s (jf s 8 x 0) + 2) := by
      unfold jmx; split <;> omega
    generalize jN s (jf s 8 x 0) + jmx (n - jN s (jf s 8 x 0)) (jN s (jf s 8 x 0) + 2) = cap at hx ⊢
    rw [W32_in (by omega) (by omega), if_pos (by omega), if_neg (by omega), Option.bind_some, if_neg (by omega), Option.bind_some, I_shr_0 (by omega), I_shl_0 (by omega), em_J13_copyOf]; unfold dm_J13_copyOf
    rw [jlnE_in c0 (.inl c2), Option.bind_some, if_neg (by omega), jna_in (by omega) (by omega) hB.1 (by have := hB.2; omega), Option.bind_some]
    have hv : ¬ jf s 8 x 0 = jn s := by omega
    have hx1 : ¬ x = jn s := by omega
    have k1 : ∀ y, ¬ y = jn s → jK (jmk s 1001 cap (fun _ => 0) cap) y = jK s y := fun y hy => by show (if y = jn s then _ else _) = _; rw [if_neg hy]
    have k2 : ∀ y, ¬ y = jn s → jN (jmk s 1001 cap (fun _ => 0) cap) y = jN s y := fun y hy => by show (if y = jn s then _ else _) = _; rw [if_neg hy]
    have k3 : jK (jmk s 1001 cap (fun _ => 0) cap) (jn s) = 1001 := by show (if jn s = jn s then _ else _) = _; rw [if_pos rfl]
    have k4 : jN (jmk s 1001 cap (fun _ => 0) cap) (jn s) = cap := by show (if jn s = jn s then _ else _) = _; rw [if_pos rfl]
    have k5 : ∀ y, jF (jmk s 1001 cap (fun _ => 0) cap) (jf s 8 x 0) y = jF s (jf s 8 x 0) y := fun y => by rw [jF_mk, if_neg hv]
    have hmi : jmi (jN s (jf s 8 x 0)) cap = jN s (jf s 8 x 0) := by unfold jmi; rw [if_neg (by omega)]
    rw [jlnE_in c0 (by rw [k1 _ hv]; exact .inl c2), k2 _ hv, Option.bind_some, hmi, jacp_in c0 (by omega) (by rw [k1 _ hv]; exact .inl c2) k3 (by omega) (by omega) (by omega) (by rw [k2 _ hv]; omega) (by rw [k4]; omega) (fun i i0 i1 => by rw [k5]; exact hby i i0 (by omega)), Option.bind_some]
    simp only [jls]
    have hf : ∀ c y k, ¬ (c = 1001 ∧ y = jn s) → ¬ (c = 8 ∧ y = x ∧ k = 0) → jf (jp (jcpy (jmk s 1001 cap (fun _ => 0) cap) (jf s 8 x 0) 0 (jn s) 0 (jN s (jf s 8 x 0))) 8 x 0 (jn s)) c y k = jf s c y k := by
      intro c y k q1 q2
      rw [jf_jp, if_neg q2, jf_cpy, if_neg (fun z => q1 ⟨z.1, z.2.1⟩)]
      show (if c = 1001 ∧ y = jn s then _ else _) = _
      rw [if_neg q1]
    have hv2 : jf (jp (jcpy (jmk s 1001 cap (fun _ => 0) cap) (jf s 8 x 0) 0 (jn s) 0 (jN s (jf s 8 x 0))) 8 x 0 (jn s)) 8 x 0 = jn s := by rw [jf_jp, if_pos ⟨rfl, rfl, rfl⟩]
    have hnew : ∀ i : Int, 0 ≤ i → i < cap → jF (jp (jcpy (jmk s 1001 cap (fun _ => 0) cap) (jf s 8 x 0) 0 (jn s) 0 (jN s (jf s 8 x 0))) 8 x 0 (jn s)) (jn s) i = if i < jN s (jf s 8 x 0) then jF s (jf s 8 x 0) i else 0 := by
      intro i i0 i1
      have hk : jK (jp (jcpy (jmk s 1001 cap (fun _ => 0) cap) (jf s 8 x 0) 0 (jn s) 0 (jN s (jf s 8 x 0))) 8 x 0 (jn s)) (jn s) = 1001 := k3
      rw [jF_k hk, jf_jp, if_neg (by omega), jf_cpy]
      by_cases c : i < jN s (jf s 8 x 0)
      · rw [if_pos ⟨rfl, rfl, by omega, by omega⟩, if_pos c, k5, show (0 : Int) + (i - 0) = i by omega]
      · rw [if_neg (by omega), if_neg c]
        show (if (1001 : Int) = 1001 ∧ jn s = jn s then (0 : Int) else _) = _
        rw [if_pos ⟨rfl, rfl⟩]
    refine jE_some.mpr ⟨⟨⟨a0, by show x < jn s + 1; omega, by show jK (jmk s 1001 cap (fun _ => 0) cap) x = 8; rw [k1 _ hx1]; exact a2⟩, by rw [hf _ _ _ (by omega) (by omega)]; exact b, by rw [hf _ _ _ (by omega) (by omega)]; exact b', ?_⟩, ?_⟩
    · rw [hv2]
      refine ⟨⟨by omega, by show jn s < jn s + 1; omega, k3⟩, ⟨by show _ ≤ jN (jmk s 1001 cap (fun _ => 0) cap) (jn s); rw [k4]; omega, by show jN (jmk s 1001 cap (fun _ => 0) cap) (jn s) ≤ _; rw [k4]; omega, fun i i0 i1 => ?_⟩, e, fun i hi => ?_⟩
      · have i2 : i < cap := by rw [← k4]; exact i1
        rw [hnew i i0 i2]
        split
        · exact hby i i0 (by omega)
        · omega
      · rw [hnew _ (by omega) (by omega), if_pos (by omega)]
        exact f i hi
    · rw [hv2]
      refine ⟨by show n ≤ jN (jmk s 1001 cap (fun _ => 0) cap) (jn s); rw [k4]; omega, ?_, .inr (by omega)⟩
      · have := ((jGw.rfl (s := s) (A := fun a => a = x)).mk (k := 1001) (nn := cap) (f := fun _ => 0) (z := cap)).cpy (a := jf s 8 x 0) (sp := 0) (b := jn s) (dp := 0) (n := jN s (jf s 8 x 0)) (.inr (by omega))
        exact (this.jp (c := 8) (a := x) (k := 0) (v := jn s) (.inl rfl)).mono (by omega) (by omega) (fun _ _ z => z)
  · rw [if_neg g]
    exact jE_some.mpr ⟨hs, show n ≤ jN s (jf s 8 x 0) from by omega, jGw.rfl.mono (by omega) (by have := hs.2.2.2.2.1; omega) (fun _ _ z => z), .inl rfl⟩
/-- a string is put behind -/
theorem s_append (h : pSb s x l M) (g : pSg s a m) (hM : M ≤ 400000) (hl : (l.length : Int) + m.length ≤ M) (hv : ¬ jF s a 0 = jf s 8 x 0) (hB : jBd s 1 (2 * M + 2)) :
    jE (m_J1_append s x a) fun r => r.2 = x ∧ pSb r.1 x (l ++ m) M ∧ jGw s r.1 1 (2 * M + 2) (fun b => b = x ∨ b = jf s 8 x 0) ∧ (jf r.1 8 x 0 = jf s 8 x 0 ∨ jn s ≤ jf r.1 8 x 0) := by
  rw [em_J1_append]; unfold dm_J1_append
  rw [emq_J0_append_2]; unfold dmq_J0_append_2
  rw [if_pos (mp_J0 h), em_J0_append]; unfold dm_J0_append
  rw [if_neg (by have := g.1.1; omega), s_len g (by omega), Option.bind_some, h.2.2.1, W32_in (by omega) (by omega), jE_bind, jE_bind]
  refine jE_mono (s_ensure h hM (n := l.length + m.length) (by omega) hl (by omega) hB) fun r ⟨r1, r2, r3, r4⟩ => ?_
  have hax : ¬ a = x := fun z => by
    have := g.1.2.2; rw [z, h.1.2.2] at this; omega
  have hv0 : ¬ jF s a 0 = x := fun z => by
    have := g.2.2.1.2.2; rw [z, h.1.2.2] at this; omega
  obtain ⟨g1, g2⟩ := g.keep r3 hax hv0
  have r0 := r1
  obtain ⟨⟨a0, a1, a2⟩, b, b', ⟨c0, c1, c2⟩, ⟨d, d', hby⟩, e, f⟩ := r1
  obtain ⟨⟨n0, n1, n2⟩, o, ⟨v0, v1, v2⟩, w, y, z⟩ := g1
  have hvv : ¬ jF r.1 a 0 = jf r.1 8 x 0 := by
    rw [g2]; rcases r4 with q | q
    · rw [q]; exact hv
    · have := g.2.2.1.2.1; omega
  have hE : mp_J0_putStringAt r.1 x (jf r.1 8 x 3) a = some (jcpy r.1 (jF r.1 a 0) 0 (jf r.1 8 x 0) (jf r.1 8 x 3) m.length, 0) := by
    have g1 : pSg r.1 a m := ⟨⟨n0, n1, n2⟩, o, ⟨v0, v1, v2⟩, w, y, z⟩
    rw [emp_J0_putStringAt]; unfold dmp_J0_putStringAt
    rw [if_pos ⟨a0, a2⟩, em_J0_putStringAt]; unfold dm_J0_putStringAt
    rw [emp_J0_inflateIfNeededFor]; unfold dmp_J0_inflateIfNeededFor
    rw [if_pos ⟨a0, a2⟩, em_J0_inflateIfNeededFor]; unfold dm_J0_inflateIfNeededFor
    rw [if_neg (by omega), p_coder g1, Option.bind_some, if_pos b, Option.bind_some]
    have hg : m_J2_getBytes r.1 a (jf r.1 8 x 0) (jf r.1 8 x 3) (jf r.1 8 x 1) = some (jcpy r.1 (jF r.1 a 0) 0 (jf r.1 8 x 0) (jf r.1 8 x 3) m.length, 0) := by
      rw [em_J2_getBytes]; unfold dm_J2_getBytes
      rw [p_coder g1, Option.bind_some, if_pos b.symm, jrp_s g1, Option.bind_some, Option.bind_some, jlnE_in v0 v2, Option.bind_some, b, b', I_shl_0 (by omega), w, jacp_in v0 c0 v2 c2 (by omega) (by omega) (by omega) (by omega) (by omega) (z.byt y (by omega) (by omega)), Option.bind_some]
    rw [emp_J2_getBytes]; unfold dmp_J2_getBytes
    show (Option.bind (if 0 ≤ a ∧ jK r.1 a = 9 then m_J2_getBytes r.1 a (jf r.1 8 x 0) (jf r.1 8 x 3) (jf r.1 8 x 1) else if 0 ≤ a ∧ jK r.1 a = 3009 then m_J2_getBytes r.1 a (jf r.1 8 x 0) (jf r.1 8 x 3) (jf r.1 8 x 1) else none) _) = _
    rw [hg]
    rcases n2 with q | q
    · rw [if_pos ⟨n0, q⟩]; rfl
    · rw [if_neg (by omega), if_pos ⟨n0, q⟩]; rfl
  rw [hE]
  simp only [Option.bind_some, jls, b', jf_cpy, show ((8 : Int) = 1001) = False by simp, false_and, if_false]
  rw [W32_in (by omega) (by omega)]
  have hf : ∀ c y k, ¬ (c = 1001 ∧ y = jf r.1 8 x 0) → ¬ (c = 8 ∧ y = x ∧ k = 3) → jf (jp (jcpy r.1 (jF r.1 a 0) 0 (jf r.1 8 x 0) l.length m.length) 8 x 3 (l.length + m.length)) c y k = jf r.1 c y k := by
    intro c y k q1 q2
    rw [jf_jp, if_neg q2, jf_cpy, if_neg (fun z => q1 ⟨z.1, z.2.1⟩)]
  have hnew : ∀ i : Int, jF (jp (jcpy r.1 (jF r.1 a 0) 0 (jf r.1 8 x 0) l.length m.length) 8 x 3 (l.length + m.length)) (jf r.1 8 x 0) i = if (l.length : Int) ≤ i ∧ i < l.length + m.length then jF r.1 (jF r.1 a 0) (i - l.length) else jF r.1 (jf r.1 8 x 0) i := by
    intro i
    have hk : jK (jp (jcpy r.1 (jF r.1 a 0) 0 (jf r.1 8 x 0) l.length m.length) 8 x 3 (l.length + m.length)) (jf r.1 8 x 0) = 1001 := c2
    rw [jF_k hk, jf_jp, if_neg (by omega), jf_cpy]
    by_cases q : (l.length : Int) ≤ i ∧ i < l.length + m.length
    · rw [if_pos ⟨rfl, rfl, q⟩, if_pos q, show (0 : Int) + (i - l.length) = i - l.length by omega]
    · rw [if_neg (fun z => q z.2.2), if_neg q, jF_k c2]
  refine jE_some.mpr (jE_some.mpr ⟨rfl, ⟨⟨a0, a1, a2⟩, by rw [hf _ _ _ (by omega) (by omega)]; exact b, by rw [jf_jp, if_pos ⟨rfl, rfl, rfl⟩, List.length_append]; omega, ?_⟩, ?_, ?_⟩)
  · rw [hf _ _ _ (by omega) (by omega)]
    refine ⟨⟨c0, c1, c2⟩, ⟨by rw [List.length_append]; show _ ≤ jN r.1 (jf r.1 8 x 0); omega, d', fun i i0 i1 => ?_⟩, e.app y, fun i hi => ?_⟩
    · rw [hnew]
      split
      · exact z.byt y (lo := 0) (hi := m.length) (by omega) (by omega) _ (by omega) (by omega)
      · exact hby i i0 i1
    · rw [List.length_append] at hi
      rw [hnew, getD_app]
      by_cases q : i < l.length
      · rw [if_neg (by omega), if_pos q]; exact f i q
      · rw [if_pos (by omega), if_neg q, show ((i : Int) - l.length) = ((i - l.length : Nat) : Int) by omega]
        exact z _ (by omega)
  · have r5 := r3.mono (p' := 1) (q' := 2 * M + 2) (C := fun b => b = x ∨ b = jf s 8 x 0) (by omega) (by omega) (fun _ _ z => .inl z)
    refine (r5.cpy ?_).jp (.inl (.inl rfl))
    rcases r4 with q | q
    · exact .inl (.inr q)
    · exact .inr q
  · show (_ = jf s 8 x 0 ∨ _)
    rw [hf _ _ _ (by omega) (by omega)]; exact r4
/-- a character is put behind -/
theorem s_putc (h : pSb s x l M) (hM : M ≤ 400000) (hl : (l.length : Int) + 1 ≤ M) {c : Int} (hc : 0 ≤ c ∧ c < 256) (hB : jBd s 1 (2 * M + 2)) :
    jE (m_J1_append_3 s x c) fun r => r.2 = x ∧ pSb r.1 x (l ++ [c]) M ∧ jGw s r.1 1 (2 * M + 2) (fun b => b = x ∨ b = jf s 8 x 0) ∧ (jf r.1 8 x 0 = jf s 8 x 0 ∨ jn s ≤ jf r.1 8 x 0) := by
  rw [em_J1_append_3]; unfold dm_J1_append_3
  rw [emq_J0_append_3]; unfold dmq_J0_append_3
  rw [if_pos (mp_J0 h), em_J0_append_3]; unfold dm_J0_append_3
  rw [h.2.2.1, W32_in (by omega) (by omega), jE_bind, jE_bind]
  refine jE_mono (s_ensure h hM (n := l.length + 1) (by omega) hl (by omega) hB) fun r ⟨r1, r2, r3, r4⟩ => ?_
  have r0 := r1
  obtain ⟨⟨a0, a1, a2⟩, b, b', ⟨c0, c1, c2⟩, ⟨d, d', hby⟩, e, f⟩ := r1
  rw [s_isLatin r0, Option.bind_some, if_neg (by omega), em_J15_canEncode]; unfold dm_J15_canEncode
  rw [if_neg (by omega), Wz_1, Option.bind_some, if_neg (by omega), b', W32_in (by omega) (by omega), W8_W8, show c % 256 = c by omega]
  simp only [jls]
  rw [jsa_in (s := jp r.1 8 x 3 (l.length + 1)) c0 c2 (by omega) (by show _ < jN r.1 (jf r.1 8 x 0); omega), Option.bind_some]
  have hf : ∀ c' y k, ¬ (c' = 1001 ∧ y = jf r.1 8 x 0) → ¬ (c' = 8 ∧ y = x ∧ k = 3) → jf (jp (jp r.1 8 x 3 (l.length + 1)) 1001 (jf r.1 8 x 0) l.length (sb c)) c' y k = jf r.1 c' y k := by
    intro c' y k q1 q2
    rw [jf_jp, if_neg (fun z => q1 ⟨z.1, z.2.1⟩), jf_jp, if_neg q2]
  have hnew : ∀ i : Int, jF (jp (jp r.1 8 x 3 (l.length + 1)) 1001 (jf r.1 8 x 0) l.length (sb c)) (jf r.1 8 x 0) i = if i = l.length then sb c else jF r.1 (jf r.1 8 x 0) i := by
    intro i
    have hk : jK (jp (jp r.1 8 x 3 (l.length + 1)) 1001 (jf r.1 8 x 0) l.length (sb c)) (jf r.1 8 x 0) = 1001 := c2
    rw [jF_k hk, jf_jp, jf_jp, if_neg (show ¬ ((1001 : Int) = 8 ∧ _) from fun z => absurd z.1 (by omega)), jF_k c2]
    by_cases q : i = l.length
    · rw [if_pos ⟨rfl, rfl, q⟩, if_pos q]
    · rw [if_neg (fun z => q z.2.2), if_neg q]
  refine jE_some.mpr (jE_some.mpr ⟨rfl, ⟨⟨a0, a1, a2⟩, by rw [hf _ _ _ (by omega) (by omega)]; exact b, by rw [jf_jp, if_neg (by omega), jf_jp, if_pos ⟨rfl, rfl, rfl⟩, List.length_append]; rfl, ?_⟩, ?_, ?_⟩)
  · rw [hf _ _ _ (by omega) (by omega)]
    refine ⟨⟨c0, c1, c2⟩, ⟨by rw [List.length_append]; show ((l.length + 1 : Nat) : Int) ≤ jN r.1 (jf r.1 8 x 0); omega, d', fun i i0 i1 => ?_⟩, e.app (fun k hk => by rw [List.mem_singleton.mp hk]; exact hc), fun i hi => ?_⟩
    · rw [hnew]
      split
      · exact sb_byt hc
      · exact hby i i0 i1
    · rw [List.length_append] at hi
      have hi' : i < l.length + 1 := hi
      rw [hnew, getD_app]
      by_cases q : i < l.length
      · rw [if_neg (by omega), if_pos q]; exact f i q
      · rw [if_pos (by omega), if_neg q, show i - l.length = 0 by omega]; rfl
  · have r5 := r3.mono (p' := 1) (q' := 2 * M + 2) (C := fun b => b = x ∨ b = jf s 8 x 0) (by omega) (by omega) (fun _ _ z => .inl z)
    refine (r5.jp (.inl (.inl rfl))).jp ?_
    rcases r4 with q | q
    · exact .inl (.inr q)
    · exact .inr q
  · show (_ = jf s 8 x 0 ∨ _)
    rw [hf _ _ _ (by omega) (by omega)]; exact r4
/-- a new builder -/
theorem s_builder (hn : 0 ≤ jn s) {cap : Int} (h0 : 0 ≤ cap) (h1 : cap ≤ 1000) (hM : cap ≤ 2 * M + 2) (hB : jBd s 2 (cap + 4)) : ∃ t, m_J0_init (jmk s 8 0 (jdf 8) 4) (jn s) cap = some (t, 0) ∧ pSb t (jn s) [] M ∧ jGw s t 2 (cap + 4) (fun _ => False) ∧ jn s < jf t 8 (jn s) 0 := by
  rw [em_J0_init]; unfold dm_J0_init
  have k0 : jK (jmk s 8 0 (jdf 8) 4) (jn s) = 8 := by show (if jn s = jn s then _ else _) = _; rw [if_pos rfl]
  rw [jck0_in hn, if_neg (by omega), jna_in h0 (by omega) (by show jn s + 1 + 1 ≤ jlN s; have := hB.1; omega) (by show ju s + 4 + cap ≤ jlU s; have := hB.2; omega), Option.bind_some]
  simp only [jls, jwp]
  have e1 : jn (jmk s 8 0 (jdf 8) 4) = jn s + 1 := rfl
  rw [e1, show jbb 0 = some 0 from rfl, Option.bind_some]
  have k1 : jK (jp (jmk (jmk s 8 0 (jdf 8) 4) 1001 cap (fun _ => 0) cap) 8 (jn s) 0 (jn s + 1)) (jn s) = 8 := by
    show (if jn s = jn s + 1 then (1001 : Int) else if jn s = jn s then 8 else jK s (jn s)) = _
    rw [if_neg (by omega), if_pos rfl]
  have k2 : jK (jp (jmk (jmk s 8 0 (jdf 8) 4) 1001 cap (fun _ => 0) cap) 8 (jn s) 0 (jn s + 1)) (jn s + 1) = 1001 := by
    show (if jn s + 1 = jn s + 1 then _ else _) = _
    rw [if_pos rfl]
  have k3 : jN (jp (jmk (jmk s 8 0 (jdf 8) 4) 1001 cap (fun _ => 0) cap) 8 (jn s) 0 (jn s + 1)) (jn s + 1) = cap := by
    show (if jn s + 1 = jn s + 1 then _ else _) = _
    rw [if_pos rfl]
  rw [if_pos ⟨hn, k1⟩, Option.bind_some]
  have f0 : jf (jp (jp (jmk (jmk s 8 0 (jdf 8) 4) 1001 cap (fun _ => 0) cap) 8 (jn s) 0 (jn s + 1)) 8 (jn s) 1 0) 8 (jn s) 0 = jn s + 1 := by
    rw [jf_jp, if_neg (by omega), jf_jp, if_pos ⟨rfl, rfl, rfl⟩]
  refine ⟨jp (jp (jmk (jmk s 8 0 (jdf 8) 4) 1001 cap (fun _ => 0) cap) 8 (jn s) 0 (jn s + 1)) 8 (jn s) 1 0, rfl, ⟨⟨hn, by show jn s < jn s + 1 + 1; omega, k1⟩, by rw [jf_jp, if_pos ⟨rfl, rfl, rfl⟩], ?_, ?_⟩, ?_, by rw [f0]; omega⟩
  · rw [jf_jp, if_neg (by omega), jf_jp, if_neg (by omega)]
    show (if (8 : Int) = 1001 ∧ jn s = jn s + 1 then (0 : Int) else if (8 : Int) = 8 ∧ jn s = jn s then jdf 8 3 else jf s 8 (jn s) 3) = _
    rw [if_neg (by omega), if_pos ⟨rfl, rfl⟩]
    rfl
  · rw [f0]
    refine ⟨⟨by omega, by show jn s + 1 < jn s + 1 + 1; omega, k2⟩, ⟨by show (0 : Int) ≤ jN (jp (jmk (jmk s 8 0 (jdf 8) 4) 1001 cap (fun _ => 0) cap) 8 (jn s) 0 (jn s + 1)) (jn s + 1); rw [k3]; exact h0, by show jN (jp (jmk (jmk s 8 0 (jdf 8) 4) 1001 cap (fun _ => 0) cap) 8 (jn s) 0 (jn s + 1)) (jn s + 1) ≤ _; rw [k3]; exact hM, fun i i0 i1 => ?_⟩, fun c hc => absurd hc List.not_mem_nil, fun i hi => absurd hi (Nat.not_lt_zero _)⟩
    rw [jF_k (show jK (jp (jp (jmk (jmk s 8 0 (jdf 8) 4) 1001 cap (fun _ => 0) cap) 8 (jn s) 0 (jn s + 1)) 8 (jn s) 1 0) (jn s + 1) = 1001 from k2), jf_jp, if_neg (by omega), jf_jp, if_neg (by omega)]
    show -128 ≤ (if (1001 : Int) = 1001 ∧ jn s + 1 = jn s + 1 then (0 : Int) else _) ∧ (if (1001 : Int) = 1001 ∧ jn s + 1 = jn s + 1 then (0 : Int) else _) ≤ 127
    rw [if_pos ⟨rfl, rfl⟩]; omega
  · have := ((jGw.rfl (s := s) (A := fun _ => False)).mk (k := 8) (nn := 0) (f := jdf 8) (z := 4)).mk (k := 1001) (nn := cap) (f := fun _ => 0) (z := cap)
    exact ((this.jp (c := 8) (a := jn s) (k := 0) (v := jn s + 1) (.inr (by omega))).jp (c := 8) (a := jn s) (k := 1) (v := 0) (.inr (by omega))).mono (by omega) (by omega) (fun _ _ z => z)
theorem s_newB (hn : 0 ≤ jn s) (hM : 7 ≤ M) (hB : jBd s 2 20) : ∃ s1 t, jnw s 8 4 (jdf 8) = some (s1, jn s) ∧ jck0 (jn s) (m_J1_init s1 (jn s)) = some (t, 0) ∧ pSb t (jn s) [] M ∧ jGw s t 2 20 (fun _ => False) ∧ jn s < jf t 8 (jn s) 0 := by
  obtain ⟨t, h1, h2⟩ := s_builder (M := M) hn (cap := 16) (by omega) (by omega) (by omega) hB
  refine ⟨_, t, by unfold jnw; rw [if_pos ⟨hn, by have := hB.1; omega, by have := hB.2; omega⟩], ?_, h2⟩
  rw [jck0_in hn, em_J1_init]; unfold dm_J1_init
  rw [jck0_in hn, h1]; rfl
theorem s_newB2 (hn : 0 ≤ jn s) {cap : Int} (h0 : 0 ≤ cap) (h1 : cap ≤ 1000) (hM : cap ≤ 2 * M + 2) (hB : jBd s 2 (cap + 4)) : ∃ s1 t, jnw s 8 4 (jdf 8) = some (s1, jn s) ∧ jck0 (jn s) (m_J1_init_2 s1 (jn s) cap) = some (t, 0) ∧ pSb t (jn s) [] M ∧ jGw s t 2 (cap + 4) (fun _ => False) ∧ jn s < jf t 8 (jn s) 0 := by
  obtain ⟨t, e1, h2⟩ := s_builder hn h0 h1 hM hB
  refine ⟨_, t, by unfold jnw; rw [if_pos ⟨hn, by have := hB.1; omega, by have := hB.2; omega⟩], ?_, h2⟩
  rw [jck0_in hn, em_J1_init_2]; unfold dm_J1_init_2
  rw [jck0_in hn, e1]; rfl
theorem s_blen (h : pSb s x l M) : m_J1_length s x = some (l.length : Int) := by
  rw [em_J1_length]; unfold dm_J1_length
  rw [emq_J0_length]; unfold dmq_J0_length
  rw [if_pos (mp_J0 h), em_J0_length]; unfold dm_J0_length
  rw [h.2.2.1]; rfl
/-- a builder's text as a new string -/
theorem s_toString (h : pSb s x l M) (hM : M ≤ 400000) (hB : jBd s 2 (2 * M + 6)) : jE (m_J1_toString s x) fun r => pSg r.1 r.2 l ∧ jn s ≤ r.2 ∧ jK r.1 r.2 = 9 ∧ jf r.1 9 r.2 2 = 0 ∧ jf r.1 9 r.2 3 = 0 ∧ jn s ≤ jF r.1 r.2 0 ∧ jGw s r.1 2 (2 * M + 6) (fun _ => False) := by
  have hs := h
  obtain ⟨⟨a0, a1, a2⟩, b, b', ⟨c0, c1, c2⟩, ⟨d, d', hby⟩, e, f⟩ := h
  obtain ⟨B1, B2⟩ := hB
  have hn : 0 ≤ jn s := by omega
  rw [em_J1_toString]; unfold dm_J1_toString
  have e0 : jnw s 9 4 (jdf 9) = some (jmk s 9 0 (jdf 9) 4, jn s) := by unfold jnw; rw [if_pos ⟨hn, by omega, by omega⟩]
  rw [e0, Option.bind_some]
  have G1 := (jGw.rfl (s := s) (A := fun _ => False)).mk (k := 9) (nn := 0) (f := jdf 9) (z := 4)
  obtain ⟨hs1, v1⟩ := hs.keep G1 (fun z => z) (fun z => z)
  have m9 : jK (jmk s 9 0 (jdf 9) 4) (jn s) = 9 := by show (if jn s = jn s then _ else _) = _; rw [if_pos rfl]
  have m9f : ∀ k, jf (jmk s 9 0 (jdf 9) 4) 9 (jn s) k = jdf 9 k := fun k => by show (if (9 : Int) = 9 ∧ jn s = jn s then jdf 9 k else _) = _; rw [if_pos ⟨rfl, rfl⟩]
  have n1 : jn (jmk s 9 0 (jdf 9) 4) = jn s + 1 := rfl
  have u1 : ju (jmk s 9 0 (jdf 9) 4) = ju s + 4 := rfl
  have l1 : jlN (jmk s 9 0 (jdf 9) 4) = jlN s := rfl
  have l2 : jlU (jmk s 9 0 (jdf 9) 4) = jlU s := rfl
  generalize jmk s 9 0 (jdf 9) 4 = s1 at G1 hs1 v1 m9 m9f n1 u1 l1 l2 ⊢
  rw [jck0_in hn, em_J2_init]; unfold dm_J2_init
  rw [jck0_in hn, em_J2_init_2]; unfold dm_J2_init_2
  rw [jck0_in hn, jct_in hs1.tt, jct_in hs1.tt, jct_in hs1.tt, s_isLatin hs1]
  have hgv : mp_J0_getValue s1 x = some (jf s1 8 x 0) := by
    rw [emp_J0_getValue]; unfold dmp_J0_getValue
    rw [if_pos (mp_J0 hs1), em_J0_getValue]; rfl
  have hgl : mp_J0_length s1 x = some (l.length : Int) := by
    rw [emp_J0_length]; unfold dmp_J0_length
    rw [if_pos (mp_J0 hs1), s_blen hs1]
  rw [hgv, hgl, Option.bind_some, Option.bind_some, Option.bind_some, if_neg (by omega), show jbb 0 = some 0 from rfl, Option.bind_some]
  simp only [jwp]
  rw [if_pos ⟨hn, m9⟩, Option.bind_some, v1]
  -- the copy
  have hk1 : ∀ v, jK (jp s1 9 (jn s) 1 v) (jf s 8 x 0) = 1001 := fun v => by show jK s1 _ = _; rw [G1.K c1]; exact c2
  have hN1 : ∀ v, jN (jp s1 9 (jn s) 1 v) (jf s 8 x 0) = jN s (jf s 8 x 0) := fun v => G1.N c1
  have hF1 : ∀ v i, jF (jp s1 9 (jn s) 1 v) (jf s 8 x 0) i = jF s (jf s 8 x 0) i := fun v i => by
    rw [jF_k (hk1 v), jf_jp, if_neg (by omega), ← jF_k (show jK s1 (jf s 8 x 0) = 1001 from hk1 v), G1.F c1 (fun z => z)]
  have key : ∃ fv : Int → Int, ∃ s2, m_J13_copyOfRange (jp s1 9 (jn s) 1 0) (jf s 8 x 0) 0 l.length = some (s2, jn s + 1) ∧ jK s2 = jK (jmk (jp s1 9 (jn s) 1 0) 1001 l.length fv l.length) ∧ jN s2 = jN (jmk (jp s1 9 (jn s) 1 0) 1001 l.length fv l.length) ∧ jn s2 = jn s + 2 ∧ (∀ i : Nat, i < l.length → jf s2 1001 (jn s + 1) i = sb (l.getD i 0)) ∧ (∀ k, jf s2 9 (jn s) k = jf (jp s1 9 (jn s) 1 0) 9 (jn s) k) ∧ jGw s s2 2 (2 * M + 6) (fun _ => False) := by
    rw [em_J13_copyOfRange]; unfold dm_J13_copyOfRange
    rw [if_pos rfl, jlnE_in c0 (.inl (hk1 0)), Option.bind_some, hN1]
    have hb0 : ∀ hi : Int, hi ≤ jN s (jf s 8 x 0) → jbyt (jp s1 9 (jn s) 1 0) (jf s 8 x 0) 0 hi := fun hi h i i0 i1 => by rw [hF1]; exact hby i i0 (by omega)
    have hfl : ∀ i : Nat, i < l.length → jF s (jf s 8 x 0) i = sb (l.getD i 0) := f
    have G2 := ((G1.jp (c := 9) (a := jn s) (k := 1) (v := 0) (.inr (by omega))))
    by_cases g : (l.length : Int) = jN s (jf s 8 x 0)
    · rw [if_pos g]
      have ec : jcln (jp s1 9 (jn s) 1 0) (jf s 8 x 0) = some (jmk (jp s1 9 (jn s) 1 0) 1001 (jN (jp s1 9 (jn s) 1 0) (jf s 8 x 0)) (jF (jp s1 9 (jn s) 1 0) (jf s 8 x 0)) (jN (jp s1 9 (jn s) 1 0) (jf s 8 x 0)), jn (jp s1 9 (jn s) 1 0)) := by
        unfold jcln
        rw [if_pos ⟨c0, .inl (hk1 0), by show jn s1 + 1 ≤ jlN s1; omega, by show ju s1 + jN s1 _ ≤ jlU s1; rw [show jN s1 (jf s 8 x 0) = jN s (jf s 8 x 0) from hN1 0]; omega, hb0 _ (by rw [hN1]; omega)⟩]
      rw [ec, Option.bind_some, hN1, ← g]
      have kq : jK (jmk (jp s1 9 (jn s) 1 0) 1001 l.length (jF (jp s1 9 (jn s) 1 0) (jf s 8 x 0)) l.length) (jn (jp s1 9 (jn s) 1 0)) = 1001 := by show (if jn s1 = jn s1 then _ else _) = _; rw [if_pos rfl]
      have ek : ∀ {R : Type} (y : Option R), jkk (jmk (jp s1 9 (jn s) 1 0) 1001 l.length (jF (jp s1 9 (jn s) 1 0) (jf s 8 x 0)) l.length) [1001, 4001] (jn (jp s1 9 (jn s) 1 0)) y = y := fun y => by
        unfold jkk
        rw [if_pos ⟨by show 0 ≤ jn s1; omega, by rw [kq]; exact List.mem_cons_self⟩]
      refine ⟨jF (jp s1 9 (jn s) 1 0) (jf s 8 x 0), jmk (jp s1 9 (jn s) 1 0) 1001 l.length (jF (jp s1 9 (jn s) 1 0) (jf s 8 x 0)) l.length, ?_, rfl, rfl, ?_, ?_, ?_, ?_⟩
      · show jkk _ [1001, 4001] _ _ = _
        rw [ek]
        show some (_, jn s1) = _
        rw [n1]
      · show jn s1 + 1 = _; omega
      · intro i hi
        show (if (1001 : Int) = 1001 ∧ jn s + 1 = jn s1 then jF (jp s1 9 (jn s) 1 0) (jf s 8 x 0) i else jf (jp s1 9 (jn s) 1 0) 1001 (jn s + 1) i) = _
        rw [if_pos ⟨rfl, by omega⟩, hF1]; exact hfl i hi
      · intro k
        show (if (9 : Int) = 1001 ∧ jn s = jn s1 then jF (jp s1 9 (jn s) 1 0) (jf s 8 x 0) k else jf (jp s1 9 (jn s) 1 0) 9 (jn s) k) = _
        rw [if_neg (by omega)]
      · exact (G2.mk (k := 1001) (nn := l.length) (f := jF (jp s1 9 (jn s) 1 0) (jf s 8 x 0)) (z := l.length)).mono (by omega) (by omega) (fun _ _ z => z)
    · rw [if_neg g]
      simp only [eu_J13_copyOfRange_10, du_J13_copyOfRange_10]
      rw [em_J13_copyOfRangeByte]; unfold dm_J13_copyOfRangeByte
      rw [em_J13_checkLength]; unfold dm_J13_checkLength
      rw [if_neg (by omega), Option.bind_some]
      simp only [jlet]
      rw [W32_in (by omega) (by omega), show ((l.length : Int) - 0) = l.length by omega, jna_in (by omega) (by omega) (by show jn s1 + 1 ≤ jlN s1; omega) (by show ju s1 + _ ≤ jlU s1; omega), Option.bind_some]
      have hne : ¬ jf s 8 x 0 = jn s1 := by omega
      have k1 : jK (jmk (jp s1 9 (jn s) 1 0) 1001 l.length (fun _ => 0) l.length) (jf s 8 x 0) = 1001 := by
        show (if jf s 8 x 0 = jn s1 then _ else jK s1 (jf s 8 x 0)) = _
        rw [if_neg hne]; exact hk1 0
      have k2 : jN (jmk (jp s1 9 (jn s) 1 0) 1001 l.length (fun _ => 0) l.length) (jf s 8 x 0) = jN s (jf s 8 x 0) := by
        show (if jf s 8 x 0 = jn s1 then _ else jN s1 (jf s 8 x 0)) = _
        rw [if_neg hne]; exact hN1 0
      have k3 : jK (jmk (jp s1 9 (jn s) 1 0) 1001 l.length (fun _ => 0) l.length) (jn s + 1) = 1001 := by
        show (if jn s + 1 = jn s1 then _ else _) = _
        rw [if_pos n1.symm]
      have k4 : jN (jmk (jp s1 9 (jn s) 1 0) 1001 l.length (fun _ => 0) l.length) (jn s + 1) = l.length := by
        show (if jn s + 1 = jn s1 then _ else _) = _
        rw [if_pos n1.symm]
      have k5 : ∀ i, jF (jmk (jp s1 9 (jn s) 1 0) 1001 l.length (fun _ => 0) l.length) (jf s 8 x 0) i = jF s (jf s 8 x 0) i := fun i => by
        rw [jF_mk, if_neg (show ¬ jf s 8 x 0 = jn (jp s1 9 (jn s) 1 0) from hne), hF1]
      have hmi : jmi (W32 (jN s (jf s 8 x 0) - 0)) l.length = l.length := by
        rw [W32_in (by omega) (by omega)]
        unfold jmi; split <;> omega
      show ∃ fv : Int → Int, ∃ s2, Option.bind (Option.bind (jlnE (jmk (jp s1 9 (jn s) 1 0) 1001 l.length (fun _ => 0) l.length) 1001 (jf s 8 x 0)) fun v4 => Option.bind (jacp (jmk (jp s1 9 (jn s) 1 0) 1001 l.length (fun _ => 0) l.length) (jf s 8 x 0) 0 (jn s1) 0 (jmi (W32 (v4 - 0)) l.length)) fun s5 => some (s5, jn s1)) (fun q1 => some (q1.1, q1.2)) = _ ∧ _
      rw [jlnE_in c0 (.inl k1), Option.bind_some, k2, hmi, n1, jacp_in c0 (by omega) (.inl k1) k3 (by omega) (by omega) (by omega) (by rw [k2]; omega) (by rw [k4]; omega) (fun i i0 i1 => by rw [k5]; exact hby i i0 (by omega)), Option.bind_some, Option.bind_some]
      refine ⟨fun _ => 0, _, rfl, rfl, rfl, ?_, ?_, ?_, ?_⟩
      · show jn s1 + 1 = _; omega
      · intro i hi
        rw [jf_cpy, if_pos ⟨rfl, rfl, by omega, by omega⟩, k5, show (0 : Int) + (i - 0) = i by omega]; exact hfl i hi
      · intro k
        rw [jf_cpy, if_neg (by omega)]
        show (if (9 : Int) = 1001 ∧ jn s = jn s1 then (0 : Int) else jf (jp s1 9 (jn s) 1 0) 9 (jn s) k) = _
        rw [if_neg (by omega)]
      · exact ((G2.mk (k := 1001) (nn := l.length) (f := fun _ => 0) (z := l.length)).cpy (.inr (by omega))).mono (by omega) (by omega) (fun _ _ z => z)
  obtain ⟨fv, s2, e1, e2, e3, e4, e5, e6, e7⟩ := key
  rw [e1, Option.bind_some]
  have K2 : jK s2 (jn s) = 9 := by
    rw [e2]
    show (if jn s = jn s1 then _ else jK s1 (jn s)) = _
    rw [if_neg (by omega)]; exact m9
  have K3 : jK s2 (jn s + 1) = 1001 := by
    rw [e2]
    show (if jn s + 1 = jn s1 then _ else _) = _
    rw [if_pos n1.symm]
  have N3 : jN s2 (jn s + 1) = l.length := by
    rw [e3]
    show (if jn s + 1 = jn s1 then _ else _) = _
    rw [if_pos n1.symm]
  show jE ((((if 0 ≤ jn s ∧ jK s2 (jn s) = 9 then some (jp s2 9 (jn s) 0 (jn s + 1)) else none).bind fun s14 : jS => some (s14, (0 : Int))).bind fun q1 : jS × Int => some (q1.1, (0 : Int))).bind fun q2 : jS × Int => some (q2.1, jn s)) _
  rw [if_pos ⟨hn, K2⟩, Option.bind_some, Option.bind_some, Option.bind_some]
  have P9 : ∀ k, jF (jp s2 9 (jn s) 0 (jn s + 1)) (jn s) k = if k = 0 then jn s + 1 else if k = 1 then 0 else jdf 9 k := fun k => by
    rw [jF_k (show jK (jp s2 9 (jn s) 0 (jn s + 1)) (jn s) = 9 from K2), jf_jp, e6, jf_jp, m9f]
    by_cases c : k = 0
    · rw [if_pos ⟨rfl, rfl, c⟩, if_pos c]
    · rw [if_neg (fun z => c z.2.2), if_neg c]
      by_cases c1 : k = 1
      · rw [if_pos ⟨rfl, rfl, c1⟩, if_pos c1]
      · rw [if_neg (fun z => c1 z.2.2), if_neg c1]
  have P9' : ∀ k, jf (jp s2 9 (jn s) 0 (jn s + 1)) 9 (jn s) k = jF (jp s2 9 (jn s) 0 (jn s + 1)) (jn s) k := fun k => (jF_k (show jK (jp s2 9 (jn s) 0 (jn s + 1)) (jn s) = 9 from K2) k).symm
  refine jE_some.mpr ⟨⟨⟨hn, by show jn s < jn s2; omega, .inl K2⟩, by rw [P9]; rfl, ?_⟩, by show jn s ≤ jn s; omega, K2, ?_, ?_, ?_, e7.jp (.inr (by omega))⟩
  · show (0 ≤ jF (jp s2 9 (jn s) 0 (jn s + 1)) (jn s) 0 ∧ _) ∧ _
    rw [P9, if_pos rfl]
    refine ⟨⟨by omega, by show jn s + 1 < jn s2; omega, .inl K3⟩, N3, e, fun i hi => ?_⟩
    rw [jF_k (show jK (jp s2 9 (jn s) 0 (jn s + 1)) (jn s + 1) = 1001 from K3), jf_jp, if_neg (by omega)]
    exact e5 i hi
  · show jf (jp s2 9 (jn s) 0 (jn s + 1)) 9 (jn s) 2 = 0
    rw [P9', P9]; rfl
  · show jf (jp s2 9 (jn s) 0 (jn s + 1)) 9 (jn s) 3 = 0
    rw [P9', P9]; rfl
  · show jn s ≤ jF (jp s2 9 (jn s) 0 (jn s + 1)) (jn s) 0
    rw [P9, if_pos rfl]; omega
theorem s_bcharAt (h : pSb s x l M) (hM : M ≤ 400000) {k : Int} (h0 : 0 ≤ k) (h1 : k < l.length) : m_J1_charAt s x k = some (l.getD k.toNat 0) := by
  obtain ⟨⟨a0, a1, a2⟩, b, b', ⟨c0, c1, c2⟩, ⟨d, d', hby⟩, e, f⟩ := h
  have hc := e.at (i := k.toNat) (by omega)
  have hb := f k.toNat (by omega)
  rw [show ((k.toNat : Nat) : Int) = k by omega] at hb
  rw [em_J1_charAt]; unfold dm_J1_charAt
  rw [emq_J0_charAt]; unfold dmq_J0_charAt
  rw [if_pos ⟨a0, a2⟩, em_J0_charAt]; unfold dm_J0_charAt
  rw [jlnE_in c0 (.inl c2), Option.bind_some, b, b', I_shr_0 (by omega), em_J2_checkIndex]; unfold dm_J2_checkIndex
  rw [em_J14_checkIndex]; unfold dm_J14_checkIndex
  have hm : k < jmi (l.length : Int) (jN s (jf s 8 x 0)) := by unfold jmi; split <;> omega
  rw [if_neg (by omega), if_pos hm, Option.bind_some, Option.bind_some, if_pos rfl, jldE_in c0 (.inl c2) h0 (by omega), Option.bind_some, hb, sb_and hc.1 hc.2, Wc_in hc.1 (by omega), Wc_in hc.1 (by omega), Option.bind_some, Wc_in hc.1 (by omega)]
/-- emptied -/
theorem s_empty (h : pSb s x l M) (hM : M ≤ 400000) : jE (m_J1_setLength s x 0) fun r => r.2.1 = false ∧ pSb r.1 x [] M ∧ jGw s r.1 0 0 (fun b => b = x) ∧ jf r.1 8 x 0 = jf s 8 x 0 := by
  have hs := h
  obtain ⟨⟨a0, a1, a2⟩, b, b', ⟨c0, c1, c2⟩, ⟨d, d', hby⟩, e, f⟩ := h
  rw [em_J1_setLength]; unfold dm_J1_setLength
  rw [emq_J0_setLength]; unfold dmq_J0_setLength
  rw [if_pos ⟨a0, a2⟩, em_J0_setLength]; unfold dm_J0_setLength
  have hE : mp_J0_ensureCapacityInternal s x 0 = some (s, 0) := by
    rw [emp_J0_ensureCapacityInternal]; unfold dmp_J0_ensureCapacityInternal
    rw [if_pos ⟨a0, a2⟩, em_J0_ensureCapacityInternal]; unfold dm_J0_ensureCapacityInternal
    rw [b, jlnE_in c0 (.inl c2), Option.bind_some]
    simp only [jlet]
    rw [I_shr_0 (by omega), W32_in (by omega) (by omega), if_neg (by omega)]
  rw [if_neg (by omega), hE, Option.bind_some, if_neg (show ¬ jf s 8 x 3 < 0 by omega)]
  simp only [eu_J0_setLength_76, du_J0_setLength_76, jls, jzb_in (.inr rfl), Option.bind_some]
  have key : ∀ s', (∀ c y k, ¬ (c = 8 ∧ y = x ∧ (k = 2 ∨ k = 3)) → jf s' c y k = jf s c y k) → jf s' 8 x 3 = 0 → jSm s s' → pSb s' x [] M ∧ jGw s s' 0 0 (fun b => b = x) ∧ jf s' 8 x 0 = jf s 8 x 0 := by
    intro s' q1 q2 q3
    obtain ⟨q3, q4, q5, q6, q7, q8, q9⟩ := q3
    have v := q1 8 x 0 (by omega)
    refine ⟨⟨⟨a0, by omega, by rw [q3]; exact a2⟩, by rw [q1 _ _ _ (by omega)]; exact b, q2, ?_⟩, ⟨⟨by omega, by omega, by omega, q7, q8, q9⟩, fun y _ => ⟨by rw [q3], by rw [q4]⟩, fun c y k _ hy => q1 _ _ _ fun z => hy z.2.1⟩, v⟩
    rw [v, q3, q4]
    refine ⟨⟨c0, by omega, c2⟩, ⟨by show (0 : Int) ≤ _; omega, d', fun i i0 i1 => ?_⟩, fun c hc => absurd hc List.not_mem_nil, fun i hi => absurd hi (Nat.not_lt_zero _)⟩
    rw [jF_k (show jK s' (jf s 8 x 0) = 1001 by rw [q3]; exact c2), q1 _ _ _ (by omega)]
    have := hby i i0 i1
    rw [jF_k c2] at this
    exact this
  by_cases g : 0 < jf s 8 x 3
  · rw [if_pos g]
    simp only [Option.bind_some, jth]
    refine jE_some.mpr ⟨rfl, key _ (fun c y k q => ?_) (by rw [jf_jp, if_pos ⟨rfl, rfl, rfl⟩]) jSm.rfl.jp.jp⟩
    rw [jf_jp, if_neg (by omega), jf_jp, if_neg (by omega)]
  · rw [if_neg g]
    simp only [Option.bind_some, jth]
    refine jE_some.mpr ⟨rfl, key _ (fun c y k q => ?_) (by rw [jf_jp, if_pos ⟨rfl, rfl, rfl⟩]) jSm.rfl.jp⟩
    rw [jf_jp, if_neg (by omega)]
end jStrs
