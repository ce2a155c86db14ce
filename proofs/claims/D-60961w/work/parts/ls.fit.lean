/-! the linker: a word gets another number, each side *-/
set_option maxRecDepth 100000
section jLft
variable {s t u w' : jS} {a b n o p q v l x c f g i j H C K X w r how at0 rr d z f0 : Int} {B : Int → Int}
theorem c_need1 : m_X35_need s l 1 f = some (s, false, 0) := by
  rw [em_X35_need]; unfold dm_X35_need; rw [if_neg n10]
theorem sizeW : m_X2_size s l w = some (if w % 4 = 3 then 4 else 2) := by
  rw [em_X2_size]; unfold dm_X2_size
  rw [I_and_3]; split <;> rfl
theorem lenW : m_X37_lengthAt t l w = some (if w % 4 = 3 then 4 else 2) := by
  rw [em_X37_lengthAt]; unfold dm_X37_lengthAt
  rw [I_and_3]; split <;> rfl
/-- the word of n bytes at hand, the component -/
theorem c_wordA (hO : outK C s) (hp : jf s 39 (C + 4275) 38 = p) (p0 : 0 ≤ p) (p1 : p + n ≤ 4096) (hn : n = 1 ∨ n = 2 ∨ n = 4) (hB : ∀ k, 0 ≤ k → k < n → 0 ≤ B k ∧ B k < 256) (hb : ∀ k, 0 ≤ k → k < n → cBy s C 0 (p + k) = sb (B k)) : m_X35_wordAt s (C + 4275) n = some (W32 (leN B n.toNat)) := by
  obtain ⟨o0, oK, oN⟩ := hO 0 (by decide) (by decide)
  rw [em_X35_wordAt]; unfold dm_X35_wordAt
  rw [jix_in (by decide) (by decide), Option.bind_some, hp, show C + 4275 + 33 + 1 + 1 * 0 = C + 4275 + 34 + 0 by omega, c_getB o0 oK oN p0 p1 hn hB hb, Option.bind_some, l2i_p]
/-- a word with another number -/
noncomputable def fitW (r w i : Int) : Int := pPut r.toNat (p4s (pPt r.toNat w) 3 (L2i i))
theorem fitW_in : jin (fitW r w i) := pPut_in _ _
theorem fitW_4 (h0 : 0 ≤ r) (h1 : r < 75) : fitW r w i % 4 = 3 ↔ r < 48 := by
  unfold fitW
  rw [pPut_m4 (by omega)]; omega
/-- the word is one that is wanted -/
abbrev okW (how n w r : Int) : Prop := (w % 4 = 3 ↔ n = 4) ∧ tkW how r
theorem c_wantedR (hw : pWd s (C + 1)) (hk : isKd w r) (hj : jin w) (hA : m_X35_wordAt s (C + 4275) n = some w) (hh : hwK how) (hn : n = 2 ∨ n = 4) : (¬ okW how n w r → ∀ u e, m_X35_need s (C + 4275) 0 7 = some (u, true, e) → m_X35_wanted s (C + 4275) how n = some (u, true, e)) ∧ (okW how n w r → m_X35_wanted s (C + 4275) how n = some (s, false, 0)) := by
  have eC : C + 4275 + -4274 = C + 1 := by omega
  obtain ⟨r', e1, k1⟩ := c_kind hw.1 hj
  have := isKd_one k1 hk
  subst this
  obtain ⟨y, e2, y01, y1⟩ := c_wants (s := s) (l := C + 4275) (r := r') hh
  have bad : ∀ u e, m_X35_need s (C + 4275) 0 7 = some (u, true, e) → u_X35_wanted_39 s (C + 4275) = some (u, true, e) := fun u e h => by
    rw [eu_X35_wanted_39]; unfold du_X35_wanted_39
    rw [eu_X35_wanted_40]; unfold du_X35_wanted_40
    rw [h, Option.bind_some]; rfl
  rw [em_X35_wanted]; unfold dm_X35_wanted
  rw [hA, Option.bind_some, eC, sizeW, Option.bind_some, e1, Option.bind_some, e2, Option.bind_some]
  by_cases c1 : (if w % 4 = 3 then (4 : Int) else 2) = n
  · have c1' : w % 4 = 3 ↔ n = 4 := by split at c1 <;> omega
    rw [if_pos c1]
    by_cases c2 : y = 0
    · rw [if_pos c2]
      exact ⟨fun _ u e h => bad u e h, fun q => by have := y1.mpr q.2; omega⟩
    · rw [if_neg c2, eu_X35_wanted_40]; unfold du_X35_wanted_40
      rw [c_need1, Option.bind_some]
      exact ⟨fun q => absurd ⟨c1', y1.mp (by omega)⟩ q, fun _ => rfl⟩
  · have c1' : ¬ (w % 4 = 3 ↔ n = 4) := by split at c1 <;> omega
    rw [if_neg c1]
    exact ⟨fun _ u e h => bad u e h, fun q => absurd q.1 c1'⟩
theorem c_fitR (hw : pWd s (C + 1)) (hk : isKd w r) (hj : jin w) (hA : m_X35_wordAt s (C + 4275) n = some w) (hh : hwK how) (hn : n = 2 ∨ n = 4) :
    (¬ okW how n w r → ∀ u e, m_X35_need s (C + 4275) 0 7 = some (u, true, e) → m_X35_fit s (C + 4275) how n i = some (u, true, e)) ∧
    (okW how n w r → ¬ pImm r.toNat i = true → ∀ u e, m_X35_need s (C + 4275) 0 8 = some (u, true, e) → m_X35_fit s (C + 4275) how n i = some (u, true, e)) ∧
    (okW how n w r → pImm r.toNat i = true → m_X35_fit s (C + 4275) how n i = (m_X35_put s (C + 4275) (C + 4275 + 34 + 0) (jf s 39 (C + 4275) 38) n (fitW r w i)).bind fun q8 => some (q8.1, false, 0)) := by
  have eC : C + 4275 + -4274 = C + 1 := by omega
  obtain ⟨d1, d2⟩ := c_wantedR (n := n) hw hk hj hA hh hn
  rw [em_X35_fit]; unfold dm_X35_fit
  refine ⟨fun q u e h => by rw [d1 q u e h, Option.bind_some]; rfl, fun q g u e h => ?_, fun q g => ?_⟩
  · obtain ⟨k0, k1, k2, -⟩ := tkW_k q.2
    obtain ⟨r', e1, k'⟩ := c_kind hw.1 hj
    have := isKd_one k' hk
    subst this
    rw [d2 q, Option.bind_some, jth_ff]
    dsimp only
    rw [hA, Option.bind_some, eC, e1, Option.bind_some, (c_may hw.1 r' i).2 (fun z => g z.2.2.2), Option.bind_some, h, Option.bind_some]; rfl
  · obtain ⟨k0, k1, k2, -⟩ := tkW_k q.2
    obtain ⟨r', e1, k'⟩ := c_kind hw.1 hj
    have := isKd_one k' hk
    subst this
    rw [d2 q, Option.bind_some, jth_ff]
    dsimp only
    rw [hA, Option.bind_some, eC, e1, Option.bind_some, (c_may hw.1 r' i).1 ⟨k0, k1, has3 k2, g⟩, Option.bind_some, c_need1, Option.bind_some, jth_ff]
    dsimp only
    rw [jix_in (by decide) (by decide), Option.bind_some, (c_fit hw.1 hj hk).2 ⟨by omega, has3 k2, g⟩, Option.bind_some, jth_ff, show C + 4275 + 33 + 1 + 1 * 0 = C + 4275 + 34 + 0 by omega]; rfl
/-- parts of a word lie in bounds -/
theorem reg_b {k e : Nat} {v : Int} (h : pReg k e v = true) : 0 ≤ v ∧ v ≤ 31 := by
  unfold pReg at h
  split at h
  · have := of_decide_eq_true h; omega
  · have := of_decide_eq_true h; omega
theorem pGood_b {k : Nat} {p : jP4} (h : pGood k p = true) : (pHas k 0 = true → 0 ≤ p4g p 0 ∧ p4g p 0 ≤ 31) ∧ (pHas k 1 = true → 0 ≤ p4g p 1 ∧ p4g p 1 ≤ 31) ∧ (pHas k 2 = true → 0 ≤ p4g p 2 ∧ p4g p 2 ≤ 31) ∧ (pHas k 3 = true → pImm k (p4g p 3) = true) := by
  unfold pGood at h
  simp only [Bool.and_eq_true, Bool.or_eq_true, Bool.not_eq_true'] at h
  obtain ⟨⟨⟨h0, h1⟩, h2⟩, h3⟩ := h
  refine ⟨fun q => ?_, fun q => ?_, fun q => ?_, fun q => ?_⟩
  · rcases h0 with z | z; rw [q] at z; cases z; exact reg_b z
  · rcases h1 with z | z; rw [q] at z; cases z; exact reg_b z
  · rcases h2 with z | z; rw [q] at z; cases z; exact reg_b z
  · rcases h3 with z | z; rw [q] at z; cases z; exact z
/-- the number alone is changed -/
theorem pGood_3 {k : Nat} {p : jP4} (h : pGood k p = true) (hi : pImm k v = true) : pGood k (p4s p 3 v) = true := by
  unfold pGood at h ⊢
  simp only [Bool.and_eq_true, Bool.or_eq_true, Bool.not_eq_true'] at h ⊢
  obtain ⟨⟨⟨h0, h1⟩, h2⟩, h3⟩ := h
  exact ⟨⟨⟨h0, h1⟩, h2⟩, .inr hi⟩
/-- parts that a kind has not are 0 -/
theorem pPt_n (hj : jin w) (hk : isKd w r) (h0 : ¬ r = -1) : pPt r.toNat w = nrm r.toNat (pPt r.toNat w) ∧ pGood r.toNat (pPt r.toNat w) = true := by
  obtain ⟨r0, r1, r2, r3, r4⟩ := isKd_t hk h0
  have hg := good_of r2
  have pb := put_back_w hj hk h0
  have rt := rt_k (pPt r.toNat w).1 (pPt r.toNat w).2.1 (pPt r.toNat w).2.2.1 (pPt r.toNat w).2.2.2 r.toNat (by omega) hg
  have e : (((pPt r.toNat w).1, (pPt r.toNat w).2.1, (pPt r.toNat w).2.2.1, (pPt r.toNat w).2.2.2) : jP4) = pPt r.toNat w := rfl
  rw [e, pb] at rt
  refine ⟨?_, hg⟩
  by_cases c : w % 4 = 3
  · have : pWh w = w := by unfold pWh; rw [if_pos c]
    rw [this] at rt; exact rt.2
  · have hpw : pWh w = w % 65536 := by unfold pWh; rw [if_neg c]
    obtain ⟨-, q2⟩ := pTk_wh c (k := r.toNat) (by omega) (by have := r4 c; omega)
    rw [hpw] at rt
    rw [q2]
    rw [q2] at rt; exact rt.2
theorem pPt_b (hj : jin w) (hk : isKd w r) (h0 : ¬ r = -1) (hs : knS r.toNat) : ∀ e : Nat, e < 4 → -1048576 ≤ p4g (pPt r.toNat w) e ∧ p4g (pPt r.toNat w) e ≤ 1048575 := fun e he => by
  obtain ⟨n1, hg⟩ := pPt_n hj hk h0
  obtain ⟨b0, b1, b2, b3⟩ := pGood_b hg
  have := immB hs (b3 (has3 hs))
  have : e = 0 ∨ e = 1 ∨ e = 2 ∨ e = 3 := by omega
  rcases this with rfl | rfl | rfl | rfl
  · by_cases c : pHas r.toNat 0 = true
    · have := b0 c; omega
    · rw [n1]; show -1048576 ≤ (if pHas r.toNat 0 = true then _ else (0 : Int)) ∧ (if pHas r.toNat 0 = true then _ else (0 : Int)) ≤ _
      rw [if_neg c]; decide
  · by_cases c : pHas r.toNat 1 = true
    · have := b1 c; omega
    · rw [n1]; show -1048576 ≤ (if pHas r.toNat 1 = true then _ else (0 : Int)) ∧ (if pHas r.toNat 1 = true then _ else (0 : Int)) ≤ _
      rw [if_neg c]; decide
  · by_cases c : pHas r.toNat 2 = true
    · have := b2 c; omega
    · rw [n1]; show -1048576 ≤ (if pHas r.toNat 2 = true then _ else (0 : Int)) ∧ (if pHas r.toNat 2 = true then _ else (0 : Int)) ≤ _
      rw [if_neg c]; decide
  · omega
/-- a state told by the words' scratch alone -/
theorem w6_42 {v : Int} : tW6 H t (jp t 42 (H + 4) 0 v) := ⟨jSm.rfl.jp, fun c a k q => jf_neg (by omega)⟩
/-- the twin's -/
theorem t_fittedR (hR : pRows t (H + 5)) (hk : isKd w r) (hj : jin w) (h0 : ¬ r = -1) (hs : knS r.toNat) :
    (¬ pImm r.toNat i = true → ∃ t1, tW6 H t t1 ∧ ∀ y, m_X37_wrong t1 H 8 rr = some (y, 0) → m_X37_fitted t H rr at0 w i = some (y, 0)) ∧
    (pImm r.toNat i = true → ∃ t1, tW6 H t t1 ∧ m_X37_fitted t H rr at0 w i = (m_X37_store t1 H at0 (if fitW r w i % 4 = 3 then 4 else 2) (fitW r w i)).bind fun q => some (q.1, 1)) := by
  have e5 : H + 4 + 1 = H + 5 := by omega
  have e6 : H + 4 + 2 = H + 6 := by omega
  have pb := pPt_b hj hk h0 hs
  have li : -2147483648 ≤ L2i i ∧ L2i i ≤ 2147483647 := by rw [l2i_p]; exact W32_lo _
  rw [em_X37_fitted]; unfold dm_X37_fitted
  refine ⟨fun g => ?_, fun g => ?_⟩
  · -- L2i may be anything: the number is refused first
    obtain ⟨q, r', e1, k1, k2⟩ := t_find (V := H + 4) (by rw [e5]; exact hR) hj
    have := isKd_one k1 hk
    subst this
    obtain ⟨r0, r1, -⟩ := isKd_t hk h0
    have hR1 : pRows (pw4 t (H + 4 + 2) q) (H + 4 + 1) := pRows_pw4 (by rw [e5]; exact hR) (by omega)
    have ef : m_X38_fit t (H + 4) w i = some (jp (pw4 t (H + 4 + 2) q) 42 (H + 4) 0 1, 0) := by
      rw [em_X38_fit]; unfold dm_X38_fit
      rw [e1, Option.bind_some, if_neg h0, s_X38_has _ _ _ _ hR1 r0 r1 (by omega) (by omega), Option.bind_some]
      have e3 : (3 : Int).toNat = 3 := rfl
      have ek : ((r'.toNat : Nat) : Int) = r' := Int.toNat_of_nonneg r0
      have hI : pImm r'.toNat i = decide (v_X38_isImmediate r' i = 1) := by
        show decide (v_X43_isImmediate (r'.toNat : Int) i = 1) = _
        rw [ek]; rfl
      have h01 : v_X38_isImmediate r' i = 0 ∨ v_X38_isImmediate r' i = 1 := vImm_01 r' i
      have ng : v_X38_isImmediate r' i = 0 := by
        rcases h01 with z | z
        · exact z
        · exact absurd (by rw [hI]; exact decide_eq_true z) g
      rw [e3, if_pos (has3 hs), if_neg n10, e_X38_isImmediate, Option.bind_some, if_pos ng, eu_X38_fit_37]; unfold du_X38_fit_37
      rw [eu_X38_fit_38]; unfold du_X38_fit_38
      simp only [jls]
      rw [if_neg (by rw [jf_pos ⟨rfl, rfl, rfl⟩]; decide)]
    refine ⟨jp (pw4 t (H + 4 + 2) q) 42 (H + 4) 0 1, by rw [e6]; exact pw4_bw.trans w6_42, fun y hy => ?_⟩
    have et : m_X38_thrown (jp (pw4 t (H + 4 + 2) q) 42 (H + 4) 0 1) (H + 4) = some 1 := by
      rw [em_X38_thrown]; unfold dm_X38_thrown
      rw [jf_pos ⟨rfl, rfl, rfl⟩]
    rw [ef, Option.bind_some]
    dsimp only
    rw [et, Option.bind_some, if_neg n10, hy, Option.bind_some, Wz_0]
  · have iv := immB hs g
    have lii : L2i i = i := l2i_in (by omega) (by omega)
    obtain ⟨q, ef⟩ := (t_fit (V := H + 4) (by rw [e5]; exact hR) hj hk (v := i) ⟨by omega, fun e he => by have := pb e he; omega⟩).2 ⟨h0, has3 hs, g⟩
    have et : m_X38_thrown (pw4 (jp t 42 (H + 4) 0 0) (H + 4 + 2) q) (H + 4) = some 0 := by
      rw [em_X38_thrown]; unfold dm_X38_thrown
      rw [jf_pw4, if_neg (by omega), jf_pos ⟨rfl, rfl, rfl⟩]
    refine ⟨pw4 (jp t 42 (H + 4) 0 0) (H + 4 + 2) q, by rw [e6]; exact w6_42.trans pw4_bw, ?_⟩
    rw [ef, Option.bind_some]
    dsimp only
    rw [et, Option.bind_some, if_pos rfl, em_X37_storeWord]; unfold dm_X37_storeWord
    rw [show pPut r.toNat (p4s (pPt r.toNat w) 3 (L2i i)) = fitW r w i from rfl, lenW, Option.bind_some]
    cases m_X37_store (pw4 (jp t 42 (H + 4) 0 0) (H + 4 + 2) q) H at0 (if fitW r w i % 4 = 3 then 4 else 2) (fitW r w i) with
    | none => rfl
    | some z => rw [Option.bind_some, Option.bind_some, Option.bind_some, Wz_1]
end jLft
