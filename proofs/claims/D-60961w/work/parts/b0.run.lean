/-! steps of a run by application: a condition that omega shows, reads and writes within bounds, calls -/
section jRun
variable {R S : Type} {Q : R → Prop} {P : S → Prop}
theorem jS_pos {c : Prop} [Decidable c] {a b : Option R} (h : c) (k : jE a Q) : jE (if c then a else b) Q := by rw [if_pos h]; exact k
theorem jS_neg {c : Prop} [Decidable c] {a b : Option R} (h : ¬ c) (k : jE b Q) : jE (if c then a else b) Q := by rw [if_neg h]; exact k
theorem jS_ite {c : Prop} [Decidable c] {a b : Option R} (h : c → jE a Q) (k : ¬ c → jE b Q) : jE (if c then a else b) Q := jE_ite.mpr ⟨h, k⟩
theorem jS_posB {c : Prop} [Decidable c] {a b : Option S} {K : S → Option R} (h : c) (k : jE (a.bind K) Q) : jE ((if c then a else b).bind K) Q := by rw [if_pos h]; exact k
theorem jS_negB {c : Prop} [Decidable c] {a b : Option S} {K : S → Option R} (h : ¬ c) (k : jE (b.bind K) Q) : jE ((if c then a else b).bind K) Q := by rw [if_neg h]; exact k
theorem jS_iteB {c : Prop} [Decidable c] {a b : Option S} {K : S → Option R} (h : c → jE (a.bind K) Q) (k : ¬ c → jE (b.bind K) Q) : jE ((if c then a else b).bind K) Q := by
  by_cases e : c
  · exact jS_posB e (h e)
  · exact jS_negB e (k e)
theorem jS_some {v : S} {K : S → Option R} (k : jE (K v) Q) : jE ((some v).bind K) Q := k
theorem jS_bb {T : Type} {x : Option T} {F : T → Option S} {K : S → Option R} (k : jE (x.bind fun v => (F v).bind K) Q) : jE ((x.bind F).bind K) Q := by rw [Option.bind_assoc]; exact k
theorem jS_lt {s : jS} {c a n i : Int} {K : Int → Option R} (h0 : 0 ≤ i) (h1 : i < n) (k : jE (K (jf s c a i)) Q) : jE ((jlt s c a n i).bind K) Q := by rw [jlt_in h0 h1]; exact k
theorem jS_st {s : jS} {c a n i v : Int} {K : jS → Option R} (h0 : 0 ≤ i) (h1 : i < n) (k : jE (K (jp s c a i v)) Q) : jE ((jst s c a n i v).bind K) Q := by rw [jst_in h0 h1]; exact k
theorem jS_ix {n i v : Int} {K : Int → Option R} (h0 : 0 ≤ i) (h1 : i < n) (k : jE (K v) Q) : jE ((jix n i v).bind K) Q := by rw [jix_in h0 h1]; exact k
theorem jS_dv {y v : Int} {K : Int → Option R} (h : ¬ y = 0) (k : jE (K v) Q) : jE ((jdv y v).bind K) Q := by rw [jdv_in h]; exact k
theorem jS_zb {v : Int} {K : Int → Option R} (h : v = 0 ∨ v = 1) (k : jE (K v) Q) : jE ((jzb v).bind K) Q := by rw [jzb_in h]; exact k
theorem jS_rd {s : jS} {c a i : Int} {K : Int → Option R} (h0 : 0 ≤ a) (h1 : jK s a = c) (k : jE (K (jf s c a i)) Q) : jE ((jrd s c a i).bind K) Q := by rw [jrd_in h0 h1]; exact k
theorem jS_wr {s : jS} {c a i v : Int} {K : jS → Option R} (h0 : 0 ≤ a) (h1 : jK s a = c) (k : jE (K (jp s c a i v)) Q) : jE ((jwr s c a i v).bind K) Q := by rw [jwr_in h0 h1]; exact k
theorem jS_ld {s : jS} {c a i : Int} {K : Int → Option R} (h0 : 0 ≤ a) (h1 : jK s a = c) (h2 : 0 ≤ i) (h3 : i < jN s a) (k : jE (K (jf s c a i)) Q) : jE ((jld s c a i).bind K) Q := by
  unfold jld; rw [if_pos ⟨h0, h1, h2, h3⟩]; exact k
theorem jS_ls {s : jS} {K : jS → Option R} (k : jE (K s) Q) : jE (jls s K) Q := k
theorem jS_let {v : Int} {K : Int → Option R} (k : jE (K v) Q) : jE (jlet v K) Q := k
theorem jS_lsB {s : jS} {F : jS → Option S} {K : S → Option R} (k : jE ((F s).bind K) Q) : jE ((jls s F).bind K) Q := k
theorem jS_letB {v : Int} {F : Int → Option S} {K : S → Option R} (k : jE ((F v).bind K) Q) : jE ((jlet v F).bind K) Q := k
theorem jS_ck0 {a : Int} {x : Option R} (h : 0 ≤ a) (k : jE x Q) : jE (jck0 a x) Q := by rw [jck0_in h]; exact k
theorem jS_ck0B {a : Int} {x : Option S} {K : S → Option R} (h : 0 ≤ a) (k : jE (x.bind K) Q) : jE ((jck0 a x).bind K) Q := by rw [jck0_in h]; exact k
theorem jS_inr {x : Option R} {Q : S ⊕ R → Prop} (k : jE x fun r => Q (.inr r)) : jE (jinr x : Option (S ⊕ R)) Q := jE_jinr.mpr k
theorem jS_call {x : Option S} {K : S → Option R} (h : jE x P) (k : ∀ r, P r → jE (K r) Q) : jE (x.bind K) Q := jE_bind.mpr (jE_mono h k)
theorem jS_e {x : Option S} {v : S} {K : S → Option R} (h : x = some v) (k : jE (K v) Q) : jE (x.bind K) Q := by rw [h]; exact k
theorem jS_to {x y : Option R} (h : x = y) (k : jE y Q) : jE x Q := by rw [h]; exact k
theorem jS_end {r : R} (h : Q r) : jE (some r) Q := jE_some.mpr h
theorem jS_two {x : Option R} {y : Option S} {Q : R → S → Prop} (h : jE x fun r => jE y fun q => Q r q) : jE2 x y Q := h
/-- a loop that counts -/
theorem jS_for {C : List Int → jS → Option ((jS × List Int) ⊕ R)} (J : Int → jS → Prop) (V : Int → List Int) (lo hi : Int) (hn : lo ≤ hi) {s : jS} (h : J lo s)
    (h1 : ∀ k s, lo ≤ k → k < hi → J k s → jE (C (V k) s) fun x => match x with
      | .inl q => q.2 = V (k + 1) ∧ J (k + 1) q.1
      | .inr r => Q r)
    (h2 : ∀ s, J hi s → jE (C (V hi) s) fun x => match x with
      | .inl _ => False
      | .inr r => Q r) : jE (jlpW C (V lo) s) Q := by
  have key : ∀ (m : Nat) (k : Int) (s : jS), lo ≤ k → k ≤ hi → hi - k = m → J k s → jE (jlpW C (V k) s) Q := by
    intro m
    induction m with
    | zero =>
      intro k s h0 hk hm hJ
      have : k = hi := by omega
      subst this
      obtain ⟨x, e, q⟩ := h2 s hJ
      rw [jlpW_st, e]
      match x, q with
      | .inr r, q => exact jE_some.mpr q
    | succ m ih =>
      intro k s h0 hk hm hJ
      obtain ⟨x, e, q⟩ := h1 k s h0 (by omega) hJ
      rw [jlpW_st, e]
      match x, q with
      | .inl ⟨t, l⟩, q =>
        obtain ⟨q1, q2⟩ := q
        show jE (jlpW C l t) Q
        rw [show l = V (k + 1) from q1]
        exact ih (k + 1) t (by omega) (by omega) (by omega) q2
      | .inr r, q => exact jE_some.mpr q
  exact key (hi - lo).toNat lo s (Int.le_refl _) hn (by omega) h
theorem jS_forR {C : List Int → jS → Option (List Int ⊕ R)} {s : jS} (J : Int → Int → Prop) (V : Int → Int → List Int) (lo hi : Int) (hn : lo ≤ hi) {z : Int} (h : J lo z)
    (h1 : ∀ k z, lo ≤ k → k < hi → J k z → jE (C (V k z) s) fun x => match x with
      | .inl q => ∃ z', q = V (k + 1) z' ∧ J (k + 1) z'
      | .inr r => Q r)
    (h2 : ∀ z, J hi z → jE (C (V hi z) s) fun x => match x with
      | .inl _ => False
      | .inr r => Q r) : jE (jlpR C (V lo z) s) Q := by
  have key : ∀ (m : Nat) (k z : Int), lo ≤ k → k ≤ hi → hi - k = m → J k z → jE (jlpR C (V k z) s) Q := by
    intro m
    induction m with
    | zero =>
      intro k z h0 hk hm hJ
      have : k = hi := by omega
      subst this
      obtain ⟨x, e, q⟩ := h2 z hJ
      rw [jlpR_st, e]
      match x, q with
      | .inr r, q => exact jE_some.mpr q
    | succ m ih =>
      intro k z h0 hk hm hJ
      obtain ⟨x, e, q⟩ := h1 k z h0 (by omega) hJ
      rw [jlpR_st, e]
      match x, q with
      | .inl l, q =>
        obtain ⟨z', q1, q2⟩ := q
        show jE (jlpR C l s) Q
        rw [show l = V (k + 1) z' from q1]
        exact ih (k + 1) z' (by omega) (by omega) (by omega) q2
      | .inr r, q => exact jE_some.mpr q
  exact key (hi - lo).toNat lo z (Int.le_refl _) hn (by omega) h
/-- a loop that counts, with one number carried along -/
theorem jS_for1 {C : List Int → jS → Option ((jS × List Int) ⊕ R)} (J : Int → Int → jS → Prop) (V : Int → Int → List Int) (lo hi : Int) (hn : lo ≤ hi) {s : jS} {z : Int} (h : J lo z s)
    (h1 : ∀ k z s, lo ≤ k → k < hi → J k z s → jE (C (V k z) s) fun x => match x with
      | .inl q => ∃ z', q.2 = V (k + 1) z' ∧ J (k + 1) z' q.1
      | .inr r => Q r)
    (h2 : ∀ z s, J hi z s → jE (C (V hi z) s) fun x => match x with
      | .inl _ => False
      | .inr r => Q r) : jE (jlpW C (V lo z) s) Q := by
  have key : ∀ (m : Nat) (k z : Int) (s : jS), lo ≤ k → k ≤ hi → hi - k = m → J k z s → jE (jlpW C (V k z) s) Q := by
    intro m
    induction m with
    | zero =>
      intro k z s h0 hk hm hJ
      have : k = hi := by omega
      subst this
      obtain ⟨x, e, q⟩ := h2 z s hJ
      rw [jlpW_st, e]
      match x, q with
      | .inr r, q => exact jE_some.mpr q
    | succ m ih =>
      intro k z s h0 hk hm hJ
      obtain ⟨x, e, q⟩ := h1 k z s h0 (by omega) hJ
      rw [jlpW_st, e]
      match x, q with
      | .inl ⟨t, l⟩, q =>
        obtain ⟨z', q1, q2⟩ := q
        show jE (jlpW C l t) Q
        rw [show l = V (k + 1) z' from q1]
        exact ih (k + 1) z' t (by omega) (by omega) (by omega) q2
      | .inr r, q => exact jE_some.mpr q
  exact key (hi - lo).toNat lo z s (Int.le_refl _) hn (by omega) h
theorem I_rem_0 {v : Int} (hv : -2147483648 ≤ v ∧ v ≤ 2147483647) {y : Int} (h2 : 0 < y) (h3 : y ≤ 2147483647) : I_rem v y = 0 ↔ v % y = 0 := by
  rw [I_rem_z hv h2 h3]
  by_cases h : 0 ≤ v
  · rw [if_pos h]
  · rw [if_neg h]
    have e : -(-v % y) = 0 ↔ -v % y = 0 := by omega
    rw [e, ← Int.dvd_iff_emod_eq_zero, ← Int.dvd_iff_emod_eq_zero, Int.dvd_neg]
theorem W16_in {v : Int} (h0 : -32768 ≤ v) (h1 : v ≤ 32767) : W16 v = v := by
  rw [w16_p]
  exact Int.bmod_eq_of_le (by omega) (by omega)
theorem jf_pos {s : jS} {c a k v c' a' k' : Int} (h : c' = c ∧ a' = a ∧ k' = k) : jf (jp s c a k v) c' a' k' = v := by rw [jf_jp, if_pos h]
theorem jf_neg {s : jS} {c a k v c' a' k' : Int} (h : ¬ (c' = c ∧ a' = a ∧ k' = k)) : jf (jp s c a k v) c' a' k' = jf s c' a' k' := by rw [jf_jp, if_neg h]
theorem W32_c (x : Int) : W32 x % 4294967296 = x % 4294967296 := W32_mod x
theorem W32_aL (z c : Int) : W32 (W32 z + c) = W32 (z + c) := W32_cong (by have := W32_mod z; omega)
theorem W32_aR (z c : Int) : W32 (c + W32 z) = W32 (c + z) := W32_cong (by have := W32_mod z; omega)
theorem W32_sL (z c : Int) : W32 (W32 z - c) = W32 (z - c) := W32_cong (by have := W32_mod z; omega)
theorem W32_sR (z c : Int) : W32 (c - W32 z) = W32 (c - z) := W32_cong (by have := W32_mod z; omega)
theorem W32_mR (z c : Int) : W32 (c * W32 z) = W32 (c * z) := W32_cong (by rw [Int.mul_emod, W32_mod, ← Int.mul_emod])
theorem W32_mL (z c : Int) : W32 (W32 z * c) = W32 (z * c) := W32_cong (by rw [Int.mul_emod, W32_mod, ← Int.mul_emod])
end jRun
