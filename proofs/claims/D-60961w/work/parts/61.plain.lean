/-! printed by gen_plain.py: what a run gives -/
section jPlain
def jE {R : Type} (x : Option R) (Q : R → Prop) : Prop := ∃ r, x = some r ∧ Q r
variable {R S : Type} {Q : R → Prop}
theorem jE_some {r : R} : jE (some r) Q ↔ Q r := ⟨fun ⟨_, h, q⟩ => (by cases h; exact q), fun h => ⟨_, rfl, h⟩⟩
theorem jE_none : jE (none : Option R) Q ↔ False := ⟨fun ⟨_, h, _⟩ => (nomatch h), fun h => h.elim⟩
theorem jE_bind {x : Option S} {f : S → Option R} : jE (x.bind f) Q ↔ jE x fun y => jE (f y) Q := by
  cases x with
  | none => exact ⟨fun ⟨_, h, _⟩ => (nomatch h), fun ⟨_, h, _⟩ => (nomatch h)⟩
  | some y => rw [jE_some]; rfl
theorem jE_ite {c : Prop} [Decidable c] {a b : Option R} : jE (if c then a else b) Q ↔ (c → jE a Q) ∧ (¬ c → jE b Q) := by
  by_cases h : c <;> simp [h]
theorem jE_mono {x : Option R} {Q' : R → Prop} (h : jE x Q) (g : ∀ r, Q r → Q' r) : jE x Q' := by
  obtain ⟨r, e, q⟩ := h; exact ⟨r, e, g r q⟩
theorem jE_eq {x : Option R} {r : R} (h : x = some r) : jE x Q ↔ Q r := by rw [h, jE_some]
/-- a step with a condition -/
theorem jE_cond {c : Prop} [Decidable c] {r : R} : jE (if c then some r else none) Q ↔ c ∧ Q r := by
  by_cases h : c
  · rw [if_pos h, jE_some]; exact ⟨fun q => ⟨h, q⟩, fun q => q.2⟩
  · rw [if_neg h, jE_none]; exact ⟨fun q => q.elim, fun q => h q.1⟩
theorem jE_condX {c : Prop} [Decidable c] {x : Option R} : jE (if c then x else none) Q ↔ c ∧ jE x Q := by
  by_cases h : c
  · rw [if_pos h]; exact ⟨fun q => ⟨h, q⟩, fun q => q.2⟩
  · rw [if_neg h, jE_none]; exact ⟨fun q => q.elim, fun q => h q.1⟩
theorem jE_jls {s : jS} {f : jS → Option R} : jE (jls s f) Q ↔ jE (f s) Q := Iff.rfl
theorem jE_jlet {v : Int} {f : Int → Option R} : jE (jlet v f) Q ↔ jE (f v) Q := Iff.rfl
theorem jE_jinr {x : Option R} {Q : S ⊕ R → Prop} : jE (jinr x) Q ↔ jE x fun r => Q (.inr r) := by
  unfold jinr; rw [jE_bind]; simp only [jE_some]
theorem jE_jst {s : jS} {c a n i v : Int} {Q : jS → Prop} : jE (jst s c a n i v) Q ↔ (0 ≤ i ∧ i < n) ∧ Q (jp s c a i v) := jE_cond
theorem jE_jlt {s : jS} {c a n i : Int} {Q : Int → Prop} : jE (jlt s c a n i) Q ↔ (0 ≤ i ∧ i < n) ∧ Q (jf s c a i) := jE_cond
theorem jE_jix {n i v : Int} {Q : Int → Prop} : jE (jix n i v) Q ↔ (0 ≤ i ∧ i < n) ∧ Q v := jE_cond
theorem jE_jzb {v : Int} {Q : Int → Prop} : jE (jzb v) Q ↔ (v = 0 ∨ v = 1) ∧ Q v := jE_cond
theorem jE_jbb {v : Int} {Q : Int → Prop} : jE (jbb v) Q ↔ (-128 ≤ v ∧ v ≤ 127) ∧ Q v := jE_cond
theorem jE_jdv {y v : Int} {Q : Int → Prop} : jE (jdv y v) Q ↔ ¬ y = 0 ∧ Q v := by
  unfold jdv; by_cases h : y = 0
  · rw [if_pos h, jE_none]; exact ⟨fun q => q.elim, fun q => q.1 h⟩
  · rw [if_neg h, jE_some]; exact ⟨fun q => ⟨h, q⟩, fun q => q.2⟩
theorem jE_jck0 {a : Int} {x : Option R} : jE (jck0 a x) Q ↔ 0 ≤ a ∧ jE x Q := jE_condX
theorem jE_jct {s : jS} {t : Nat} {v : Int} {x : Option R} : jE (jct s t v x) Q ↔ jTt s t v ∧ jE x Q := by
  unfold jct; exact @jE_condX R Q _ (Classical.propDecidable _) x
theorem jE_jkk {s : jS} {L : List Int} {a : Int} {x : Option R} : jE (jkk s L a x) Q ↔ (0 ≤ a ∧ jK s a ∈ L) ∧ jE x Q := jE_condX
theorem jE_jth {b : Bool} {x y : Option R} : jE (jth b x y) Q ↔ (b = true → jE x Q) ∧ (b = false → jE y Q) := by
  cases b <;> simp [jth]
theorem jE_jrd {s : jS} {c a k : Int} {Q : Int → Prop} : jE (jrd s c a k) Q ↔ (0 ≤ a ∧ jK s a = c) ∧ Q (jf s c a k) := jE_cond
theorem jE_jwr {s : jS} {c a k v : Int} {Q : jS → Prop} : jE (jwr s c a k v) Q ↔ (0 ≤ a ∧ jK s a = c) ∧ Q (jp s c a k v) := jE_cond
theorem jE_jld {s : jS} {t a i : Int} {Q : Int → Prop} : jE (jld s t a i) Q ↔ (0 ≤ a ∧ jK s a = t ∧ 0 ≤ i ∧ i < jN s a) ∧ Q (jf s t a i) := jE_cond
theorem jE_jsa {s : jS} {t a i v : Int} {Q : jS → Prop} : jE (jsa s t a i v) Q ↔ (0 ≤ a ∧ jK s a = t ∧ 0 ≤ i ∧ i < jN s a) ∧ Q (jp s t a i v) := jE_cond
theorem jE_jln {s : jS} {t a : Int} {Q : Int → Prop} : jE (jln s t a) Q ↔ (0 ≤ a ∧ jK s a = t) ∧ Q (jN s a) := jE_cond
theorem jE_jldE {s : jS} {t a i : Int} {Q : Int → Prop} : jE (jldE s t a i) Q ↔ (0 ≤ a ∧ (jK s a = t ∨ jK s a = 3000 + t) ∧ 0 ≤ i ∧ i < jN s a) ∧ Q (jF s a i) := jE_cond
theorem jE_jlnE {s : jS} {t a : Int} {Q : Int → Prop} : jE (jlnE s t a) Q ↔ (0 ≤ a ∧ (jK s a = t ∨ jK s a = 3000 + t)) ∧ Q (jN s a) := jE_cond
theorem jE_jnw {s : jS} {c nf : Int} {f : Int → Int} {Q : jS × Int → Prop} : jE (jnw s c nf f) Q ↔ (0 ≤ jn s ∧ jn s + 1 ≤ jlN s ∧ ju s + nf ≤ jlU s) ∧ Q (jmk s c 0 f nf, jn s) := jE_cond
theorem jE_jna {s : jS} {t n v : Int} {Q : jS × Int → Prop} : jE (jna s t n v) Q ↔ (0 ≤ n ∧ n ≤ 1000000 ∧ jn s + 1 ≤ jlN s ∧ ju s + n ≤ jlU s) ∧ Q (jmk s t n (fun _ => v) n, jn s) := jE_cond
theorem jE_jnx {s : jS} {k : Int} {Q : jS × Int → Prop} : jE (jnx s k) Q ↔ (0 ≤ jn s ∧ jn s + 1 ≤ jlN s ∧ ju s + 6 ≤ jlU s) ∧ Q (jmk s k 0 (fun _ => 0) 6, jn s) := jE_cond
theorem jE_jas {s : jS} {t c a i v : Int} {Q : jS → Prop} : jE (jas s t c a i v) Q ↔ (0 ≤ a ∧ jK s a = t ∧ 0 ≤ i ∧ i < jN s a ∧ (v = -1 ∨ 0 ≤ v ∧ jK s v = c)) ∧ Q (jp s t a i v) := jE_cond
theorem jE_jasL {s : jS} {t a i v : Int} {L : List Int} {Q : jS → Prop} : jE (jasL s t L a i v) Q ↔ (0 ≤ a ∧ jK s a = t ∧ 0 ≤ i ∧ i < jN s a ∧ (v = -1 ∨ 0 ≤ v ∧ jK s v ∈ L)) ∧ Q (jp s t a i v) := jE_cond
theorem jE_jav {s : jS} {c v : Int} {Q : Int → Prop} : jE (jav s c v) Q ↔ (v = -1 ∨ 0 ≤ v ∧ jK s v = c) ∧ Q v := jE_cond
/-- loops -/
theorem jE_loop {S R : Type} {Q : R → Prop} {body : S → Option (S ⊕ R)} (I : S → Prop) (m : S → Int) (step : ∀ s, I s → jE (body s) fun x => match x with
    | .inl q => I q ∧ 0 ≤ m s ∧ m q < m s
    | .inr r => Q r) {s : S} (h : I s) : jE (jloop body s) Q := by
  have key : ∀ (n : Nat) (s : S), I s → m s < n → jE (jloop body s) Q := by
    intro n
    induction n with
    | zero =>
      intro s hI hm
      obtain ⟨x, e, q⟩ := step s hI
      cases x with
      | inl q' => exact absurd q.2.1 (by omega)
      | inr r => exact ⟨r, jloop_r e, q⟩
    | succ n ih =>
      intro s hI hm
      obtain ⟨x, e, q⟩ := step s hI
      cases x with
      | inl q' =>
        obtain ⟨r, e', q''⟩ := ih q' q.1 (by have := q.2; omega)
        exact ⟨r, (jloop_l e).trans e', q''⟩
      | inr r => exact ⟨r, jloop_r e, q⟩
  exact key (m s + 1).toNat s h (by omega)
/-- a heap: reads behind writes -/
theorem jf_jp (s : jS) (c a k v c' a' k' : Int) : jf (jp s c a k v) c' a' k' = if c' = c ∧ a' = a ∧ k' = k then v else jf s c' a' k' := rfl
theorem jp_K (s : jS) (c a k v : Int) : jK (jp s c a k v) = jK s := rfl
theorem jp_N (s : jS) (c a k v : Int) : jN (jp s c a k v) = jN s := rfl
theorem jp_n (s : jS) (c a k v : Int) : jn (jp s c a k v) = jn s := rfl
theorem jp_u (s : jS) (c a k v : Int) : ju (jp s c a k v) = ju s := rfl
theorem jp_lN (s : jS) (c a k v : Int) : jlN (jp s c a k v) = jlN s := rfl
theorem jp_lU (s : jS) (c a k v : Int) : jlU (jp s c a k v) = jlU s := rfl
theorem jp_c (s : jS) (c a k v : Int) : jc (jp s c a k v) = jc s := rfl
/-- nothing but contents differs -/
def jSm (s t : jS) : Prop := jK t = jK s ∧ jN t = jN s ∧ jn t = jn s ∧ ju t = ju s ∧ jlN t = jlN s ∧ jlU t = jlU s ∧ jc t = jc s
theorem jSm.rfl {s : jS} : jSm s s := ⟨Eq.refl _, Eq.refl _, Eq.refl _, Eq.refl _, Eq.refl _, Eq.refl _, Eq.refl _⟩
theorem jSm.jp {s t : jS} {c a k v : Int} (h : jSm s t) : jSm s (jp t c a k v) := h
theorem jSm.trans {s t u : jS} (h : jSm s t) (g : jSm t u) : jSm s u := ⟨g.1.trans h.1, g.2.1.trans h.2.1, g.2.2.1.trans h.2.2.1, g.2.2.2.1.trans h.2.2.2.1, g.2.2.2.2.1.trans h.2.2.2.2.1, g.2.2.2.2.2.1.trans h.2.2.2.2.2.1, g.2.2.2.2.2.2.trans h.2.2.2.2.2.2⟩
/-- a heap with other contents -/
def jw (s : jS) (g : Int → Int → Int → Int) : jS := (jK s, jN s, g, jn s, ju s, jlN s, jlU s, jc s)
theorem jf_jw (s : jS) (g : Int → Int → Int → Int) : jf (jw s g) = g := rfl
theorem jw_jw (s : jS) (g h : Int → Int → Int → Int) : jw (jw s g) h = jw s h := rfl
theorem jw_self (s : jS) : jw s (jf s) = s := rfl
theorem jp_jw (s : jS) (g : Int → Int → Int → Int) (c a k v : Int) : jp (jw s g) c a k v = jw s (fun c' a' k' => if c' = c ∧ a' = a ∧ k' = k then v else g c' a' k') := rfl
/-- a row of an array gets new contents -/
def jfil (s : jS) (c a lo n : Int) (e : Int → Int) : jS := jw s (fun c' a' j => if c' = c ∧ a' = a ∧ lo ≤ j ∧ j < lo + n then e (j - lo) else jf s c' a' j)
theorem jf_jfil (s : jS) (c a lo n : Int) (e : Int → Int) (c' a' j : Int) : jf (jfil s c a lo n e) c' a' j = if c' = c ∧ a' = a ∧ lo ≤ j ∧ j < lo + n then e (j - lo) else jf s c' a' j := rfl
theorem jw_ext {s : jS} {g h : Int → Int → Int → Int} (e : ∀ c a k, g c a k = h c a k) : jw s g = jw s h := by
  have : g = h := by funext c a k; exact e c a k
  rw [this]
theorem jfil_0 (s : jS) (c a lo n : Int) (e : Int → Int) (hn : n ≤ 0) : jfil s c a lo n e = s := by
  unfold jfil
  rw [jw_ext (h := jf s), jw_self]
  intro c' a' k
  rw [if_neg (by omega)]
theorem jfil_s {s : jS} {c a lo k : Int} {e : Int → Int} (hk : 0 ≤ k) : jp (jfil s c a lo k e) c a (lo + k) (e k) = jfil s c a lo (k + 1) e := by
  unfold jfil
  rw [jp_jw]
  apply jw_ext
  intro c' a' j
  by_cases h : c' = c ∧ a' = a ∧ j = lo + k
  · obtain ⟨rfl, rfl, rfl⟩ := h
    rw [if_pos ⟨rfl, rfl, rfl⟩, if_pos ⟨rfl, rfl, by omega, by omega⟩]
    congr 1; omega
  · rw [if_neg h]
    by_cases g : c' = c ∧ a' = a ∧ lo ≤ j ∧ j < lo + k
    · rw [if_pos g, if_pos ⟨g.1, g.2.1, g.2.2.1, by omega⟩]
    · rw [if_neg g, if_neg (fun q => ?_)]
      exact g ⟨q.1, q.2.1, q.2.2.1, by
        by_cases e : j = lo + k
        · exact absurd ⟨q.1, q.2.1, e⟩ h
        · omega⟩
/-- a loop that fills a row -/
theorem jloop_fill {R : Type} {C : List Int → jS → Option ((jS × List Int) ⊕ R)} (V : Int → List Int) (s : jS) (c a lo n : Int) (e : Int → Int) (hn : 0 ≤ n)
    (h1 : ∀ k, 0 ≤ k → k < n → C (V k) (jfil s c a lo k e) = some (.inl (jp (jfil s c a lo k e) c a (lo + k) (e k), V (k + 1)))) {r : Option R} (h2 : C (V n) (jfil s c a lo n e) = jinr r) : jlpW C (V 0) s = r := by
  have key : ∀ (m : Nat) (k : Int), 0 ≤ k → k ≤ n → n - k = m → jlpW C (V k) (jfil s c a lo k e) = r := by
    intro m
    induction m with
    | zero =>
      intro k h0 hk hm
      have : k = n := by omega
      subst this
      unfold jlpW
      rw [jloop_eq]
      show (C (V k) (jfil s c a lo k e)).bind _ = _
      rw [h2]
      cases r <;> rfl
    | succ m ih =>
      intro k h0 hk hm
      have h := h1 k h0 (by omega)
      unfold jlpW
      rw [jloop_l (body := fun q : jS × List Int => C q.2 q.1) (s := (jfil s c a lo k e, V k)) h]
      have := ih (k + 1) (by omega) (by omega) (by omega)
      rw [jfil_s h0]
      exact this
  have := key n.toNat 0 (by omega) hn (by omega)
  rw [jfil_0 _ _ _ _ _ _ (by omega)] at this
  exact this
def jW1 {R : Type} (P : jS → Int → Prop) (Q : R → Prop) : (jS × List Int) ⊕ R → Prop
  | .inl (t, [y0]) => P t y0
  | .inl _ => False
  | .inr r => Q r
theorem jW1_l {P : jS → Int → Prop} {t : jS} {x0 : Int} : jW1 P Q (.inl (t, [x0])) ↔ P t x0 := Iff.rfl
theorem jW1_r {P : jS → Int → Prop} {r : R} : jW1 P Q (.inr r) ↔ Q r := Iff.rfl
theorem jE_W1 {b : jS → Int → Option ((jS × List Int) ⊕ R)} (I : jS → Int → Prop) (m : jS → Int → Int) (step : ∀ s x0, I s x0 → jE (b s x0) (jW1 (fun t y0 => I t y0 ∧ 0 ≤ m s x0 ∧ m t y0 < m s x0) Q)) {s : jS} {x0 : Int} (h : I s x0) : jE (jlpW (jc1 b) [x0] s) Q := by
  refine jE_loop (I := fun q => ∃ y0, q.2 = [y0] ∧ I q.1 y0) (m := fun q => match q.2 with | [y0] => m q.1 y0 | _ => 0) ?_ ⟨x0, rfl, h⟩
  rintro ⟨t, _⟩ ⟨y0, rfl, hI⟩
  refine jE_mono (step t y0 hI) ?_
  rintro (⟨t1, l⟩ | r) hr
  · match l, hr with
    | [z0], hr => exact ⟨⟨z0, rfl, hr.1⟩, hr.2⟩
  · exact hr
def jR1 {R : Type} (P : Int → Prop) (Q : R → Prop) : List Int ⊕ R → Prop
  | .inl [y0] => P y0
  | .inl _ => False
  | .inr r => Q r
theorem jR1_l {P : Int → Prop} {x0 : Int} : jR1 P Q (.inl [x0]) ↔ P x0 := Iff.rfl
theorem jR1_r {P : Int → Prop} {r : R} : jR1 P Q (.inr r) ↔ Q r := Iff.rfl
theorem jE_R1 {s : jS} {b : jS → Int → Option (List Int ⊕ R)} (I : Int → Prop) (m : Int → Int) (step : ∀ x0, I x0 → jE (b s x0) (jR1 (fun y0 => I y0 ∧ 0 ≤ m x0 ∧ m y0 < m x0) Q)) {x0 : Int} (h : I x0) : jE (jlpR (jc1 b) [x0] s) Q := by
  refine jE_loop (I := fun q => ∃ y0, q = [y0] ∧ I y0) (m := fun q => match q with | [y0] => m y0 | _ => 0) ?_ ⟨x0, rfl, h⟩
  rintro _ ⟨y0, rfl, hI⟩
  refine jE_mono (step y0 hI) ?_
  rintro (l | r) hr
  · match l, hr with
    | [z0], hr => exact ⟨⟨z0, rfl, hr.1⟩, hr.2⟩
  · exact hr
def jW2 {R : Type} (P : jS → Int → Int → Prop) (Q : R → Prop) : (jS × List Int) ⊕ R → Prop
  | .inl (t, [y0, y1]) => P t y0 y1
  | .inl _ => False
  | .inr r => Q r
theorem jW2_l {P : jS → Int → Int → Prop} {t : jS} {x0 x1 : Int} : jW2 P Q (.inl (t, [x0, x1])) ↔ P t x0 x1 := Iff.rfl
theorem jW2_r {P : jS → Int → Int → Prop} {r : R} : jW2 P Q (.inr r) ↔ Q r := Iff.rfl
theorem jE_W2 {b : jS → Int → Int → Option ((jS × List Int) ⊕ R)} (I : jS → Int → Int → Prop) (m : jS → Int → Int → Int) (step : ∀ s x0 x1, I s x0 x1 → jE (b s x0 x1) (jW2 (fun t y0 y1 => I t y0 y1 ∧ 0 ≤ m s x0 x1 ∧ m t y0 y1 < m s x0 x1) Q)) {s : jS} {x0 x1 : Int} (h : I s x0 x1) : jE (jlpW (jc2 b) [x0, x1] s) Q := by
  refine jE_loop (I := fun q => ∃ y0 y1, q.2 = [y0, y1] ∧ I q.1 y0 y1) (m := fun q => match q.2 with | [y0, y1] => m q.1 y0 y1 | _ => 0) ?_ ⟨x0, x1, rfl, h⟩
  rintro ⟨t, _⟩ ⟨y0, y1, rfl, hI⟩
  refine jE_mono (step t y0 y1 hI) ?_
  rintro (⟨t1, l⟩ | r) hr
  · match l, hr with
    | [z0, z1], hr => exact ⟨⟨z0, z1, rfl, hr.1⟩, hr.2⟩
  · exact hr
def jR2 {R : Type} (P : Int → Int → Prop) (Q : R → Prop) : List Int ⊕ R → Prop
  | .inl [y0, y1] => P y0 y1
  | .inl _ => False
  | .inr r => Q r
theorem jR2_l {P : Int → Int → Prop} {x0 x1 : Int} : jR2 P Q (.inl [x0, x1]) ↔ P x0 x1 := Iff.rfl
theorem jR2_r {P : Int → Int → Prop} {r : R} : jR2 P Q (.inr r) ↔ Q r := Iff.rfl
theorem jE_R2 {s : jS} {b : jS → Int → Int → Option (List Int ⊕ R)} (I : Int → Int → Prop) (m : Int → Int → Int) (step : ∀ x0 x1, I x0 x1 → jE (b s x0 x1) (jR2 (fun y0 y1 => I y0 y1 ∧ 0 ≤ m x0 x1 ∧ m y0 y1 < m x0 x1) Q)) {x0 x1 : Int} (h : I x0 x1) : jE (jlpR (jc2 b) [x0, x1] s) Q := by
  refine jE_loop (I := fun q => ∃ y0 y1, q = [y0, y1] ∧ I y0 y1) (m := fun q => match q with | [y0, y1] => m y0 y1 | _ => 0) ?_ ⟨x0, x1, rfl, h⟩
  rintro _ ⟨y0, y1, rfl, hI⟩
  refine jE_mono (step y0 y1 hI) ?_
  rintro (l | r) hr
  · match l, hr with
    | [z0, z1], hr => exact ⟨⟨z0, z1, rfl, hr.1⟩, hr.2⟩
  · exact hr
def jW3 {R : Type} (P : jS → Int → Int → Int → Prop) (Q : R → Prop) : (jS × List Int) ⊕ R → Prop
  | .inl (t, [y0, y1, y2]) => P t y0 y1 y2
  | .inl _ => False
  | .inr r => Q r
theorem jW3_l {P : jS → Int → Int → Int → Prop} {t : jS} {x0 x1 x2 : Int} : jW3 P Q (.inl (t, [x0, x1, x2])) ↔ P t x0 x1 x2 := Iff.rfl
theorem jW3_r {P : jS → Int → Int → Int → Prop} {r : R} : jW3 P Q (.inr r) ↔ Q r := Iff.rfl
theorem jE_W3 {b : jS → Int → Int → Int → Option ((jS × List Int) ⊕ R)} (I : jS → Int → Int → Int → Prop) (m : jS → Int → Int → Int → Int) (step : ∀ s x0 x1 x2, I s x0 x1 x2 → jE (b s x0 x1 x2) (jW3 (fun t y0 y1 y2 => I t y0 y1 y2 ∧ 0 ≤ m s x0 x1 x2 ∧ m t y0 y1 y2 < m s x0 x1 x2) Q)) {s : jS} {x0 x1 x2 : Int} (h : I s x0 x1 x2) : jE (jlpW (jc3 b) [x0, x1, x2] s) Q := by
  refine jE_loop (I := fun q => ∃ y0 y1 y2, q.2 = [y0, y1, y2] ∧ I q.1 y0 y1 y2) (m := fun q => match q.2 with | [y0, y1, y2] => m q.1 y0 y1 y2 | _ => 0) ?_ ⟨x0, x1, x2, rfl, h⟩
  rintro ⟨t, _⟩ ⟨y0, y1, y2, rfl, hI⟩
  refine jE_mono (step t y0 y1 y2 hI) ?_
  rintro (⟨t1, l⟩ | r) hr
  · match l, hr with
    | [z0, z1, z2], hr => exact ⟨⟨z0, z1, z2, rfl, hr.1⟩, hr.2⟩
  · exact hr
def jR3 {R : Type} (P : Int → Int → Int → Prop) (Q : R → Prop) : List Int ⊕ R → Prop
  | .inl [y0, y1, y2] => P y0 y1 y2
  | .inl _ => False
  | .inr r => Q r
theorem jR3_l {P : Int → Int → Int → Prop} {x0 x1 x2 : Int} : jR3 P Q (.inl [x0, x1, x2]) ↔ P x0 x1 x2 := Iff.rfl
theorem jR3_r {P : Int → Int → Int → Prop} {r : R} : jR3 P Q (.inr r) ↔ Q r := Iff.rfl
theorem jE_R3 {s : jS} {b : jS → Int → Int → Int → Option (List Int ⊕ R)} (I : Int → Int → Int → Prop) (m : Int → Int → Int → Int) (step : ∀ x0 x1 x2, I x0 x1 x2 → jE (b s x0 x1 x2) (jR3 (fun y0 y1 y2 => I y0 y1 y2 ∧ 0 ≤ m x0 x1 x2 ∧ m y0 y1 y2 < m x0 x1 x2) Q)) {x0 x1 x2 : Int} (h : I x0 x1 x2) : jE (jlpR (jc3 b) [x0, x1, x2] s) Q := by
  refine jE_loop (I := fun q => ∃ y0 y1 y2, q = [y0, y1, y2] ∧ I y0 y1 y2) (m := fun q => match q with | [y0, y1, y2] => m y0 y1 y2 | _ => 0) ?_ ⟨x0, x1, x2, rfl, h⟩
  rintro _ ⟨y0, y1, y2, rfl, hI⟩
  refine jE_mono (step y0 y1 y2 hI) ?_
  rintro (l | r) hr
  · match l, hr with
    | [z0, z1, z2], hr => exact ⟨⟨z0, z1, z2, rfl, hr.1⟩, hr.2⟩
  · exact hr
def jW4 {R : Type} (P : jS → Int → Int → Int → Int → Prop) (Q : R → Prop) : (jS × List Int) ⊕ R → Prop
  | .inl (t, [y0, y1, y2, y3]) => P t y0 y1 y2 y3
  | .inl _ => False
  | .inr r => Q r
theorem jW4_l {P : jS → Int → Int → Int → Int → Prop} {t : jS} {x0 x1 x2 x3 : Int} : jW4 P Q (.inl (t, [x0, x1, x2, x3])) ↔ P t x0 x1 x2 x3 := Iff.rfl
theorem jW4_r {P : jS → Int → Int → Int → Int → Prop} {r : R} : jW4 P Q (.inr r) ↔ Q r := Iff.rfl
theorem jE_W4 {b : jS → Int → Int → Int → Int → Option ((jS × List Int) ⊕ R)} (I : jS → Int → Int → Int → Int → Prop) (m : jS → Int → Int → Int → Int → Int) (step : ∀ s x0 x1 x2 x3, I s x0 x1 x2 x3 → jE (b s x0 x1 x2 x3) (jW4 (fun t y0 y1 y2 y3 => I t y0 y1 y2 y3 ∧ 0 ≤ m s x0 x1 x2 x3 ∧ m t y0 y1 y2 y3 < m s x0 x1 x2 x3) Q)) {s : jS} {x0 x1 x2 x3 : Int} (h : I s x0 x1 x2 x3) : jE (jlpW (jc4 b) [x0, x1, x2, x3] s) Q := by
  refine jE_loop (I := fun q => ∃ y0 y1 y2 y3, q.2 = [y0, y1, y2, y3] ∧ I q.1 y0 y1 y2 y3) (m := fun q => match q.2 with | [y0, y1, y2, y3] => m q.1 y0 y1 y2 y3 | _ => 0) ?_ ⟨x0, x1, x2, x3, rfl, h⟩
  rintro ⟨t, _⟩ ⟨y0, y1, y2, y3, rfl, hI⟩
  refine jE_mono (step t y0 y1 y2 y3 hI) ?_
  rintro (⟨t1, l⟩ | r) hr
  · match l, hr with
    | [z0, z1, z2, z3], hr => exact ⟨⟨z0, z1, z2, z3, rfl, hr.1⟩, hr.2⟩
  · exact hr
def jR4 {R : Type} (P : Int → Int → Int → Int → Prop) (Q : R → Prop) : List Int ⊕ R → Prop
  | .inl [y0, y1, y2, y3] => P y0 y1 y2 y3
  | .inl _ => False
  | .inr r => Q r
theorem jR4_l {P : Int → Int → Int → Int → Prop} {x0 x1 x2 x3 : Int} : jR4 P Q (.inl [x0, x1, x2, x3]) ↔ P x0 x1 x2 x3 := Iff.rfl
theorem jR4_r {P : Int → Int → Int → Int → Prop} {r : R} : jR4 P Q (.inr r) ↔ Q r := Iff.rfl
theorem jE_R4 {s : jS} {b : jS → Int → Int → Int → Int → Option (List Int ⊕ R)} (I : Int → Int → Int → Int → Prop) (m : Int → Int → Int → Int → Int) (step : ∀ x0 x1 x2 x3, I x0 x1 x2 x3 → jE (b s x0 x1 x2 x3) (jR4 (fun y0 y1 y2 y3 => I y0 y1 y2 y3 ∧ 0 ≤ m x0 x1 x2 x3 ∧ m y0 y1 y2 y3 < m x0 x1 x2 x3) Q)) {x0 x1 x2 x3 : Int} (h : I x0 x1 x2 x3) : jE (jlpR (jc4 b) [x0, x1, x2, x3] s) Q := by
  refine jE_loop (I := fun q => ∃ y0 y1 y2 y3, q = [y0, y1, y2, y3] ∧ I y0 y1 y2 y3) (m := fun q => match q with | [y0, y1, y2, y3] => m y0 y1 y2 y3 | _ => 0) ?_ ⟨x0, x1, x2, x3, rfl, h⟩
  rintro _ ⟨y0, y1, y2, y3, rfl, hI⟩
  refine jE_mono (step y0 y1 y2 y3 hI) ?_
  rintro (l | r) hr
  · match l, hr with
    | [z0, z1, z2, z3], hr => exact ⟨⟨z0, z1, z2, z3, rfl, hr.1⟩, hr.2⟩
  · exact hr
def jW5 {R : Type} (P : jS → Int → Int → Int → Int → Int → Prop) (Q : R → Prop) : (jS × List Int) ⊕ R → Prop
  | .inl (t, [y0, y1, y2, y3, y4]) => P t y0 y1 y2 y3 y4
  | .inl _ => False
  | .inr r => Q r
theorem jW5_l {P : jS → Int → Int → Int → Int → Int → Prop} {t : jS} {x0 x1 x2 x3 x4 : Int} : jW5 P Q (.inl (t, [x0, x1, x2, x3, x4])) ↔ P t x0 x1 x2 x3 x4 := Iff.rfl
theorem jW5_r {P : jS → Int → Int → Int → Int → Int → Prop} {r : R} : jW5 P Q (.inr r) ↔ Q r := Iff.rfl
theorem jE_W5 {b : jS → Int → Int → Int → Int → Int → Option ((jS × List Int) ⊕ R)} (I : jS → Int → Int → Int → Int → Int → Prop) (m : jS → Int → Int → Int → Int → Int → Int) (step : ∀ s x0 x1 x2 x3 x4, I s x0 x1 x2 x3 x4 → jE (b s x0 x1 x2 x3 x4) (jW5 (fun t y0 y1 y2 y3 y4 => I t y0 y1 y2 y3 y4 ∧ 0 ≤ m s x0 x1 x2 x3 x4 ∧ m t y0 y1 y2 y3 y4 < m s x0 x1 x2 x3 x4) Q)) {s : jS} {x0 x1 x2 x3 x4 : Int} (h : I s x0 x1 x2 x3 x4) : jE (jlpW (jc5 b) [x0, x1, x2, x3, x4] s) Q := by
  refine jE_loop (I := fun q => ∃ y0 y1 y2 y3 y4, q.2 = [y0, y1, y2, y3, y4] ∧ I q.1 y0 y1 y2 y3 y4) (m := fun q => match q.2 with | [y0, y1, y2, y3, y4] => m q.1 y0 y1 y2 y3 y4 | _ => 0) ?_ ⟨x0, x1, x2, x3, x4, rfl, h⟩
  rintro ⟨t, _⟩ ⟨y0, y1, y2, y3, y4, rfl, hI⟩
  refine jE_mono (step t y0 y1 y2 y3 y4 hI) ?_
  rintro (⟨t1, l⟩ | r) hr
  · match l, hr with
    | [z0, z1, z2, z3, z4], hr => exact ⟨⟨z0, z1, z2, z3, z4, rfl, hr.1⟩, hr.2⟩
  · exact hr
def jR5 {R : Type} (P : Int → Int → Int → Int → Int → Prop) (Q : R → Prop) : List Int ⊕ R → Prop
  | .inl [y0, y1, y2, y3, y4] => P y0 y1 y2 y3 y4
  | .inl _ => False
  | .inr r => Q r
theorem jR5_l {P : Int → Int → Int → Int → Int → Prop} {x0 x1 x2 x3 x4 : Int} : jR5 P Q (.inl [x0, x1, x2, x3, x4]) ↔ P x0 x1 x2 x3 x4 := Iff.rfl
theorem jR5_r {P : Int → Int → Int → Int → Int → Prop} {r : R} : jR5 P Q (.inr r) ↔ Q r := Iff.rfl
theorem jE_R5 {s : jS} {b : jS → Int → Int → Int → Int → Int → Option (List Int ⊕ R)} (I : Int → Int → Int → Int → Int → Prop) (m : Int → Int → Int → Int → Int → Int) (step : ∀ x0 x1 x2 x3 x4, I x0 x1 x2 x3 x4 → jE (b s x0 x1 x2 x3 x4) (jR5 (fun y0 y1 y2 y3 y4 => I y0 y1 y2 y3 y4 ∧ 0 ≤ m x0 x1 x2 x3 x4 ∧ m y0 y1 y2 y3 y4 < m x0 x1 x2 x3 x4) Q)) {x0 x1 x2 x3 x4 : Int} (h : I x0 x1 x2 x3 x4) : jE (jlpR (jc5 b) [x0, x1, x2, x3, x4] s) Q := by
  refine jE_loop (I := fun q => ∃ y0 y1 y2 y3 y4, q = [y0, y1, y2, y3, y4] ∧ I y0 y1 y2 y3 y4) (m := fun q => match q with | [y0, y1, y2, y3, y4] => m y0 y1 y2 y3 y4 | _ => 0) ?_ ⟨x0, x1, x2, x3, x4, rfl, h⟩
  rintro _ ⟨y0, y1, y2, y3, y4, rfl, hI⟩
  refine jE_mono (step y0 y1 y2 y3 y4 hI) ?_
  rintro (l | r) hr
  · match l, hr with
    | [z0, z1, z2, z3, z4], hr => exact ⟨⟨z0, z1, z2, z3, z4, rfl, hr.1⟩, hr.2⟩
  · exact hr
def jW6 {R : Type} (P : jS → Int → Int → Int → Int → Int → Int → Prop) (Q : R → Prop) : (jS × List Int) ⊕ R → Prop
  | .inl (t, [y0, y1, y2, y3, y4, y5]) => P t y0 y1 y2 y3 y4 y5
  | .inl _ => False
  | .inr r => Q r
theorem jW6_l {P : jS → Int → Int → Int → Int → Int → Int → Prop} {t : jS} {x0 x1 x2 x3 x4 x5 : Int} : jW6 P Q (.inl (t, [x0, x1, x2, x3, x4, x5])) ↔ P t x0 x1 x2 x3 x4 x5 := Iff.rfl
theorem jW6_r {P : jS → Int → Int → Int → Int → Int → Int → Prop} {r : R} : jW6 P Q (.inr r) ↔ Q r := Iff.rfl
theorem jE_W6 {b : jS → Int → Int → Int → Int → Int → Int → Option ((jS × List Int) ⊕ R)} (I : jS → Int → Int → Int → Int → Int → Int → Prop) (m : jS → Int → Int → Int → Int → Int → Int → Int) (step : ∀ s x0 x1 x2 x3 x4 x5, I s x0 x1 x2 x3 x4 x5 → jE (b s x0 x1 x2 x3 x4 x5) (jW6 (fun t y0 y1 y2 y3 y4 y5 => I t y0 y1 y2 y3 y4 y5 ∧ 0 ≤ m s x0 x1 x2 x3 x4 x5 ∧ m t y0 y1 y2 y3 y4 y5 < m s x0 x1 x2 x3 x4 x5) Q)) {s : jS} {x0 x1 x2 x3 x4 x5 : Int} (h : I s x0 x1 x2 x3 x4 x5) : jE (jlpW (jc6 b) [x0, x1, x2, x3, x4, x5] s) Q := by
  refine jE_loop (I := fun q => ∃ y0 y1 y2 y3 y4 y5, q.2 = [y0, y1, y2, y3, y4, y5] ∧ I q.1 y0 y1 y2 y3 y4 y5) (m := fun q => match q.2 with | [y0, y1, y2, y3, y4, y5] => m q.1 y0 y1 y2 y3 y4 y5 | _ => 0) ?_ ⟨x0, x1, x2, x3, x4, x5, rfl, h⟩
  rintro ⟨t, _⟩ ⟨y0, y1, y2, y3, y4, y5, rfl, hI⟩
  refine jE_mono (step t y0 y1 y2 y3 y4 y5 hI) ?_
  rintro (⟨t1, l⟩ | r) hr
  · match l, hr with
    | [z0, z1, z2, z3, z4, z5], hr => exact ⟨⟨z0, z1, z2, z3, z4, z5, rfl, hr.1⟩, hr.2⟩
  · exact hr
def jR6 {R : Type} (P : Int → Int → Int → Int → Int → Int → Prop) (Q : R → Prop) : List Int ⊕ R → Prop
  | .inl [y0, y1, y2, y3, y4, y5] => P y0 y1 y2 y3 y4 y5
  | .inl _ => False
  | .inr r => Q r
theorem jR6_l {P : Int → Int → Int → Int → Int → Int → Prop} {x0 x1 x2 x3 x4 x5 : Int} : jR6 P Q (.inl [x0, x1, x2, x3, x4, x5]) ↔ P x0 x1 x2 x3 x4 x5 := Iff.rfl
theorem jR6_r {P : Int → Int → Int → Int → Int → Int → Prop} {r : R} : jR6 P Q (.inr r) ↔ Q r := Iff.rfl
theorem jE_R6 {s : jS} {b : jS → Int → Int → Int → Int → Int → Int → Option (List Int ⊕ R)} (I : Int → Int → Int → Int → Int → Int → Prop) (m : Int → Int → Int → Int → Int → Int → Int) (step : ∀ x0 x1 x2 x3 x4 x5, I x0 x1 x2 x3 x4 x5 → jE (b s x0 x1 x2 x3 x4 x5) (jR6 (fun y0 y1 y2 y3 y4 y5 => I y0 y1 y2 y3 y4 y5 ∧ 0 ≤ m x0 x1 x2 x3 x4 x5 ∧ m y0 y1 y2 y3 y4 y5 < m x0 x1 x2 x3 x4 x5) Q)) {x0 x1 x2 x3 x4 x5 : Int} (h : I x0 x1 x2 x3 x4 x5) : jE (jlpR (jc6 b) [x0, x1, x2, x3, x4, x5] s) Q := by
  refine jE_loop (I := fun q => ∃ y0 y1 y2 y3 y4 y5, q = [y0, y1, y2, y3, y4, y5] ∧ I y0 y1 y2 y3 y4 y5) (m := fun q => match q with | [y0, y1, y2, y3, y4, y5] => m y0 y1 y2 y3 y4 y5 | _ => 0) ?_ ⟨x0, x1, x2, x3, x4, x5, rfl, h⟩
  rintro _ ⟨y0, y1, y2, y3, y4, y5, rfl, hI⟩
  refine jE_mono (step y0 y1 y2 y3 y4 y5 hI) ?_
  rintro (l | r) hr
  · match l, hr with
    | [z0, z1, z2, z3, z4, z5], hr => exact ⟨⟨z0, z1, z2, z3, z4, z5, rfl, hr.1⟩, hr.2⟩
  · exact hr
def jW7 {R : Type} (P : jS → Int → Int → Int → Int → Int → Int → Int → Prop) (Q : R → Prop) : (jS × List Int) ⊕ R → Prop
  | .inl (t, [y0, y1, y2, y3, y4, y5, y6]) => P t y0 y1 y2 y3 y4 y5 y6
  | .inl _ => False
  | .inr r => Q r
theorem jW7_l {P : jS → Int → Int → Int → Int → Int → Int → Int → Prop} {t : jS} {x0 x1 x2 x3 x4 x5 x6 : Int} : jW7 P Q (.inl (t, [x0, x1, x2, x3, x4, x5, x6])) ↔ P t x0 x1 x2 x3 x4 x5 x6 := Iff.rfl
theorem jW7_r {P : jS → Int → Int → Int → Int → Int → Int → Int → Prop} {r : R} : jW7 P Q (.inr r) ↔ Q r := Iff.rfl
theorem jE_W7 {b : jS → Int → Int → Int → Int → Int → Int → Int → Option ((jS × List Int) ⊕ R)} (I : jS → Int → Int → Int → Int → Int → Int → Int → Prop) (m : jS → Int → Int → Int → Int → Int → Int → Int → Int) (step : ∀ s x0 x1 x2 x3 x4 x5 x6, I s x0 x1 x2 x3 x4 x5 x6 → jE (b s x0 x1 x2 x3 x4 x5 x6) (jW7 (fun t y0 y1 y2 y3 y4 y5 y6 => I t y0 y1 y2 y3 y4 y5 y6 ∧ 0 ≤ m s x0 x1 x2 x3 x4 x5 x6 ∧ m t y0 y1 y2 y3 y4 y5 y6 < m s x0 x1 x2 x3 x4 x5 x6) Q)) {s : jS} {x0 x1 x2 x3 x4 x5 x6 : Int} (h : I s x0 x1 x2 x3 x4 x5 x6) : jE (jlpW (jc7 b) [x0, x1, x2, x3, x4, x5, x6] s) Q := by
  refine jE_loop (I := fun q => ∃ y0 y1 y2 y3 y4 y5 y6, q.2 = [y0, y1, y2, y3, y4, y5, y6] ∧ I q.1 y0 y1 y2 y3 y4 y5 y6) (m := fun q => match q.2 with | [y0, y1, y2, y3, y4, y5, y6] => m q.1 y0 y1 y2 y3 y4 y5 y6 | _ => 0) ?_ ⟨x0, x1, x2, x3, x4, x5, x6, rfl, h⟩
  rintro ⟨t, _⟩ ⟨y0, y1, y2, y3, y4, y5, y6, rfl, hI⟩
  refine jE_mono (step t y0 y1 y2 y3 y4 y5 y6 hI) ?_
  rintro (⟨t1, l⟩ | r) hr
  · match l, hr with
    | [z0, z1, z2, z3, z4, z5, z6], hr => exact ⟨⟨z0, z1, z2, z3, z4, z5, z6, rfl, hr.1⟩, hr.2⟩
  · exact hr
def jR7 {R : Type} (P : Int → Int → Int → Int → Int → Int → Int → Prop) (Q : R → Prop) : List Int ⊕ R → Prop
  | .inl [y0, y1, y2, y3, y4, y5, y6] => P y0 y1 y2 y3 y4 y5 y6
  | .inl _ => False
  | .inr r => Q r
theorem jR7_l {P : Int → Int → Int → Int → Int → Int → Int → Prop} {x0 x1 x2 x3 x4 x5 x6 : Int} : jR7 P Q (.inl [x0, x1, x2, x3, x4, x5, x6]) ↔ P x0 x1 x2 x3 x4 x5 x6 := Iff.rfl
theorem jR7_r {P : Int → Int → Int → Int → Int → Int → Int → Prop} {r : R} : jR7 P Q (.inr r) ↔ Q r := Iff.rfl
theorem jE_R7 {s : jS} {b : jS → Int → Int → Int → Int → Int → Int → Int → Option (List Int ⊕ R)} (I : Int → Int → Int → Int → Int → Int → Int → Prop) (m : Int → Int → Int → Int → Int → Int → Int → Int) (step : ∀ x0 x1 x2 x3 x4 x5 x6, I x0 x1 x2 x3 x4 x5 x6 → jE (b s x0 x1 x2 x3 x4 x5 x6) (jR7 (fun y0 y1 y2 y3 y4 y5 y6 => I y0 y1 y2 y3 y4 y5 y6 ∧ 0 ≤ m x0 x1 x2 x3 x4 x5 x6 ∧ m y0 y1 y2 y3 y4 y5 y6 < m x0 x1 x2 x3 x4 x5 x6) Q)) {x0 x1 x2 x3 x4 x5 x6 : Int} (h : I x0 x1 x2 x3 x4 x5 x6) : jE (jlpR (jc7 b) [x0, x1, x2, x3, x4, x5, x6] s) Q := by
  refine jE_loop (I := fun q => ∃ y0 y1 y2 y3 y4 y5 y6, q = [y0, y1, y2, y3, y4, y5, y6] ∧ I y0 y1 y2 y3 y4 y5 y6) (m := fun q => match q with | [y0, y1, y2, y3, y4, y5, y6] => m y0 y1 y2 y3 y4 y5 y6 | _ => 0) ?_ ⟨x0, x1, x2, x3, x4, x5, x6, rfl, h⟩
  rintro _ ⟨y0, y1, y2, y3, y4, y5, y6, rfl, hI⟩
  refine jE_mono (step y0 y1 y2 y3 y4 y5 y6 hI) ?_
  rintro (l | r) hr
  · match l, hr with
    | [z0, z1, z2, z3, z4, z5, z6], hr => exact ⟨⟨z0, z1, z2, z3, z4, z5, z6, rfl, hr.1⟩, hr.2⟩
  · exact hr
def jW8 {R : Type} (P : jS → Int → Int → Int → Int → Int → Int → Int → Int → Prop) (Q : R → Prop) : (jS × List Int) ⊕ R → Prop
  | .inl (t, [y0, y1, y2, y3, y4, y5, y6, y7]) => P t y0 y1 y2 y3 y4 y5 y6 y7
  | .inl _ => False
  | .inr r => Q r
theorem jW8_l {P : jS → Int → Int → Int → Int → Int → Int → Int → Int → Prop} {t : jS} {x0 x1 x2 x3 x4 x5 x6 x7 : Int} : jW8 P Q (.inl (t, [x0, x1, x2, x3, x4, x5, x6, x7])) ↔ P t x0 x1 x2 x3 x4 x5 x6 x7 := Iff.rfl
theorem jW8_r {P : jS → Int → Int → Int → Int → Int → Int → Int → Int → Prop} {r : R} : jW8 P Q (.inr r) ↔ Q r := Iff.rfl
theorem jE_W8 {b : jS → Int → Int → Int → Int → Int → Int → Int → Int → Option ((jS × List Int) ⊕ R)} (I : jS → Int → Int → Int → Int → Int → Int → Int → Int → Prop) (m : jS → Int → Int → Int → Int → Int → Int → Int → Int → Int) (step : ∀ s x0 x1 x2 x3 x4 x5 x6 x7, I s x0 x1 x2 x3 x4 x5 x6 x7 → jE (b s x0 x1 x2 x3 x4 x5 x6 x7) (jW8 (fun t y0 y1 y2 y3 y4 y5 y6 y7 => I t y0 y1 y2 y3 y4 y5 y6 y7 ∧ 0 ≤ m s x0 x1 x2 x3 x4 x5 x6 x7 ∧ m t y0 y1 y2 y3 y4 y5 y6 y7 < m s x0 x1 x2 x3 x4 x5 x6 x7) Q)) {s : jS} {x0 x1 x2 x3 x4 x5 x6 x7 : Int} (h : I s x0 x1 x2 x3 x4 x5 x6 x7) : jE (jlpW (jc8 b) [x0, x1, x2, x3, x4, x5, x6, x7] s) Q := by
  refine jE_loop (I := fun q => ∃ y0 y1 y2 y3 y4 y5 y6 y7, q.2 = [y0, y1, y2, y3, y4, y5, y6, y7] ∧ I q.1 y0 y1 y2 y3 y4 y5 y6 y7) (m := fun q => match q.2 with | [y0, y1, y2, y3, y4, y5, y6, y7] => m q.1 y0 y1 y2 y3 y4 y5 y6 y7 | _ => 0) ?_ ⟨x0, x1, x2, x3, x4, x5, x6, x7, rfl, h⟩
  rintro ⟨t, _⟩ ⟨y0, y1, y2, y3, y4, y5, y6, y7, rfl, hI⟩
  refine jE_mono (step t y0 y1 y2 y3 y4 y5 y6 y7 hI) ?_
  rintro (⟨t1, l⟩ | r) hr
  · match l, hr with
    | [z0, z1, z2, z3, z4, z5, z6, z7], hr => exact ⟨⟨z0, z1, z2, z3, z4, z5, z6, z7, rfl, hr.1⟩, hr.2⟩
  · exact hr
def jR8 {R : Type} (P : Int → Int → Int → Int → Int → Int → Int → Int → Prop) (Q : R → Prop) : List Int ⊕ R → Prop
  | .inl [y0, y1, y2, y3, y4, y5, y6, y7] => P y0 y1 y2 y3 y4 y5 y6 y7
  | .inl _ => False
  | .inr r => Q r
theorem jR8_l {P : Int → Int → Int → Int → Int → Int → Int → Int → Prop} {x0 x1 x2 x3 x4 x5 x6 x7 : Int} : jR8 P Q (.inl [x0, x1, x2, x3, x4, x5, x6, x7]) ↔ P x0 x1 x2 x3 x4 x5 x6 x7 := Iff.rfl
theorem jR8_r {P : Int → Int → Int → Int → Int → Int → Int → Int → Prop} {r : R} : jR8 P Q (.inr r) ↔ Q r := Iff.rfl
theorem jE_R8 {s : jS} {b : jS → Int → Int → Int → Int → Int → Int → Int → Int → Option (List Int ⊕ R)} (I : Int → Int → Int → Int → Int → Int → Int → Int → Prop) (m : Int → Int → Int → Int → Int → Int → Int → Int → Int) (step : ∀ x0 x1 x2 x3 x4 x5 x6 x7, I x0 x1 x2 x3 x4 x5 x6 x7 → jE (b s x0 x1 x2 x3 x4 x5 x6 x7) (jR8 (fun y0 y1 y2 y3 y4 y5 y6 y7 => I y0 y1 y2 y3 y4 y5 y6 y7 ∧ 0 ≤ m x0 x1 x2 x3 x4 x5 x6 x7 ∧ m y0 y1 y2 y3 y4 y5 y6 y7 < m x0 x1 x2 x3 x4 x5 x6 x7) Q)) {x0 x1 x2 x3 x4 x5 x6 x7 : Int} (h : I x0 x1 x2 x3 x4 x5 x6 x7) : jE (jlpR (jc8 b) [x0, x1, x2, x3, x4, x5, x6, x7] s) Q := by
  refine jE_loop (I := fun q => ∃ y0 y1 y2 y3 y4 y5 y6 y7, q = [y0, y1, y2, y3, y4, y5, y6, y7] ∧ I y0 y1 y2 y3 y4 y5 y6 y7) (m := fun q => match q with | [y0, y1, y2, y3, y4, y5, y6, y7] => m y0 y1 y2 y3 y4 y5 y6 y7 | _ => 0) ?_ ⟨x0, x1, x2, x3, x4, x5, x6, x7, rfl, h⟩
  rintro _ ⟨y0, y1, y2, y3, y4, y5, y6, y7, rfl, hI⟩
  refine jE_mono (step y0 y1 y2 y3 y4 y5 y6 y7 hI) ?_
  rintro (l | r) hr
  · match l, hr with
    | [z0, z1, z2, z3, z4, z5, z6, z7], hr => exact ⟨⟨z0, z1, z2, z3, z4, z5, z6, z7, rfl, hr.1⟩, hr.2⟩
  · exact hr
def jW9 {R : Type} (P : jS → Int → Int → Int → Int → Int → Int → Int → Int → Int → Prop) (Q : R → Prop) : (jS × List Int) ⊕ R → Prop
  | .inl (t, [y0, y1, y2, y3, y4, y5, y6, y7, y8]) => P t y0 y1 y2 y3 y4 y5 y6 y7 y8
  | .inl _ => False
  | .inr r => Q r
theorem jW9_l {P : jS → Int → Int → Int → Int → Int → Int → Int → Int → Int → Prop} {t : jS} {x0 x1 x2 x3 x4 x5 x6 x7 x8 : Int} : jW9 P Q (.inl (t, [x0, x1, x2, x3, x4, x5, x6, x7, x8])) ↔ P t x0 x1 x2 x3 x4 x5 x6 x7 x8 := Iff.rfl
theorem jW9_r {P : jS → Int → Int → Int → Int → Int → Int → Int → Int → Int → Prop} {r : R} : jW9 P Q (.inr r) ↔ Q r := Iff.rfl
theorem jE_W9 {b : jS → Int → Int → Int → Int → Int → Int → Int → Int → Int → Option ((jS × List Int) ⊕ R)} (I : jS → Int → Int → Int → Int → Int → Int → Int → Int → Int → Prop) (m : jS → Int → Int → Int → Int → Int → Int → Int → Int → Int → Int) (step : ∀ s x0 x1 x2 x3 x4 x5 x6 x7 x8, I s x0 x1 x2 x3 x4 x5 x6 x7 x8 → jE (b s x0 x1 x2 x3 x4 x5 x6 x7 x8) (jW9 (fun t y0 y1 y2 y3 y4 y5 y6 y7 y8 => I t y0 y1 y2 y3 y4 y5 y6 y7 y8 ∧ 0 ≤ m s x0 x1 x2 x3 x4 x5 x6 x7 x8 ∧ m t y0 y1 y2 y3 y4 y5 y6 y7 y8 < m s x0 x1 x2 x3 x4 x5 x6 x7 x8) Q)) {s : jS} {x0 x1 x2 x3 x4 x5 x6 x7 x8 : Int} (h : I s x0 x1 x2 x3 x4 x5 x6 x7 x8) : jE (jlpW (jc9 b) [x0, x1, x2, x3, x4, x5, x6, x7, x8] s) Q := by
  refine jE_loop (I := fun q => ∃ y0 y1 y2 y3 y4 y5 y6 y7 y8, q.2 = [y0, y1, y2, y3, y4, y5, y6, y7, y8] ∧ I q.1 y0 y1 y2 y3 y4 y5 y6 y7 y8) (m := fun q => match q.2 with | [y0, y1, y2, y3, y4, y5, y6, y7, y8] => m q.1 y0 y1 y2 y3 y4 y5 y6 y7 y8 | _ => 0) ?_ ⟨x0, x1, x2, x3, x4, x5, x6, x7, x8, rfl, h⟩
  rintro ⟨t, _⟩ ⟨y0, y1, y2, y3, y4, y5, y6, y7, y8, rfl, hI⟩
  refine jE_mono (step t y0 y1 y2 y3 y4 y5 y6 y7 y8 hI) ?_
  rintro (⟨t1, l⟩ | r) hr
  · match l, hr with
    | [z0, z1, z2, z3, z4, z5, z6, z7, z8], hr => exact ⟨⟨z0, z1, z2, z3, z4, z5, z6, z7, z8, rfl, hr.1⟩, hr.2⟩
  · exact hr
def jR9 {R : Type} (P : Int → Int → Int → Int → Int → Int → Int → Int → Int → Prop) (Q : R → Prop) : List Int ⊕ R → Prop
  | .inl [y0, y1, y2, y3, y4, y5, y6, y7, y8] => P y0 y1 y2 y3 y4 y5 y6 y7 y8
  | .inl _ => False
  | .inr r => Q r
theorem jR9_l {P : Int → Int → Int → Int → Int → Int → Int → Int → Int → Prop} {x0 x1 x2 x3 x4 x5 x6 x7 x8 : Int} : jR9 P Q (.inl [x0, x1, x2, x3, x4, x5, x6, x7, x8]) ↔ P x0 x1 x2 x3 x4 x5 x6 x7 x8 := Iff.rfl
theorem jR9_r {P : Int → Int → Int → Int → Int → Int → Int → Int → Int → Prop} {r : R} : jR9 P Q (.inr r) ↔ Q r := Iff.rfl
theorem jE_R9 {s : jS} {b : jS → Int → Int → Int → Int → Int → Int → Int → Int → Int → Option (List Int ⊕ R)} (I : Int → Int → Int → Int → Int → Int → Int → Int → Int → Prop) (m : Int → Int → Int → Int → Int → Int → Int → Int → Int → Int) (step : ∀ x0 x1 x2 x3 x4 x5 x6 x7 x8, I x0 x1 x2 x3 x4 x5 x6 x7 x8 → jE (b s x0 x1 x2 x3 x4 x5 x6 x7 x8) (jR9 (fun y0 y1 y2 y3 y4 y5 y6 y7 y8 => I y0 y1 y2 y3 y4 y5 y6 y7 y8 ∧ 0 ≤ m x0 x1 x2 x3 x4 x5 x6 x7 x8 ∧ m y0 y1 y2 y3 y4 y5 y6 y7 y8 < m x0 x1 x2 x3 x4 x5 x6 x7 x8) Q)) {x0 x1 x2 x3 x4 x5 x6 x7 x8 : Int} (h : I x0 x1 x2 x3 x4 x5 x6 x7 x8) : jE (jlpR (jc9 b) [x0, x1, x2, x3, x4, x5, x6, x7, x8] s) Q := by
  refine jE_loop (I := fun q => ∃ y0 y1 y2 y3 y4 y5 y6 y7 y8, q = [y0, y1, y2, y3, y4, y5, y6, y7, y8] ∧ I y0 y1 y2 y3 y4 y5 y6 y7 y8) (m := fun q => match q with | [y0, y1, y2, y3, y4, y5, y6, y7, y8] => m y0 y1 y2 y3 y4 y5 y6 y7 y8 | _ => 0) ?_ ⟨x0, x1, x2, x3, x4, x5, x6, x7, x8, rfl, h⟩
  rintro _ ⟨y0, y1, y2, y3, y4, y5, y6, y7, y8, rfl, hI⟩
  refine jE_mono (step y0 y1 y2 y3 y4 y5 y6 y7 y8 hI) ?_
  rintro (l | r) hr
  · match l, hr with
    | [z0, z1, z2, z3, z4, z5, z6, z7, z8], hr => exact ⟨⟨z0, z1, z2, z3, z4, z5, z6, z7, z8, rfl, hr.1⟩, hr.2⟩
  · exact hr
def jW10 {R : Type} (P : jS → Int → Int → Int → Int → Int → Int → Int → Int → Int → Int → Prop) (Q : R → Prop) : (jS × List Int) ⊕ R → Prop
  | .inl (t, [y0, y1, y2, y3, y4, y5, y6, y7, y8, y9]) => P t y0 y1 y2 y3 y4 y5 y6 y7 y8 y9
  | .inl _ => False
  | .inr r => Q r
theorem jW10_l {P : jS → Int → Int → Int → Int → Int → Int → Int → Int → Int → Int → Prop} {t : jS} {x0 x1 x2 x3 x4 x5 x6 x7 x8 x9 : Int} : jW10 P Q (.inl (t, [x0, x1, x2, x3, x4, x5, x6, x7, x8, x9])) ↔ P t x0 x1 x2 x3 x4 x5 x6 x7 x8 x9 := Iff.rfl
theorem jW10_r {P : jS → Int → Int → Int → Int → Int → Int → Int → Int → Int → Int → Prop} {r : R} : jW10 P Q (.inr r) ↔ Q r := Iff.rfl
theorem jE_W10 {b : jS → Int → Int → Int → Int → Int → Int → Int → Int → Int → Int → Option ((jS × List Int) ⊕ R)} (I : jS → Int → Int → Int → Int → Int → Int → Int → Int → Int → Int → Prop) (m : jS → Int → Int → Int → Int → Int → Int → Int → Int → Int → Int → Int) (step : ∀ s x0 x1 x2 x3 x4 x5 x6 x7 x8 x9, I s x0 x1 x2 x3 x4 x5 x6 x7 x8 x9 → jE (b s x0 x1 x2 x3 x4 x5 x6 x7 x8 x9) (jW10 (fun t y0 y1 y2 y3 y4 y5 y6 y7 y8 y9 => I t y0 y1 y2 y3 y4 y5 y6 y7 y8 y9 ∧ 0 ≤ m s x0 x1 x2 x3 x4 x5 x6 x7 x8 x9 ∧ m t y0 y1 y2 y3 y4 y5 y6 y7 y8 y9 < m s x0 x1 x2 x3 x4 x5 x6 x7 x8 x9) Q)) {s : jS} {x0 x1 x2 x3 x4 x5 x6 x7 x8 x9 : Int} (h : I s x0 x1 x2 x3 x4 x5 x6 x7 x8 x9) : jE (jlpW (jc10 b) [x0, x1, x2, x3, x4, x5, x6, x7, x8, x9] s) Q := by
  refine jE_loop (I := fun q => ∃ y0 y1 y2 y3 y4 y5 y6 y7 y8 y9, q.2 = [y0, y1, y2, y3, y4, y5, y6, y7, y8, y9] ∧ I q.1 y0 y1 y2 y3 y4 y5 y6 y7 y8 y9) (m := fun q => match q.2 with | [y0, y1, y2, y3, y4, y5, y6, y7, y8, y9] => m q.1 y0 y1 y2 y3 y4 y5 y6 y7 y8 y9 | _ => 0) ?_ ⟨x0, x1, x2, x3, x4, x5, x6, x7, x8, x9, rfl, h⟩
  rintro ⟨t, _⟩ ⟨y0, y1, y2, y3, y4, y5, y6, y7, y8, y9, rfl, hI⟩
  refine jE_mono (step t y0 y1 y2 y3 y4 y5 y6 y7 y8 y9 hI) ?_
  rintro (⟨t1, l⟩ | r) hr
  · match l, hr with
    | [z0, z1, z2, z3, z4, z5, z6, z7, z8, z9], hr => exact ⟨⟨z0, z1, z2, z3, z4, z5, z6, z7, z8, z9, rfl, hr.1⟩, hr.2⟩
  · exact hr
def jR10 {R : Type} (P : Int → Int → Int → Int → Int → Int → Int → Int → Int → Int → Prop) (Q : R → Prop) : List Int ⊕ R → Prop
  | .inl [y0, y1, y2, y3, y4, y5, y6, y7, y8, y9] => P y0 y1 y2 y3 y4 y5 y6 y7 y8 y9
  | .inl _ => False
  | .inr r => Q r
theorem jR10_l {P : Int → Int → Int → Int → Int → Int → Int → Int → Int → Int → Prop} {x0 x1 x2 x3 x4 x5 x6 x7 x8 x9 : Int} : jR10 P Q (.inl [x0, x1, x2, x3, x4, x5, x6, x7, x8, x9]) ↔ P x0 x1 x2 x3 x4 x5 x6 x7 x8 x9 := Iff.rfl
theorem jR10_r {P : Int → Int → Int → Int → Int → Int → Int → Int → Int → Int → Prop} {r : R} : jR10 P Q (.inr r) ↔ Q r := Iff.rfl
theorem jE_R10 {s : jS} {b : jS → Int → Int → Int → Int → Int → Int → Int → Int → Int → Int → Option (List Int ⊕ R)} (I : Int → Int → Int → Int → Int → Int → Int → Int → Int → Int → Prop) (m : Int → Int → Int → Int → Int → Int → Int → Int → Int → Int → Int) (step : ∀ x0 x1 x2 x3 x4 x5 x6 x7 x8 x9, I x0 x1 x2 x3 x4 x5 x6 x7 x8 x9 → jE (b s x0 x1 x2 x3 x4 x5 x6 x7 x8 x9) (jR10 (fun y0 y1 y2 y3 y4 y5 y6 y7 y8 y9 => I y0 y1 y2 y3 y4 y5 y6 y7 y8 y9 ∧ 0 ≤ m x0 x1 x2 x3 x4 x5 x6 x7 x8 x9 ∧ m y0 y1 y2 y3 y4 y5 y6 y7 y8 y9 < m x0 x1 x2 x3 x4 x5 x6 x7 x8 x9) Q)) {x0 x1 x2 x3 x4 x5 x6 x7 x8 x9 : Int} (h : I x0 x1 x2 x3 x4 x5 x6 x7 x8 x9) : jE (jlpR (jc10 b) [x0, x1, x2, x3, x4, x5, x6, x7, x8, x9] s) Q := by
  refine jE_loop (I := fun q => ∃ y0 y1 y2 y3 y4 y5 y6 y7 y8 y9, q = [y0, y1, y2, y3, y4, y5, y6, y7, y8, y9] ∧ I y0 y1 y2 y3 y4 y5 y6 y7 y8 y9) (m := fun q => match q with | [y0, y1, y2, y3, y4, y5, y6, y7, y8, y9] => m y0 y1 y2 y3 y4 y5 y6 y7 y8 y9 | _ => 0) ?_ ⟨x0, x1, x2, x3, x4, x5, x6, x7, x8, x9, rfl, h⟩
  rintro _ ⟨y0, y1, y2, y3, y4, y5, y6, y7, y8, y9, rfl, hI⟩
  refine jE_mono (step y0 y1 y2 y3 y4 y5 y6 y7 y8 y9 hI) ?_
  rintro (l | r) hr
  · match l, hr with
    | [z0, z1, z2, z3, z4, z5, z6, z7, z8, z9], hr => exact ⟨⟨z0, z1, z2, z3, z4, z5, z6, z7, z8, z9, rfl, hr.1⟩, hr.2⟩
  · exact hr
def jW11 {R : Type} (P : jS → Int → Int → Int → Int → Int → Int → Int → Int → Int → Int → Int → Prop) (Q : R → Prop) : (jS × List Int) ⊕ R → Prop
  | .inl (t, [y0, y1, y2, y3, y4, y5, y6, y7, y8, y9, y10]) => P t y0 y1 y2 y3 y4 y5 y6 y7 y8 y9 y10
  | .inl _ => False
  | .inr r => Q r
theorem jW11_l {P : jS → Int → Int → Int → Int → Int → Int → Int → Int → Int → Int → Int → Prop} {t : jS} {x0 x1 x2 x3 x4 x5 x6 x7 x8 x9 x10 : Int} : jW11 P Q (.inl (t, [x0, x1, x2, x3, x4, x5, x6, x7, x8, x9, x10])) ↔ P t x0 x1 x2 x3 x4 x5 x6 x7 x8 x9 x10 := Iff.rfl
theorem jW11_r {P : jS → Int → Int → Int → Int → Int → Int → Int → Int → Int → Int → Int → Prop} {r : R} : jW11 P Q (.inr r) ↔ Q r := Iff.rfl
theorem jE_W11 {b : jS → Int → Int → Int → Int → Int → Int → Int → Int → Int → Int → Int → Option ((jS × List Int) ⊕ R)} (I : jS → Int → Int → Int → Int → Int → Int → Int → Int → Int → Int → Int → Prop) (m : jS → Int → Int → Int → Int → Int → Int → Int → Int → Int → Int → Int → Int) (step : ∀ s x0 x1 x2 x3 x4 x5 x6 x7 x8 x9 x10, I s x0 x1 x2 x3 x4 x5 x6 x7 x8 x9 x10 → jE (b s x0 x1 x2 x3 x4 x5 x6 x7 x8 x9 x10) (jW11 (fun t y0 y1 y2 y3 y4 y5 y6 y7 y8 y9 y10 => I t y0 y1 y2 y3 y4 y5 y6 y7 y8 y9 y10 ∧ 0 ≤ m s x0 x1 x2 x3 x4 x5 x6 x7 x8 x9 x10 ∧ m t y0 y1 y2 y3 y4 y5 y6 y7 y8 y9 y10 < m s x0 x1 x2 x3 x4 x5 x6 x7 x8 x9 x10) Q)) {s : jS} {x0 x1 x2 x3 x4 x5 x6 x7 x8 x9 x10 : Int} (h : I s x0 x1 x2 x3 x4 x5 x6 x7 x8 x9 x10) : jE (jlpW (jc11 b) [x0, x1, x2, x3, x4, x5, x6, x7, x8, x9, x10] s) Q := by
  refine jE_loop (I := fun q => ∃ y0 y1 y2 y3 y4 y5 y6 y7 y8 y9 y10, q.2 = [y0, y1, y2, y3, y4, y5, y6, y7, y8, y9, y10] ∧ I q.1 y0 y1 y2 y3 y4 y5 y6 y7 y8 y9 y10) (m := fun q => match q.2 with | [y0, y1, y2, y3, y4, y5, y6, y7, y8, y9, y10] => m q.1 y0 y1 y2 y3 y4 y5 y6 y7 y8 y9 y10 | _ => 0) ?_ ⟨x0, x1, x2, x3, x4, x5, x6, x7, x8, x9, x10, rfl, h⟩
  rintro ⟨t, _⟩ ⟨y0, y1, y2, y3, y4, y5, y6, y7, y8, y9, y10, rfl, hI⟩
  refine jE_mono (step t y0 y1 y2 y3 y4 y5 y6 y7 y8 y9 y10 hI) ?_
  rintro (⟨t1, l⟩ | r) hr
  · match l, hr with
    | [z0, z1, z2, z3, z4, z5, z6, z7, z8, z9, z10], hr => exact ⟨⟨z0, z1, z2, z3, z4, z5, z6, z7, z8, z9, z10, rfl, hr.1⟩, hr.2⟩
  · exact hr
def jR11 {R : Type} (P : Int → Int → Int → Int → Int → Int → Int → Int → Int → Int → Int → Prop) (Q : R → Prop) : List Int ⊕ R → Prop
  | .inl [y0, y1, y2, y3, y4, y5, y6, y7, y8, y9, y10] => P y0 y1 y2 y3 y4 y5 y6 y7 y8 y9 y10
  | .inl _ => False
  | .inr r => Q r
theorem jR11_l {P : Int → Int → Int → Int → Int → Int → Int → Int → Int → Int → Int → Prop} {x0 x1 x2 x3 x4 x5 x6 x7 x8 x9 x10 : Int} : jR11 P Q (.inl [x0, x1, x2, x3, x4, x5, x6, x7, x8, x9, x10]) ↔ P x0 x1 x2 x3 x4 x5 x6 x7 x8 x9 x10 := Iff.rfl
theorem jR11_r {P : Int → Int → Int → Int → Int → Int → Int → Int → Int → Int → Int → Prop} {r : R} : jR11 P Q (.inr r) ↔ Q r := Iff.rfl
theorem jE_R11 {s : jS} {b : jS → Int → Int → Int → Int → Int → Int → Int → Int → Int → Int → Int → Option (List Int ⊕ R)} (I : Int → Int → Int → Int → Int → Int → Int → Int → Int → Int → Int → Prop) (m : Int → Int → Int → Int → Int → Int → Int → Int → Int → Int → Int → Int) (step : ∀ x0 x1 x2 x3 x4 x5 x6 x7 x8 x9 x10, I x0 x1 x2 x3 x4 x5 x6 x7 x8 x9 x10 → jE (b s x0 x1 x2 x3 x4 x5 x6 x7 x8 x9 x10) (jR11 (fun y0 y1 y2 y3 y4 y5 y6 y7 y8 y9 y10 => I y0 y1 y2 y3 y4 y5 y6 y7 y8 y9 y10 ∧ 0 ≤ m x0 x1 x2 x3 x4 x5 x6 x7 x8 x9 x10 ∧ m y0 y1 y2 y3 y4 y5 y6 y7 y8 y9 y10 < m x0 x1 x2 x3 x4 x5 x6 x7 x8 x9 x10) Q)) {x0 x1 x2 x3 x4 x5 x6 x7 x8 x9 x10 : Int} (h : I x0 x1 x2 x3 x4 x5 x6 x7 x8 x9 x10) : jE (jlpR (jc11 b) [x0, x1, x2, x3, x4, x5, x6, x7, x8, x9, x10] s) Q := by
  refine jE_loop (I := fun q => ∃ y0 y1 y2 y3 y4 y5 y6 y7 y8 y9 y10, q = [y0, y1, y2, y3, y4, y5, y6, y7, y8, y9, y10] ∧ I y0 y1 y2 y3 y4 y5 y6 y7 y8 y9 y10) (m := fun q => match q with | [y0, y1, y2, y3, y4, y5, y6, y7, y8, y9, y10] => m y0 y1 y2 y3 y4 y5 y6 y7 y8 y9 y10 | _ => 0) ?_ ⟨x0, x1, x2, x3, x4, x5, x6, x7, x8, x9, x10, rfl, h⟩
  rintro _ ⟨y0, y1, y2, y3, y4, y5, y6, y7, y8, y9, y10, rfl, hI⟩
  refine jE_mono (step y0 y1 y2 y3 y4 y5 y6 y7 y8 y9 y10 hI) ?_
  rintro (l | r) hr
  · match l, hr with
    | [z0, z1, z2, z3, z4, z5, z6, z7, z8, z9, z10], hr => exact ⟨⟨z0, z1, z2, z3, z4, z5, z6, z7, z8, z9, z10, rfl, hr.1⟩, hr.2⟩
  · exact hr
def jW12 {R : Type} (P : jS → Int → Int → Int → Int → Int → Int → Int → Int → Int → Int → Int → Int → Prop) (Q : R → Prop) : (jS × List Int) ⊕ R → Prop
  | .inl (t, [y0, y1, y2, y3, y4, y5, y6, y7, y8, y9, y10, y11]) => P t y0 y1 y2 y3 y4 y5 y6 y7 y8 y9 y10 y11
  | .inl _ => False
  | .inr r => Q r
theorem jW12_l {P : jS → Int → Int → Int → Int → Int → Int → Int → Int → Int → Int → Int → Int → Prop} {t : jS} {x0 x1 x2 x3 x4 x5 x6 x7 x8 x9 x10 x11 : Int} : jW12 P Q (.inl (t, [x0, x1, x2, x3, x4, x5, x6, x7, x8, x9, x10, x11])) ↔ P t x0 x1 x2 x3 x4 x5 x6 x7 x8 x9 x10 x11 := Iff.rfl
theorem jW12_r {P : jS → Int → Int → Int → Int → Int → Int → Int → Int → Int → Int → Int → Int → Prop} {r : R} : jW12 P Q (.inr r) ↔ Q r := Iff.rfl
theorem jE_W12 {b : jS → Int → Int → Int → Int → Int → Int → Int → Int → Int → Int → Int → Int → Option ((jS × List Int) ⊕ R)} (I : jS → Int → Int → Int → Int → Int → Int → Int → Int → Int → Int → Int → Int → Prop) (m : jS → Int → Int → Int → Int → Int → Int → Int → Int → Int → Int → Int → Int → Int) (step : ∀ s x0 x1 x2 x3 x4 x5 x6 x7 x8 x9 x10 x11, I s x0 x1 x2 x3 x4 x5 x6 x7 x8 x9 x10 x11 → jE (b s x0 x1 x2 x3 x4 x5 x6 x7 x8 x9 x10 x11) (jW12 (fun t y0 y1 y2 y3 y4 y5 y6 y7 y8 y9 y10 y11 => I t y0 y1 y2 y3 y4 y5 y6 y7 y8 y9 y10 y11 ∧ 0 ≤ m s x0 x1 x2 x3 x4 x5 x6 x7 x8 x9 x10 x11 ∧ m t y0 y1 y2 y3 y4 y5 y6 y7 y8 y9 y10 y11 < m s x0 x1 x2 x3 x4 x5 x6 x7 x8 x9 x10 x11) Q)) {s : jS} {x0 x1 x2 x3 x4 x5 x6 x7 x8 x9 x10 x11 : Int} (h : I s x0 x1 x2 x3 x4 x5 x6 x7 x8 x9 x10 x11) : jE (jlpW (jc12 b) [x0, x1, x2, x3, x4, x5, x6, x7, x8, x9, x10, x11] s) Q := by
  refine jE_loop (I := fun q => ∃ y0 y1 y2 y3 y4 y5 y6 y7 y8 y9 y10 y11, q.2 = [y0, y1, y2, y3, y4, y5, y6, y7, y8, y9, y10, y11] ∧ I q.1 y0 y1 y2 y3 y4 y5 y6 y7 y8 y9 y10 y11) (m := fun q => match q.2 with | [y0, y1, y2, y3, y4, y5, y6, y7, y8, y9, y10, y11] => m q.1 y0 y1 y2 y3 y4 y5 y6 y7 y8 y9 y10 y11 | _ => 0) ?_ ⟨x0, x1, x2, x3, x4, x5, x6, x7, x8, x9, x10, x11, rfl, h⟩
  rintro ⟨t, _⟩ ⟨y0, y1, y2, y3, y4, y5, y6, y7, y8, y9, y10, y11, rfl, hI⟩
  refine jE_mono (step t y0 y1 y2 y3 y4 y5 y6 y7 y8 y9 y10 y11 hI) ?_
  rintro (⟨t1, l⟩ | r) hr
  · match l, hr with
    | [z0, z1, z2, z3, z4, z5, z6, z7, z8, z9, z10, z11], hr => exact ⟨⟨z0, z1, z2, z3, z4, z5, z6, z7, z8, z9, z10, z11, rfl, hr.1⟩, hr.2⟩
  · exact hr
def jR12 {R : Type} (P : Int → Int → Int → Int → Int → Int → Int → Int → Int → Int → Int → Int → Prop) (Q : R → Prop) : List Int ⊕ R → Prop
  | .inl [y0, y1, y2, y3, y4, y5, y6, y7, y8, y9, y10, y11] => P y0 y1 y2 y3 y4 y5 y6 y7 y8 y9 y10 y11
  | .inl _ => False
  | .inr r => Q r
theorem jR12_l {P : Int → Int → Int → Int → Int → Int → Int → Int → Int → Int → Int → Int → Prop} {x0 x1 x2 x3 x4 x5 x6 x7 x8 x9 x10 x11 : Int} : jR12 P Q (.inl [x0, x1, x2, x3, x4, x5, x6, x7, x8, x9, x10, x11]) ↔ P x0 x1 x2 x3 x4 x5 x6 x7 x8 x9 x10 x11 := Iff.rfl
theorem jR12_r {P : Int → Int → Int → Int → Int → Int → Int → Int → Int → Int → Int → Int → Prop} {r : R} : jR12 P Q (.inr r) ↔ Q r := Iff.rfl
theorem jE_R12 {s : jS} {b : jS → Int → Int → Int → Int → Int → Int → Int → Int → Int → Int → Int → Int → Option (List Int ⊕ R)} (I : Int → Int → Int → Int → Int → Int → Int → Int → Int → Int → Int → Int → Prop) (m : Int → Int → Int → Int → Int → Int → Int → Int → Int → Int → Int → Int → Int) (step : ∀ x0 x1 x2 x3 x4 x5 x6 x7 x8 x9 x10 x11, I x0 x1 x2 x3 x4 x5 x6 x7 x8 x9 x10 x11 → jE (b s x0 x1 x2 x3 x4 x5 x6 x7 x8 x9 x10 x11) (jR12 (fun y0 y1 y2 y3 y4 y5 y6 y7 y8 y9 y10 y11 => I y0 y1 y2 y3 y4 y5 y6 y7 y8 y9 y10 y11 ∧ 0 ≤ m x0 x1 x2 x3 x4 x5 x6 x7 x8 x9 x10 x11 ∧ m y0 y1 y2 y3 y4 y5 y6 y7 y8 y9 y10 y11 < m x0 x1 x2 x3 x4 x5 x6 x7 x8 x9 x10 x11) Q)) {x0 x1 x2 x3 x4 x5 x6 x7 x8 x9 x10 x11 : Int} (h : I x0 x1 x2 x3 x4 x5 x6 x7 x8 x9 x10 x11) : jE (jlpR (jc12 b) [x0, x1, x2, x3, x4, x5, x6, x7, x8, x9, x10, x11] s) Q := by
  refine jE_loop (I := fun q => ∃ y0 y1 y2 y3 y4 y5 y6 y7 y8 y9 y10 y11, q = [y0, y1, y2, y3, y4, y5, y6, y7, y8, y9, y10, y11] ∧ I y0 y1 y2 y3 y4 y5 y6 y7 y8 y9 y10 y11) (m := fun q => match q with | [y0, y1, y2, y3, y4, y5, y6, y7, y8, y9, y10, y11] => m y0 y1 y2 y3 y4 y5 y6 y7 y8 y9 y10 y11 | _ => 0) ?_ ⟨x0, x1, x2, x3, x4, x5, x6, x7, x8, x9, x10, x11, rfl, h⟩
  rintro _ ⟨y0, y1, y2, y3, y4, y5, y6, y7, y8, y9, y10, y11, rfl, hI⟩
  refine jE_mono (step y0 y1 y2 y3 y4 y5 y6 y7 y8 y9 y10 y11 hI) ?_
  rintro (l | r) hr
  · match l, hr with
    | [z0, z1, z2, z3, z4, z5, z6, z7, z8, z9, z10, z11], hr => exact ⟨⟨z0, z1, z2, z3, z4, z5, z6, z7, z8, z9, z10, z11, rfl, hr.1⟩, hr.2⟩
  · exact hr
end jPlain
