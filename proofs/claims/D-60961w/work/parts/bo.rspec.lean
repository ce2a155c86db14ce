/-! reading a file of an object: rows of conditions, the first that fails; what they are -/
section jRspec
variable {α β : Type} {g : Int → Int} {n p f lo hi x y : Int} {c : Prop} {L M : List (Prop × Int × Int)} {ok : α → Prop} {bad : Int → Int → α → Prop} {a : α}
def Gd (L : List (Prop × Int × Int)) : Prop := ∀ q ∈ L, q.1
def Fst (L : List (Prop × Int × Int)) (f p : Int) : Prop := ∃ A c B, L = A ++ (c, f, p) :: B ∧ Gd A ∧ ¬ c
theorem Gd_nil : Gd [] := fun q h => absurd h List.not_mem_nil
theorem Gd_cons : Gd ((c, f, p) :: L) ↔ c ∧ Gd L := ⟨fun h => ⟨h _ List.mem_cons_self, fun q hq => h q (List.mem_cons_of_mem _ hq)⟩, fun h q hq => by
  rcases List.mem_cons.mp hq with e | e
  · subst e; exact h.1
  · exact h.2 q e⟩
theorem Gd_app : Gd (L ++ M) ↔ Gd L ∧ Gd M := ⟨fun h => ⟨fun q hq => h q (List.mem_append_left _ hq), fun q hq => h q (List.mem_append_right _ hq)⟩, fun h q hq => by
  rcases List.mem_append.mp hq with e | e
  · exact h.1 q e
  · exact h.2 q e⟩
theorem Fst_no (h : ¬ c) : Fst ((c, f, p) :: L) f p := ⟨[], c, L, rfl, Gd_nil, h⟩
theorem Fst_cons {f' p' : Int} (h : c) (k : Fst L f' p') : Fst ((c, f, p) :: L) f' p' := by
  obtain ⟨A, d, B, e, hA, hd⟩ := k
  exact ⟨(c, f, p) :: A, d, B, by rw [e]; rfl, Gd_cons.mpr ⟨h, hA⟩, hd⟩
theorem Fst_appL (k : Fst L f p) : Fst (L ++ M) f p := by
  obtain ⟨A, d, B, e, hA, hd⟩ := k
  exact ⟨A, d, B ++ M, by rw [e, List.append_assoc]; rfl, hA, hd⟩
theorem Fst_appR (h : Gd L) (k : Fst M f p) : Fst (L ++ M) f p := by
  obtain ⟨A, d, B, e, hA, hd⟩ := k
  exact ⟨L ++ A, d, B, by rw [e, List.append_assoc], Gd_app.mpr ⟨h, hA⟩, hd⟩
theorem Fst_gd (h : Fst L f p) (k : Gd L) : False := by
  obtain ⟨A, d, B, e, hA, hd⟩ := h
  exact hd (k (d, f, p) (by rw [e]; simp))
theorem Fst_one {f' p' : Int} (h : Fst L f p) (k : Fst L f' p') : f = f' ∧ p = p' := by
  induction L with
  | nil =>
    obtain ⟨A, d, B, e, -, -⟩ := h
    exact absurd e (by simp)
  | cons q L ih =>
    obtain ⟨A, d, B, e, hA, hd⟩ := h
    obtain ⟨A', d', B', e', hA', hd'⟩ := k
    cases A with
    | nil =>
      cases A' with
      | nil =>
        simp only [List.nil_append, List.cons.injEq] at e e'
        have := e.1.symm.trans e'.1
        simp only [Prod.mk.injEq] at this
        exact this.2
      | cons q' A' =>
        simp only [List.nil_append, List.cons_append, List.cons.injEq] at e e'
        have := hA' q' List.mem_cons_self
        rw [← e'.1, e.1] at this
        exact absurd this hd
    | cons q' A =>
      cases A' with
      | nil =>
        simp only [List.nil_append, List.cons_append, List.cons.injEq] at e e'
        have := hA q' List.mem_cons_self
        rw [← e.1, e'.1] at this
        exact absurd this hd'
      | cons q'' A' =>
        simp only [List.cons_append, List.cons.injEq] at e e'
        exact ih ⟨A, d, B, e.2, fun z hz => hA z (List.mem_cons_of_mem _ hz), hd⟩ ⟨A', d', B', e'.2, fun z hz => hA' z (List.mem_cons_of_mem _ hz), hd'⟩
/-- what comes of a row of conditions -/
def ckR (ok : α → Prop) (bad : Int → Int → α → Prop) (L : List (Prop × Int × Int)) (a : α) : Prop := (Gd L ∧ ok a) ∨ ∃ f p, Fst L f p ∧ bad f p a
theorem ck_end (h : ok a) : ckR ok bad [] a := .inl ⟨Gd_nil, h⟩
theorem ck_ok (hc : c) (h : ckR ok bad L a) : ckR ok bad ((c, f, p) :: L) a := by
  rcases h with ⟨h1, h2⟩ | ⟨f', p', h1, h2⟩
  · exact .inl ⟨Gd_cons.mpr ⟨hc, h1⟩, h2⟩
  · exact .inr ⟨f', p', Fst_cons hc h1, h2⟩
theorem ck_no (hc : ¬ c) (h : bad f p a) : ckR ok bad ((c, f, p) :: L) a := .inr ⟨f, p, Fst_no hc, h⟩
theorem ck_app (hL : Gd L) (h : ckR ok bad M a) : ckR ok bad (L ++ M) a := by
  rcases h with ⟨h1, h2⟩ | ⟨f', p', h1, h2⟩
  · exact .inl ⟨Gd_app.mpr ⟨hL, h1⟩, h2⟩
  · exact .inr ⟨f', p', Fst_appR hL h1, h2⟩
theorem ck_bad (h : Fst L f p) (k : bad f p a) : ckR ok bad (L ++ M) a := .inr ⟨f, p, Fst_appL h, k⟩
theorem jk_ok {R : Type} {Q : R → Prop} {Q' : Int → Int → R → Prop} {x : Option R} (hc : c) (h : jE x (ckR Q Q' L)) : jE x (ckR Q Q' ((c, f, p) :: L)) := jE_mono h fun _ z => ck_ok hc z
theorem jk_no {R : Type} {Q : R → Prop} {Q' : Int → Int → R → Prop} {x : Option R} (hc : ¬ c) (h : jE x (Q' f p)) : jE x (ckR Q Q' ((c, f, p) :: L)) := jE_mono h fun _ z => ck_no hc z
theorem jk_app {R : Type} {Q : R → Prop} {Q' : Int → Int → R → Prop} {x : Option R} (hL : Gd L) (h : jE x (ckR Q Q' M)) : jE x (ckR Q Q' (L ++ M)) := jE_mono h fun _ z => ck_app hL z
theorem jk_bad {R : Type} {Q : R → Prop} {Q' : Int → Int → R → Prop} {x : Option R} (hL : Fst L f p) (h : jE x (Q' f p)) : jE x (ckR Q Q' (L ++ M)) := jE_mono h fun _ z => ck_bad hL z
theorem jk_end {R : Type} {Q : R → Prop} {Q' : Int → Int → R → Prop} {x : Option R} (h : jE x Q) : jE x (ckR Q Q' []) := jE_mono h fun _ z => ck_end z
/-- rows of many -/
def ckN (F : Int → List (Prop × Int × Int)) : Nat → Int → List (Prop × Int × Int)
  | 0, _ => []
  | m + 1, lo => F lo ++ ckN F m (lo + 1)
def ckF (F : Int → List (Prop × Int × Int)) (lo hi : Int) : List (Prop × Int × Int) := ckN F (hi - lo).toNat lo
theorem ckF_nil {F : Int → List (Prop × Int × Int)} (h : hi ≤ lo) : ckF F lo hi = [] := by
  unfold ckF; rw [show (hi - lo).toNat = 0 by omega]; rfl
theorem ckF_cons {F : Int → List (Prop × Int × Int)} (h : lo < hi) : ckF F lo hi = F lo ++ ckF F (lo + 1) hi := by
  unfold ckF; rw [show (hi - lo).toNat = (hi - (lo + 1)).toNat + 1 by omega]; rfl
theorem ckF_gd {F : Int → List (Prop × Int × Int)} : Gd (ckF F lo hi) ↔ ∀ k, lo ≤ k → k < hi → Gd (F k) := by
  have key : ∀ (m : Nat) (lo : Int), (hi - lo).toNat = m → (Gd (ckF F lo hi) ↔ ∀ k, lo ≤ k → k < hi → Gd (F k)) := by
    intro m
    induction m with
    | zero =>
      intro lo h
      rw [ckF_nil (by omega)]
      exact ⟨fun _ k a b => by omega, fun _ => Gd_nil⟩
    | succ m ih =>
      intro lo h
      rw [ckF_cons (by omega), Gd_app, ih (lo + 1) (by omega)]
      constructor
      · rintro ⟨h1, h2⟩ k a b
        by_cases e : k = lo
        · subst e; exact h1
        · exact h2 k (by omega) b
      · intro h1
        exact ⟨h1 lo (Int.le_refl _) (by omega), fun k a b => h1 k (by omega) b⟩
  exact key _ lo rfl
/-- a loop over rows -/
theorem jk_for {R : Type} {Q : R → Prop} {Q' : Int → Int → R → Prop} {C : List Int → jS → Option ((jS × List Int) ⊕ R)} (F : Int → List (Prop × Int × Int)) (J : Int → jS → Prop) (V : Int → List Int) (lo hi : Int) (hn : lo ≤ hi) {s : jS} (h : J lo s)
    (h1 : ∀ k s, lo ≤ k → k < hi → (∀ i, lo ≤ i → i < k → Gd (F i)) → J k s → jE (C (V k) s) (ckR (fun x => ∃ t, x = .inl (t, V (k + 1)) ∧ J (k + 1) t) (fun f p x => ∃ r, x = .inr r ∧ Q' f p r) (F k)))
    (h2 : ∀ s, J hi s → (∀ i, lo ≤ i → i < hi → Gd (F i)) → jE (C (V hi) s) fun x => ∃ r, x = .inr r ∧ ckR Q Q' M r) : jE (jlpW C (V lo) s) (ckR Q Q' (ckF F lo hi ++ M)) := by
  have key : ∀ (m : Nat) (k : Int) (s : jS), lo ≤ k → k ≤ hi → hi - k = m → (∀ i, lo ≤ i → i < k → Gd (F i)) → J k s → jE (jlpW C (V k) s) (ckR Q Q' (ckF F k hi ++ M)) := by
    intro m
    induction m with
    | zero =>
      intro k s h0 hk hm hG hJ
      have : k = hi := by omega
      subst this
      obtain ⟨x, e, r, ex, q⟩ := h2 s hJ hG
      rw [jlpW_st, e, ex, ckF_nil (Int.le_refl _)]
      exact jE_some.mpr q
    | succ m ih =>
      intro k s h0 hk hm hG hJ
      obtain ⟨x, e, q⟩ := h1 k s h0 (by omega) hG hJ
      rw [jlpW_st, e, ckF_cons (by omega), List.append_assoc]
      rcases q with ⟨q1, t, ex, q2⟩ | ⟨f, p, q1, r, ex, q2⟩
      · subst ex
        exact jk_app q1 (ih (k + 1) t (by omega) (by omega) (by omega) (fun i i0 i1 => by
          by_cases e : i = k
          · subst e; exact q1
          · exact hG i i0 (by omega)) q2)
      · subst ex
        exact jk_bad q1 (jE_some.mpr q2)
  exact key (hi - lo).toNat lo s (Int.le_refl _) hn (by omega) (fun i a b => by omega) h
/-- the same with one number carried along -/
theorem jk_for1 {R : Type} {Q : R → Prop} {Q' : Int → Int → R → Prop} {C : List Int → jS → Option ((jS × List Int) ⊕ R)} (F : Int → List (Prop × Int × Int)) (J : Int → Int → jS → Prop) (V : Int → Int → List Int) (lo hi : Int) (hn : lo ≤ hi) {s : jS} {z : Int} (h : J lo z s)
    (h1 : ∀ k z s, lo ≤ k → k < hi → (∀ i, lo ≤ i → i < k → Gd (F i)) → J k z s → jE (C (V k z) s) (ckR (fun x => ∃ t z', x = .inl (t, V (k + 1) z') ∧ J (k + 1) z' t) (fun f p x => ∃ r, x = .inr r ∧ Q' f p r) (F k)))
    (h2 : ∀ z s, J hi z s → (∀ i, lo ≤ i → i < hi → Gd (F i)) → jE (C (V hi z) s) fun x => ∃ r, x = .inr r ∧ ckR Q Q' M r) : jE (jlpW C (V lo z) s) (ckR Q Q' (ckF F lo hi ++ M)) := by
  have key : ∀ (m : Nat) (k z : Int) (s : jS), lo ≤ k → k ≤ hi → hi - k = m → (∀ i, lo ≤ i → i < k → Gd (F i)) → J k z s → jE (jlpW C (V k z) s) (ckR Q Q' (ckF F k hi ++ M)) := by
    intro m
    induction m with
    | zero =>
      intro k z s h0 hk hm hG hJ
      have : k = hi := by omega
      subst this
      obtain ⟨x, e, r, ex, q⟩ := h2 z s hJ hG
      rw [jlpW_st, e, ex, ckF_nil (Int.le_refl _)]
      exact jE_some.mpr q
    | succ m ih =>
      intro k z s h0 hk hm hG hJ
      obtain ⟨x, e, q⟩ := h1 k z s h0 (by omega) hG hJ
      rw [jlpW_st, e, ckF_cons (by omega), List.append_assoc]
      rcases q with ⟨q1, t, z', ex, q2⟩ | ⟨f, p, q1, r, ex, q2⟩
      · subst ex
        exact jk_app q1 (ih (k + 1) z' t (by omega) (by omega) (by omega) (fun i i0 i1 => by
          by_cases e : i = k
          · subst e; exact q1
          · exact hG i i0 (by omega)) q2)
      · subst ex
        exact jk_bad q1 (jE_some.mpr q2)
  exact key (hi - lo).toNat lo z s (Int.le_refl _) hn (by omega) (fun i a b => by omega) h
/-- numbers in a file -/
def r2 (g : Int → Int) (p : Int) : Int := g p + 256 * g (p + 1)
def r4 (g : Int → Int) (p : Int) : Int := r2 g p + 65536 * r2 g (p + 2)
def byG (g : Int → Int) (n : Int) : Prop := ∀ i, 0 ≤ i → i < n → 0 ≤ g i ∧ g i < 256
theorem r2_lo (h : byG g n) (p0 : 0 ≤ p) (p1 : p + 1 < n) : 0 ≤ r2 g p ∧ r2 g p < 65536 := by
  have h1 := h p p0 (by omega)
  have h2 := h (p + 1) (by omega) p1
  unfold r2; omega
theorem r4_lo (h : byG g n) (p0 : 0 ≤ p) (p1 : p + 3 < n) : 0 ≤ r4 g p ∧ r4 g p < 4294967296 := by
  have h1 := r2_lo h p0 (by omega)
  have h2 := r2_lo h (p := p + 2) (by omega) (by omega)
  unfold r4; omega
/-- the table, entries, the names' entry; a number of an entry -/
def RT (g : Int → Int) : Int := r4 g 32
def RE (g : Int → Int) : Int := r2 g 48
def RN (g : Int → Int) : Int := r2 g 50
def rf (g : Int → Int) (e k : Int) : Int := RT g + 40 * e + 4 * k
def rt (g : Int → Int) (e k : Int) : Int := r4 g (rf g e k)
def mgc (k : Int) : Int := if k = 0 then 127 else if k = 1 then 69 else if k = 2 then 76 else 70
def Lhead (g : Int → Int) (n : Int) : List (Prop × Int × Int) := (52 ≤ n, 1, n) :: (ckF (fun k => [(g k = mgc k, 2, k)]) 0 4 ++ (ckF (fun k => [(g k = 1, k - 1, k)]) 4 7 ++ (ckF (fun k => [(g k = 0, 6, k)]) 7 16 ++
  ((r2 g 16 = 1, 7, 16) :: (r2 g 18 = 243, 8, 18) :: (r4 g 20 = 1, 9, 20) :: (r4 g 24 = 0, 9, 24) :: (r4 g 28 = 0, 9, 28) :: (r4 g 32 % 4 = 0 ∧ 52 ≤ r4 g 32, 9, 32) :: (r4 g 36 < 2, 9, 36) :: (r2 g 40 = 52, 9, 40) :: (r2 g 42 = 0, 9, 42) :: (r2 g 44 = 0, 9, 44) :: (r2 g 46 = 40, 9, 46) :: (1 ≤ r2 g 48 ∧ r2 g 48 ≤ 16, 9, 48) :: (1 ≤ r2 g 50 ∧ r2 g 50 < r2 g 48, 9, 50) :: (r4 g 32 + 40 * r2 g 48 ≤ n, 10, 32) :: []))))
/-- what the head tells when it is good -/
def Hd (g : Int → Int) (n : Int) : Prop := 52 ≤ n ∧ RT g % 4 = 0 ∧ 52 ≤ RT g ∧ 1 ≤ RE g ∧ RE g ≤ 16 ∧ 1 ≤ RN g ∧ RN g < RE g ∧ RT g + 40 * RE g ≤ n ∧ r4 g 36 < 2
theorem Lhead_ok (h : Gd (Lhead g n)) : Hd g n := by
  unfold Lhead at h
  simp only [Gd_cons, Gd_app] at h
  obtain ⟨h1, -, -, -, -, -, -, -, -, h2, h3, -, -, -, -, h4, h5, h6, -⟩ := h
  exact ⟨h1, h2.1, h2.2, h4.1, h4.2, h5.1, h5.2, h6, h3⟩
/-- areas that meet -/
def mt (a m b k : Int) : Prop := a < b + k ∧ b < a + m
def isS (g : Int → Int) (e : Int) : Prop := ¬ rt g e 1 = 8
def Lent (g : Int → Int) (n e : Int) : List (Prop × Int × Int) := [(1 ≤ rt g e 1 ∧ rt g e 1 ≤ 4 ∨ rt g e 1 = 8, 11, rf g e 1), (isS g e → rt g e 4 + rt g e 5 ≤ n ∧ (rt g e 5 = 0 ∨ 52 ≤ rt g e 4), 12, rf g e 4), (pPw (rt g e 8) ∧ (isS g e → rt g e 4 % rt g e 8 = 0), 13, rf g e 8),
  (isS g e → ¬ rt g e 5 = 0 → ¬ mt (rt g e 4) (rt g e 5) (RT g) (40 * RE g) ∧ ∀ k, 1 ≤ k → k < e → isS g k → ¬ rt g k 5 = 0 → ¬ mt (rt g e 4) (rt g e 5) (rt g k 4) (rt g k 5), 14, rf g e 4)]
def Lents (g : Int → Int) (n : Int) : List (Prop × Int × Int) := ckF (fun k => [(rt g 0 k = 0, 11, rf g 0 k)]) 0 10 ++ (ckF (Lent g n) 1 (RE g) ++ [])
/-- which title stands at a place -/
def tE (g : Int → Int) (p : Int) (k : Nat) : Prop := (∀ i : Nat, i < (tl k).length → g (p + i) = (tl k).getD i 0) ∧ g (p + (tl k).length) = 0
/-- the title of an entry: k -/
def isT (g : Int → Int) (e : Int) (k : Nat) : Prop := k < 11 ∧ tE g (rt g (RN g) 4 + rt g e 0) k
def Lname (g : Int → Int) (e : Int) : List (Prop × Int × Int) := [(rt g e 0 < rt g (RN g) 5 ∧ ∃ k, isT g e k ∧ ∀ j, 1 ≤ j → j < e → ¬ isT g j k, 16, rf g e 0)]
def Lstr (g : Int → Int) (e f : Int) : List (Prop × Int × Int) := [(0 < rt g e 5, f, rf g e 5), (g (rt g e 4) = 0, f, rt g e 4), (g (rt g e 4 + rt g e 5 - 1) = 0, f, rt g e 4 + rt g e 5 - 1)]
def Lnames (g : Int → Int) : List (Prop × Int × Int) := (rt g (RN g) 1 = 3, 15, rf g (RN g) 1) :: (Lstr g (RN g) 15 ++ (ckF (Lname g) 1 (RE g) ++ []))
/-- an entry's title, a title's entry (0: none) -/
noncomputable def pt (g : Int → Int) (e : Int) : Nat := @dite _ (∃ k, isT g e k) (Classical.propDecidable _) (fun h => Classical.choose h) (fun _ => 11)
noncomputable def ep (g : Int → Int) (k : Nat) : Int := @dite _ (∃ e, 1 ≤ e ∧ e < RE g ∧ isT g e k) (Classical.propDecidable _) (fun h => Classical.choose h) (fun _ => 0)
theorem tl_in : ∀ j : Nat, j < 11 → ∀ k : Nat, k < 11 → ¬ j = k → ∃ i : Nat, i ≤ (tl j).length ∧ i ≤ (tl k).length ∧ ¬ (tl j ++ [0]).getD i 0 = (tl k ++ [0]).getD i 0 := by decide
theorem tE_at {k i : Nat} (h : tE g p k) (hi : i ≤ (tl k).length) : g (p + i) = (tl k ++ [0]).getD i 0 := by
  rw [getD_app]
  by_cases c : i < (tl k).length
  · rw [if_pos c]; exact h.1 i c
  · rw [if_neg c]
    have : i = (tl k).length := by omega
    subst this
    rw [show (tl k).length - (tl k).length = 0 by omega]; exact h.2
theorem tE_one {j k : Nat} (hj : j < 11) (hk : k < 11) (h : tE g p j) (h' : tE g p k) : j = k := by
  by_cases c : j = k
  · exact c
  · obtain ⟨i, i0, i1, i2⟩ := tl_in j hj k hk c
    exact absurd ((tE_at h i0).symm.trans (tE_at h' i1)) i2
theorem isT_one {e : Int} {j k : Nat} (h : isT g e j) (h' : isT g e k) : j = k := tE_one h.1 h'.1 h.2 h'.2
theorem pt_of {e : Int} {k : Nat} (h : isT g e k) : pt g e = k := by
  unfold pt
  rw [dif_pos ⟨k, h⟩]
  exact isT_one (Classical.choose_spec (p := fun k => isT g e k) ⟨k, h⟩) h
/-- names that are good: what they tell -/
def Nm (g : Int → Int) : Prop := ∀ e, 1 ≤ e → e < RE g → rt g e 0 < rt g (RN g) 5 ∧ isT g e (pt g e) ∧ ∀ j, 1 ≤ j → j < RE g → pt g j = pt g e → j = e
theorem Nm_of (h : Gd (ckF (Lname g) 1 (RE g))) : Nm g := by
  rw [ckF_gd] at h
  have st : ∀ e, 1 ≤ e → e < RE g → rt g e 0 < rt g (RN g) 5 ∧ isT g e (pt g e) ∧ ∀ j, 1 ≤ j → j < e → ¬ isT g j (pt g e) := fun e e0 e1 => by
    have := (Gd_cons.mp (h e e0 e1)).1
    obtain ⟨h1, k, h2, h3⟩ := this
    rw [pt_of h2]
    exact ⟨h1, h2, h3⟩
  refine fun e e0 e1 => ⟨(st e e0 e1).1, (st e e0 e1).2.1, fun j j0 j1 hj => ?_⟩
  obtain ⟨-, a, b⟩ := st e e0 e1
  obtain ⟨-, c, d⟩ := st j j0 j1
  rcases Int.lt_trichotomy j e with q | q | q
  · exact absurd (hj ▸ c) (b j j0 q)
  · exact q
  · rw [hj] at d; exact absurd a (d e e0 q)
theorem ep_of (h : Nm g) {e : Int} (e0 : 1 ≤ e) (e1 : e < RE g) : ep g (pt g e) = e := by
  have hx : ∃ e', 1 ≤ e' ∧ e' < RE g ∧ isT g e' (pt g e) := ⟨e, e0, e1, (h e e0 e1).2.1⟩
  unfold ep
  rw [dif_pos hx]
  obtain ⟨a, b, c⟩ := Classical.choose_spec hx
  exact (h e e0 e1).2.2 _ a b (pt_of c)
theorem ep_cases (h : Nm g) (k : Nat) : ep g k = 0 ∧ (∀ e, 1 ≤ e → e < RE g → ¬ pt g e = k) ∨ 1 ≤ ep g k ∧ ep g k < RE g ∧ pt g (ep g k) = k := by
  by_cases hx : ∃ e, 1 ≤ e ∧ e < RE g ∧ isT g e k
  · refine .inr ?_
    unfold ep
    rw [dif_pos hx]
    obtain ⟨a, b, c⟩ := Classical.choose_spec hx
    exact ⟨a, b, pt_of c⟩
  · refine .inl ⟨by unfold ep; rw [dif_neg hx], fun e e0 e1 e2 => hx ⟨e, e0, e1, e2 ▸ (h e e0 e1).2.1⟩⟩
def isM (k : Nat) : Bool := decide (5 ≤ k ∧ k < 8)
theorem isM_i {k : Nat} : isM k = true ↔ 5 ≤ k ∧ k < 8 := by unfold isM; simp
def pwB (v : Int) : Bool := decide (v = 1 ∨ v = 2 ∨ v = 4 ∨ v = 8 ∨ v = 16 ∨ v = 32 ∨ v = 64)
theorem pwB_i {v : Int} : pwB v = true ↔ pPw v := by unfold pwB pPw; simp
def Lrule (g : Int → Int) (e : Int) : List (Prop × Int × Int) := [(rt g e 1 = srO (pt g e), 17, rf g e 1), (rt g e 2 = flO (pt g e), 17, rf g e 2), (rt g e 3 = 0, 17, rf g e 3),
  (if isM (pt g e) = true then 0 < ep g 8 ∧ rt g e 6 = ep g 8 else if pt g e = 8 then 0 < ep g 9 ∧ rt g e 6 = ep g 9 else rt g e 6 = 0, 17, rf g e 6),
  (pt g e = 8 ∨ if isM (pt g e) = true then 0 < ep g (pt g e - 5) ∧ rt g e 7 = ep g (pt g e - 5) else rt g e 7 = 0, 17, rf g e 7), (rt g e 9 = eaO (pt g e), 17, rf g e 9)]
def Lrules (g : Int → Int) : List (Prop × Int × Int) := ckF (Lrule g) 1 (RE g) ++ [(0 < ep g 8 ∧ 0 < ep g 9 ∧ ep g 10 = RN g, 18, 50)]
/-- bytes of relocations so far -/
noncomputable def mvN (g : Int → Int) : Nat → Int
  | 0 => 0
  | m + 1 => mvN g m + (if 1 ≤ m ∧ isM (pt g m) = true then rt g m 5 else 0)
noncomputable def Lsize (g : Int → Int) (e : Int) : List (Prop × Int × Int) := [(if pt g e < 3 then rt g e 5 ≤ 2048 else if pt g e = 3 then rt g e 5 ≤ 4096 else if pt g e = 4 then rt g e 5 % 2 = 0 ∧ rt g e 5 ≤ 2048 else if isM (pt g e) = true then rt g e 5 % 12 = 0 ∧ mvN g (e + 1).toNat ≤ 3600 else if pt g e = 8 then rt g e 5 % 16 = 0 ∧ 16 ≤ rt g e 5 ∧ rt g e 5 ≤ 1616 else True, 19, rf g e 5)]
noncomputable def Lsizes (g : Int → Int) : List (Prop × Int × Int) := ckF (Lsize g) 1 (RE g) ++ Lstr g (ep g 9) 20
/-- a part of a file: where it begins, how long it is -/
noncomputable def fR (g : Int → Int) (k : Nat) : Int := if ep g k = 0 then 0 else rt g (ep g k) 4
noncomputable def sR (g : Int → Int) (k : Nat) : Int := if ep g k = 0 then 0 else rt g (ep g k) 5
/-- a symbol's place; its name -/
noncomputable def ySy (g : Int → Int) (x : Int) : Int := fR g 8 + 16 * x
noncomputable def yNm (g : Int → Int) (x : Int) : Int := fR g 9 + r4 g (ySy g x)
/-- how long the name at a place is -/
def nmLe (g : Int → Int) (p m : Int) : Prop := 0 ≤ m ∧ g (p + m) = 0 ∧ ∀ i, 0 ≤ i → i < m → ¬ g (p + i) = 0
def nmG (g : Int → Int) (p : Int) : Prop := ∃ m, nmLe g p m ∧ 1 ≤ m ∧ m ≤ 16 ∧ ∀ i, 0 ≤ i → i < m → 33 ≤ g (p + i) ∧ g (p + i) ≤ 126
theorem nmL_one {m m' : Int} (h : nmLe g p m) (h' : nmLe g p m') : m = m' := by
  rcases Int.lt_trichotomy m m' with q | q | q
  · exact absurd h.2.1 (h'.2.2 m h.1 q)
  · exact q
  · exact absurd h'.2.1 (h.2.2 m' h'.1 q)
noncomputable def nLn (g : Int → Int) (p : Int) : Int := @dite _ (∃ m, nmLe g p m) (Classical.propDecidable _) (fun h => Classical.choose h) (fun _ => 0)
theorem nLn_of {m : Int} (h : nmLe g p m) : nLn g p = m := by
  unfold nLn; rw [dif_pos ⟨m, h⟩]; exact nmL_one (Classical.choose_spec (p := fun m => nmLe g p m) ⟨m, h⟩) h
/-- where a symbol is: -2 for nowhere that there is -/
noncomputable def yWh (g : Int → Int) (x : Int) : Int := if r2 g (ySy g x + 14) = 0 then -1 else if r2 g (ySy g x + 14) = 65521 then 4 else if r2 g (ySy g x + 14) = 65522 then 5 else if ep g 0 = r2 g (ySy g x + 14) then 0 else if ep g 1 = r2 g (ySy g x + 14) then 1 else if ep g 2 = r2 g (ySy g x + 14) then 2 else if ep g 3 = r2 g (ySy g x + 14) then 3 else -2
noncomputable def yHw (g : Int → Int) (x : Int) : Int := g (ySy g x + 12) / 16
noncomputable def yVa (g : Int → Int) (x : Int) : Int := r4 g (ySy g x + 4)
noncomputable def ySz (g : Int → Int) (x : Int) : Int := r4 g (ySy g x + 8)
noncomputable def yAm (g : Int → Int) (x : Int) : Int :=
  if yWh g x = -1 then (if ¬ yVa g x = 0 then 4 else if ¬ ySz g x = 0 then 8 else if yHw g x = 0 then 12 else 0)
  else if yWh g x = 5 then (if ¬ pwB (yVa g x) = true then 4 else if ySz g x < 1 ∨ 4096 < ySz g x then 8 else if ¬ yHw g x = 1 then 12 else 0)
  else if yWh g x = 4 then (if 2147483647 < ySz g x then 8 else 0)
  else if sR g (yWh g x).toNat < yVa g x then 4 else if sR g (yWh g x).toNat < yVa g x + ySz g x then 8 else 0
def yEq (g : Int → Int) (p q : Int) : Prop := ∃ m, nmLe g p m ∧ nmLe g q m ∧ ∀ i, 0 ≤ i → i < m → g (p + i) = g (q + i)
noncomputable def Lsym (g : Int → Int) (x : Int) : List (Prop × Int × Int) := [(r4 g (ySy g x) < sR g 9 ∧ nmG g (yNm g x), 22, ySy g x), (g (ySy g x + 12) / 16 < 3 ∧ g (ySy g x + 12) % 16 < 3, 23, ySy g x + 12), (g (ySy g x + 13) = 0, 23, ySy g x + 13), (0 < yHw g x ∨ x = 1 ∨ yHw g (x - 1) = 0, 24, ySy g x + 12), (¬ yWh g x = -2, 25, ySy g x + 14), (yAm g x = 0, 26, ySy g x + yAm g x),
  (yHw g x = 0 ∨ ∀ y, 1 ≤ y → y < x → ¬ yHw g y = 0 → ¬ yEq g (yNm g y) (yNm g x), 27, ySy g x)]
noncomputable def nSy (g : Int → Int) : Int := sR g 8 / 16
noncomputable def Lsyms (g : Int → Int) : List (Prop × Int × Int) := ckF (fun k => [(g (fR g 8 + k) = 0, 21, fR g 8 + k)]) 0 16 ++ (ckF (Lsym g) 1 (nSy g) ++ [(rt g (ep g 8) 7 = 1 + cn (fun x => decide (yHw g (x + 1) = 0)) (nSy g - 1), 28, rf g (ep g 8) 7)])
/-- a relocation at a place -/
def kSec (k s : Int) : Prop := kOK k ∧ (s = 0 ∨ k = 1 ∨ 33 ≤ k ∧ k ≤ 39)
noncomputable def Lmv (g : Int → Int) (s : Nat) (x : Int) : List (Prop × Int × Int) :=
  [(kSec (g (fR g (5 + s) + 12 * x + 4)) s, 29, fR g (5 + s) + 12 * x + 4), (r4 g (fR g (5 + s) + 12 * x + 4) / 256 < nSy g ∧ (r4 g (fR g (5 + s) + 12 * x + 4) / 256 = 0 ↔ (g (fR g (5 + s) + 12 * x + 4) = 43 ∨ g (fR g (5 + s) + 12 * x + 4) = 51)), 30, fR g (5 + s) + 12 * x + 4),
   (g (fR g (5 + s) + 12 * x + 4) = 43 → r4 g (fR g (5 + s) + 12 * x + 8) ≤ 62 ∧ r4 g (fR g (5 + s) + 12 * x + 8) % 2 = 0, 31, fR g (5 + s) + 12 * x + 8), (r4 g (fR g (5 + s) + 12 * x) + kW (g (fR g (5 + s) + 12 * x + 4)) (r4 g (fR g (5 + s) + 12 * x + 8)) ≤ sR g s, 32, fR g (5 + s) + 12 * x)]
noncomputable def Lmvs (g : Int → Int) : List (Prop × Int × Int) := ckF (fun s => ckF (Lmv g s.toNat) 0 (sR g (5 + s.toNat) / 12)) 0 3 ++ []
/-- starts -/
noncomputable def Lst (g : Int → Int) (k : Int) : List (Prop × Int × Int) := [(r2 g (fR g 4 + 2 * k) < sR g 0 ∧ r2 g (fR g 4 + 2 * k) % 2 = 0 ∧ (k = 0 ∨ r2 g (fR g 4 + 2 * (k - 1)) < r2 g (fR g 4 + 2 * k)), 33, fR g 4 + 2 * k)]
noncomputable def isHf (g : Int → Int) : Int → Bool := fun k => decide (¬ g (fR g 0 + r2 g (fR g 4 + 2 * k)) % 4 = 3)
noncomputable def Lsts (g : Int → Int) : List (Prop × Int × Int) := ckF (Lst g) 0 (sR g 4 / 2) ++ [((r4 g 36 = 1 ↔ 0 < cn (isHf g) (sR g 4 / 2)), 34, 36)]
noncomputable def Lall (g : Int → Int) (n : Int) : List (Prop × Int × Int) := Lhead g n ++ (Lents g n ++ (Lnames g ++ (Lrules g ++ (Lsizes g ++ (Lsyms g ++ (Lmvs g ++ Lsts g))))))
end jRspec
