/-! names packed into numbers *-/
set_option maxRecDepth 100000
section jNames
variable {f : Nat → Int} {B c x y : Int} {d : Int → Int} {l m : List Int}
/-- what isn't 0, from i on *-/
def nzS (f : Nat → Int) : Nat → Nat → List Int
  | 0, _ => []
  | m + 1, i => if f i = 0 then nzS f m (i + 1) else f i :: nzS f m (i + 1)
theorem nzS_fil : ∀ (B : List Int) (i : Nat), (∀ j, j < B.length → f (i + j) = B.getD j 0) → nzS f B.length i = B.filter fun c => decide (¬ c = 0)
  | [], i, h => rfl
  | b :: B, i, h => by
    have h0 : f i = b := h 0 (Nat.zero_lt_succ _)
    have ih := nzS_fil B (i + 1) fun j hj => by
      have := h (j + 1) (Nat.succ_lt_succ hj)
      rw [show i + 1 + j = i + (j + 1) by omega, this]; rfl
    show (if f i = 0 then nzS f B.length (i + 1) else f i :: nzS f B.length (i + 1)) = _
    rw [h0, ih]
    by_cases c : b = 0
    · rw [if_pos c, List.filter_cons_of_neg (by simp [c])]
    · rw [if_neg c, List.filter_cons_of_pos (by simp [c])]
theorem fil_all (h : ∀ c ∈ l, ¬ c = 0) : l.filter (fun c => decide (¬ c = 0)) = l := List.filter_eq_self.mpr fun c hc => by simp [h c hc]
theorem fil_z (n : Nat) : (List.replicate n (0 : Int)).filter (fun c => decide (¬ c = 0)) = [] := by
  rw [List.filter_eq_nil_iff]
  intro c hc
  rw [List.mem_replicate] at hc
  simp [hc.2]
/-- digits of base B *-/
def cdf (B : Int) (d : Int → Int) (l : List Int) : Int := l.foldl (fun v c => B * v + d c) 0
theorem cdf_nil : cdf B d [] = 0 := rfl
theorem cdf_app : cdf B d (l ++ [c]) = B * cdf B d l + d c := by unfold cdf; rw [List.foldl_append]; rfl
def cdr (B : Int) (d : Int → Int) : List Int → Int
  | [] => 0
  | c :: l => B * cdr B d l + d c
theorem cdf_rev : ∀ l : List Int, cdf B d l.reverse = cdr B d l
  | [] => rfl
  | c :: l => by rw [List.reverse_cons, cdf_app, cdf_rev l]; rfl
theorem cdr_nn (hB : 1 < B) {S : Int → Prop} (hd : ∀ c, S c → 1 ≤ d c ∧ d c < B) : ∀ l : List Int, (∀ c ∈ l, S c) → 0 ≤ cdr B d l ∧ (¬ l = [] → 1 ≤ cdr B d l)
  | [], _ => ⟨Int.le_refl _, fun h => absurd rfl h⟩
  | c :: l, h => by
    have ih := (cdr_nn hB hd l fun e he => h e (List.mem_cons_of_mem _ he)).1
    have := hd c (h c List.mem_cons_self)
    have p : 0 ≤ B * cdr B d l := Int.mul_nonneg (by omega) ih
    show 0 ≤ B * cdr B d l + d c ∧ (_ → 1 ≤ B * cdr B d l + d c)
    exact ⟨by omega, fun _ => by omega⟩
theorem cdr_inj (hB : 1 < B) {S : Int → Prop} (hd : ∀ c, S c → 1 ≤ d c ∧ d c < B) (hi : ∀ c e, S c → S e → d c = d e → c = e) : ∀ l m : List Int, (∀ c ∈ l, S c) → (∀ c ∈ m, S c) → cdr B d l = cdr B d m → l = m
  | [], [], _, _, _ => rfl
  | [], c :: m, _, h, e => by
    have := (cdr_nn hB hd (c :: m) h).2 (by simp)
    rw [← e] at this
    exact absurd this (by show ¬ (1 : Int) ≤ 0; decide)
  | c :: l, [], h, _, e => by
    have := (cdr_nn hB hd (c :: l) h).2 (by simp)
    rw [e] at this
    exact absurd this (by show ¬ (1 : Int) ≤ 0; decide)
  | c :: l, g :: m, h, k, e => by
    have e' : B * cdr B d l + d c = B * cdr B d m + d g := e
    have dc := hd c (h c List.mem_cons_self)
    have dg := hd g (k g List.mem_cons_self)
    have m1 : (B * cdr B d l + d c) % B = d c := by rw [Int.mul_add_emod_self_left]; exact Int.emod_eq_of_lt (by omega) dc.2
    have m2 : (B * cdr B d m + d g) % B = d g := by rw [Int.mul_add_emod_self_left]; exact Int.emod_eq_of_lt (by omega) dg.2
    have ed : d c = d g := by rw [← m1, ← m2, e']
    have eb : B * cdr B d l = B * cdr B d m := by omega
    have ec := Int.eq_of_mul_eq_mul_left (by omega : ¬ B = 0) eb
    rw [hi c g (h c List.mem_cons_self) (k g List.mem_cons_self) ed, cdr_inj hB hd hi l m (fun x hx => h x (List.mem_cons_of_mem _ hx)) (fun x hx => k x (List.mem_cons_of_mem _ hx)) ec]
theorem cdf_inj (hB : 1 < B) {S : Int → Prop} (hd : ∀ c, S c → 1 ≤ d c ∧ d c < B) (hi : ∀ c e, S c → S e → d c = d e → c = e) (hl : ∀ c ∈ l, S c) (hm : ∀ c ∈ m, S c) (e : cdf B d l = cdf B d m) : l = m := by
  rw [← List.reverse_reverse l, ← List.reverse_reverse m, cdf_rev, cdf_rev] at e
  have := cdr_inj hB hd hi _ _ (fun c hc => hl c (List.mem_reverse.mp hc)) (fun c hc => hm c (List.mem_reverse.mp hc)) e
  rw [← List.reverse_reverse l, this, List.reverse_reverse]
/-- bytes, the first high -/
def pk (l : List Int) : Int := cdf 256 (fun c => c) l
theorem pk_app : pk (l ++ [c]) = 256 * pk l + c := cdf_app
theorem pk_zer : ∀ n : Nat, pk (l ++ List.replicate n 0) = pk l * 256 ^ n
  | 0 => by rw [List.replicate_zero, List.append_nil, Int.pow_zero, Int.mul_one]
  | n + 1 => by
    rw [List.replicate_succ', ← List.append_assoc, pk_app, pk_zer n, Int.pow_succ, Int.add_zero, Int.mul_comm 256, Int.mul_assoc]
theorem pk_cons0 : pk (0 :: l) = pk l := rfl
theorem pk_lead : ∀ n : Nat, pk (List.replicate n 0 ++ l) = pk l
  | 0 => rfl
  | n + 1 => by
    show pk (0 :: (List.replicate n 0 ++ l)) = _
    rw [pk_cons0, pk_lead n]
theorem pk_inj (hl : ∀ c ∈ l, 1 ≤ c ∧ c < 256) (hm : ∀ c ∈ m, 1 ≤ c ∧ c < 256) (e : pk l = pk m) : l = m := cdf_inj (B := 256) (d := fun c => c) (S := fun c => 1 ≤ c ∧ c < 256) (by decide) (fun c h => h) (fun c e _ _ h => h) hl hm e
theorem pk_nn (hl : ∀ c ∈ l, 1 ≤ c ∧ c < 256) (h : ¬ l = []) : 1 ≤ pk l := by
  have := (cdr_nn (B := 256) (d := fun c => c) (S := fun c => 1 ≤ c ∧ c < 256) (by decide) (fun c h => h) l.reverse fun c hc => hl c (List.mem_reverse.mp hc)).2 (by simpa using h)
  rw [← cdf_rev, List.reverse_reverse] at this
  exact this
/-- how large *-/
def pkB (l : List Int) : Prop := 0 ≤ pk l ∧ (pk l = 0 ∨ ∃ n, l.length = n + 1 ∧ pk l < 128 * 256 ^ n)
theorem pkB.nil : pkB [] := ⟨Int.le_refl _, .inl rfl⟩
theorem pkB.app (h : pkB l) (c0 : 0 ≤ c) (c1 : c < 128) : pkB (l ++ [c]) := by
  obtain ⟨h0, h⟩ := h
  unfold pkB
  rw [pk_app, List.length_append]
  refine ⟨by omega, .inr ⟨l.length, rfl, ?_⟩⟩
  rcases h with h | ⟨n, h1, h2⟩
  · rw [h]
    have : (1 : Int) ≤ 256 ^ l.length := Int.pow_pos (by decide)
    omega
  · rw [h1, Int.pow_succ]
    omega
theorem byt_l (h0 : 0 ≤ x) (h1 : x < 9223372036854775808) {j : Nat} (hj : j < 8) : bE x j = x / 256 ^ (7 - j) % 256 := by
  have : j = 0 ∨ j = 1 ∨ j = 2 ∨ j = 3 ∨ j = 4 ∨ j = 5 ∨ j = 6 ∨ j = 7 := by omega
  unfold bE
  rcases this with rfl | rfl | rfl | rfl | rfl | rfl | rfl | rfl
  all_goals
    rw [l_shr_p (by omega) (by omega) (by omega), L2i_mod8]
    congr 2
/-- the bytes of eight -/
theorem byt_8 {b0 b1 b2 b3 b4 b5 b6 b7 : Int} (h0 : 0 ≤ b0 ∧ b0 < 128) (h1 : 0 ≤ b1 ∧ b1 < 256) (h2 : 0 ≤ b2 ∧ b2 < 256) (h3 : 0 ≤ b3 ∧ b3 < 256) (h4 : 0 ≤ b4 ∧ b4 < 256) (h5 : 0 ≤ b5 ∧ b5 < 256) (h6 : 0 ≤ b6 ∧ b6 < 256) (h7 : 0 ≤ b7 ∧ b7 < 256) {j : Nat} (hj : j < 8) : bE (pk [b0, b1, b2, b3, b4, b5, b6, b7]) j = [b0, b1, b2, b3, b4, b5, b6, b7].getD j 0 := by
  have e : pk [b0, b1, b2, b3, b4, b5, b6, b7] = 256 * (256 * (256 * (256 * (256 * (256 * (256 * (256 * 0 + b0) + b1) + b2) + b3) + b4) + b5) + b6) + b7 := rfl
  rw [e]
  generalize hx : 256 * (256 * (256 * (256 * (256 * (256 * (256 * (256 * 0 + b0) + b1) + b2) + b3) + b4) + b5) + b6) + b7 = x
  rw [byt_l (by omega) (by omega) hj]
  have : j = 0 ∨ j = 1 ∨ j = 2 ∨ j = 3 ∨ j = 4 ∨ j = 5 ∨ j = 6 ∨ j = 7 := by omega
  rcases this with rfl | rfl | rfl | rfl | rfl | rfl | rfl | rfl
  · show x / 72057594037927936 % 256 = b0; omega
  · show x / 281474976710656 % 256 = b1; omega
  · show x / 1099511627776 % 256 = b2; omega
  · show x / 4294967296 % 256 = b3; omega
  · show x / 16777216 % 256 = b4; omega
  · show x / 65536 % 256 = b5; omega
  · show x / 256 % 256 = b6; omega
  · show x / 1 % 256 = b7; omega
theorem byt_B {B : List Int} (h8 : B.length = 8) (hB : ∀ c ∈ B, 0 ≤ c ∧ c < 128) {j : Nat} (hj : j < 8) : bE (pk B) j = B.getD j 0 := by
  match B, h8, hB with
  | [b0, b1, b2, b3, b4, b5, b6, b7], _, hB =>
    have q : ∀ c ∈ [b0, b1, b2, b3, b4, b5, b6, b7], 0 ≤ c ∧ c < 256 := fun c hc => by have := hB c hc; omega
    exact byt_8 (hB b0 (by simp)) (q b1 (by simp)) (q b2 (by simp)) (q b3 (by simp)) (q b4 (by simp)) (q b5 (by simp)) (q b6 (by simp)) (q b7 (by simp)) hj
/-- the letters of two numbers -/
noncomputable def nB (x y : Int) (i : Nat) : Int := if i < 8 then bE x i else bE y ((i - 8 : Nat) : Int)
theorem nz_two {B C : List Int} (hB : B.length = 8) (hC : C.length = 8) (gB : ∀ c ∈ B, 0 ≤ c ∧ c < 128) (gC : ∀ c ∈ C, 0 ≤ c ∧ c < 128) : nzS (nB (pk B) (pk C)) 16 0 = (B ++ C).filter fun c => decide (¬ c = 0) := by
  have hl : (B ++ C).length = 16 := by rw [List.length_append]; omega
  have := nzS_fil (f := nB (pk B) (pk C)) (B ++ C) 0 fun j hj => by
    rw [hl] at hj
    rw [Nat.zero_add, List.getD_eq_getElem?_getD]
    unfold nB
    by_cases c : j < 8
    · rw [if_pos c, byt_B hB gB c, List.getElem?_append_left (by omega), List.getD_eq_getElem?_getD]
    · rw [if_neg c, byt_B hC gC (by omega), List.getElem?_append_right (by omega), hB, List.getD_eq_getElem?_getD]
  rw [hl] at this
  exact this
/-- letters of a name -/
def lts (l : List Int) : Prop := l.length ≤ 16 ∧ ∀ c ∈ l, 1 ≤ c ∧ c < 128
theorem lts.z8 (h : ∀ c ∈ l, 1 ≤ c ∧ c < 128) (n : Nat) : (∀ c ∈ l ++ List.replicate n 0, 0 ≤ c ∧ c < 128) ∧ ∀ c ∈ List.replicate n 0 ++ l, 0 ≤ c ∧ c < 128 := by
  constructor
  · intro c hc
    rcases List.mem_append.mp hc with q | q
    · have := h c q; omega
    · rw [(List.mem_replicate.mp q).2]; omega
  · intro c hc
    rcases List.mem_append.mp hc with q | q
    · rw [(List.mem_replicate.mp q).2]; omega
    · have := h c q; omega
theorem fil_zl (h : ∀ c ∈ l, 1 ≤ c ∧ c < 128) (n : Nat) : (l ++ List.replicate n 0).filter (fun c => decide (¬ c = 0)) = l ∧ (List.replicate n 0 ++ l).filter (fun c => decide (¬ c = 0)) = l := by
  have := fil_all (l := l) fun c hc => by have := h c hc; omega
  rw [List.filter_append, List.filter_append, this, fil_z]
  exact ⟨List.append_nil _, List.nil_append _⟩
/-- packed high, and packed low, it is the same name -/
theorem nz_hi (h : lts l) : nzS (nB (pk (l.take 8) * 256 ^ (8 - (l.take 8).length)) (pk (l.drop 8) * 256 ^ (8 - (l.drop 8).length))) 16 0 = l := by
  have l1 : (l.take 8).length ≤ 8 := by rw [List.length_take]; omega
  have l2 : (l.drop 8).length ≤ 8 := by rw [List.length_drop]; have := h.1; omega
  have g1 : ∀ c ∈ l.take 8, 1 ≤ c ∧ c < 128 := fun c hc => h.2 c (List.mem_of_mem_take hc)
  have g2 : ∀ c ∈ l.drop 8, 1 ≤ c ∧ c < 128 := fun c hc => h.2 c (List.mem_of_mem_drop hc)
  rw [← pk_zer, ← pk_zer, nz_two (by rw [List.length_append, List.length_replicate]; omega) (by rw [List.length_append, List.length_replicate]; omega) (lts.z8 g1 _).1 (lts.z8 g2 _).1, List.filter_append, (fil_zl g1 _).1, (fil_zl g2 _).1, List.take_append_drop]
theorem nz_lo (h : lts l) : nzS (nB (pk (l.take 8)) (pk (l.drop 8))) 16 0 = l := by
  have l1 : (l.take 8).length ≤ 8 := by rw [List.length_take]; omega
  have l2 : (l.drop 8).length ≤ 8 := by rw [List.length_drop]; have := h.1; omega
  have g1 : ∀ c ∈ l.take 8, 1 ≤ c ∧ c < 128 := fun c hc => h.2 c (List.mem_of_mem_take hc)
  have g2 : ∀ c ∈ l.drop 8, 1 ≤ c ∧ c < 128 := fun c hc => h.2 c (List.mem_of_mem_drop hc)
  rw [← pk_lead (l := l.take 8) (8 - (l.take 8).length), ← pk_lead (l := l.drop 8) (8 - (l.drop 8).length), nz_two (by rw [List.length_append, List.length_replicate]; omega) (by rw [List.length_append, List.length_replicate]; omega) (lts.z8 g1 _).2 (lts.z8 g2 _).2, List.filter_append, (fil_zl g1 _).2, (fil_zl g2 _).2, List.take_append_drop]
end jNames
