/-! printed by gen_shape.py: what constructors lay once for all -/
def jStrL : List (Nat × List (Int × Option Int × Nat)) := [(17, [(0, some 1, 18), (1, some 258, 31), (2, some 275, 12582919), (3, some 276, 33), (4, some 2134, 33), (5, some 3992, 42), (6, some 4029, 49), (7, some 4148, 53), (8, some 4275, 55)]),
  (18, [(13, some 23, 9437260), (14, some 24, 1048581), (15, some 25, 1048580), (16, some 26, 24)]),
  (31, [(0, some 1, 2097173), (1, some 2, 2100153), (7, some 15, 24)]),
  (32, [(0, some 1, 27263377), (1, some 2, 26215201), (2, some 3, 1050577), (3, some 4, 1050577), (4, some 5, 28311703)]),
  (33, [(0, some 1, 34), (1, some 614, 34), (2, some 1227, 37), (3, some 1229, 39), (4, some 1231, 40), (5, some 1239, 41)]),
  (34, [(0, some 1, 14680069), (1, some 2, 4195329), (3, some 3, 15728741), (5, some 4, 13631789)]),
  (35, [(0, some 1, 2097152)]),
  (36, [(0, some 1, 37)]),
  (37, [(0, some 1, 2097169)]),
  (39, [(0, some 1, 2097152)]),
  (40, [(0, some 1, 39), (1, some 3, 1048589), (2, some 4, 1048589), (3, some 5, 1048589), (4, some 6, 1048589), (5, some 7, 2097169)]),
  (41, [(5, some 1, 1048589), (6, some 2, 1048593), (7, some 3, 34), (8, some 616, 36)]),
  (42, [(0, some 1, 43), (1, some 10, 43), (2, some 19, 45), (3, some 21, 46), (4, some 25, 48)]),
  (43, [(0, some 1, 10485764), (1, some 2, 3147777)]),
  (44, [(1, some 1, 2101249)]),
  (45, [(0, some 1, 2113537)]),
  (46, [(0, some 1, 45), (1, some 3, 47)]),
  (48, [(0, some 1, 43), (1, some 10, 47), (2, some 11, 1048580)]),
  (49, [(0, some 1, 2228225), (1, some 2, 3211265), (2, some 3, 25165833), (3, some 4, 1048609), (4, some 5, 1048585), (5, some 6, 2098153), (6, some 7, 2099153), (7, some 8, 24117350), (8, some 9, 50)]),
  (53, [(0, some (-4147), 18), (1, some (-3890), 31), (2, some (-3872), 33), (3, some 1, 11534437), (4, some 2, 1048727), (5, some 3, 7340036), (6, some 7, 1048581), (7, some 8, 1048581), (8, some 9, 4195329), (9, some 10, 1048877), (10, some 11, 1048877), (11, some 12, 1048877), (12, some 13, 1048877), (13, some 14, 1048877), (14, some 15, 1048587), (15, some 16, 1048587), (16, some 17, 1048587), (17, some 18, 3145737), (18, some 19, 3145737), (19, some 20, 1049377), (20, some 21, 1049377), (21, some 22, 1049377), (22, some 23, 1050577), (23, some 24, 1050577), (24, some 25, 1050577), (42, some 26, 1048581)]),
  (55, [(0, some (-4000), 12582919), (1, some (-4274), 18), (2, some (-283), 42), (3, some 1, 56), (4, some 13, 1048583), (9, some 14, 1049177), (10, some 15, 1049177), (11, some 16, 1049177), (12, some 17, 1049177), (13, some 18, 1049177), (14, some 19, 1049177), (15, some 20, 1049177), (16, some 21, 1049177), (17, some 22, 1049177), (18, some 23, 1049177), (19, some 24, 1049177), (21, some 25, 1048833), (22, some 26, 1048833), (23, some 27, 1048833), (24, some 28, 1048833), (25, some 29, 1048609), (26, some 30, 1048609), (27, some 31, 1048641), (28, some 32, 1048641), (32, some 33, 74448900), (34, some 37, 3147778), (42, some 38, 2106753), (43, some 39, 1049177), (44, some 40, 1049177)]),
  (56, [(0, some 1, 20971553), (1, some 2, 22020353), (2, some 3, 18874433), (3, some 4, 23068929), (4, some 5, 17826049), (5, some 6, 16777473), (6, some 7, 19923201), (11, some 8, 1048581), (12, some 9, 1048581), (13, some 10, 1048581), (14, some 11, 1048833)]),
  (57, [(0, some 1, 1097729), (1, some 2, 1048583), (2, some 3, 1064961), (5, some 4, 58), (6, some 8, 59), (7, some 25, 60), (8, some 59, 60), (9, some 93, 61), (10, some 118, 62), (11, some 130, 63), (13, some 143, 1048677), (14, some 144, 1048677), (15, some 145, 1048677), (16, some 146, 1048677), (17, some 147, 1048677), (18, some 148, 1048727), (20, some 149, 1048587), (21, some 150, 1048587), (22, some 151, 1048587), (23, some 152, 1054721), (24, some 153, 1048581), (25, some 154, 1048581), (27, some 155, 1049601), (29, some 156, 1048877), (30, some 157, 1048877), (31, some 158, 1048877), (32, some 159, 1048877), (33, some 160, 1048877), (38, some 161, 3145737), (39, some 162, 3145737), (49, some 163, 1048641), (50, some 164, 1048641), (51, some 165, 1048641), (55, some 166, 1049377), (56, some 167, 1049377), (57, some 168, 1049377), (58, some 169, 1048581), (62, some 170, 1085441), (63, some 171, 1048601), (64, some 172, 1048601), (65, some 173, 1054721), (66, some 174, 1048583), (67, some 175, 3145735), (68, some 176, 1048583), (69, some 177, 1049177), (70, some 178, 1049177), (71, some 179, 1049177), (72, some 180, 1049177), (73, some 181, 1049177), (74, some 182, 1058177), (75, some 183, 1048583), (76, some 184, 1050377), (77, some 185, 1050377), (78, some 186, 1050377), (79, some 187, 1050377), (80, some 188, 1050377), (82, some 189, 1049177), (83, some 190, 1049177), (84, some 191, 1049177), (85, some 192, 1049177), (86, some 193, 1049177), (87, some 194, 1049177), (88, some 195, 1049177), (89, some 196, 1049177), (90, some 197, 1048833), (91, some 198, 1048833), (92, some 199, 1048833), (93, some 200, 1048609), (94, some 201, 1048609), (95, some 202, 1048601), (96, some 203, 1050377), (97, some 204, 1049777), (98, some 205, 1060865), (110, some 206, 1049177), (111, some 207, 1058177), (112, some 208, 1049177), (117, some 209, 1048593)]),
  (58, [(1, some 1, 1050977), (2, some 2, 1048581), (3, some 3, 1048657)]),
  (59, [(1, some 1, 1048597), (2, some 2, 1051577), (4, some 3, 1048585), (5, some 4, 1053377), (6, some 5, 1059777), (7, some 6, 1056577), (8, some 7, 1053377), (9, some 8, 1048877), (10, some 9, 1054577), (22, some 10, 1050677), (28, some 11, 1072577), (30, some 12, 1050578), (31, some 13, 1056677), (32, some 14, 1050578), (33, some 15, 1051578), (34, some 16, 1050177)]),
  (60, [(0, some 1, 1060865), (1, some 2, 1048585), (2, some 3, 1048585), (3, some 4, 1050625), (4, some 5, 1048579), (5, some 6, 1048777), (6, some 7, 1048777), (7, some 8, 1048777), (8, some 9, 1048777), (9, some 10, 1048777), (10, some 11, 1048777), (11, some 12, 1051777), (12, some 13, 1048579), (13, some 14, 1049177), (14, some 15, 1049177), (15, some 16, 1049177), (16, some 17, 1049177), (17, some 18, 1049177), (18, some 19, 1048579), (19, some 20, 1048593), (21, some 21, 1056769), (24, some 22, 1048705), (25, some 23, 1048588), (26, some 24, 1048588), (27, some 25, 1048588), (28, some 26, 1048588), (29, some 27, 1050625), (31, some 28, 1048601), (33, some 29, 1048677), (34, some 30, 1048677), (35, some 31, 1048588), (37, some 32, 1048588), (38, some 33, 1048593)]),
  (61, [(1, some 1, 1048581), (2, some 2, 1048581), (3, some 3, 1048581), (5, some 4, 1048609), (6, some 5, 1048609), (7, some 6, 3145761), (8, some 7, 3145761), (9, some 8, 3145761), (10, some 9, 1048609), (11, some 10, 1048609), (13, some 11, 1048833), (14, some 12, 1048833), (15, some 13, 1048833), (16, some 14, 1048833), (17, some 15, 1048833), (18, some 16, 1048833), (19, some 17, 1048833), (20, some 18, 3145985), (21, some 19, 3145985), (22, some 20, 1048833), (23, some 21, 1048833), (24, some 22, 1048833), (26, some 23, 1048641), (27, some 24, 1048641)]),
  (62, [(0, some 1, 3145735), (1, some 2, 1048583), (2, some 3, 1048583), (3, some 4, 1048583), (4, some 5, 1073153), (5, some 6, 3149825), (6, some 7, 1048579), (7, some 8, 1048579), (8, some 9, 1064961), (13, some 10, 1048581), (14, some 11, 1048581)]),
  (63, [(0, some 1, 1050977), (1, some 2, 1048581), (2, some 3, 1179649), (3, some 4, 3211265), (4, some 5, 1048585), (5, some 6, 1048585), (6, some 7, 1048585), (8, some 8, 1048585), (10, some 9, 1048609), (12, some 10, 1049577), (15, some 11, 1050577), (22, some 12, 1049877)])]
def jStA (t : Nat) : Option (Int × Int × Nat) := if t = 7340036 then some (1, 1, 2099201) else if t = 10485764 then some (2, 2, 44) else if t = 11534437 then some (26, 1, 54) else if t = 12582919 then some (4041, 1858, 33) else if t = 13631789 then some (309, 1, 38) else if t = 14680069 then some (4, 2, 35) else if t = 15728741 then some (10, 3, 36) else if t = 24117350 then some (10, 1, 52) else if t = 25165833 then some (7, 1, 51) else if t = 74448900 then some (1, 1, 2101249) else none
def jSak (c : Int) : Bool := decide (c = 1006) || decide (c = 1009) || decide (c = 1010) || decide (c = 1011) || decide (c = 1012) || decide (c = 1013) || decide (c = 1014) || decide (c = 1022) || decide (c = 1023)
def jStr (t : Nat) : List (Int × Option Int × Nat) := (jStrL.lookup t).getD []
/-- the kind and the length that a type tells -/
def jTk (t : Nat) : Int := if t < 1048576 then (t : Int) - 16 else 999 + ((t / 1048576 % 64 : Nat) : Int)
def jTl (t : Nat) : Int := ((t % 1048576 : Nat) : Int) - 1
/-- a slot that never changes -/
def jSs (c k : Int) : Bool := if c < 1000 then (jStr (16 + c).toNat).any (fun e => decide (e.1 = k)) else jSak c
def jTz (σ : jS) (t : Nat) (a : Int) : Prop := 0 ≤ a ∧ a < jn σ ∧ jK σ a = jTk t ∧ (1048576 ≤ t → 0 < t % 1048576 → jN σ a = jTl t)
def jTn : Nat → jS → Nat → Int → Prop
  | 0, σ, t, a => jTz σ t a
  | n + 1, σ, t, a => jTz σ t a ∧ (∀ e ∈ jStr t, (∀ o, e.2.1 = some o → jF σ a e.1 = a + o) ∧ jTn n σ e.2.2 (jF σ a e.1)) ∧ ∀ q, jStA t = some q → ∀ i, 0 ≤ i → i < jTl t → jF σ a i = a + q.1 + q.2.1 * i ∧ jTn n σ q.2.2 (jF σ a i)
/-- a reference is of a type -/
def jTt (σ : jS) (t : Nat) (a : Int) : Prop := ∀ n, jTn n σ t a
theorem jTt.zz {σ : jS} {t : Nat} {a : Int} (h : jTt σ t a) : jTz σ t a := h 0
theorem jTt.fld {σ : jS} {t t' : Nat} {a k o : Int} (h : jTt σ t a) (he : (k, some o, t') ∈ jStr t) : jF σ a k = a + o ∧ jTt σ t' (a + o) := by
  have e := ((h 1).2.1 _ he).1 o rfl
  refine ⟨e, fun n => ?_⟩
  have := ((h (n + 1)).2.1 _ he).2
  rw [← e]; exact this
theorem jTt.elt {σ : jS} {t t' : Nat} {a i o s : Int} (h : jTt σ t a) (he : jStA t = some (o, s, t')) (h0 : 0 ≤ i) (h1 : i < jTl t) : jF σ a i = a + o + s * i ∧ jTt σ t' (a + o + s * i) := by
  have e := ((h 1).2.2 _ he i h0 h1).1
  refine ⟨e, fun n => ?_⟩
  have := ((h (n + 1)).2.2 _ he i h0 h1).2
  rw [e] at this; exact this
theorem jTt_iff {σ : jS} {t : Nat} {a : Int} : jTt σ t a ↔ jTz σ t a ∧ (∀ e ∈ jStr t, (∀ o, e.2.1 = some o → jF σ a e.1 = a + o) ∧ jTt σ e.2.2 (jF σ a e.1)) ∧ ∀ q, jStA t = some q → ∀ i, 0 ≤ i → i < jTl t → jF σ a i = a + q.1 + q.2.1 * i ∧ jTt σ q.2.2 (jF σ a i) := by
  constructor
  · intro h
    exact ⟨h 0, fun e he => ⟨((h 1).2.1 e he).1, fun n => ((h (n + 1)).2.1 e he).2⟩, fun q hq i h0 h1 => ⟨((h 1).2.2 q hq i h0 h1).1, fun n => ((h (n + 1)).2.2 q hq i h0 h1).2⟩⟩
  · rintro ⟨h1, h2, h3⟩ n
    cases n with
    | zero => exact h1
    | succ n => exact ⟨h1, fun e he => ⟨(h2 e he).1, (h2 e he).2 n⟩, fun q hq i h0 h1 => ⟨(h3 q hq i h0 h1).1, (h3 q hq i h0 h1).2 n⟩⟩
/-- what stays: old cells, their kinds, lengths and the slots that never change -/
def jEx (σ σ1 : jS) : Prop := jn σ ≤ jn σ1 ∧ ∀ a, 0 ≤ a → a < jn σ → jK σ1 a = jK σ a ∧ jN σ1 a = jN σ a ∧ ∀ k, jSs (jK σ a) k = true → jF σ1 a k = jF σ a k
theorem jEx.rfl {σ : jS} : jEx σ σ := ⟨Int.le_refl _, fun _ _ _ => ⟨_root_.rfl, _root_.rfl, fun _ _ => _root_.rfl⟩⟩
theorem jEx.trans {σ σ1 σ2 : jS} (h : jEx σ σ1) (h' : jEx σ1 σ2) : jEx σ σ2 := by
  refine ⟨Int.le_trans h.1 h'.1, fun a h0 h1 => ?_⟩
  obtain ⟨a1, a2, a3⟩ := h.2 a h0 h1
  obtain ⟨b1, b2, b3⟩ := h'.2 a h0 (Int.lt_of_lt_of_le h1 h.1)
  refine ⟨b1.trans a1, b2.trans a2, fun k hk => ?_⟩
  rw [b3 k (by rw [a1]; exact hk), a3 k hk]
theorem jStr_small : ∀ t, 1048576 ≤ t → jStr t = [] := by
  intro t ht
  have h : jStrL.all (fun q => decide (q.1 < 1048576)) = true := by decide +kernel
  unfold jStr
  rw [List.lookup_eq_none_iff.mpr]
  · rfl
  · intro p hp
    have := List.all_eq_true.mp h p hp
    have := of_decide_eq_true this
    exact bne_iff_ne.mpr (by omega)
theorem jStr_low : ∀ t, t < 16 → jStr t = [] := by
  intro t ht
  have h : jStrL.all (fun q => decide (16 ≤ q.1)) = true := by decide +kernel
  unfold jStr
  rw [List.lookup_eq_none_iff.mpr]
  · rfl
  · intro p hp
    have := List.all_eq_true.mp h p hp
    have := of_decide_eq_true this
    exact bne_iff_ne.mpr (by omega)
theorem jStr_big : ∀ t, 1016 ≤ t → jStr t = [] := by
  intro t ht
  have h : jStrL.all (fun q => decide (q.1 < 1016)) = true := by decide +kernel
  unfold jStr
  rw [List.lookup_eq_none_iff.mpr]
  · rfl
  · intro p hp
    have := List.all_eq_true.mp h p hp
    have := of_decide_eq_true this
    exact bne_iff_ne.mpr (by omega)
theorem jStr_ss {t : Nat} {e : Int × Option Int × Nat} (h : e ∈ jStr t) : jSs (jTk t) e.1 = true := by
  have h1 : t < 1016 := by
    rcases Nat.lt_or_ge t 1016 with g | g
    · exact g
    · rw [jStr_big t g] at h; cases h
  have h2 : 16 ≤ t := by
    rcases Nat.lt_or_ge t 16 with g | g
    · rw [jStr_low t g] at h; cases h
    · exact g
  unfold jSs jTk
  rw [if_pos (by omega), if_pos (by omega)]
  have e1 : (16 + ((t : Int) - 16)).toNat = t := by omega
  rw [e1]
  exact List.any_eq_true.mpr ⟨e, h, by simp⟩
theorem jStA_ss {t : Nat} {q : Int × Int × Nat} (h : jStA t = some q) (k : Int) : jSs (jTk t) k = true := by
  unfold jStA at h
  repeat' split at h
  all_goals first | (cases h; done) | (rename_i e; subst e; rfl)
theorem jTn.ext {σ σ1 : jS} (he : jEx σ σ1) : ∀ {n t : Nat} {a : Int}, jTn n σ t a → jTn n σ1 t a
  | 0, t, a, h => by
    obtain ⟨h0, h1, h2, h3⟩ := h
    obtain ⟨b1, b2, -⟩ := he.2 a h0 h1
    exact ⟨h0, Int.lt_of_lt_of_le h1 he.1, b1.trans h2, fun x y => b2.trans (h3 x y)⟩
  | n + 1, t, a, h => by
    obtain ⟨⟨h0, h1, h2, h3⟩, h4, h5⟩ := h
    obtain ⟨b1, b2, b3⟩ := he.2 a h0 h1
    refine ⟨⟨h0, Int.lt_of_lt_of_le h1 he.1, b1.trans h2, fun x y => b2.trans (h3 x y)⟩, fun e he' => ?_, fun q hq i i0 i1 => ?_⟩
    · have := b3 e.1 (by rw [h2]; exact jStr_ss he')
      rw [this]
      exact ⟨(h4 e he').1, (h4 e he').2.ext he⟩
    · have := b3 i (by rw [h2]; exact jStA_ss hq i)
      rw [this]
      exact ⟨(h5 q hq i i0 i1).1, (h5 q hq i i0 i1).2.ext he⟩
theorem jTt.ext {σ σ1 : jS} {t : Nat} {a : Int} (h : jTt σ t a) (he : jEx σ σ1) : jTt σ1 t a := fun n => (h n).ext he
/-- a write by the kind -/
def jp (σ : jS) (c a k v : Int) : jS := (jK σ, jN σ, fun c' x y => if c' = c ∧ x = a ∧ y = k then v else jf σ c' x y, jn σ, ju σ, jlN σ, jlU σ, jc σ)
theorem jp_put {σ : jS} {c a k v : Int} (h : jK σ a = c) : jp σ c a k v = jput σ a k v := by subst h; rfl
theorem jf_F {σ : jS} {c a k : Int} (h : jK σ a = c) : jf σ c a k = jF σ a k := by subst h; rfl
theorem jEx_put {σ : jS} {a k v : Int} (h : jSs (jK σ a) k = false) : jEx σ (jput σ a k v) := by
  refine ⟨Int.le_refl _, fun b h0 h1 => ⟨rfl, rfl, fun j hj => ?_⟩⟩
  rw [jF_put]
  by_cases e : b = a ∧ j = k
  · obtain ⟨rfl, rfl⟩ := e
    rw [h] at hj; cases hj
  · rw [if_neg e]
theorem jEx_mk {σ : jS} {k nn sz : Int} {f : Int → Int} : jEx σ (jmk σ k nn f sz) := by
  refine ⟨by show jn σ ≤ jn σ + 1; omega, fun b h0 h1 => ?_⟩
  have hb : ¬ b = jn σ := by omega
  refine ⟨by show (if b = jn σ then k else jK σ b) = _; rw [if_neg hb], by show (if b = jn σ then nn else jN σ b) = _; rw [if_neg hb], fun j _ => by rw [jF_mk, if_neg hb]⟩
theorem jp_b {σ : jS} {c a k v : Int} : jK (jp σ c a k v) = jK σ ∧ jN (jp σ c a k v) = jN σ ∧ jn (jp σ c a k v) = jn σ ∧ ju (jp σ c a k v) = ju σ := ⟨rfl, rfl, rfl, rfl⟩
/-- steps that may fail -/
def jrd (σ : jS) (c a k : Int) : Option Int := if 0 ≤ a ∧ jK σ a = c then some (jf σ c a k) else none
def jwr (σ : jS) (c a k v : Int) : Option jS := if 0 ≤ a ∧ jK σ a = c then some (jp σ c a k v) else none
def jzb (v : Int) : Option Int := if v = 0 ∨ v = 1 then some v else none
def jix (n i v : Int) : Option Int := if 0 ≤ i ∧ i < n then some v else none
def jld (σ : jS) (t a i : Int) : Option Int := if 0 ≤ a ∧ jK σ a = t ∧ 0 ≤ i ∧ i < jN σ a then some (jf σ t a i) else none
def jsa (σ : jS) (t a i v : Int) : Option jS := if 0 ≤ a ∧ jK σ a = t ∧ 0 ≤ i ∧ i < jN σ a then some (jp σ t a i v) else none
def jlt (σ : jS) (c a n i : Int) : Option Int := if 0 ≤ i ∧ i < n then some (jf σ c a i) else none
def jst (σ : jS) (c a n i v : Int) : Option jS := if 0 ≤ i ∧ i < n then some (jp σ c a i v) else none
/-- of an array that may be an old one -/
def jldE (σ : jS) (t a i : Int) : Option Int := if 0 ≤ a ∧ (jK σ a = t ∨ jK σ a = 3000 + t) ∧ 0 ≤ i ∧ i < jN σ a then some (jF σ a i) else none
def jlnE (σ : jS) (t a : Int) : Option Int := if 0 ≤ a ∧ (jK σ a = t ∨ jK σ a = 3000 + t) then some (jN σ a) else none
theorem jldE_b {α : Type} {σ : jS} {t a i : Int} {f : Int → Option α} {q : α} (h : (jldE σ t a i).bind f = some q) : 0 ≤ a ∧ (jK σ a = t ∨ jK σ a = 3000 + t) ∧ 0 ≤ i ∧ i < jN σ a ∧ f (jF σ a i) = some q := by
  unfold jldE at h; split at h
  · rename_i g; exact ⟨g.1, g.2.1, g.2.2.1, g.2.2.2, h⟩
  · cases h
theorem jlnE_b {α : Type} {σ : jS} {t a : Int} {f : Int → Option α} {q : α} (h : (jlnE σ t a).bind f = some q) : 0 ≤ a ∧ (jK σ a = t ∨ jK σ a = 3000 + t) ∧ f (jN σ a) = some q := by
  unfold jlnE at h; split at h
  · rename_i g; exact ⟨g.1, g.2, h⟩
  · cases h
def jln (σ : jS) (t a : Int) : Option Int := if 0 ≤ a ∧ jK σ a = t then some (jN σ a) else none
def jnw (σ : jS) (c nf : Int) (f : Int → Int) : Option (jS × Int) := if 0 ≤ jn σ ∧ jn σ + 1 ≤ jlN σ ∧ ju σ + nf ≤ jlU σ then some (jmk σ c 0 f nf, jn σ) else none
def jna (σ : jS) (t n v : Int) : Option (jS × Int) := if 0 ≤ n ∧ n ≤ 1000000 ∧ jn σ + 1 ≤ jlN σ ∧ ju σ + n ≤ jlU σ then some (jmk σ t n (fun _ => v) n, jn σ) else none
def jdv (y v : Int) : Option Int := if y = 0 then none else some v
theorem jrd_b {α : Type} {σ : jS} {c a k : Int} {f : Int → Option α} {q : α} (h : (jrd σ c a k).bind f = some q) : 0 ≤ a ∧ jK σ a = c ∧ f (jF σ a k) = some q := by
  unfold jrd at h; split at h
  · rename_i g; rw [jf_F g.2] at h; exact ⟨g.1, g.2, h⟩
  · cases h
theorem jwr_b {α : Type} {σ : jS} {c a k v : Int} {f : jS → Option α} {q : α} (h : (jwr σ c a k v).bind f = some q) : 0 ≤ a ∧ jK σ a = c ∧ f (jput σ a k v) = some q := by
  unfold jwr at h; split at h
  · rename_i g; rw [jp_put g.2] at h; exact ⟨g.1, g.2, h⟩
  · cases h
theorem jzb_b {α : Type} {v : Int} {f : Int → Option α} {q : α} (h : (jzb v).bind f = some q) : (v = 0 ∨ v = 1) ∧ f v = some q := by
  unfold jzb at h; split at h
  · rename_i g; exact ⟨g, h⟩
  · cases h
theorem jix_b {α : Type} {n i v : Int} {f : Int → Option α} {q : α} (h : (jix n i v).bind f = some q) : 0 ≤ i ∧ i < n ∧ f v = some q := by
  unfold jix at h; split at h
  · rename_i g; exact ⟨g.1, g.2, h⟩
  · cases h
theorem jld_b {α : Type} {σ : jS} {t a i : Int} {f : Int → Option α} {q : α} (h : (jld σ t a i).bind f = some q) : 0 ≤ a ∧ jK σ a = t ∧ 0 ≤ i ∧ i < jN σ a ∧ f (jF σ a i) = some q := by
  unfold jld at h; split at h
  · rename_i g; rw [jf_F g.2.1] at h; exact ⟨g.1, g.2.1, g.2.2.1, g.2.2.2, h⟩
  · cases h
theorem jsa_b {α : Type} {σ : jS} {t a i v : Int} {f : jS → Option α} {q : α} (h : (jsa σ t a i v).bind f = some q) : 0 ≤ a ∧ jK σ a = t ∧ 0 ≤ i ∧ i < jN σ a ∧ f (jput σ a i v) = some q := by
  unfold jsa at h; split at h
  · rename_i g; rw [jp_put g.2.1] at h; exact ⟨g.1, g.2.1, g.2.2.1, g.2.2.2, h⟩
  · cases h
theorem jlt_b {α : Type} {σ : jS} {c a n i : Int} {f : Int → Option α} {q : α} (h : (jlt σ c a n i).bind f = some q) : 0 ≤ i ∧ i < n ∧ f (jf σ c a i) = some q := by
  unfold jlt at h; split at h
  · rename_i g; exact ⟨g.1, g.2, h⟩
  · cases h
theorem jst_b {α : Type} {σ : jS} {c a n i v : Int} {f : jS → Option α} {q : α} (h : (jst σ c a n i v).bind f = some q) : 0 ≤ i ∧ i < n ∧ f (jp σ c a i v) = some q := by
  unfold jst at h; split at h
  · rename_i g; exact ⟨g.1, g.2, h⟩
  · cases h
theorem jln_b {α : Type} {σ : jS} {t a : Int} {f : Int → Option α} {q : α} (h : (jln σ t a).bind f = some q) : 0 ≤ a ∧ jK σ a = t ∧ f (jN σ a) = some q := by
  unfold jln at h; split at h
  · rename_i g; exact ⟨g.1, g.2, h⟩
  · cases h
theorem jnw_b {α : Type} {σ : jS} {c nf : Int} {g : Int → Int} {f : jS × Int → Option α} {q : α} (h : (jnw σ c nf g).bind f = some q) : 0 ≤ jn σ ∧ jn σ + 1 ≤ jlN σ ∧ ju σ + nf ≤ jlU σ ∧ f (jmk σ c 0 g nf, jn σ) = some q := by
  unfold jnw at h; split at h
  · rename_i g; exact ⟨g.1, g.2.1, g.2.2, h⟩
  · cases h
theorem jna_b {α : Type} {σ : jS} {t n v : Int} {f : jS × Int → Option α} {q : α} (h : (jna σ t n v).bind f = some q) : 0 ≤ n ∧ n ≤ 1000000 ∧ jn σ + 1 ≤ jlN σ ∧ ju σ + n ≤ jlU σ ∧ f (jmk σ t n (fun _ => v) n, jn σ) = some q := by
  unfold jna at h; split at h
  · rename_i g; exact ⟨g.1, g.2.1, g.2.2.1, g.2.2.2, h⟩
  · cases h
theorem jdv_b {α : Type} {y v : Int} {f : Int → Option α} {q : α} (h : (jdv y v).bind f = some q) : ¬ y = 0 ∧ f v = some q := by
  unfold jdv at h; split at h
  · cases h
  · rename_i g; exact ⟨g, h⟩
theorem jb_b {α β : Type} {x : Option β} {f : β → Option α} {q : α} (h : x.bind f = some q) : ∃ b, x = some b ∧ f b = some q := Option.bind_eq_some_iff.mp h
/-- a loop: the body goes on with a new state, or ends -/
def jloop {S R : Type} (body : S → Option (S ⊕ R)) (s : S) : Option R := do
  match ← body s with
  | .inl s' => jloop body s'
  | .inr r => some r
partial_fixpoint
theorem jloop_eq {S R : Type} (body : S → Option (S ⊕ R)) (s : S) : jloop body s = (body s).bind fun x => match x with
    | .inl s' => jloop body s'
    | .inr r => some r := by
  rw [jloop]; rfl
theorem jloop_l {S R : Type} {body : S → Option (S ⊕ R)} {s s' : S} (h : body s = some (.inl s')) : jloop body s = jloop body s' := by
  rw [jloop_eq, h]; rfl
theorem jloop_r {S R : Type} {body : S → Option (S ⊕ R)} {s : S} {r : R} (h : body s = some (.inr r)) : jloop body s = some r := by
  rw [jloop_eq, h]; rfl
theorem jloop_ind {S R : Type} {body : S → Option (S ⊕ R)} {P : S → R → Prop} (h1 : ∀ s s' r, body s = some (.inl s') → P s' r → P s r) (h2 : ∀ s r, body s = some (.inr r) → P s r) {s : S} {r : R} (h : jloop body s = some r) : P s r := by
  revert s r
  apply jloop.partial_correctness body (motive := P)
  intro f ih s r h
  cases hb : body s with
  | none => rw [hb] at h; cases h
  | some x =>
    rw [hb] at h
    cases x with
    | inl s' => exact h1 s s' r hb (ih s' r h)
    | inr r' => cases h; exact h2 s _ hb
/-- tables of decoded code -/
abbrev jTb : Type := List (Nat × Instr × Nat)
def jtok (c : ByteArray) (t : jTb) : Bool := t.all (fun q => decide (decode c q.1 = .ok q.2))
theorem jtd {c : ByteArray} {t : jTb} (h : jtok c t = true) (i : Nat) {pc : Nat} {I : Instr} {n : Nat} (hi : t[i]? = some (pc, I, n)) : decode c pc = .ok (I, n) := by
  have := List.all_eq_true.mp h _ (List.mem_of_getElem? hi)
  simpa using this
/-- a field by its place in a class's pool: the class of the object, the field, its tag -/
def jfl (own : String) (index ci k t : Nat) : Prop := ∃ (rr : vw_C) (ref : String), jCl[ci]? = some rr ∧ k < rr.2.2 ∧ Cond.fieldLink own index ref (rr.2.1 k).2.1 (rr.2.1 k).2.2.1 ∈ lw_all ∧ (rr.2.1 k).1 = ref ∧ ci < 1000 ∧ jtag (jTy ci k) = t
/-- .. that may be written -/
def jfw (own : String) (index ci k t : Nat) : Prop := ∃ (rr : vw_C) (ref : String), jCl[ci]? = some rr ∧ k < rr.2.2 ∧ Cond.fieldLink own index ref (rr.2.1 k).2.1 (rr.2.1 k).2.2.1 ∈ lw_all ∧ (rr.2.1 k).1 = ref ∧ ci < 1000 ∧ jtag (jTy ci k) = t ∧ (rr.2.1 k).2.2.2 = false
/-- .. that is final, and written by its own constructor -/
def jff (own : String) (index ci k t : Nat) : Prop := ∃ (rr : vw_C) (ref : String), jCl[ci]? = some rr ∧ k < rr.2.2 ∧ Cond.fieldLink own index ref (rr.2.1 k).2.1 (rr.2.1 k).2.2.1 ∈ lw_all ∧ (rr.2.1 k).1 = ref ∧ ci < 1000 ∧ jtag (jTy ci k) = t ∧ (rr.2.1 k).2.2.2 = true ∧ (rr.2.1 k).1 = own
section jShal
variable {G : jG} {X : jX} {l : Launch} {cc : ByteArray} {own nm : String} {nL d pc : Nat} {ret : Option FieldType} {ls : List (Nat × jT)} {st : List jT} {σ σ1 σ' : jS} {r : jT}
theorem js_get {a : Int} {index ci k t : Nat} (C : jC G X cc own nL ret d nm) (hf : jfl own index ci k t) (hd : decode cc pc = .ok (.getfield index, 3)) (h0 : 0 ≤ a) (hK : jK σ a = ci) (kk : jWP G X nL (pc + 3) ls ((t, jF σ a k) :: st) σ σ' r) : jWP G X nL pc ls ((2, a) :: st) σ σ' r := by
  obtain ⟨rr, ref, h1, h2, h3, h4, h5, h6⟩ := hf
  exact jr_getf C ci k h1 h2 h3 h4 hd h0 hK h5 h6 kk
theorem js_put {a v : Int} {index ci k t : Nat} (C : jC G X cc own nL ret d nm) (hf : jfw own index ci k t) (hd : decode cc pc = .ok (.putfield index, 3)) (h0 : 0 ≤ a) (hK : jK σ a = ci) (hfit : jfit (jTy ci k) v) (kk : jWP G X nL (pc + 3) ls st (jput σ a k v) σ' r) : jWP G X nL pc ls ((t, v) :: (2, a) :: st) σ σ' r := by
  obtain ⟨rr, ref, h1, h2, h3, h4, h5, h6, h7⟩ := hf
  exact jr_putf C ci k h1 h2 h3 h4 h7 hd h0 hK h5 hfit h6 kk
theorem js_putF {a v : Int} {index ci k t : Nat} (C : jC G X cc own nL ret d "<init>") (hf : jff own index ci k t) (hd : decode cc pc = .ok (.putfield index, 3)) (h0 : 0 ≤ a) (hK : jK σ a = ci) (hfit : jfit (jTy ci k) v) (kk : jWP G X nL (pc + 3) ls st (jput σ a k v) σ' r) : jWP G X nL pc ls ((t, v) :: (2, a) :: st) σ σ' r := by
  obtain ⟨rr, ref, h1, h2, h3, h4, h5, h6, h7, h8⟩ := hf
  exact jr_putfF C ci k h1 h2 h3 h4 h7 h8 hd h0 hK h5 hfit h6 kk
/-- a virtual call by its place in the pool -/
def jcv (own : String) (index ci : Nat) (y : MethodName) (bytes : ByteArray) (maxL : Nat) (rt : Option FieldType) (n : Nat) : Prop := ∃ rr : vw_C, jCl[ci]? = some rr ∧ ci < 1000 ∧ maxL ≤ 20 ∧ jln_ own index y ∧ Cond.instanceMethod y ∈ lw_all ∧ jsl_ rr.1 y ∧ Cond.initialized y.cls ∈ lw_all ∧ Cond.code y bytes maxL rt ∈ lw_all ∧ (y.cls ≠ "java/lang/invoke/MethodHandle" ∧ y.cls ≠ "java/lang/invoke/VarHandle") ∧ (parseMethodDescriptor y.desc).map (fun d => d.parameters.length) = some n
def jcs (own : String) (index : Nat) (y : MethodName) (bytes : ByteArray) (maxL : Nat) (rt : Option FieldType) (n : Nat) : Prop := maxL ≤ 20 ∧ jln_ own index y ∧ Cond.static y ∈ lw_all ∧ Cond.initialized y.cls ∈ lw_all ∧ Cond.code y bytes maxL rt ∈ lw_all ∧ (y.cls ≠ "java/lang/invoke/MethodHandle" ∧ y.cls ≠ "java/lang/invoke/VarHandle") ∧ (parseMethodDescriptor y.desc).map (fun d => d.parameters.length) = some n
def jci (own : String) (index : Nat) (y : MethodName) (bytes : ByteArray) (maxL : Nat) (n : Nat) : Prop := maxL ≤ 20 ∧ jln_ own index y ∧ Cond.instanceMethod y ∈ lw_all ∧ Cond.initialized y.cls ∈ lw_all ∧ Cond.code y bytes maxL none ∈ lw_all ∧ y.name = "<init>" ∧ (y.cls ≠ "java/lang/invoke/MethodHandle" ∧ y.cls ≠ "java/lang/invoke/VarHandle") ∧ (parseMethodDescriptor y.desc).map (fun d => d.parameters.length) = some n
variable {d' maxL index n : Nat} {y : MethodName} {a : Int} {bytes : ByteArray} {rt : Option FieldType} {stk : List jT} {v : jT} {F : List jT → jS → jS → jT → Prop}
theorem js_callV {ci : Nat} (As : List jT) (C : jC G X cc own nL ret d nm) (hXl : X.2.1 = l) (hc : jcv own index ci y bytes maxL rt n) (hfl : jFl l) (hM : jM G l d' y (ws_ y bytes maxL rt) F) (hd' : d' + 1 ≤ d) (hF : F ((2, a) :: As) σ σ1 v) (h9 : ¬ v.1 = 9) (hn : n = As.length) (h0 : 0 ≤ a) (hK : jK σ a = ci) (hd : decode cc pc = .ok (.invokevirtual index, 3)) (hstk : As.reverse ++ (2, a) :: st = stk) (hWt : jwords st ≤ 33)
    (kk : jWP G X nL (pc + 3) ls (jpush v st) σ1 σ' r) : jWP G X nL pc ls stk σ σ' r := by
  obtain ⟨rr, h1, h2, h3, h4, h5, h6, h7, h8, h10, h11⟩ := hc
  subst hn
  exact jr_callV ci C hXl (fun hok => hM hfl _ σ σ1 v hok hF) hd' h3 h4 h5 h6 h7 (.inl ⟨rfl, h8⟩) h10 h11 h1 h2 h0 hK hd hstk hWt (fun _ => kk) (fun h _ => absurd h h9)
theorem js_callS (As : List jT) (C : jC G X cc own nL ret d nm) (hXl : X.2.1 = l) (hc : jcs own index y bytes maxL rt n) (hfl : jFl l) (hM : jM G l d' y (ws_ y bytes maxL rt) F) (hd' : d' + 1 ≤ d) (hF : F As σ σ1 v) (h9 : ¬ v.1 = 9) (hn : n = As.length) (hd : decode cc pc = .ok (.invokestatic index, 3)) (hstk : As.reverse ++ st = stk) (hWt : jwords st ≤ 33)
    (kk : jWP G X nL (pc + 3) ls (jpush v st) σ1 σ' r) : jWP G X nL pc ls stk σ σ' r := by
  obtain ⟨h3, h4, h5, h7, h8, h10, h11⟩ := hc
  subst hn
  exact jr_callS C hXl (fun hok => hM hfl _ σ σ1 v hok hF) hd' h3 h4 h5 h7 (.inl ⟨rfl, h8⟩) h10 h11 hd hstk hWt (fun _ => kk) (fun h _ => absurd h h9)
theorem js_callI (As : List jT) (C : jC G X cc own nL ret d nm) (hXl : X.2.1 = l) (hc : jci own index y bytes maxL n) (hfl : jFl l) (hM : jM G l d' y (ws_ y bytes maxL none) F) (hd' : d' + 1 ≤ d) (hF : F ((2, a) :: As) σ σ1 v) (h9 : ¬ v.1 = 9) (hn : n = As.length) (h0 : 0 ≤ a) (hd : decode cc pc = .ok (.invokespecial index, 3)) (hstk : As.reverse ++ (2, a) :: st = stk) (hWt : jwords st ≤ 33)
    (kk : jWP G X nL (pc + 3) ls (jpush v st) σ1 σ' r) : jWP G X nL pc ls stk σ σ' r := by
  obtain ⟨h3, h4, h5, h7, h8, h9', h10, h11⟩ := hc
  subst hn
  exact jr_callI C hXl (fun hok => hM hfl _ σ σ1 v hok hF) hd' h3 h4 h5 h7 h8 h9' h10 h11 h0 hd hstk hWt (fun _ => kk) (fun h _ => absurd h h9)
theorem jsx_callV {ci : Nat} (As : List jT) (C : jC G X cc own nL ret d nm) (hXl : X.2.1 = l) (hc : jcv own index ci y bytes maxL rt n) (hfl : jFl l) (hM : jM G l d' y (ws_ y bytes maxL rt) F) (hd' : d' + 1 ≤ d) (hF : F ((2, a) :: As) σ σ1 v) (hn : n = As.length) (h0 : 0 ≤ a) (hK : jK σ a = ci) (hd : decode cc pc = .ok (.invokevirtual index, 3)) (hstk : As.reverse ++ (2, a) :: st = stk) (hWt : jwords st ≤ 33)
    (kk : ¬ v.1 = 9 → jWP G X nL (pc + 3) ls (jpush v st) σ1 σ' r) (kx : v.1 = 9 → 0 ≤ v.2 → jXW G X nL pc ls σ1 σ' r v.2) : jWP G X nL pc ls stk σ σ' r := by
  obtain ⟨rr, h1, h2, h3, h4, h5, h6, h7, h8, h10, h11⟩ := hc
  subst hn
  exact jr_callV ci C hXl (fun hok => hM hfl _ σ σ1 v hok hF) hd' h3 h4 h5 h6 h7 (.inl ⟨rfl, h8⟩) h10 h11 h1 h2 h0 hK hd hstk hWt kk kx
theorem jsx_callS (As : List jT) (C : jC G X cc own nL ret d nm) (hXl : X.2.1 = l) (hc : jcs own index y bytes maxL rt n) (hfl : jFl l) (hM : jM G l d' y (ws_ y bytes maxL rt) F) (hd' : d' + 1 ≤ d) (hF : F As σ σ1 v) (hn : n = As.length) (hd : decode cc pc = .ok (.invokestatic index, 3)) (hstk : As.reverse ++ st = stk) (hWt : jwords st ≤ 33)
    (kk : ¬ v.1 = 9 → jWP G X nL (pc + 3) ls (jpush v st) σ1 σ' r) (kx : v.1 = 9 → 0 ≤ v.2 → jXW G X nL pc ls σ1 σ' r v.2) : jWP G X nL pc ls stk σ σ' r := by
  obtain ⟨h3, h4, h5, h7, h8, h10, h11⟩ := hc
  subst hn
  exact jr_callS C hXl (fun hok => hM hfl _ σ σ1 v hok hF) hd' h3 h4 h5 h7 (.inl ⟨rfl, h8⟩) h10 h11 hd hstk hWt kk kx
theorem jsx_callI (As : List jT) (C : jC G X cc own nL ret d nm) (hXl : X.2.1 = l) (hc : jci own index y bytes maxL n) (hfl : jFl l) (hM : jM G l d' y (ws_ y bytes maxL none) F) (hd' : d' + 1 ≤ d) (hF : F ((2, a) :: As) σ σ1 v) (hn : n = As.length) (h0 : 0 ≤ a) (hd : decode cc pc = .ok (.invokespecial index, 3)) (hstk : As.reverse ++ (2, a) :: st = stk) (hWt : jwords st ≤ 33)
    (kk : ¬ v.1 = 9 → jWP G X nL (pc + 3) ls (jpush v st) σ1 σ' r) (kx : v.1 = 9 → 0 ≤ v.2 → jXW G X nL pc ls σ1 σ' r v.2) : jWP G X nL pc ls stk σ σ' r := by
  obtain ⟨h3, h4, h5, h7, h8, h9', h10, h11⟩ := hc
  subst hn
  exact jr_callI C hXl (fun hok => hM hfl _ σ σ1 v hok hF) hd' h3 h4 h5 h7 h8 h9' h10 h11 h0 hd hstk hWt kk kx
end jShal
