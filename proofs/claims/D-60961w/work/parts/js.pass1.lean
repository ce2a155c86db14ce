/-! a pass and an undoing, the component -/
set_option maxRecDepth 100000
section jPass1
variable {s t u w : jS} {a k m o p v l n x y c j X f z B i q : Int} {d e : Int → Int → Int}
theorem psI_no (h : ¬ f = 15) : psI d i f k = d f k := by unfold psI; rw [if_neg (fun q => h q.1)]
theorem udI_no (h : ¬ (f = 15 ∨ f = 16)) : udI d i f k = d f k := by
  unfold udI
  by_cases c : 0 ≤ k ∧ k < i ∧ tgK d k
  · rw [if_pos c, if_neg (by omega), if_neg (by omega)]
  · rw [if_neg c]
theorem psI_hi (h : i ≤ k) : psI d i f k = d f k := by unfold psI; rw [if_neg (by omega)]
theorem udI_hi (h : i ≤ k) : udI d i f k = d f k := by unfold udI; rw [if_neg (by omega)]
theorem jS_q {T R : Type} {x : Option (T ⊕ R)} {P : T → Prop} {Q : T ⊕ R → Prop} (h : ∃ q, x = some (.inl q) ∧ P q) (k : ∀ q, P q → Q (.inl q)) : jE x Q := by
  obtain ⟨q, e, hq⟩ := h
  rw [e]; exact jE_some.mpr (k q hq)
/-- the same but for sizes -/
def dSm (d e : Int → Int → Int) : Prop := ∀ f k, ¬ (f = 15 ∨ f = 16) → e f k = d f k
theorem dSm.rfl : dSm d d := fun _ _ _ => Eq.refl _
theorem dSm.trans {d' : Int → Int → Int} (h : dSm d e) (g : dSm e d') : dSm d d' := fun f k q => (g f k q).trans (h f k q)
theorem dSm.ps : dSm d (psI d i) := fun _ _ h => psI_no (by omega)
theorem dSm.ud : dSm d (udI d i) := fun _ _ h => udI_no h
theorem dSm.mv (h : dSm d e) : mvK e k ↔ mvK d k := by unfold mvK; rw [h 5 k (by omega)]
theorem dSm.gr (h : dSm d e) : grK e k = grK d k := by unfold grK; rw [h 5 k (by omega)]
theorem vLy.upd (v : vLy d) (h : dSm d e) (g : ∀ k, 0 ≤ k → k < d 0 1 → mvK d k → (0 ≤ e 15 k ∧ e 15 k ≤ grK d k) ∧ (e 16 k = 0 ∨ e 16 k = 1 ∧ e 15 k = grK d k)) : vLy e := by
  obtain ⟨v0, v1, v2, v3, v4, v5, v6, v7, v8⟩ := v
  have H : ∀ f k, ¬ (f = 15 ∨ f = 16) → e f k = d f k := h
  refine ⟨by rw [H _ _ (by omega)]; exact v0, by rw [H _ _ (by omega)]; exact v1, by rw [H _ _ (by omega)]; exact v2, by rw [H _ _ (by omega)]; exact v3, fun p p0 p1 => ?_, by rw [H _ _ (by omega)]; exact v5, fun k k0 k1 => ?_, fun l l0 l1 => ?_, fun o o0 o1 => by rw [H _ _ (by omega)]; exact v8 o o0 o1⟩
  · rw [H 0 0 (by omega)] at p1
    rw [H 1 _ (by omega), H 2 _ (by omega), H 3 _ (by omega), H 4 _ (by omega), H 0 _ (by omega), H 0 _ (by omega), H 3 _ (by omega)]
    exact v4 p p0 p1
  · rw [H 0 1 (by omega)] at k1
    obtain ⟨a1, a2, a3, a4, a5⟩ := v6 k k0 k1
    rw [H 5 _ (by omega), H 11 _ (by omega), H 0 0 (by omega), H 3 _ (by omega), H 4 _ (by omega), H 6 _ (by omega), H 7 _ (by omega), h.mv, H 8 _ (by omega), H 0 2 (by omega), H 9 _ (by omega), H 10 _ (by omega), h.gr]
    refine ⟨a1, a2, a3, a4, fun hm => ?_⟩
    obtain ⟨b1, b2, b3, -, -⟩ := a5 hm
    exact ⟨b1, b2, b3, (g k k0 k1 hm).1, (g k k0 k1 hm).2⟩
  · rw [H 0 2 (by omega)] at l1
    rw [H 12 _ (by omega), H 0 1 (by omega), H 13 _ (by omega), H 5 _ (by omega), H 6 _ (by omega)]
    exact v7 l l0 l1
theorem vLy.ps (v : vLy d) : vLy (psI d i) := by
  refine v.upd .ps fun k k0 k1 hm => ?_
  obtain ⟨-, -, -, h15, h16⟩ := (v.2.2.2.2.2.2.1 k k0 k1).2.2.2.2 hm
  rw [psI_no (f := 16) (by omega)]
  unfold psI
  by_cases c : (15 : Int) = 15 ∧ 0 ≤ k ∧ k < i ∧ psK d k
  · rw [if_pos c]
    have := c.2.2.2.2
    rcases lstK_lo (d := d) (k := k) with z | z
    · refine ⟨z, .inl this.1⟩
    · exact absurd hm z
  · rw [if_neg c]; exact ⟨h15, h16⟩
theorem vLy.ud (v : vLy d) : vLy (udI d i) := by
  refine v.upd .ud fun k k0 k1 hm => ?_
  obtain ⟨-, -, -, h15, h16⟩ := (v.2.2.2.2.2.2.1 k k0 k1).2.2.2.2 hm
  unfold udI
  by_cases c : 0 ≤ k ∧ k < i ∧ tgK d k
  · rw [if_pos c, if_pos c, if_pos rfl, if_neg (by decide), if_pos rfl]
    refine ⟨⟨?_, Int.le_refl _⟩, .inr ⟨rfl, rfl⟩⟩
    unfold grK; split <;> decide
  · rw [if_neg c, if_neg c]; exact ⟨h15, h16⟩
theorem kOf_in : 70 ≤ kOf x ∧ kOf x ≤ 77 := by have := kOf_c (f := x); omega
/-- places and sizes are written -/
def lzW (B : Int) (s u : jS) : Prop := jSm s u ∧ ∀ c a k, ¬ (c = 70 ∧ (k = 2 ∨ k = 3) ∧ 70 ≤ jK s a ∧ jK s a ≤ 77) → ¬ ((c = 72 ∨ c = 73) ∧ k = 1 ∧ 70 ≤ jK s a ∧ jK s a ≤ 77) → ¬ ((c = 76 ∨ c = 77) ∧ (k = 2 ∨ k = 3 ∨ k = 5) ∧ 70 ≤ jK s a ∧ jK s a ≤ 77) → ¬ (c = 1000 ∧ (a = B + 9 ∨ a = B + 10 ∨ a = B + 11)) → ¬ (c = 40 ∧ a = B ∧ k = 19) → jf u c a k = jf s c a k
theorem lzW.rfl : lzW B s s := ⟨jSm.rfl, fun _ _ _ _ _ _ _ _ => Eq.refl _⟩
theorem lzW.trans (h : lzW B s u) (g : lzW B u w) : lzW B s w := ⟨h.1.trans g.1, fun c a k q1 q2 q3 q4 q5 => (g.2 c a k (by rw [h.1.1]; exact q1) (by rw [h.1.1]; exact q2) (by rw [h.1.1]; exact q3) q4 q5).trans (h.2 c a k q1 q2 q3 q4 q5)⟩
theorem lyW.toZ (h : lyW B s u) : lzW B s u := ⟨h.1, fun c a k q1 q2 q3 q4 q5 => h.2 c a k q1 q2 (by omega) q4 q5⟩
theorem lzW.jp (h : lzW B s u) (hc : c = 70 ∧ (k = 2 ∨ k = 3) ∧ 70 ≤ jK s a ∧ jK s a ≤ 77 ∨ (c = 72 ∨ c = 73) ∧ k = 1 ∧ 70 ≤ jK s a ∧ jK s a ≤ 77 ∨ (c = 76 ∨ c = 77) ∧ (k = 2 ∨ k = 3 ∨ k = 5) ∧ 70 ≤ jK s a ∧ jK s a ≤ 77 ∨ c = 1000 ∧ (a = B + 9 ∨ a = B + 10 ∨ a = B + 11) ∨ c = 40 ∧ a = B ∧ k = 19) : lzW B s (jp u c a k v) := ⟨h.1.jp, fun c' a' k' q1 q2 q3 q4 q5 => by
  have e := h.2 c' a' k' q1 q2 q3 q4 q5
  rw [jf_neg, e]
  rintro ⟨rfl, rfl, rfl⟩
  clear e
  omega⟩
theorem cLd.cg (h : cLd s B d) (F : ∀ c a k, (c = 1000 ∧ (a = B + 9 ∨ a = B + 10)) ∨ c = 1019 ∨ c = 1020 ∨ c = 70 ∨ ((c = 72 ∨ c = 73) ∧ k = 1) ∨ ((c = 76 ∨ c = 77) ∧ k = 5) → jf u c a k = jf s c a k) : cLd u B d := by
  obtain ⟨h1, h2, h3⟩ := h
  refine ⟨fun k k0 k1 => ?_, fun p p0 p1 => ?_, fun o o0 o1 => ?_⟩
  · have kk := kOf_c (f := d 5 k)
    have := h1 k k0 k1
    unfold pcX poK at this ⊢
    rw [F 1020 _ _ (by omega), F _ _ _ (by omega)]; exact this
  · have := h2 p p0 p1
    unfold poP at this ⊢
    rw [F 1019 _ _ (by omega), F 70 _ _ (by omega), F 70 _ _ (by omega)]; exact this
  · rw [F 1000 _ _ (by omega), F 1000 _ _ (by omega)]; exact h3 o o0 o1
/-- one that moves -/
theorem c_moving (hp : cPc s B d k) (g5 : 0 ≤ d 5 k ∧ d 5 k ≤ 4) : mp_X53_moving s (poK s B k) = some (if mvK d k then poK s B k else -1) := by
  obtain ⟨⟨q1, q1', q1''⟩, -⟩ := hp
  rw [emp_X53_moving]; unfold dmp_X53_moving
  have kk := kOf_c (f := d 5 k)
  rcases kk with ⟨e1, e2, e3⟩ | ⟨e1, e2, e3⟩ | ⟨e1, e2, e3⟩ | ⟨e1, e2, e3, e4, e5⟩ <;> rw [e1] at q1''
  · rw [if_pos ⟨q1, q1''⟩, jct_in (leafT (ty := 88) rfl rfl (by decide) ⟨q1, q1', q1''⟩), em_X54_moving, if_neg (show ¬ mvK d k by unfold mvK; omega)]; rfl
  · rw [if_neg (by omega), if_pos ⟨q1, q1''⟩, jct_in (leafT (ty := 89) rfl rfl (by decide) ⟨q1, q1', q1''⟩), em_X55_moving, if_neg (show ¬ mvK d k by unfold mvK; omega)]; rfl
  · rw [if_neg (by omega), if_neg (by omega), if_pos ⟨q1, q1''⟩, em_X57_moving, if_pos (show mvK d k by unfold mvK; omega)]; rfl
  · rw [if_neg (by omega), if_neg (by omega), if_neg (by omega), if_pos ⟨q1, q1''⟩, em_X57_moving, if_pos (show mvK d k by unfold mvK; omega)]; rfl
theorem c_movingAt (v : vLy d) (h : cLs s B d) (k0 : 0 ≤ k) (k1 : k < d 0 1) : m_X36_movingAt s B k = some (if mvK d k then poK s B k else -1) := by
  have hp := h.2.2.2.2.1 k k0 k1
  have vk := v.2.1
  obtain ⟨g5, ⟨w1, w2, w3, w4⟩, -⟩ := v.2.2.2.2.2.2.1 k k0 k1
  obtain ⟨⟨a1, a2, a3⟩, b1, b2, b3, b4, b5⟩ := h.2.2.2.1 _ w1 w2
  rw [em_X36_movingAt]; unfold dm_X36_movingAt
  have j0 := jrp_pc (i := 0) hp (.inl rfl)
  rw [show (0 : Int) + 4 = 4 from rfl] at j0
  rw [jlt_in k0 (by omega), Option.bind_some, j0, Option.bind_some, hp.2.1.1, jrd_in a1 a3, Option.bind_some, b3, if_pos rfl, Option.bind_some, c_moving hp g5, Option.bind_some]
theorem c_greatest (hp : cPc s B d k) (hm : mvK d k) : mp_X57_greatest s (poK s B k) = some (grK d k) := by
  obtain ⟨⟨q1, q1', q1''⟩, -⟩ := hp
  rw [emp_X57_greatest]; unfold dmp_X57_greatest grK
  rcases hm.kk with ⟨z1, z2⟩ | ⟨z1, z2⟩ <;> rw [z1] at q1''
  · rw [if_pos ⟨q1, q1''⟩, jct_in (leafT (ty := 92) rfl rfl (by decide) ⟨q1, q1', q1''⟩), e_X58_greatest, if_pos z2]
  · rw [if_neg (by omega), if_pos ⟨q1, q1''⟩, jct_in (leafT (ty := 93) rfl rfl (by decide) ⟨q1, q1', q1''⟩), e_X59_greatest, if_neg z2]
theorem jwp_mv (h : cPc s B d k) (hm : mvK d k) : jwp s [(76, i), (77, i)] (poK s B k) z = some (jp s (kOf (d 5 k)) (poK s B k) i z) := by
  obtain ⟨⟨q1, q1', q1''⟩, -⟩ := h
  rcases hm.kk with ⟨k1, k2⟩ | ⟨k1, k2⟩ <;> rw [k1] at q1'' ⊢ <;> simp [jwp, q1, q1'']
theorem c_gp (v : vLy d) (hd : cLd s B d) : m_X36_gp s B = some (gpK d) := by
  have ob := ouB_lo (o := 2) v (by decide) (by decide)
  rw [em_X36_gp]; unfold dm_X36_gp gpK
  rw [jlt_in (by decide) (by decide), Option.bind_some, (hd.2.2 2 (by decide) (by decide)).1, W32_in (by omega) (by omega)]
theorem c_isHeld (v : vLy d) (h : cLs s B d) (hd : cLd s B d) (k0 : 0 ≤ k) (k1 : k < d 0 1) (hm : mvK d k) : m_X36_isHeld s B (poK s B k) = some (if tgK d k then 0 else 1) := by
  have hp := h.2.2.2.2.1 k k0 k1
  rw [em_X36_isHeld]; unfold dm_X36_isHeld
  rw [jrp_mv hp hm, Option.bind_some, c_gp v hd, Option.bind_some, c_least v h hd k0 k1 hm, Option.bind_some, (hp.2.2.2.2.1 hm).2.2.1]
  by_cases c : d 15 k < lstK d k
  · rw [if_pos c, if_pos (show tgK d k from ⟨hm, c⟩), Wz_0]
  · rw [if_neg c, if_neg (show ¬ tgK d k from fun q => c q.2), Wz_1]
def nxK (d : Int → Int → Int) (k : Int) : Int := if mvK d k ∧ d 16 k = 0 then jmi (d 15 k) (lstK d k) else 0
theorem c_passR (v : vLy d) (h : cLs s B d) (hd : cLd s B d) (h19 : jf s 40 B 19 = 1) (hn : ∀ i, 0 ≤ i → i < d 0 1 → jf s 1000 (B + 11) i = nxK d i) :
    jE (u_X36_pass_62 s B) fun r => r.2 = cnK d (d 0 1).toNat ∧ lzW B s r.1 ∧ cLy r.1 B (psI d (d 0 1)) := by
  have vk := v.2.1
  rw [eu_X36_pass_62]; unfold du_X36_pass_62
  rw [eu_X36_pass_66]; unfold du_X36_pass_66
  refine jS_for (fun p u => (lzW B s u ∧ ∀ i, jf u 1000 (B + 11) i = jf s 1000 (B + 11) i) ∧ cLs u B (psI d p) ∧ cLd u B d ∧ jf u 40 B 19 = 1) (fun p => [B, cnK d p.toNat, p]) 0 (d 0 1) vk.1 ⟨⟨.rfl, fun _ => rfl⟩, by rw [psI_0]; exact h, hd, h19⟩ (fun p u p0 p1 ⟨⟨e1, e1'⟩, e2, e3, e4⟩ => ?_) (fun u ⟨⟨e1, e1'⟩, e2, e3, e4⟩ => ?_)
  · show jE (b_X36_pass_66 u B (cnK d p.toNat) p) _
    unfold b_X36_pass_66
    have vp : vLy (psI d p) := v.ps
    have n1 : psI d p 0 1 = d 0 1 := psI_no (by decide)
    have hp := e2.2.2.2.2.1 p p0 (by omega)
    have cn := cnK_lo (d := d) p.toNat
    have eN : (p + 1).toNat = p.toNat + 1 := by omega
    have eP : ((p.toNat : Nat) : Int) = p := by omega
    have go : ∀ w, ((lzW B s w ∧ ∀ i, jf w 1000 (B + 11) i = jf s 1000 (B + 11) i) ∧ cLs w B (psI d (p + 1)) ∧ cLd w B d ∧ jf w 40 B 19 = 1) → ∀ z, z = cnK d (p + 1).toNat → ∃ q, u_X36_pass_120 w B z p = some (.inl q) ∧ (q.2 = [B, cnK d (p + 1).toNat, p + 1] ∧ ((lzW B s q.1 ∧ ∀ i, jf q.1 1000 (B + 11) i = jf s 1000 (B + 11) i) ∧ cLs q.1 B (psI d (p + 1)) ∧ cLd q.1 B d ∧ jf q.1 40 B 19 = 1)) := fun w hw z hz => by
      rw [eu_X36_pass_120]; unfold du_X36_pass_120
      rw [W32_in (by omega) (by omega), hz]
      exact ⟨_, rfl, rfl, hw⟩
    have skip : ¬ psK d p → psI d (p + 1) = psI d p ∧ cnK d p.toNat = cnK d (p + 1).toNat := fun hk => by
      refine ⟨by rw [psI_s p0, if_neg hk], ?_⟩
      rw [eN]
      show _ = cnK d p.toNat + if psK d ((p.toNat : Nat) : Int) then 1 else 0
      rw [eP, if_neg hk, Int.add_zero]
    rw [e2.2.1.2.1, n1, if_pos p1, c_movingAt vp e2 p0 (by omega), Option.bind_some]
    by_cases hm : mvK d p
    rotate_left
    · rw [if_neg (fun q => hm (dSm.ps.mv.mp q)), if_pos (by decide)]
      obtain ⟨k1, k2⟩ := skip (fun q => hm q.1)
      exact jS_q (go u ⟨⟨e1, e1'⟩, by rw [k1]; exact e2, e3, e4⟩ _ k2) fun _ h => h
    have hm' : mvK (psI d p) p := dSm.ps.mv.mpr hm
    obtain ⟨z0, z1, z2, z3⟩ := hp.2.2.2.2.1 hm'
    rw [psI_hi (f := 15) (Int.le_refl _)] at z2
    rw [psI_hi (f := 16) (Int.le_refl _)] at z3
    rw [if_pos hm', if_neg (by have := hp.1.1; omega), jrp_mv hp hm', Option.bind_some, z3]
    by_cases c16 : d 16 p = 0
    rotate_left
    · rw [if_neg c16]
      obtain ⟨k1, k2⟩ := skip (fun q => c16 q.2.1)
      exact jS_q (go u ⟨⟨e1, e1'⟩, by rw [k1]; exact e2, e3, e4⟩ _ k2) fun _ h => h
    have ex : jf u 1000 (B + 11) p = jmi (d 15 p) (lstK d p) := by
      rw [e1', hn p p0 p1]; unfold nxK; rw [if_pos ⟨hm, c16⟩]
    rw [if_pos c16, jrp_mv hp hm', Option.bind_some, z2, jlt_in p0 (by omega), Option.bind_some, ex, Option.bind_some]
    unfold jmi
    by_cases cl : lstK d p < d 15 p
    · have hk : psK d p := ⟨hm, c16, cl⟩
      rw [if_pos cl, if_neg (by omega), jwp_mv hp hm', Option.bind_some]
      have kk := hm'.kk
      have kin : 70 ≤ jK s (poK u B p) ∧ jK s (poK u B p) ≤ 77 := by rw [← e1.1.1, hp.1.2.2]; exact kOf_in
      refine jS_q (go _ ⟨⟨e1.jp (by omega), fun i => ?_⟩, ?_, e3.cg fun c a k hc => jf_neg (by omega), ?_⟩ _ ?_) fun _ h => h
      · rw [jf_neg (by omega)]; exact e1' i
      · rw [psI_s p0, if_pos hk]
        exact e2.set (j := 2) p0 (by omega) hm' (.inl rfl)
      · rw [jf_neg (by omega)]; exact e4
      · rw [W32_in (by omega) (by omega), eN]
        show _ = cnK d p.toNat + if psK d ((p.toNat : Nat) : Int) then 1 else 0
        rw [eP, if_pos hk]
    · rw [if_neg cl, if_pos rfl]
      obtain ⟨k1, k2⟩ := skip (fun q => cl q.2.2)
      exact jS_q (go u ⟨⟨e1, e1'⟩, by rw [k1]; exact e2, e3, e4⟩ _ k2) fun _ h => h
  · show jE (b_X36_pass_66 u B (cnK d (d 0 1).toNat) (d 0 1)) _
    unfold b_X36_pass_66
    have n1 : psI d (d 0 1) 0 1 = d 0 1 := psI_no (by decide)
    have cn := cnK_lo (d := d) (d 0 1).toNat
    rw [e2.2.1.2.1, n1, if_neg (Int.lt_irrefl _), eu_X36_pass_126]; unfold du_X36_pass_126
    rw [e4, if_neg n10]
    have fin : ∀ z, z = 0 ∨ z = 1 → (z = 1 → cnK d (d 0 1).toNat = 0) → jE (u_X36_pass_143 u (cnK d (d 0 1).toNat) z B) fun r => r.2 = cnK d (d 0 1).toNat ∧ lzW B s r.1 ∧ cLy r.1 B (psI d (d 0 1)) := fun z hz hc => by
      rw [eu_X36_pass_143]; unfold du_X36_pass_143
      rw [jzb_in hz, Option.bind_some]
      refine jS_ls (jS_end ⟨rfl, e1.jp (by omega), e2.keep (lyW.rfl.jp (by omega)), ?_⟩)
      rcases hz with rfl | rfl
      · exact .inl (jf_pos ⟨rfl, rfl, rfl⟩)
      · refine .inr ⟨jf_pos ⟨rfl, rfl, rfl⟩, ?_⟩
        have h0 := cnK_0 _ (hc rfl)
        have : psI d (d 0 1) = d := by
          funext f k
          unfold psI
          rw [if_neg (fun q => h0 k q.2.1 (by omega) q.2.2.2)]
        rw [this]
        exact e3.cg fun c a k hc => jf_neg (by omega)
    by_cases c0 : cnK d (d 0 1).toNat = 0
    · rw [if_pos c0]; exact jS_inr (fin 1 (.inr rfl) fun _ => c0)
    · rw [if_neg c0, eu_X36_pass_142]; unfold du_X36_pass_142
      exact jS_inr (fin 0 (.inl rfl) fun q => absurd q (by decide))
theorem c_pass (v : vLy d) (h : cLy s B d) : jE (m_X36_pass s B) fun r => r.2 = cnK d (d 0 1).toNat ∧ lzW B s r.1 ∧ cLy r.1 B (psI d (d 0 1)) := by
  obtain ⟨u, hu, g1, g2, g3, g4⟩ := c_layAll h v
  have vk := v.2.1
  rw [em_X36_pass]; unfold dm_X36_pass
  rw [hu, Option.bind_some, eu_X36_pass_6]; unfold du_X36_pass_6
  refine jS_for (fun p w => lyW B u w ∧ cLd w B d ∧ jf w 40 B 19 = 1 ∧ ∀ i, 0 ≤ i → i < p → jf w 1000 (B + 11) i = nxK d i) (fun p => [B, p]) 0 (d 0 1) vk.1 ⟨.rfl, g3, g4, fun i i0 i1 => by omega⟩ (fun p w p0 p1 ⟨e1, e2, e3, e4⟩ => ?_) (fun w ⟨e1, e2, e3, e4⟩ => ?_)
  · show jE (b_X36_pass_6 w B p) _
    unfold b_X36_pass_6
    have hs := g2.keep e1
    have hp := hs.2.2.2.2.1 p p0 p1
    have go : ∀ z, z = nxK d p → ∃ q, u_X36_pass_55 w B p z p (B + 11) = some (.inl q) ∧ (q.2 = [B, p + 1] ∧ (lyW B u q.1 ∧ cLd q.1 B d ∧ jf q.1 40 B 19 = 1 ∧ ∀ i, 0 ≤ i → i < p + 1 → jf q.1 1000 (B + 11) i = nxK d i)) := fun z hz => by
      rw [eu_X36_pass_55]; unfold du_X36_pass_55
      rw [jst_in p0 (by omega), Option.bind_some, W32_in (by omega) (by omega)]
      refine ⟨_, rfl, rfl, e1.jp (by omega), e2.cg fun c a k hc => jf_neg (by omega), by rw [jf_neg (by omega)]; exact e3, fun i i0 i1 => ?_⟩
      by_cases c : i = p
      · rw [c, jf_pos ⟨rfl, rfl, rfl⟩]; exact hz
      · rw [jf_neg (by omega)]; exact e4 i i0 (by omega)
    rw [hs.2.1.2.1, if_pos p1, c_movingAt v hs p0 p1, Option.bind_some]
    by_cases hm : mvK d p
    · obtain ⟨z0, z1, z2, z3⟩ := hp.2.2.2.2.1 hm
      rw [if_pos hm, if_neg (by have := hp.1.1; omega), jrp_mv hp hm, Option.bind_some, z3]
      by_cases c16 : d 16 p = 0
      · rw [if_pos c16, jrp_mv hp hm, Option.bind_some, z2, c_gp v e2, Option.bind_some, c_least v hs e2 p0 p1 hm, Option.bind_some]
        exact jS_q (go _ (by unfold nxK; rw [if_pos ⟨hm, c16⟩])) fun _ h => h
      · rw [if_neg c16, eu_X36_pass_36]; unfold du_X36_pass_36
        exact jS_q (go _ (by unfold nxK; rw [if_neg (fun q => c16 q.2)])) fun _ h => h
    · rw [if_neg hm, if_pos (by decide), eu_X36_pass_36]; unfold du_X36_pass_36
      exact jS_q (go _ (by unfold nxK; rw [if_neg (fun q => hm q.1)])) fun _ h => h
  · show jE (b_X36_pass_6 w B (d 0 1)) _
    unfold b_X36_pass_6
    have hs := g2.keep e1
    rw [hs.2.1.2.1, if_neg (Int.lt_irrefl _)]
    refine jS_inr (jE_mono (c_passR v hs e2 e3 e4) fun r ⟨r1, r2, r3⟩ => ⟨r1, ((g1.trans e1).toZ).trans r2, r3⟩)
/-- undoing -/
theorem c_undoR (v : vLy d) (h : cLs s B d) (hd : cLd s B d) (h19 : jf s 40 B 19 = 1) (hn : ∀ i, 0 ≤ i → i < d 0 1 → jf s 1000 (B + 11) i = if tgK d i then 1 else 0) :
    jE (u_X36_undo_49 s B) fun r => r.2 = cuK d (d 0 1).toNat ∧ lzW B s r.1 ∧ cLy r.1 B (udI d (d 0 1)) := by
  have vk := v.2.1
  rw [eu_X36_undo_49]; unfold du_X36_undo_49
  rw [eu_X36_undo_53]; unfold du_X36_undo_53
  refine jS_for (fun p u => (lzW B s u ∧ ∀ i, jf u 1000 (B + 11) i = jf s 1000 (B + 11) i) ∧ cLs u B (udI d p) ∧ cLd u B d ∧ jf u 40 B 19 = 1) (fun p => [B, cuK d p.toNat, p]) 0 (d 0 1) vk.1 ⟨⟨.rfl, fun _ => rfl⟩, by rw [udI_0]; exact h, hd, h19⟩ (fun p u p0 p1 ⟨⟨e1, e1'⟩, e2, e3, e4⟩ => ?_) (fun u ⟨⟨e1, e1'⟩, e2, e3, e4⟩ => ?_)
  · show jE (b_X36_undo_53 u B (cuK d p.toNat) p) _
    unfold b_X36_undo_53
    have n1 : udI d p 0 1 = d 0 1 := udI_no (by decide)
    have hp := e2.2.2.2.2.1 p p0 (by omega)
    have cn := cuK_lo (d := d) p.toNat
    have eN : (p + 1).toNat = p.toNat + 1 := by omega
    have eP : ((p.toNat : Nat) : Int) = p := by omega
    rw [e2.2.1.2.1, n1, if_pos p1, jlt_in p0 (by omega), Option.bind_some, e1', hn p p0 p1]
    by_cases hk : tgK d p
    rotate_left
    · rw [if_neg hk, if_pos rfl, eu_X36_undo_99]; unfold du_X36_undo_99
      rw [W32_in (by omega) (by omega)]
      refine jS_end ⟨?_, ⟨e1, e1'⟩, by rw [udI_s p0, if_neg hk]; exact e2, e3, e4⟩
      show [B, cuK d p.toNat, p + 1] = [B, cuK d (p + 1).toNat, p + 1]
      rw [eN]
      show _ = [B, cuK d p.toNat + (if tgK d ((p.toNat : Nat) : Int) then 1 else 0), p + 1]
      rw [eP, if_neg hk, Int.add_zero]
    have hm' : mvK (udI d p) p := dSm.ud.mv.mpr hk.1
    have g5 : 0 ≤ udI d p 5 p ∧ udI d p 5 p ≤ 4 := by
      rw [udI_no (by decide)]; exact (v.2.2.2.2.2.2.1 p p0 p1).1
    have eg : grK (udI d p) p = grK d p := dSm.ud.gr
    rw [if_pos hk, if_neg n10, jlt_in p0 (by omega), Option.bind_some, c_moving hp g5, if_pos hm', Option.bind_some, c_greatest hp hm', Option.bind_some, jwp_mv hp hm', Option.bind_some, eg, jzb_in (.inr rfl), Option.bind_some]
    have hz := e2.set (j := 2) (z := grK d p) p0 (by omega) hm' (.inl rfl)
    obtain ⟨u2, U2⟩ : ∃ u2, u2 = jp u (kOf (udI d p 5 p)) (poK u B p) 2 (grK d p) := ⟨_, rfl⟩
    rw [← U2] at hz ⊢
    have kk := hm'.kk
    have e5 : dU (udI d p) (13 + 2) p (grK d p) 5 p = udI d p 5 p := dU_no (by omega)
    have n1' : dU (udI d p) (13 + 2) p (grK d p) 0 1 = d 0 1 := (dU_no (by omega)).trans n1
    have hm2 : mvK (dU (udI d p) (13 + 2) p (grK d p)) p := by unfold mvK; rw [e5]; exact hm'
    have hp2 := hz.2.2.2.2.1 p p0 (by omega)
    have epk : poK u2 B p = poK u B p := by rw [U2]; exact jf_neg (by omega)
    have jw := jwp_mv (i := 3) (z := 1) hp2 hm2
    rw [epk] at jw
    have hz2 := hz.set (j := 3) (z := 1) p0 (by omega) hm2 (.inr rfl)
    rw [epk, e5] at hz2
    rw [e5] at jw
    rw [jw, Option.bind_some, eu_X36_undo_99]; unfold du_X36_undo_99
    rw [W32_in (by omega) (by omega), W32_in (by omega) (by omega)]
    have kin : 70 ≤ jK s (poK u B p) ∧ jK s (poK u B p) ≤ 77 := by rw [← e1.1.1, hp.1.2.2]; exact kOf_in
    have l2 : lzW B s u2 := by rw [U2]; exact e1.jp (by omega)
    refine jS_end ⟨?_, ⟨l2.jp (by omega), fun i => ?_⟩, ?_, (e3.cg fun c a k hc => (by rw [U2]; exact jf_neg (by omega)) : cLd u2 B d).cg fun c a k hc => jf_neg (by omega), ?_⟩
    · show [B, cuK d p.toNat + 1, p + 1] = [B, cuK d (p + 1).toNat, p + 1]
      rw [eN]
      show _ = [B, cuK d p.toNat + (if tgK d ((p.toNat : Nat) : Int) then 1 else 0), p + 1]
      rw [eP, if_pos hk]
    · rw [jf_neg (by omega), U2, jf_neg (by omega)]; exact e1' i
    · rw [udI_s p0, if_pos hk]; exact hz2
    · rw [jf_neg (by omega), U2, jf_neg (by omega)]; exact e4
  · show jE (b_X36_undo_53 u B (cuK d (d 0 1).toNat) (d 0 1)) _
    unfold b_X36_undo_53
    have n1 : udI d (d 0 1) 0 1 = d 0 1 := udI_no (by decide)
    have cn := cuK_lo (d := d) (d 0 1).toNat
    rw [e2.2.1.2.1, n1, if_neg (Int.lt_irrefl _), eu_X36_undo_105]; unfold du_X36_undo_105
    rw [e4, if_neg n10]
    have fin : ∀ z, z = 0 ∨ z = 1 → (z = 1 → cuK d (d 0 1).toNat = 0) → jE (u_X36_undo_122 u (cuK d (d 0 1).toNat) z B) fun r => r.2 = cuK d (d 0 1).toNat ∧ lzW B s r.1 ∧ cLy r.1 B (udI d (d 0 1)) := fun z hz hc => by
      rw [eu_X36_undo_122]; unfold du_X36_undo_122
      rw [jzb_in hz, Option.bind_some]
      refine jS_ls (jS_end ⟨rfl, e1.jp (by omega), e2.keep (lyW.rfl.jp (by omega)), ?_⟩)
      rcases hz with rfl | rfl
      · exact .inl (jf_pos ⟨rfl, rfl, rfl⟩)
      · refine .inr ⟨jf_pos ⟨rfl, rfl, rfl⟩, ?_⟩
        have h0 := cuK_0 _ (hc rfl)
        have : udI d (d 0 1) = d := by
          funext f k
          unfold udI
          rw [if_neg (fun q => h0 k q.1 (by omega) q.2.2)]
        rw [this]
        exact e3.cg fun c a k hc => jf_neg (by omega)
    by_cases c0 : cuK d (d 0 1).toNat = 0
    · rw [if_pos c0]; exact jS_inr (fin 1 (.inr rfl) fun _ => c0)
    · rw [if_neg c0, eu_X36_undo_121]; unfold du_X36_undo_121
      exact jS_inr (fin 0 (.inl rfl) fun q => absurd q (by decide))
theorem c_undo (v : vLy d) (h : cLy s B d) : jE (m_X36_undo s B) fun r => r.2 = cuK d (d 0 1).toNat ∧ lzW B s r.1 ∧ cLy r.1 B (udI d (d 0 1)) := by
  obtain ⟨u, hu, g1, g2, g3, g4⟩ := c_layAll h v
  have vk := v.2.1
  rw [em_X36_undo]; unfold dm_X36_undo
  rw [hu, Option.bind_some, eu_X36_undo_6]; unfold du_X36_undo_6
  refine jS_for (fun p w => lyW B u w ∧ cLd w B d ∧ jf w 40 B 19 = 1 ∧ ∀ i, 0 ≤ i → i < p → jf w 1000 (B + 11) i = if tgK d i then 1 else 0) (fun p => [B, p]) 0 (d 0 1) vk.1 ⟨.rfl, g3, g4, fun i i0 i1 => by omega⟩ (fun p w p0 p1 ⟨e1, e2, e3, e4⟩ => ?_) (fun w ⟨e1, e2, e3, e4⟩ => ?_)
  · show jE (b_X36_undo_6 w B p) _
    unfold b_X36_undo_6
    have hs := g2.keep e1
    have hp := hs.2.2.2.2.1 p p0 p1
    have go : ∀ z, (z = if tgK d p then 1 else 0) → ∃ q, u_X36_undo_42 w B p z p (B + 11) = some (.inl q) ∧ (q.2 = [B, p + 1] ∧ (lyW B u q.1 ∧ cLd q.1 B d ∧ jf q.1 40 B 19 = 1 ∧ ∀ i, 0 ≤ i → i < p + 1 → jf q.1 1000 (B + 11) i = if tgK d i then 1 else 0)) := fun z hz => by
      rw [eu_X36_undo_42]; unfold du_X36_undo_42
      rw [jst_in p0 (by omega), Option.bind_some, W32_in (by omega) (by omega)]
      refine ⟨_, rfl, rfl, e1.jp (by omega), e2.cg fun c a k hc => jf_neg (by omega), by rw [jf_neg (by omega)]; exact e3, fun i i0 i1 => ?_⟩
      by_cases c : i = p
      · rw [c, jf_pos ⟨rfl, rfl, rfl⟩]; exact hz
      · rw [jf_neg (by omega)]; exact e4 i i0 (by omega)
    rw [hs.2.1.2.1, if_pos p1, c_movingAt v hs p0 p1, Option.bind_some]
    by_cases hm : mvK d p
    · rw [if_pos hm, if_neg (by have := hp.1.1; omega), c_isHeld v hs e2 p0 p1 hm, Option.bind_some]
      by_cases ct : tgK d p
      · rw [if_pos ct, if_pos rfl]
        exact jS_q (go _ (by rw [if_pos ct])) fun _ h => h
      · rw [if_neg ct, if_neg n10, eu_X36_undo_37]; unfold du_X36_undo_37
        exact jS_q (go _ (by rw [if_neg ct])) fun _ h => h
    · rw [if_neg hm, if_pos (by decide), eu_X36_undo_37]; unfold du_X36_undo_37
      exact jS_q (go _ (by rw [if_neg (fun q => hm q.1)])) fun _ h => h
  · show jE (b_X36_undo_6 w B (d 0 1)) _
    unfold b_X36_undo_6
    have hs := g2.keep e1
    rw [hs.2.1.2.1, if_neg (Int.lt_irrefl _)]
    refine jS_inr (jE_mono (c_undoR v hs e2 e3 e4) fun r ⟨r1, r2, r3⟩ => ⟨r1, ((g1.trans e1).toZ).trans r2, r3⟩)
end jPass1
