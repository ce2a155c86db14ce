/-! types of a place hang on that place alone; an object's file written without what it held *-/
set_option maxRecDepth 100000
section jLoc
variable {s t u w : jS} {a c k v x y z X O n A H b lo T : Int} {o : Int → Int → Int → Int} {d : Int → Int}
/-- what a type tells of n cells *-/
def LocT (t : Nat) (n : Int) : Prop := ∀ (s u : jS) (a : Int), jTt s t a → jn s ≤ jn u → (∀ x, a ≤ x → x < a + n → jK u x = jK s x ∧ jN u x = jN s x ∧ ∀ k, jF u x k = jF s x k) → jTt u t a
theorem LocT.mk {t : Nat} (hn : 1 ≤ n) (hs : ∀ e ∈ jStr t, ∃ o n', e.2.1 = some o ∧ LocT e.2.2 n' ∧ 0 ≤ o ∧ o + n' ≤ n) (ha : ∀ q, jStA t = some q → ∃ n', LocT q.2.2 n' ∧ 0 ≤ q.1 ∧ 0 ≤ q.2.1 ∧ q.1 + q.2.1 * (jTl t - 1) + n' ≤ n) : LocT t n := fun s u a h hj hr => by
  rw [jTt_iff] at h ⊢
  obtain ⟨⟨z1, z2, z3, z4⟩, h2, h3⟩ := h
  obtain ⟨r1, r2, r3⟩ := hr a (Int.le_refl _) (by omega)
  refine ⟨⟨z1, by omega, by rw [r1]; exact z3, fun p q => by rw [r2]; exact z4 p q⟩, fun e he => ?_, fun q hq i i0 i1 => ?_⟩
  · obtain ⟨o, n', e1, e2, e3, e4⟩ := hs e he
    obtain ⟨g1, g2⟩ := h2 e he
    have g3 := g1 o e1
    rw [r3]
    refine ⟨g1, ?_⟩
    rw [g3] at g2 ⊢
    exact e2 s u _ g2 hj fun x x0 x1 => hr x (by omega) (by omega)
  · obtain ⟨n', e2, e3, e4, e5⟩ := ha q hq
    obtain ⟨g1, g2⟩ := h3 q hq i i0 i1
    rw [r3]
    refine ⟨g1, ?_⟩
    rw [g1] at g2 ⊢
    have m1 : 0 ≤ q.2.1 * i := Int.mul_nonneg e4 i0
    have m2 : q.2.1 * i ≤ q.2.1 * (jTl t - 1) := Int.mul_le_mul_of_nonneg_left (by omega) e4
    exact e2 s u _ g2 hj fun x x0 x1 => hr x (by omega) (by omega)
theorem LocT.leaf {t : Nat} (h1 : jStr t = []) (h2 : jStA t = none) : LocT t 1 := .mk (by decide) (fun e he => by rw [h1] at he; cases he) (fun q hq => by rw [h2] at hq; cases hq)
theorem LocT.st {t : Nat} {L : List (Int × Option Int × Nat)} (hn : 1 ≤ n) (h1 : jStr t = L) (h2 : jStA t = none) (hs : ∀ e ∈ L, ∃ o n', e.2.1 = some o ∧ LocT e.2.2 n' ∧ 0 ≤ o ∧ o + n' ≤ n) : LocT t n := .mk hn (fun e he => hs e (by rw [← h1]; exact he)) (fun q hq => by rw [h2] at hq; cases hq)
theorem LocT.ar {t t' : Nat} {o st n' : Int} (hn : 1 ≤ n) (h1 : jStr t = []) (h2 : jStA t = some (o, st, t')) (hs : LocT t' n') (h3 : 0 ≤ o) (h4 : 0 ≤ st) (h5 : o + st * (jTl t - 1) + n' ≤ n) : LocT t n := .mk hn (fun e he => by rw [h1] at he; cases he) (fun q hq => by
  rw [h2] at hq
  have := Option.some.inj hq
  subst this
  exact ⟨n', hs, h3, h4, h5⟩)
theorem Lo_b0 : LocT 2097152 1 := .leaf rfl rfl
theorem Lo_b16 : LocT 2097169 1 := .leaf rfl rfl
theorem Lo_sh : LocT 4195329 1 := .leaf rfl rfl
theorem Lo_i12 : LocT 1048589 1 := .leaf rfl rfl
theorem Lo_i16 : LocT 1048593 1 := .leaf rfl rfl
theorem Lo_38 : LocT 38 1 := .leaf rfl rfl
theorem Lo_37 : LocT 37 2 := .st (by decide) rfl rfl fun e he => by
  rcases List.mem_cons.mp he with rfl | he
  · exact ⟨1, 1, rfl, Lo_b16, by decide, by decide⟩
  · cases he
theorem Lo_36 : LocT 36 3 := .st (by decide) rfl rfl fun e he => by
  rcases List.mem_cons.mp he with rfl | he
  · exact ⟨1, 2, rfl, Lo_37, by decide, by decide⟩
  · cases he
theorem Lo_35 : LocT 35 2 := .st (by decide) rfl rfl fun e he => by
  rcases List.mem_cons.mp he with rfl | he
  · exact ⟨1, 1, rfl, Lo_b0, by decide, by decide⟩
  · cases he
theorem Lo_39 : LocT 39 2 := .st (by decide) rfl rfl fun e he => by
  rcases List.mem_cons.mp he with rfl | he
  · exact ⟨1, 1, rfl, Lo_b0, by decide, by decide⟩
  · cases he
theorem Lo_a35 : LocT 14680069 12 := .ar (by decide) rfl rfl Lo_35 (by decide) (by decide) (by decide)
theorem Lo_a36 : LocT 15728741 310 := .ar (by decide) rfl rfl Lo_36 (by decide) (by decide) (by decide)
theorem Lo_a38 : LocT 13631789 609 := .ar (by decide) rfl rfl Lo_38 (by decide) (by decide) (by decide)
theorem Lo_34 : LocT 34 613 := .st (by decide) rfl rfl fun e he => by
  rcases List.mem_cons.mp he with rfl | he
  · exact ⟨1, 12, rfl, Lo_a35, by decide, by decide⟩
  rcases List.mem_cons.mp he with rfl | he
  · exact ⟨2, 1, rfl, Lo_sh, by decide, by decide⟩
  rcases List.mem_cons.mp he with rfl | he
  · exact ⟨3, 310, rfl, Lo_a36, by decide, by decide⟩
  rcases List.mem_cons.mp he with rfl | he
  · exact ⟨4, 609, rfl, Lo_a38, by decide, by decide⟩
  · cases he
theorem Lo_40 : LocT 40 8 := .st (by decide) rfl rfl fun e he => by
  rcases List.mem_cons.mp he with rfl | he
  · exact ⟨1, 2, rfl, Lo_39, by decide, by decide⟩
  rcases List.mem_cons.mp he with rfl | he
  · exact ⟨3, 1, rfl, Lo_i12, by decide, by decide⟩
  rcases List.mem_cons.mp he with rfl | he
  · exact ⟨4, 1, rfl, Lo_i12, by decide, by decide⟩
  rcases List.mem_cons.mp he with rfl | he
  · exact ⟨5, 1, rfl, Lo_i12, by decide, by decide⟩
  rcases List.mem_cons.mp he with rfl | he
  · exact ⟨6, 1, rfl, Lo_i12, by decide, by decide⟩
  rcases List.mem_cons.mp he with rfl | he
  · exact ⟨7, 1, rfl, Lo_b16, by decide, by decide⟩
  · cases he
theorem Lo_41 : LocT 41 619 := .st (by decide) rfl rfl fun e he => by
  rcases List.mem_cons.mp he with rfl | he
  · exact ⟨1, 1, rfl, Lo_i12, by decide, by decide⟩
  rcases List.mem_cons.mp he with rfl | he
  · exact ⟨2, 1, rfl, Lo_i16, by decide, by decide⟩
  rcases List.mem_cons.mp he with rfl | he
  · exact ⟨3, 613, rfl, Lo_34, by decide, by decide⟩
  rcases List.mem_cons.mp he with rfl | he
  · exact ⟨616, 3, rfl, Lo_36, by decide, by decide⟩
  · cases he
/-- an object file's maker *-/
theorem Lo_33 : LocT 33 1858 := .st (by decide) rfl rfl fun e he => by
  rcases List.mem_cons.mp he with rfl | he
  · exact ⟨1, 613, rfl, Lo_34, by decide, by decide⟩
  rcases List.mem_cons.mp he with rfl | he
  · exact ⟨614, 613, rfl, Lo_34, by decide, by decide⟩
  rcases List.mem_cons.mp he with rfl | he
  · exact ⟨1227, 2, rfl, Lo_37, by decide, by decide⟩
  rcases List.mem_cons.mp he with rfl | he
  · exact ⟨1229, 2, rfl, Lo_39, by decide, by decide⟩
  rcases List.mem_cons.mp he with rfl | he
  · exact ⟨1231, 8, rfl, Lo_40, by decide, by decide⟩
  rcases List.mem_cons.mp he with rfl | he
  · exact ⟨1239, 619, rfl, Lo_41, by decide, by decide⟩
  · cases he
theorem T33_gw {P Q : Int} {B : Int → Prop} (h : jTt s 33 O) (g : jGw s u P Q B) (hB : ∀ z, O ≤ z → z < O + 1858 → ¬ B z) (hO : O + 1858 ≤ jn s) : jTt u 33 O := Lo_33 s u O h g.1.1 fun x x0 x1 => ⟨g.K (by omega), g.N (by omega), fun k => g.F (by omega) (hB x x0 x1) k⟩
/-- an object's file, both sides, whatever it held *-/
theorem o_write3 (h : cMk s O o d) (hC : pCon s) (hN1 : jN s (O + 1233) = 8193) (hN2 : jN s (O + 1230) = 8192) (hO : tOb t X 0 o) (hP : pTi t X) : ∃ r q, m_X13_write s O = some r ∧ m_X40_write t X = some q ∧ r.2 = q.2 ∧ (r.2 < 0 ∨ 0 < r.2) ∧ jFx s r.1 (O + 1229) 10 ∧ fWr t q.1 X ∧ (0 < r.2 → r.2 ≤ 8192 ∧ ∃ g, fB r.1 (O + 1229) g r.2 ∧ ∀ k, 0 ≤ k → k < r.2 → fG q.1 X k = g k) := by
  have v := h.2.2.1
  obtain ⟨t1, t2, t3, t4⟩ := tab_lo v
  have hq := qO_lo v 11
  obtain ⟨r, er, a1, a2, a3, a4⟩ := c_mwrite h hC hN1 hN2
  obtain ⟨q, eq, b1, hq2⟩ := t_write hO v hP
  have e : r.2 = q.2 := wRes_eq a2 (by
    rcases hq2 with ⟨y, y1, y2, y3, -⟩ | ⟨y1, y2, y3, -⟩ | ⟨y1, y2, y3, -⟩
    · exact .inl ⟨by rw [y3]; exact y1, by rw [y3]; exact y2⟩
    · exact .inr (.inl ⟨y1, y2, y3⟩)
    · exact .inr (.inr ⟨y1, y2, y3⟩))
  refine ⟨r, q, er, eq, e, ?_, a1, b1, fun p => ?_⟩
  · rcases hq2 with ⟨y, y1, y2, y3, y4⟩ | ⟨y1, y2, y3, y4, y5⟩ | ⟨y1, y2, y3, y4, y5⟩
    · have := ftO_lo y1
      omega
    · omega
    · omega
  · obtain ⟨x1, x2, g1, x3, x4⟩ := a3 p
    rcases hq2 with ⟨y, y1, y2, y3, y4⟩ | ⟨y1, y2, y3, y4, y5⟩ | ⟨y1, y2, y3, y4, y5⟩
    · have := ftO_lo y1
      omega
    · omega
    · refine ⟨by omega, g1, ?_, fun k k0 k1 => (pFi_one v x4 y5 k0 (by omega)).symm⟩
      rw [x2]
      exact ⟨x3, y2, (T33w h.1).2.ext a1.2⟩
end jLoc
