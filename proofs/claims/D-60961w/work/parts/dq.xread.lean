/-! the component's image: reading, with the copy that is kept -/
section jXread
variable {s t u w : jS} {O n p f : Int} {g : Int → Int}
/-- no fault has the number 0 -/
def nzL (L : List (Prop × Int × Int)) : Prop := ∀ q ∈ L, ¬ q.2.1 = 0
theorem nzL_nil : nzL [] := fun q h => by cases h
theorem nzL_cons {c : Prop} {L : List (Prop × Int × Int)} (h : ¬ f = 0) (k : nzL L) : nzL ((c, f, p) :: L) := fun q m => by
  rcases List.mem_cons.mp m with e | m
  · rw [e]; exact h
  · exact k q m
theorem nzL_app {L M : List (Prop × Int × Int)} (h : nzL L) (k : nzL M) : nzL (L ++ M) := fun q m => by
  rcases List.mem_append.mp m with m | m
  · exact h q m
  · exact k q m
theorem nzL_F {F : Int → List (Prop × Int × Int)} {lo hi : Int} (h : ∀ k, lo ≤ k → k < hi → nzL (F k)) : nzL (ckF F lo hi) := by
  have key : ∀ (m : Nat) (lo : Int), lo + (m : Int) ≤ hi ∨ m = 0 → (∀ k, lo ≤ k → k < hi → nzL (F k)) → nzL (ckN F m lo) := by
    intro m
    induction m with
    | zero => intro lo _ _; exact nzL_nil
    | succ m ih =>
      intro lo hm h
      exact nzL_app (h lo (by omega) (by omega)) (ih (lo + 1) (by omega) fun k k0 k1 => h k (by omega) k1)
  exact key _ lo (by omega) h
theorem Fst_nz {L : List (Prop × Int × Int)} (h : Fst L f p) (k : nzL L) : ¬ f = 0 := by
  obtain ⟨A, c, B, e, -, -⟩ := h
  exact k (c, f, p) (by rw [e]; exact List.mem_append.mpr (.inr (List.mem_cons_self ..)))
theorem JAll_nz : nzL (JAll g n) := by
  unfold JAll JHead JRows JSegs JNote
  refine nzL_app ?_ (nzL_app (nzL_app (nzL_F fun k k0 k1 => ?_) nzL_nil) (nzL_app ?_ ?_))
  case refine_2 =>
    unfold JRow
    refine nzL_cons (by omega) ?_
    by_cases c : it g k 0 = 0
    · rw [if_pos c]; exact nzL_nil
    · rw [if_neg c]; repeat first | exact nzL_nil | refine nzL_cons (by omega) ?_
  all_goals repeat first | exact nzL_nil | refine nzL_cons (by omega) ?_ | refine nzL_app (nzL_F fun k k0 k1 => nzL_cons (by omega) nzL_nil) ?_ | refine nzL_app (nzL_F fun k k0 k1 => nzL_F fun j j0 j1 => nzL_cons (by omega) nzL_nil) ?_
/-- it went wrong: the image that stands is left, the place is noted -/
def xBD (s : jS) (O : Int) (f p : Int) (r : jS × Int) : Prop := r.2 = f ∧ ∃ u, (jFx s u (O + 25) 12 ∧ cIz u (O + 25 + 1)) ∧ r.1 = jp (jmk u 2054 0 (fun _ => 0) 6) 26 O 5 p
def xRO (s : jS) (O : Int) (g : Int → Int) (r : jS × Int) : Prop := r.2 = 0 ∧ jFx s r.1 O 37 ∧ jf r.1 26 O 5 = -1 ∧ cIm r.1 (O + 10) (iR g) ∧ vIm (iR g) ∧ cIz r.1 (O + 25 + 1) ∧ ∀ c a k, O + 1 ≤ a ∧ a < O + 10 ∨ O + 19 ≤ a ∧ a < O + 25 → jf r.1 c a k = jf s c a k
theorem x_read (C : iC s (O + 25) (O + 19) g n) (hz : cIz s (O + 25 + 1)) (hT : jTt s 43 (O + 25 + 1)) : jE (m_X22_read s O) (ckR (xRO s O g) (xBD s O) (JAll g n)) := by
  rw [em_X22_read]; unfold dm_X22_read
  refine jS_call (i_rread C hz) fun q hq => ?_
  simp only [jls]
  rcases hq with ⟨hg, q1, k, q3, q4, q5⟩ | ⟨f, p, hf, q1, u, k, q3, q4, q6⟩
  · rw [q1, if_pos rfl, q3]
    have K : jFx s (jp q.1 26 O 5 (-1)) O 37 := (k.wide (by omega) (by omega)).jp rfl (by omega) (by omega)
    have I : cIm (jp q.1 26 O 5 (-1)) (O + 25 + 1) (iR g) := q4.keep fun c a k a0 a1 => jf_neg (by omega)
    have e5 : jf (jp q.1 26 O 5 (-1)) 26 O 5 = -1 := by (repeat (first | rw [jf_neg (by omega)] | rw [jf_pos (by omega)] | rw [ou_neg (by omega)] | rw [ou_pos (by omega)]))
    have kp : ∀ c a k, O + 1 ≤ a ∧ a < O + 10 ∨ O + 19 ≤ a ∧ a < O + 25 → jf (jp q.1 26 O 5 (-1)) c a k = jf s c a k := fun c a j h => by rw [jf_neg (by omega), k.F (by omega)]
    generalize jp q.1 26 O 5 (-1) = s2 at K I e5 kp ⊢
    refine jS_call (i_set (hT.ext K.2) I q5 (by omega)) fun r ⟨k1, k2⟩ => ?_
    exact jS_end (.inl ⟨hg, rfl, K.trans (k1.wide (by omega) (by omega)), by rw [k1.F (by omega)]; exact e5, k2, q5, (I.kf k1 (by omega)).2.2.2.2, fun c a j h => by rw [k1.F (by omega)]; exact kp c a j h⟩)
  · have e9 : jf q.1 32 (O + 25) 9 = p := by
      rw [q4]
      show (if (32 : Int) = 2054 ∧ O + 25 = jn u then (0 : Int) else jf u 32 (O + 25) 9) = p
      rw [if_neg (by omega)]; exact q3
    rw [q1, if_neg (Fst_nz hf JAll_nz), e9, q4]
    exact jS_end (.inr ⟨f, p, hf, rfl, u, ⟨k, q6⟩, rfl⟩)
end jXread
