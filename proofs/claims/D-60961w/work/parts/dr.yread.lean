/-! the component's object file: reading, with the copy that is kept -/
section jYread
variable {s t u w : jS} {O n p f : Int} {g : Int → Int}
def yBD (s : jS) (O : Int) (f p : Int) (r : jS × Int) : Prop := r.2 = f ∧ ∃ u, jFx s u (O + 1239) 619 ∧ r.1 = jp (jmk u 2054 0 (fun _ => 0) 6) 17 O 6 p
def yRO (s : jS) (O : Int) (g : Int → Int) (r : jS × Int) : Prop := r.2 = 0 ∧ jFx s r.1 O 1858 ∧ jf r.1 17 O 6 = -1 ∧ cOb r.1 (O + 614) (oR g) ∧ vOb (oR g) ∧ ∀ c a k, O + 1 ≤ a ∧ a < O + 614 ∨ O + 1227 ≤ a ∧ a < O + 1239 → jf r.1 c a k = jf s c a k
theorem nzL_if {c : Prop} [Decidable c] {L M : List (Prop × Int × Int)} (h : nzL L) (k : nzL M) : nzL (if c then L else M) := by
  by_cases e : c
  · rw [if_pos e]; exact h
  · rw [if_neg e]; exact k
theorem Lall_nz : nzL (Lall g n) := by
  unfold Lall Lhead Lents Lnames Lrules Lsizes Lsyms Lmvs Lsts
  unfold Lent Lname Lstr Lrule Lsize Lsym Lmv Lst
  repeat' (first | exact nzL_nil | refine nzL_cons (by omega) ?_ | refine nzL_F fun k k0 k1 => ?_ | refine nzL_app ?_ ?_ | refine nzL_if ?_ ?_)
theorem y_read (C : rC s (O + 1239) (O + 1229) g n) (hL : pCon s) (h0 : cObL s (O + 1239 + 3)) (h1 : cObL s (O + 614)) (hT : jTt s 34 (O + 1239 + 3)) : jE (m_X13_read s O) (ckR (yRO s O g) (yBD s O) (Lall g n)) := by
  rw [em_X13_read]; unfold dm_X13_read
  refine jS_call (c_rread C hL h0) fun q hq => ?_
  simp only [jls]
  rcases hq with ⟨hg, q1, k, q3, q4, q5⟩ | ⟨f, p, hf, q1, u, k, q3, q4⟩
  · rw [q1, if_pos rfl, q3]
    have K : jFx s (jp q.1 17 O 6 (-1)) O 1858 := (k.wide (by omega) (by omega)).jp rfl (by omega) (by omega)
    have I : cOb (jp q.1 17 O 6 (-1)) (O + 1239 + 3) (oR g) := q4.keep (fun a _ _ => rfl) (fun c a k a0 a1 => jf_neg (by omega)) q5.2.2.1
    have e5 : jf (jp q.1 17 O 6 (-1)) 17 O 6 = -1 := by (repeat (first | rw [jf_neg (by omega)] | rw [jf_pos (by omega)] | rw [ou_neg (by omega)] | rw [ou_pos (by omega)]))
    have kp : ∀ c a k, O + 1 ≤ a ∧ a < O + 614 ∨ O + 1227 ≤ a ∧ a < O + 1239 → jf (jp q.1 17 O 6 (-1)) c a k = jf s c a k := fun c a j h => by rw [jf_neg (by omega), k.F (by omega)]
    have L1 : cObL (jp q.1 17 O 6 (-1)) (O + 614) := fun x x0 x1 => by rw [K.N]; exact h1 x x0 x1
    generalize jp q.1 17 O 6 (-1) = s2 at K I e5 L1 kp ⊢
    refine jS_call (c_bset ⟨hT.ext K.2, I, q5⟩ L1 (by omega)) fun r ⟨k1, k2⟩ => ?_
    exact jS_end (.inl ⟨hg, rfl, K.trans (k1.wide (by omega) (by omega)), by rw [k1.F (by omega)]; exact e5, k2, q5, fun c a j h => by rw [k1.F (by omega)]; exact kp c a j h⟩)
  · have e9 : jf q.1 25 (O + 1239) 10 = p := by
      rw [q4]
      show (if (25 : Int) = 2054 ∧ O + 1239 = jn u then (0 : Int) else jf u 25 (O + 1239) 10) = p
      rw [if_neg (by omega)]; exact q3
    rw [q1, if_neg (Fst_nz hf Lall_nz), e9, q4]
    exact jS_end (.inr ⟨f, p, hf, rfl, u, k, rfl⟩)
end jYread
