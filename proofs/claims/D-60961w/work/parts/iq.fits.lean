/-! instructions: operands against a pattern, the twin's side -/
set_option maxRecDepth 100000
section jFits
variable {s t u w : jS} {v A H b lo k c a x y f d n o j e kd mk p c1 c2 c3 : Int} {l : List Int} {NL : List (List Int)} {I : pI} {OL : List pvO} {SL : List pvS} {z : pvS} {zo : pvO}
/-- the letters of a pattern -/
def ptS (p : Int) : List Int := if p = 0 then [] else if p = 1 then [82, 82, 82] else if p = 2 then [82, 82, 73] else if p = 3 then [82, 77] else if p = 4 then [82, 77] else if p = 5 then [82, 82, 69] else if p = 6 then [82, 88] else if p = 7 then [82, 69] else if p = 8 then [69] else if p = 9 then [82, 69] else if p = 10 then [82, 82] else if p = 11 then [82] else if p = 12 then [82, 69] else if p = 13 then [82, 83] else if p = 14 then [82, 83] else if p = 15 then [82, 80, 69] else [80, 69]
theorem pt_kd : ∀ k : Nat, k < 75 → ((cKd k).1 = 2 → 18 ≤ k ∧ k ≤ 26) ∧ ((cKd k).1 = 3 ∨ (cKd k).1 = 4 → k = 3 ∨ 10 ≤ k ∧ k ≤ 17 ∨ k = 49 ∨ k = 50) ∧ ((cKd k).1 = 6 → k = 0 ∨ k = 1 ∨ k = 56) := by decide +kernel
theorem tkA1 (hn : z.2.2.2.1 = 1) : tkA kd [c1] OL z 0 ↔ tkO kd c1 (tO OL z.2.2.1) := by
  rw [tkA.st (by omega)]
  have e0 : z.2.2.1 + 0 = z.2.2.1 := by omega
  rw [e0]
  exact ⟨fun q => q.1, fun q => ⟨q, fun i i0 i1 => by omega⟩⟩
theorem tkA2 (hn : z.2.2.2.1 = 2) : tkA kd [c1, c2] OL z 0 ↔ tkO kd c1 (tO OL z.2.2.1) ∧ tkO kd c2 (tO OL (z.2.2.1 + 1)) := by
  rw [tkA.st (by omega), tkA.st (by omega)]
  have e0 : z.2.2.1 + 0 = z.2.2.1 := by omega
  rw [e0]
  exact ⟨fun q => ⟨q.1, q.2.1⟩, fun q => ⟨q.1, q.2, fun i i0 i1 => by omega⟩⟩
theorem tkA3 (hn : z.2.2.2.1 = 3) : tkA kd [c1, c2, c3] OL z 0 ↔ tkO kd c1 (tO OL z.2.2.1) ∧ tkO kd c2 (tO OL (z.2.2.1 + 1)) ∧ tkO kd c3 (tO OL (z.2.2.1 + 2)) := by
  rw [tkA.st (by omega), tkA.st (by omega), tkA.st (by omega)]
  have e0 : z.2.2.1 + 0 = z.2.2.1 := by omega
  rw [e0]
  exact ⟨fun q => ⟨q.1, q.2.1, q.2.2.1⟩, fun q => ⟨q.1, q.2.1, q.2.2, fun i i0 i1 => by omega⟩⟩
theorem tkA0 (hn : z.2.2.2.1 = 0) : tkA kd l OL z 0 := fun i i0 i1 => by omega
/-- one or nought -/
noncomputable def zt (P : Prop) : Int := @ite _ P (Classical.propDecidable P) 1 0
theorem zt1 {P : Prop} (h : P) : zt P = 1 := by unfold zt; exact if_pos h
theorem zt0 {P : Prop} (h : ¬ P) : zt P = 0 := by unfold zt; exact if_neg h
theorem fz {P Q : Prop} [Decidable P] (h : P ↔ Q) : some (t, if P then (1 : Int) else 0) = some (t, zt Q) := by
  by_cases c : P
  · rw [if1 c, zt1 (h.mp c)]
  · rw [if0 c, zt0 fun e => c (h.mpr e)]
theorem Wz_ic {P : Prop} [Decidable P] : Wz (if P then 1 else 0) = if P then 1 else 0 := by
  split
  · exact Wz_1
  · exact Wz_0
theorem ch1 {P : Prop} [Decidable P] {x : jS → Option (jS × Int)} (hx : x t = some (t, if P then 1 else 0)) : ((x t).bind fun q => some (q.1, Wz q.2)) = some (t, if P then 1 else 0) := by
  rw [hx, Option.bind_some]
  dsimp only
  rw [Wz_ic]
theorem ch2 {P Q : Prop} [Decidable P] [Decidable Q] (x y : jS → Option (jS × Int)) (hx : x t = some (t, if P then 1 else 0)) (hy : y t = some (t, if Q then 1 else 0)) : ((x t).bind fun q => if q.2 = 0 then some (q.1, Wz 0) else (y q.1).bind fun r => if r.2 = 0 then some (r.1, Wz 0) else some (r.1, Wz 1)) = some (t, if P ∧ Q then 1 else 0) := by
  rw [hx, Option.bind_some]
  dsimp only
  rw [hy]
  by_cases c : P
  rotate_left
  · rw [if0 c, if_pos rfl, Wz_0, if0 fun e => c e.1]
  rw [if1 c, if_neg n10, Option.bind_some]
  dsimp only
  by_cases d : Q
  · rw [if1 d, if_neg n10, Wz_1, if1 ⟨c, d⟩]
  · rw [if0 d, if_pos rfl, Wz_0, if0 fun e => d e.2]
theorem ch3 {P Q R : Prop} [Decidable P] [Decidable Q] [Decidable R] (x y y' : jS → Option (jS × Int)) (hx : x t = some (t, if P then 1 else 0)) (hy : y t = some (t, if Q then 1 else 0)) (hz : y' t = some (t, if R then 1 else 0)) : ((x t).bind fun q => if q.2 = 0 then some (q.1, Wz 0) else (y q.1).bind fun r => if r.2 = 0 then some (r.1, Wz 0) else (y' r.1).bind fun r => if r.2 = 0 then some (r.1, Wz 0) else some (r.1, Wz 1)) = some (t, if P ∧ Q ∧ R then 1 else 0) := by
  rw [hx, Option.bind_some]
  dsimp only
  by_cases c : P
  rotate_left
  · rw [if0 c, if_pos rfl, Wz_0, if0 fun e => c e.1]
  rw [if1 c, if_neg n10, ch2 y y' hy hz]
  by_cases d : Q ∧ R
  · rw [if1 d, if1 ⟨c, d⟩]
  · rw [if0 d, if0 fun e => d e.2]
/-- a register that is the stack's -/
theorem y_isStack (h : AG s t A H b lo NL I OL SL k z) (j0 : 0 ≤ j) : m_X37_isStack t H j = some (t, if j < z.2.2.2.1 ∧ opSr 1 (tO OL (z.2.2.1 + j)) ∧ (tO OL (z.2.2.1 + j)).2.1 = 2 then 1 else 0) := by
  have st0 := h.1.st0
  rw [em_X37_isStack]; unfold dm_X37_isStack
  rw [y_isS h j0, Option.bind_some, h.2.1.2.1]
  dsimp only
  rw [Wz_0, Wz_1]
  by_cases q : j < z.2.2.2.1 ∧ opSr 1 (tO OL (z.2.2.1 + j))
  rotate_left
  · rw [if_pos (if0 q), if0 fun e => q ⟨e.1, e.2.1⟩]
  obtain ⟨o1, o2, o3, og, o5⟩ := h.1.op j0 q.1
  rw [if_neg (by rw [if1 q]; decide), W32_in (by omega) (by omega), y_rgst h j0 q.1, Option.bind_some]
  dsimp only
  by_cases c : (tO OL (z.2.2.1 + j)).2.1 = 2
  · rw [if_pos c, if1 ⟨q.1, q.2, c⟩]
  · rw [if_neg c, if0 fun e => c e.2.2]
theorem y_fits (h : AG s t A H b lo NL I OL SL k z) (k0 : 0 ≤ kd) (k1 : kd < 75) (hp : (cKd kd.toNat).1 = p) : m_X37_fits t H kd p = some (t, zt (z.2.2.2.1 = (ptS p).length ∧ tkA kd (ptS p) OL z 0)) := by
  have st0 := h.1.st0
  have e0 : z.2.2.1 + 0 = z.2.2.1 := by omega
  have m46 := h.2.1.2.2.2
  have og : ∀ j, 0 ≤ j → j < z.2.2.2.1 → (tO OL (z.2.2.1 + j)).1 = 1 → (tO OL (z.2.2.1 + j)).2.2.1 = 0 := fun j j0 j1 q => (h.1.op j0 j1).2.2.2.1.2.2.2.2.2.1 (.inl q)
  have og0 : 0 < z.2.2.2.1 → (tO OL z.2.2.1).1 = 1 → (tO OL z.2.2.1).2.2.1 = 0 := fun j1 q => by have := og 0 (by omega) j1; rw [e0] at this; exact this q
  have og1 := og 1 (by omega)
  have og2 := og 2 (by omega)
  obtain ⟨f1, f2, f3⟩ := pt_kd kd.toNat (by omega)
  obtain ⟨-, p0, p16⟩ := pat_is kd.toNat (by omega)
  rw [hp] at f1 f2 f3 p0 p16
  have hpp : p = 0 ∨ p = 1 ∨ p = 2 ∨ p = 3 ∨ p = 4 ∨ p = 5 ∨ p = 6 ∨ p = 7 ∨ p = 8 ∨ p = 9 ∨ p = 10 ∨ p = 11 ∨ p = 12 ∨ p = 13 ∨ p = 14 ∨ p = 15 ∨ p = 16 := by omega
  have s0 : ∀ v, m_X37_isSort t H 0 v = some (t, if 0 < z.2.2.2.1 ∧ opSr v (tO OL z.2.2.1) then 1 else 0) := fun v => by have := y_isS (v := v) h (j := 0) (by decide); rw [e0] at this; exact this
  have s1 := fun v => y_isS (v := v) h (j := 1) (by decide)
  have s2 := fun v => y_isS (v := v) h (j := 2) (by decide)
  have e219 : u_X37_fits_219 t H = some (t, zt (z.2.2.2.1 = ([82, 69] : List Int).length ∧ tkA kd [82, 69] OL z 0)) := by
    rw [eu_X37_fits_219]; unfold du_X37_fits_219
    rw [ch1 (x := fun s => m_X37_are s H 2 1 0 0) (y_are h)]
    have q : (z.2.2.2.1 = 2 ∧ (1 ≤ (2 : Int) → opSr 1 (tO OL z.2.2.1)) ∧ (2 ≤ (2 : Int) → opSr 0 (tO OL (z.2.2.1 + 1))) ∧ (3 ≤ (2 : Int) → opSr 0 (tO OL (z.2.2.1 + 2)))) ↔ z.2.2.2.1 = ([82, 69] : List Int).length ∧ tkA kd [82, 69] OL z 0 := by
      show _ ↔ z.2.2.2.1 = 2 ∧ _
      by_cases c : z.2.2.2.1 = 2
      · rw [tkA2 c, tk82, tk69]; have := og0 (by omega); unfold opSr; omega
      · exact ⟨fun e => absurd e.1 c, fun e => absurd e.1 c⟩
    exact fz q
  have e144 : p = 3 ∨ p = 4 → u_X37_fits_144 t H kd = some (t, zt (z.2.2.2.1 = ([82, 77] : List Int).length ∧ tkA kd [82, 77] OL z 0)) := fun hp => by
    have f2 := f2 hp
    rw [eu_X37_fits_144]; unfold du_X37_fits_144
    rw [m46]
    by_cases c : z.2.2.2.1 = 2
    rotate_left
    · rw [if_neg c, Wz_0, zt0 fun e => c e.1]
    rw [if_pos c, ch2 (fun s => m_X37_isSort s H 0 1) (fun s => m_X37_isMarkedSort s H 1 2 kd) (s0 1) (y_isMk h (by decide))]
    have q : ((0 < z.2.2.2.1 ∧ opSr 1 (tO OL z.2.2.1)) ∧ 1 < z.2.2.2.1 ∧ (tO OL (z.2.2.1 + 1)).1 = 2 ∧ mkTw kd (tO OL (z.2.2.1 + 1)).2.2.1) ↔ z.2.2.2.1 = ([82, 77] : List Int).length ∧ tkA kd [82, 77] OL z 0 := by
      show _ ↔ z.2.2.2.1 = 2 ∧ _
      rw [tkA2 c, tk82, tk77]; have := og0 (by omega); unfold opSr mkTw mkA; omega
    exact fz q
  have e255 : u_X37_fits_255 t H = some (t, zt (z.2.2.2.1 = ([82, 83] : List Int).length ∧ tkA kd [82, 83] OL z 0)) := by
    rw [eu_X37_fits_255]; unfold du_X37_fits_255
    rw [y_are h, Option.bind_some, h.2.1.2.1]
    dsimp only
    rw [Wz_0, Wz_1]
    have q : (z.2.2.2.1 = 2 ∧ (1 ≤ (2 : Int) → opSr 1 (tO OL z.2.2.1)) ∧ (2 ≤ (2 : Int) → opSr 2 (tO OL (z.2.2.1 + 1))) ∧ (3 ≤ (2 : Int) → opSr 0 (tO OL (z.2.2.1 + 2)))) ∧ (tO OL (z.2.2.1 + 1)).2.1 = 2 ↔ z.2.2.2.1 = ([82, 83] : List Int).length ∧ tkA kd [82, 83] OL z 0 := by
      show _ ↔ z.2.2.2.1 = 2 ∧ _
      by_cases c : z.2.2.2.1 = 2
      · rw [tkA2 c, tk82, tk83]; have := og0 (by omega); unfold opSr; omega
      · exact ⟨fun e => absurd e.1.1 c, fun e => absurd e.1 c⟩
    by_cases c : z.2.2.2.1 = 2 ∧ (1 ≤ (2 : Int) → opSr 1 (tO OL z.2.2.1)) ∧ (2 ≤ (2 : Int) → opSr 2 (tO OL (z.2.2.1 + 1))) ∧ (3 ≤ (2 : Int) → opSr 0 (tO OL (z.2.2.1 + 2)))
    rotate_left
    · rw [if_pos (if0 c), zt0 fun e => c (q.mpr e).1]
    obtain ⟨o1, o2, o3, -, o5⟩ := h.1.op (j := 1) (by omega) (by omega)
    rw [if_neg (by rw [if1 c]; decide), W32_in (by omega) (by omega), y_rgst h (by omega) (by omega), Option.bind_some]
    dsimp only
    by_cases c2 : (tO OL (z.2.2.1 + 1)).2.1 = 2
    · rw [if_pos c2, zt1 (q.mp ⟨c, c2⟩)]
    · rw [if_neg c2, zt0 fun e => c2 (q.mpr e).2]
  rw [em_X37_fits]; unfold dm_X37_fits
  rw [e219, e255]
  rcases hpp with rfl | rfl | rfl | rfl | rfl | rfl | rfl | rfl | rfl | rfl | rfl | rfl | rfl | rfl | rfl | rfl | rfl
  · rw [if_pos rfl, m46, Wz_0, Wz_1]
    show _ = some (t, zt (z.2.2.2.1 = 0 ∧ _))
    by_cases c : z.2.2.2.1 = 0
    · rw [if_pos c, zt1 ⟨c, tkA0 c⟩]
    · rw [if_neg c, zt0 fun e => c e.1]
  · rw [if_neg (by decide), if_pos rfl, ch1 (x := fun s => m_X37_are s H 3 1 1 1) (y_are h)]
    show _ = some (t, zt (z.2.2.2.1 = 3 ∧ tkA kd [82, 82, 82] OL z 0))
    refine fz ?_
    by_cases c : z.2.2.2.1 = 3
    · rw [tkA3 c, tk82, tk82, tk82]; have := og0 (by omega); have := og1 (by omega); have := og2 (by omega); unfold opSr; omega
    · exact ⟨fun e => absurd e.1 c, fun e => absurd e.1 c⟩
  · rw [if_neg (by decide), if_neg (by decide), if_pos rfl, m46]
    show _ = some (t, zt (z.2.2.2.1 = 3 ∧ tkA kd [82, 82, 73] OL z 0))
    by_cases c : z.2.2.2.1 = 3
    rotate_left
    · rw [if_neg c, Wz_0, zt0 fun e => c e.1]
    rw [if_pos c, ch3 (fun s => m_X37_isSort s H 0 1) (fun s => m_X37_isSort s H 1 1) (fun s => m_X37_isMarkedSort s H 2 0 kd) (s0 1) (s1 1) (y_isMk h (by decide))]
    refine fz ?_
    rw [tkA3 c, tk82, tk82, tk73]; have := og0 (by omega); have := og1 (by omega); have := f1 rfl; unfold opSr mkTw mkA; omega
  · rw [if_neg (by decide), if_neg (by decide), if_neg (by decide), if_pos rfl]; exact e144 (.inl rfl)
  · rw [if_neg (by decide), if_neg (by decide), if_neg (by decide), if_neg (by decide), if_pos rfl]; exact e144 (.inr rfl)
  · rw [if_neg (by decide), if_neg (by decide), if_neg (by decide), if_neg (by decide), if_neg (by decide), if_pos rfl, ch1 (x := fun s => m_X37_are s H 3 1 1 0) (y_are h)]
    show _ = some (t, zt (z.2.2.2.1 = 3 ∧ tkA kd [82, 82, 69] OL z 0))
    refine fz ?_
    by_cases c : z.2.2.2.1 = 3
    · rw [tkA3 c, tk82, tk82, tk69]; have := og0 (by omega); have := og1 (by omega); have := og2 (by omega); unfold opSr; omega
    · exact ⟨fun e => absurd e.1 c, fun e => absurd e.1 c⟩
  · rw [if_neg (by decide), if_neg (by decide), if_neg (by decide), if_neg (by decide), if_neg (by decide), if_neg (by decide), if_pos rfl, m46]
    show _ = some (t, zt (z.2.2.2.1 = 2 ∧ tkA kd [82, 88] OL z 0))
    by_cases c : z.2.2.2.1 = 2
    rotate_left
    · rw [if_neg c, Wz_0, zt0 fun e => c e.1]
    rw [if_pos c, ch2 (fun s => m_X37_isSort s H 0 1) (fun s => m_X37_isMarkedSort s H 1 0 kd) (s0 1) (y_isMk h (by decide))]
    refine fz ?_
    rw [tkA2 c, tk82, tk88]; have := og0 (by omega); have := f3 rfl; unfold opSr mkTw; omega
  · rw [if_neg (by decide), if_neg (by decide), if_neg (by decide), if_neg (by decide), if_neg (by decide), if_neg (by decide), if_neg (by decide), if_pos rfl]; rfl
  · rw [if_neg (by decide), if_neg (by decide), if_neg (by decide), if_neg (by decide), if_neg (by decide), if_neg (by decide), if_neg (by decide), if_neg (by decide), if_pos rfl, ch1 (x := fun s => m_X37_are s H 1 0 0 0) (y_are h)]
    show _ = some (t, zt (z.2.2.2.1 = 1 ∧ tkA kd [69] OL z 0))
    refine fz ?_
    by_cases c : z.2.2.2.1 = 1
    · rw [tkA1 c, tk69]; unfold opSr; omega
    · exact ⟨fun e => absurd e.1 c, fun e => absurd e.1 c⟩
  · rw [if_neg (by decide), if_neg (by decide), if_neg (by decide), if_neg (by decide), if_neg (by decide), if_neg (by decide), if_neg (by decide), if_neg (by decide), if_neg (by decide), if_pos rfl]; rfl
  · rw [if_neg (by decide), if_neg (by decide), if_neg (by decide), if_neg (by decide), if_neg (by decide), if_neg (by decide), if_neg (by decide), if_neg (by decide), if_neg (by decide), if_neg (by decide), if_pos rfl, ch1 (x := fun s => m_X37_are s H 2 1 1 0) (y_are h)]
    show _ = some (t, zt (z.2.2.2.1 = 2 ∧ tkA kd [82, 82] OL z 0))
    refine fz ?_
    by_cases c : z.2.2.2.1 = 2
    · rw [tkA2 c, tk82, tk82]; have := og0 (by omega); have := og1 (by omega); unfold opSr; omega
    · exact ⟨fun e => absurd e.1 c, fun e => absurd e.1 c⟩
  · rw [if_neg (by decide), if_neg (by decide), if_neg (by decide), if_neg (by decide), if_neg (by decide), if_neg (by decide), if_neg (by decide), if_neg (by decide), if_neg (by decide), if_neg (by decide), if_neg (by decide), if_pos rfl, ch1 (x := fun s => m_X37_are s H 1 1 0 0) (y_are h)]
    show _ = some (t, zt (z.2.2.2.1 = 1 ∧ tkA kd [82] OL z 0))
    refine fz ?_
    by_cases c : z.2.2.2.1 = 1
    · rw [tkA1 c, tk82]; have := og0 (by omega); unfold opSr; omega
    · exact ⟨fun e => absurd e.1 c, fun e => absurd e.1 c⟩
  · rw [if_neg (by decide), if_neg (by decide), if_neg (by decide), if_neg (by decide), if_neg (by decide), if_neg (by decide), if_neg (by decide), if_neg (by decide), if_neg (by decide), if_neg (by decide), if_neg (by decide), if_neg (by decide), if_pos rfl]; rfl
  · rw [if_neg (by decide), if_neg (by decide), if_neg (by decide), if_neg (by decide), if_neg (by decide), if_neg (by decide), if_neg (by decide), if_neg (by decide), if_neg (by decide), if_neg (by decide), if_neg (by decide), if_neg (by decide), if_neg (by decide), if_pos rfl]; rfl
  · rw [if_neg (by decide), if_neg (by decide), if_neg (by decide), if_neg (by decide), if_neg (by decide), if_neg (by decide), if_neg (by decide), if_neg (by decide), if_neg (by decide), if_neg (by decide), if_neg (by decide), if_neg (by decide), if_neg (by decide), if_neg (by decide), if_pos rfl]; rfl
  · rw [if_neg (by decide), if_neg (by decide), if_neg (by decide), if_neg (by decide), if_neg (by decide), if_neg (by decide), if_neg (by decide), if_neg (by decide), if_neg (by decide), if_neg (by decide), if_neg (by decide), if_neg (by decide), if_neg (by decide), if_neg (by decide), if_neg (by decide), if_pos rfl, m46]
    show _ = some (t, zt (z.2.2.2.1 = 3 ∧ tkA kd [82, 80, 69] OL z 0))
    by_cases c : z.2.2.2.1 = 3
    rotate_left
    · rw [if_neg c, Wz_0, zt0 fun e => c e.1]
    rw [if_pos c, ch3 (fun s => m_X37_isSort s H 0 1) (fun s => m_X37_isStack s H 1) (fun s => m_X37_isSort s H 2 0) (s0 1) (y_isStack h (by decide)) (s2 0)]
    refine fz ?_
    rw [tkA3 c, tk82, tk80, tk69]; have := og0 (by omega); have := og1 (by omega); unfold opSr; omega
  · rw [if_neg (by decide), if_neg (by decide), if_neg (by decide), if_neg (by decide), if_neg (by decide), if_neg (by decide), if_neg (by decide), if_neg (by decide), if_neg (by decide), if_neg (by decide), if_neg (by decide), if_neg (by decide), if_neg (by decide), if_neg (by decide), if_neg (by decide), if_neg (by decide), m46]
    show _ = some (t, zt (z.2.2.2.1 = 2 ∧ tkA kd [80, 69] OL z 0))
    by_cases c : z.2.2.2.1 = 2
    rotate_left
    · rw [if_neg c, Wz_0, zt0 fun e => c e.1]
    have ys := y_isStack h (j := 0) (by decide)
    rw [e0] at ys
    rw [if_pos c, ch2 (fun s => m_X37_isStack s H 0) (fun s => m_X37_isSort s H 1 0) ys (s1 0)]
    refine fz ?_
    rw [tkA2 c, tk80, tk69]; have := og0 (by omega); unfold opSr; omega
end jFits
