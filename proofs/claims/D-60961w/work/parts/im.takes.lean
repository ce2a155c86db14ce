/-! instructions: operands against a pattern (the cases are printed by gen_takes.py) -/
set_option maxRecDepth 100000
section jTakes
variable {s t u w t' s1 t1 : jS} {v A H b lo W V k c a hh x y f d n o j e m p pl g' kd ch mk : Int} {l : List Int} {NL : List (List Int)} {I : pI} {OL : List pvO} {SL : List pvS} {z : pvS} {zo : pvO}
/-- a mark that a kind may have -/
abbrev mkA (kd mk : Int) : Prop := mk = 0 ∨ (mk = 2 ∨ mk = 4) ∧ kd < 24
/-- an operand against a letter -/
abbrev tkO (kd ch : Int) (zo : pvO) : Prop := (ch = 69 ∧ opSr 0 zo) ∨ (ch = 73 ∧ zo.1 = 0 ∧ mkA kd zo.2.2.1) ∨ (ch = 77 ∧ zo.1 = 2 ∧ mkA kd zo.2.2.1) ∨ (ch = 80 ∧ zo.1 = 1 ∧ zo.2.1 = 2) ∨ (ch = 82 ∧ zo.1 = 1) ∨ (ch = 83 ∧ (zo.1 = 2 ∧ zo.2.2.1 = 0) ∧ zo.2.1 = 2) ∨ (ch = 88 ∧ zo.1 = 0 ∧ (zo.2.2.1 = 0 ∨ kd = 0 ∧ zo.2.2.1 = 1 ∨ kd = 1 ∧ zo.2.2.1 = 3))
theorem tk69 : tkO kd 69 zo ↔ zo.1 = 0 ∧ zo.2.2.1 = 0 := by simp [tkO, opSr]
theorem tk73 : tkO kd 73 zo ↔ zo.1 = 0 ∧ mkA kd zo.2.2.1 := by simp [tkO]
theorem tk77 : tkO kd 77 zo ↔ zo.1 = 2 ∧ mkA kd zo.2.2.1 := by simp [tkO]
theorem tk80 : tkO kd 80 zo ↔ zo.1 = 1 ∧ zo.2.1 = 2 := by simp [tkO]
theorem tk82 : tkO kd 82 zo ↔ zo.1 = 1 := by simp [tkO]
theorem tk83 : tkO kd 83 zo ↔ (zo.1 = 2 ∧ zo.2.2.1 = 0) ∧ zo.2.1 = 2 := by simp [tkO]
theorem tk88 : tkO kd 88 zo ↔ zo.1 = 0 ∧ (zo.2.2.1 = 0 ∨ kd = 0 ∧ zo.2.2.1 = 1 ∨ kd = 1 ∧ zo.2.2.1 = 3) := by simp [tkO]
theorem tk_step (h : AG s t A H b lo NL I OL SL k z) (hs : pSg s x l) (j0 : 0 ≤ j) (j1 : j < z.2.2.2.1) (jl : j < l.length) (hch : l.getD j.toNat 0 = ch) (hc : ch = 69 ∨ ch = 73 ∨ ch = 77 ∨ ch = 80 ∨ ch = 82 ∨ ch = 83 ∨ ch = 88) : jc5 b_X33_takes_20 [A, x, kd, 1, j] s = some (.inl [A, x, kd, if tkO kd ch (tO OL (z.2.2.1 + j)) then 1 else 0, j + 1]) := by
  have st0 := h.1.st0
  obtain ⟨o1, o2, o3, og, o5⟩ := h.1.op j0 j1
  show b_X33_takes_20 s A x kd 1 j = _
  unfold b_X33_takes_20
  rw [h.2.1.2.2.1, if_pos j1, if_neg n10, h.cop j0 j1 (by decide) (by decide), Option.bind_some, h.cop j0 j1 (by decide) (by decide), Option.bind_some]
  have q0 : opQ1 (tO OL (z.2.2.1 + j)) 0 = (tO OL (z.2.2.1 + j)).1 := rfl
  have q2 : opQ1 (tO OL (z.2.2.1 + j)) 2 = (tO OL (z.2.2.1 + j)).2.2.1 := rfl
  rw [q0, q2]
  have rg := c_rgst h j0 j1
  generalize tO OL (z.2.2.1 + j) = zo at *
  have e361 : ∀ y : Int, u_X33_takes_361 s A x kd y j = some (.inl [A, x, kd, y, j + 1]) := fun y => by
    rw [eu_X33_takes_361]; unfold du_X33_takes_361
    rw [W32_in (by omega) (by omega)]
  have cha : mp_J2_charAt s x j = some ch := by rw [s_charAt hs j0 jl, hch]
  have yy : (if zo.2.2.1 = 0 then u_X33_takes_90 s A x kd j zo.1 zo.2.2.1 else if zo.2.2.1 = 2 then u_X33_takes_84 s A x kd j zo.1 zo.2.2.1 else if zo.2.2.1 = 4 then u_X33_takes_84 s A x kd j zo.1 zo.2.2.1 else u_X33_takes_94 s A x kd j zo.1 zo.2.2.1) = u_X33_takes_95 s A x kd j zo.1 zo.2.2.1 (if mkA kd zo.2.2.1 then 1 else 0) := by
    have e90 : u_X33_takes_90 s A x kd j zo.1 zo.2.2.1 = u_X33_takes_95 s A x kd j zo.1 zo.2.2.1 1 := by rw [eu_X33_takes_90]; rfl
    have e94 : u_X33_takes_94 s A x kd j zo.1 zo.2.2.1 = u_X33_takes_95 s A x kd j zo.1 zo.2.2.1 0 := by rw [eu_X33_takes_94]; rfl
    have e84 : u_X33_takes_84 s A x kd j zo.1 zo.2.2.1 = if kd < 24 then u_X33_takes_95 s A x kd j zo.1 zo.2.2.1 1 else u_X33_takes_95 s A x kd j zo.1 zo.2.2.1 0 := by rw [eu_X33_takes_84]; unfold du_X33_takes_84; rw [e90, e94]
    rw [e90, e94, e84]
    by_cases c0 : zo.2.2.1 = 0
    · rw [if_pos c0, if1 (show mkA kd zo.2.2.1 from .inl c0)]
    rw [if_neg c0]
    by_cases c24 : kd < 24
    · rw [if_pos c24]
      by_cases c2 : zo.2.2.1 = 2
      · rw [if_pos c2, if1 (show mkA kd zo.2.2.1 from .inr ⟨.inl c2, c24⟩)]
      rw [if_neg c2]
      by_cases c4 : zo.2.2.1 = 4
      · rw [if_pos c4, if1 (show mkA kd zo.2.2.1 from .inr ⟨.inr c4, c24⟩)]
      · rw [if_neg c4, if0 (show ¬ mkA kd zo.2.2.1 by unfold mkA; omega)]
    · rw [if_neg c24, if0 (show ¬ mkA kd zo.2.2.1 by unfold mkA; omega)]
      split <;> (try split) <;> rfl
  rw [yy, eu_X33_takes_95]; unfold du_X33_takes_95
  rw [cha, Option.bind_some]
  rcases hc with rfl | rfl | rfl | rfl | rfl | rfl | rfl
  · rw [if_pos (show (69 : Int) = 69 from rfl)]
    rw [eu_X33_takes_225]; unfold du_X33_takes_225
    rw [eu_X33_takes_226]; unfold du_X33_takes_226
    rw [e361, e361]
    by_cases c1 : zo.1 = 0
    · rw [if_pos c1]
      by_cases c2 : zo.2.2.1 = 0
      · rw [if_pos c2, if1 (tk69.mpr (by omega))]
      · rw [if_neg c2, if0 (fun e : tkO kd 69 zo => by have := tk69.mp e; omega)]
    · rw [if_neg c1, if0 (fun e : tkO kd 69 zo => by have := tk69.mp e; omega)]
  · rw [if_neg (show ¬ (73 : Int) = 69 by decide), if_neg (show ¬ (73 : Int) = 70 by decide), if_neg (show ¬ (73 : Int) = 71 by decide), if_neg (show ¬ (73 : Int) = 72 by decide), if_pos (show (73 : Int) = 73 from rfl)]
    rw [eu_X33_takes_244]; unfold du_X33_takes_244
    rw [eu_X33_takes_245]; unfold du_X33_takes_245
    rw [e361, e361]
    by_cases c1 : zo.1 = 0
    · rw [if_pos c1]
      by_cases c2 : mkA kd zo.2.2.1
      · rw [if1 c2, if_neg n10, if1 (tk73.mpr ⟨c1, c2⟩)]
      · rw [if0 c2, if_pos rfl, if0 (fun e : tkO kd 73 zo => c2 (tk73.mp e).2)]
    · rw [if_neg c1, if0 (fun e : tkO kd 73 zo => c1 (tk73.mp e).1)]
  · rw [if_neg (show ¬ (77 : Int) = 69 by decide), if_neg (show ¬ (77 : Int) = 70 by decide), if_neg (show ¬ (77 : Int) = 71 by decide), if_neg (show ¬ (77 : Int) = 72 by decide), if_neg (show ¬ (77 : Int) = 73 by decide), if_neg (show ¬ (77 : Int) = 74 by decide), if_neg (show ¬ (77 : Int) = 75 by decide), if_neg (show ¬ (77 : Int) = 76 by decide), if_pos (show (77 : Int) = 77 from rfl)]
    rw [eu_X33_takes_304]; unfold du_X33_takes_304
    rw [eu_X33_takes_305]; unfold du_X33_takes_305
    rw [e361, e361]
    by_cases c1 : zo.1 = 2
    · rw [if_pos c1]
      by_cases c2 : mkA kd zo.2.2.1
      · rw [if1 c2, if_neg n10, if1 (tk77.mpr ⟨c1, c2⟩)]
      · rw [if0 c2, if_pos rfl, if0 (fun e : tkO kd 77 zo => c2 (tk77.mp e).2)]
    · rw [if_neg c1, if0 (fun e : tkO kd 77 zo => c1 (tk77.mp e).1)]
  · rw [if_neg (show ¬ (80 : Int) = 69 by decide), if_neg (show ¬ (80 : Int) = 70 by decide), if_neg (show ¬ (80 : Int) = 71 by decide), if_neg (show ¬ (80 : Int) = 72 by decide), if_neg (show ¬ (80 : Int) = 73 by decide), if_neg (show ¬ (80 : Int) = 74 by decide), if_neg (show ¬ (80 : Int) = 75 by decide), if_neg (show ¬ (80 : Int) = 76 by decide), if_neg (show ¬ (80 : Int) = 77 by decide), if_neg (show ¬ (80 : Int) = 78 by decide), if_neg (show ¬ (80 : Int) = 79 by decide), if_pos (show (80 : Int) = 80 from rfl)]
    rw [eu_X33_takes_339]; unfold du_X33_takes_339
    rw [eu_X33_takes_359]; unfold du_X33_takes_359
    rw [eu_X33_takes_360]; unfold du_X33_takes_360
    rw [e361, e361, rg, Option.bind_some]
    by_cases c1 : zo.1 = 1
    · rw [if_pos c1]
      by_cases c2 : zo.2.1 = 2
      · rw [if_pos c2, if1 (tk80.mpr (by omega))]
      · rw [if_neg c2, if0 (fun e : tkO kd 80 zo => by have := tk80.mp e; omega)]
    · rw [if_neg c1, if0 (fun e : tkO kd 80 zo => by have := tk80.mp e; omega)]
  · rw [if_neg (show ¬ (82 : Int) = 69 by decide), if_neg (show ¬ (82 : Int) = 70 by decide), if_neg (show ¬ (82 : Int) = 71 by decide), if_neg (show ¬ (82 : Int) = 72 by decide), if_neg (show ¬ (82 : Int) = 73 by decide), if_neg (show ¬ (82 : Int) = 74 by decide), if_neg (show ¬ (82 : Int) = 75 by decide), if_neg (show ¬ (82 : Int) = 76 by decide), if_neg (show ¬ (82 : Int) = 77 by decide), if_neg (show ¬ (82 : Int) = 78 by decide), if_neg (show ¬ (82 : Int) = 79 by decide), if_neg (show ¬ (82 : Int) = 80 by decide), if_neg (show ¬ (82 : Int) = 81 by decide), if_pos (show (82 : Int) = 82 from rfl)]
    rw [eu_X33_takes_207]; unfold du_X33_takes_207
    rw [e361, e361]
    by_cases c1 : zo.1 = 1
    · rw [if_pos c1, if1 (tk82.mpr (by omega))]
    · rw [if_neg c1, if0 (fun e : tkO kd 82 zo => by have := tk82.mp e; omega)]
  · rw [if_neg (show ¬ (83 : Int) = 69 by decide), if_neg (show ¬ (83 : Int) = 70 by decide), if_neg (show ¬ (83 : Int) = 71 by decide), if_neg (show ¬ (83 : Int) = 72 by decide), if_neg (show ¬ (83 : Int) = 73 by decide), if_neg (show ¬ (83 : Int) = 74 by decide), if_neg (show ¬ (83 : Int) = 75 by decide), if_neg (show ¬ (83 : Int) = 76 by decide), if_neg (show ¬ (83 : Int) = 77 by decide), if_neg (show ¬ (83 : Int) = 78 by decide), if_neg (show ¬ (83 : Int) = 79 by decide), if_neg (show ¬ (83 : Int) = 80 by decide), if_neg (show ¬ (83 : Int) = 81 by decide), if_neg (show ¬ (83 : Int) = 82 by decide), if_pos (show (83 : Int) = 83 from rfl)]
    rw [eu_X33_takes_334]; unfold du_X33_takes_334
    rw [eu_X33_takes_335]; unfold du_X33_takes_335
    rw [e361, e361, rg, Option.bind_some]
    by_cases c1 : zo.1 = 2
    · rw [if_pos c1]
      by_cases c2 : zo.2.2.1 = 0
      · rw [if_pos c2]
        by_cases c3 : zo.2.1 = 2
        · rw [if_pos c3, if1 (tk83.mpr (by omega))]
        · rw [if_neg c3, if0 (fun e : tkO kd 83 zo => by have := tk83.mp e; omega)]
      · rw [if_neg c2, if0 (fun e : tkO kd 83 zo => by have := tk83.mp e; omega)]
    · rw [if_neg c1, if0 (fun e : tkO kd 83 zo => by have := tk83.mp e; omega)]
  · rw [if_neg (show ¬ (88 : Int) = 69 by decide), if_neg (show ¬ (88 : Int) = 70 by decide), if_neg (show ¬ (88 : Int) = 71 by decide), if_neg (show ¬ (88 : Int) = 72 by decide), if_neg (show ¬ (88 : Int) = 73 by decide), if_neg (show ¬ (88 : Int) = 74 by decide), if_neg (show ¬ (88 : Int) = 75 by decide), if_neg (show ¬ (88 : Int) = 76 by decide), if_neg (show ¬ (88 : Int) = 77 by decide), if_neg (show ¬ (88 : Int) = 78 by decide), if_neg (show ¬ (88 : Int) = 79 by decide), if_neg (show ¬ (88 : Int) = 80 by decide), if_neg (show ¬ (88 : Int) = 81 by decide), if_neg (show ¬ (88 : Int) = 82 by decide), if_neg (show ¬ (88 : Int) = 83 by decide), if_neg (show ¬ (88 : Int) = 84 by decide), if_neg (show ¬ (88 : Int) = 85 by decide), if_neg (show ¬ (88 : Int) = 86 by decide), if_neg (show ¬ (88 : Int) = 87 by decide), if_pos (show (88 : Int) = 88 from rfl)]
    have e280 : u_X33_takes_280 s A x kd j = some (.inl [A, x, kd, 1, j + 1]) := by
      rw [eu_X33_takes_280]; unfold du_X33_takes_280
      rw [eu_X33_takes_285]; unfold du_X33_takes_285
      rw [e361]
    have e284 : u_X33_takes_284 s A x kd j = some (.inl [A, x, kd, 0, j + 1]) := by
      rw [eu_X33_takes_284]; unfold du_X33_takes_284
      rw [eu_X33_takes_285]; unfold du_X33_takes_285
      rw [e361]
    rw [eu_X33_takes_269]; unfold du_X33_takes_269
    rw [e280, e284]
    by_cases c1 : zo.1 = 0
    rotate_left
    · rw [if_neg c1, if0 (fun e : tkO kd 88 zo => by have := tk88.mp e; omega)]
    rw [if_pos c1]
    by_cases c2 : zo.2.2.1 = 0
    · rw [if_pos c2, if1 (tk88.mpr (by omega))]
    rw [if_neg c2]
    by_cases k0 : kd = 0
    · rw [if_pos k0, if_neg (show ¬ kd = 1 by omega)]
      by_cases c3 : zo.2.2.1 = 1
      · rw [if_pos c3, if1 (tk88.mpr (by omega))]
      · rw [if_neg c3, if0 (fun e : tkO kd 88 zo => by have := tk88.mp e; omega)]
    rw [if_neg k0]
    by_cases k1 : kd = 1
    · rw [if_pos k1]
      by_cases c3 : zo.2.2.1 = 3
      · rw [if_pos c3, if1 (tk88.mpr (by omega))]
      · rw [if_neg c3, if0 (fun e : tkO kd 88 zo => by have := tk88.mp e; omega)]
    · rw [if_neg k1, if0 (fun e : tkO kd 88 zo => by have := tk88.mp e; omega)]
end jTakes
