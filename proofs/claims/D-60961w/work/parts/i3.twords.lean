/-! the twin's words (the chain is printed by gen_wof.py) -/
set_option maxRecDepth 100000
section jTwrd
variable {s t u : jS} {A H b lo W V x y k c a hh x2 x4 C v N : Int} {l nm : List Int} {NL : List (List Int)} {I : pI} {OL : List pvO} {SL : List pvS}
def wL_839 : List (Int × Int) := (1952541036, 224) :: []
theorem wU_839 : u_X37_wordOf_839 s x2 x4 = wCh s x2 x4 wL_839 := by
  rw [eu_X37_wordOf_839]; exact w_step rfl
def wL_820 : List (Int × Int) := (1667329132, 223) :: wL_839
theorem wU_820 : u_X37_wordOf_820 s x2 x4 = wCh s x2 x4 wL_820 := by
  rw [eu_X37_wordOf_820]; exact w_step wU_839
def wL_801 : List (Int × Int) := (7497076, 222) :: wL_820
theorem wU_801 : u_X37_wordOf_801 s x2 x4 = wCh s x2 x4 wL_801 := by
  rw [eu_X37_wordOf_801]; exact w_step wU_820
def wL_782 : List (Int × Int) := (27250, 221) :: wL_801
theorem wU_782 : u_X37_wordOf_782 s x2 x4 = wCh s x2 x4 wL_782 := by
  rw [eu_X37_wordOf_782]; exact w_step wU_801
def wL_763 : List (Int × Int) := (106, 220) :: wL_782
theorem wU_763 : u_X37_wordOf_763 s x2 x4 = wCh s x2 x4 wL_763 := by
  rw [eu_X37_wordOf_763]; exact w_step wU_782
def wL_744 : List (Int × Int) := (1651271029, 219) :: wL_763
theorem wU_744 : u_X37_wordOf_744 s x2 x4 = wCh s x2 x4 wL_744 := by
  rw [eu_X37_wordOf_744]; exact w_step wU_763
def wL_725 : List (Int × Int) := (1650947189, 218) :: wL_744
theorem wU_725 : u_X37_wordOf_725 s x2 x4 = wCh s x2 x4 wL_725 := by
  rw [eu_X37_wordOf_725]; exact w_step wU_744
def wL_706 : List (Int × Int) := (6450277, 217) :: wL_725
theorem wU_706 : u_X37_wordOf_706 s x2 x4 = wCh s x2 x4 wL_706 := by
  rw [eu_X37_wordOf_706]; exact w_step wU_725
def wL_687 : List (Int × Int) := (6449012, 216) :: wL_706
theorem wU_687 : u_X37_wordOf_687 s x2 x4 = wCh s x2 x4 wL_687 := by
  rw [eu_X37_wordOf_687]; exact w_step wU_706
def wL_668 : List (Int × Int) := (1650947194, 215) :: wL_687
theorem wU_668 : u_X37_wordOf_668 s x2 x4 = wCh s x2 x4 wL_668 := by
  rw [eu_X37_wordOf_668]; exact w_step wU_687
def wL_649 : List (Int × Int) := (1651271034, 214) :: wL_668
theorem wU_649 : u_X37_wordOf_649 s x2 x4 = wCh s x2 x4 wL_649 := by
  rw [eu_X37_wordOf_649]; exact w_step wU_668
def wL_630 : List (Int × Int) := (1651274874, 213) :: wL_649
theorem wU_630 : u_X37_wordOf_630 s x2 x4 = wCh s x2 x4 wL_630 := by
  rw [eu_X37_wordOf_630]; exact w_step wU_649
def wL_611 : List (Int × Int) := (1650943354, 212) :: wL_630
theorem wU_611 : u_X37_wordOf_611 s x2 x4 = wCh s x2 x4 wL_611 := by
  rw [eu_X37_wordOf_611]; exact w_step wU_630
def wL_592 : List (Int × Int) := (1651402106, 211) :: wL_611
theorem wU_592 : u_X37_wordOf_592 s x2 x4 = wCh s x2 x4 wL_592 := by
  rw [eu_X37_wordOf_592]; exact w_step wU_611
def wL_573 : List (Int × Int) := (1650815354, 210) :: wL_592
theorem wU_573 : u_X37_wordOf_573 s x2 x4 = wCh s x2 x4 wL_573 := by
  rw [eu_X37_wordOf_573]; exact w_step wU_592
def wL_554 : List (Int × Int) := (1936159866, 209) :: wL_573
theorem wU_554 : u_X37_wordOf_554 s x2 x4 = wCh s x2 x4 wL_554 := by
  rw [eu_X37_wordOf_554]; exact w_step wU_573
def wL_535 : List (Int × Int) := (1936487546, 208) :: wL_554
theorem wU_535 : u_X37_wordOf_535 s x2 x4 = wCh s x2 x4 wL_535 := by
  rw [eu_X37_wordOf_535]; exact w_step wU_554
def wL_516 : List (Int × Int) := (1936614778, 207) :: wL_535
theorem wU_516 : u_X37_wordOf_516 s x2 x4 = wCh s x2 x4 wL_516 := by
  rw [eu_X37_wordOf_516]; exact w_step wU_535
def wL_497 : List (Int × Int) := (1936028026, 206) :: wL_516
theorem wU_497 : u_X37_wordOf_497 s x2 x4 = wCh s x2 x4 wL_497 := by
  rw [eu_X37_wordOf_497]; exact w_step wU_516
def wL_478 : List (Int × Int) := (7234919, 205) :: wL_497
theorem wU_478 : u_X37_wordOf_478 s x2 x4 = wCh s x2 x4 wL_478 := by
  rw [eu_X37_wordOf_478]; exact w_step wU_497
def wL_459 : List (Int × Int) := (7237492, 204) :: wL_478
theorem wU_459 : u_X37_wordOf_459 s x2 x4 = wCh s x2 x4 wL_459 := by
  rw [eu_X37_wordOf_459]; exact w_step wU_478
def wL_440 : List (Int × Int) := (28022, 203) :: wL_459
theorem wU_440 : u_X37_wordOf_440 s x2 x4 = wCh s x2 x4 wL_440 := by
  rw [eu_X37_wordOf_440]; exact w_step wU_459
def wL_421 : List (Int × Int) := (27745, 202) :: wL_440
theorem wU_421 : u_X37_wordOf_421 s x2 x4 = wCh s x2 x4 wL_421 := by
  rw [eu_X37_wordOf_421]; exact w_step wU_440
def wL_402 : List (Int × Int) := (27753, 201) :: wL_421
theorem wU_402 : u_X37_wordOf_402 s x2 x4 = wCh s x2 x4 wL_402 := by
  rw [eu_X37_wordOf_402]; exact w_step wU_421
def wL_383 : List (Int × Int) := (7237488, 200) :: wL_402
theorem wU_383 : u_X37_wordOf_383 s x2 x4 = wCh s x2 x4 wL_383 := by
  rw [eu_X37_wordOf_383]; exact w_step wU_402
def wL_365 : List (Int × Int) := (13070377708777326, 115) :: wL_383
theorem wU_365 : u_X37_wordOf_365 s x2 x4 = wCh s x2 x4 wL_365 := by
  rw [eu_X37_wordOf_365]; exact w_step wU_383
def wL_347 : List (Int × Int) := (50995965552494, 114) :: wL_365
theorem wU_347 : u_X37_wordOf_347 s x2 x4 = wCh s x2 x4 wL_347 := by
  rw [eu_X37_wordOf_347]; exact w_step wU_365
def wL_329 : List (Int × Int) := (199621964399, 113) :: wL_347
theorem wU_329 : u_X37_wordOf_329 s x2 x4 = wCh s x2 x4 wL_329 := by
  rw [eu_X37_wordOf_329]; exact w_step wU_347
def wL_311 : List (Int × Int) := (50996082600314, 112) :: wL_329
theorem wU_311 : u_X37_wordOf_311 s x2 x4 = wCh s x2 x4 wL_311 := by
  rw [eu_X37_wordOf_311]; exact w_step wU_329
def wL_293 : List (Int × Int) := (50996082600297, 111) :: wL_311
theorem wU_293 : u_X37_wordOf_293 s x2 x4 = wCh s x2 x4 wL_293 := by
  rw [eu_X37_wordOf_293]; exact w_step wU_311
def wL_275 : List (Int × Int) := (199572288100, 110) :: wL_293
theorem wU_275 : u_X37_wordOf_275 s x2 x4 = wCh s x2 x4 wL_275 := by
  rw [eu_X37_wordOf_275]; exact w_step wU_293
def wL_257 : List (Int × Int) := (199319710822, 109) :: wL_275
theorem wU_257 : u_X37_wordOf_257 s x2 x4 = wCh s x2 x4 wL_257 := by
  rw [eu_X37_wordOf_257]; exact w_step wU_275
def wL_239 : List (Int × Int) := (199220622437, 108) :: wL_257
theorem wU_239 : u_X37_wordOf_239 s x2 x4 = wCh s x2 x4 wL_239 := by
  rw [eu_X37_wordOf_239]; exact w_step wU_257
def wL_221 : List (Int × Int) := (199236742509, 107) :: wL_239
theorem wU_221 : u_X37_wordOf_221 s x2 x4 = wCh s x2 x4 wL_221 := by
  rw [eu_X37_wordOf_221]; exact w_step wU_239
def wL_203 : List (Int × Int) := (778400117, 106) :: wL_221
theorem wU_203 : u_X37_wordOf_203 s x2 x4 = wCh s x2 x4 wL_203 := by
  rw [eu_X37_wordOf_203]; exact w_step wU_221
def wL_185 : List (Int × Int) := (199571628395, 105) :: wL_203
theorem wU_185 : u_X37_wordOf_185 s x2 x4 = wCh s x2 x4 wL_185 := by
  rw [eu_X37_wordOf_185]; exact w_step wU_203
def wL_167 : List (Int × Int) := (51021735748204, 104) :: wL_185
theorem wU_167 : u_X37_wordOf_167 s x2 x4 = wCh s x2 x4 wL_167 := by
  rw [eu_X37_wordOf_167]; exact w_step wU_185
def wL_149 : List (Int × Int) := (778204019, 103) :: wL_167
theorem wU_149 : u_X37_wordOf_149 s x2 x4 = wCh s x2 x4 wL_149 := by
  rw [eu_X37_wordOf_149]; exact w_step wU_167
def wL_131 : List (Int × Int) := (199252604001, 102) :: wL_149
theorem wU_131 : u_X37_wordOf_131 s x2 x4 = wCh s x2 x4 wL_131 := by
  rw [eu_X37_wordOf_131]; exact w_step wU_149
def wL_113 : List (Int × Int) := (13073671679734881, 101) :: wL_131
theorem wU_113 : u_X37_wordOf_113 s x2 x4 = wCh s x2 x4 wL_113 := by
  rw [eu_X37_wordOf_113]; exact w_step wU_131
theorem w_list : (199521302644, 100) :: wL_113 = wLs 0 100 16 0 ++ (wLs 22 200 25 0 ++ []) := by decide +kernel
theorem w_short : (∀ j, j < 16 → (cS (0 + j)).length ≤ 8 ∧ ∀ c ∈ cS (0 + j), 1 ≤ c ∧ c < 128) ∧ ∀ j, j < 25 → (cS (22 + j)).length ≤ 8 ∧ ∀ c ∈ cS (22 + j), 1 ≤ c ∧ c < 128 := by decide +kernel
/-- what a name is to both sides: kind, directive, other instruction -/
def nmKn (l : List Int) (kd dr ot : Int) : Prop := isIx 73 75 l kd ∧ isIx 0 16 l dr ∧ isIx 22 25 l ot
def wV (kd dr ot : Int) : Int := if ¬ kd = -1 then kd else if ¬ dr = -1 then 100 + dr else if ¬ ot = -1 then 200 + ot else -1
theorem isIx_one {lo n : Nat} {r q : Int} (h : isIx lo n l r) (g : isIx lo n l q) : r = q := by
  rcases h with ⟨i, h1, h2, h3, h4⟩ | ⟨h1, h2⟩
  · rcases g with ⟨j, g1, g2, g3, g4⟩ | ⟨g1, g2⟩
    · have : i = j := by
        rcases Nat.lt_trichotomy i j with q | q | q
        · exact absurd h3 (g4 i q)
        · exact q
        · exact absurd g3 (h4 j q)
      rw [h1, g1, this]
    · exact absurd h3 (g2 i h2)
  · rcases g with ⟨j, g1, g2, g3, g4⟩ | ⟨g1, g2⟩
    · exact absurd g3 (h2 j g2)
    · rw [h1, g1]
theorem isIx_ex (lo n : Nat) (l : List Int) : ∃ r, isIx lo n l r := by
  have key : ∀ m i : Nat, i + m = n → (∀ j, j < i → ¬ l = cS (lo + j)) → ∃ r, isIx lo n l r := by
    intro m
    induction m with
    | zero => exact fun i hi hj => ⟨-1, .inr ⟨rfl, fun j hj' => hj j (by omega)⟩⟩
    | succ m ih =>
      intro i hi hj
      by_cases c : l = cS (lo + i)
      · exact ⟨i, .inl ⟨i, rfl, by omega, c, hj⟩⟩
      · refine ih (i + 1) (by omega) fun j hj' => ?_
        by_cases cj : j = i
        · subst cj; exact c
        · exact hj j (by omega)
  exact key n 0 (by omega) fun j hj => by omega
theorem isIx_lo {lo n : Nat} {r : Int} (h : isIx lo n l r) : -1 ≤ r ∧ r < n := by
  rcases h with ⟨i, h1, h2, -⟩ | ⟨h1, -⟩ <;> omega
theorem w_chain (h : lts l) : ∃ dr ot, isIx 0 16 l dr ∧ isIx 22 25 l ot ∧ wCh t (pk (l.take 8)) (pk (l.drop 8)) ((199521302644, 100) :: wL_113) = some (t, wV (-1) dr ot) := by
  rw [w_list]
  rcases wLs_spec (t := t) (bs := 100) (R := wLs 22 200 25 0 ++ []) h w_short.1 16 0 (by omega) (fun j hj => by omega) with ⟨r, r1, r2⟩ | ⟨r1, r2⟩
  · obtain ⟨ot, o1⟩ := isIx_ex 22 25 l
    refine ⟨r, ot, r1, o1, ?_⟩
    rw [r2]; unfold wV
    rw [if_neg (by decide), if_pos (by omega)]
  · rw [r2]
    rcases wLs_spec (t := t) (bs := 200) (R := []) h w_short.2 25 0 (by omega) (fun j hj => by omega) with ⟨q, q1, q2⟩ | ⟨q1, q2⟩
    · refine ⟨-1, q, r1, q1, ?_⟩
      rw [q2]; unfold wV
      rw [if_neg (by decide), if_neg (by decide), if_pos (by omega)]
    · refine ⟨-1, -1, r1, q1, ?_⟩
      rw [q2]; unfold wV
      rw [if_neg (by decide), if_neg (by decide), if_neg (by decide)]; rfl
theorem y_wordL (hB : yBk t (H + 8) NL I OL SL) (k0 : 0 ≤ k) (k1 : k < NL.length) (hl : tNa NL k = l) (h : lts l) : ∀ (m i : Nat), i + m = l.length → j64 (pk ((l.take i).take 8)) → j64 (pk ((l.take i).drop 8)) → ∃ kd dr ot, u_X37_wordOf_8 t H k (pk ((l.take i).take 8)) (pk ((l.take i).drop 8)) i = some (jp t 42 (H + 4) 0 0, wV kd dr ot) ∧ nmKn l kd dr ot
  | 0, i, hi, g1, g2 => by
    have hi' : l.take i = l := List.take_of_length_le (by omega)
    rw [hi'] at g1 g2 ⊢
    obtain ⟨r, r1, r2⟩ := t_named (t := t) (V := H + 4) g1 g2 (nz_lo h)
    have nq : m_X39_name t (H + 8) k i = some (t, -1) := by
      rw [y_qname hB k0 k1 (by omega), hl]
      unfold nmQ
      rw [if_neg (by omega)]
    obtain ⟨dr, ot, d1, d2, d3⟩ := w_chain (t := jp t 42 (H + 4) 0 0) h
    refine ⟨r, dr, ot, ?_, r2, d1, d2⟩
    rw [eu_X37_wordOf_8]; unfold du_X37_wordOf_8
    refine jlpW_r (r := some (jp t 42 (H + 4) 0 0, wV r dr ot)) ?_
    show b_X37_wordOf_8 t H k (pk (l.take 8)) (pk (l.drop 8)) i = _
    unfold b_X37_wordOf_8
    rw [nq, Option.bind_some, if_pos rfl, eu_X37_wordOf_74]; unfold du_X37_wordOf_74
    rw [r1, Option.bind_some]
    dsimp only
    by_cases c : r = -1
    · rw [if_pos c, c, w_step wU_113, d3]
    · rw [if_neg c]
      unfold wV
      rw [if_pos c]
  | m + 1, i, hi, g1, g2 => by
    have hlt : i < l.length := by omega
    have hl16 := h.1
    have hc' := h.2 (l.getD i 0) (by rw [List.getD_eq_getElem?_getD, List.getElem?_eq_getElem hlt]; exact List.getElem_mem _)
    have nq : m_X39_name t (H + 8) k i = some (t, l.getD i 0) := by
      rw [y_qname hB k0 k1 (by omega), hl]
      unfold nmQ
      rw [if_pos (by omega), Int.toNat_natCast]
    by_cases c8 : i < 8
    · obtain ⟨o1, o2, o3⟩ := pkL_s h hlt c8
      obtain ⟨kd, dr, ot, r1, r2⟩ := y_wordL hB k0 k1 hl h m (i + 1) (by omega) o3 (by rw [o2]; exact g2)
      refine ⟨kd, dr, ot, ?_, r2⟩
      rw [eu_X37_wordOf_8] at r1 ⊢; unfold du_X37_wordOf_8 at r1 ⊢
      have bb : jc5 b_X37_wordOf_8 [H, k, pk ((l.take i).take 8), pk ((l.take i).drop 8), (i : Int)] t = some (.inl (t, [H, k, pk ((l.take (i + 1)).take 8), pk ((l.take (i + 1)).drop 8), ((i + 1 : Nat) : Int)])) := by
        show b_X37_wordOf_8 t H k (pk ((l.take i).take 8)) (pk ((l.take i).drop 8)) i = _
        unfold b_X37_wordOf_8
        rw [nq, Option.bind_some, if_neg (by show ¬ l.getD i 0 = -1; omega), if_pos (by omega)]
        dsimp only
        rw [nq, Option.bind_some]
        simp only [jlet]
        rw [o1, o2, eu_X37_wordOf_68]; unfold du_X37_wordOf_68
        rw [W32_in (by omega) (by omega)]; rfl
      rw [jlpW_l bb]; exact r1
    · obtain ⟨o1, o2, o3⟩ := pkL_t h hlt (by omega)
      obtain ⟨kd, dr, ot, r1, r2⟩ := y_wordL hB k0 k1 hl h m (i + 1) (by omega) (by rw [o2]; exact g1) o3
      refine ⟨kd, dr, ot, ?_, r2⟩
      rw [eu_X37_wordOf_8] at r1 ⊢; unfold du_X37_wordOf_8 at r1 ⊢
      have bb : jc5 b_X37_wordOf_8 [H, k, pk ((l.take i).take 8), pk ((l.take i).drop 8), (i : Int)] t = some (.inl (t, [H, k, pk ((l.take (i + 1)).take 8), pk ((l.take (i + 1)).drop 8), ((i + 1 : Nat) : Int)])) := by
        show b_X37_wordOf_8 t H k (pk ((l.take i).take 8)) (pk ((l.take i).drop 8)) i = _
        unfold b_X37_wordOf_8
        rw [nq, Option.bind_some, if_neg (by show ¬ l.getD i 0 = -1; omega), if_neg (by omega)]
        dsimp only
        rw [nq, Option.bind_some]
        simp only [jlet]
        rw [o1, o2, eu_X37_wordOf_68]; unfold du_X37_wordOf_68
        rw [W32_in (by omega) (by omega)]; rfl
      rw [jlpW_l bb]; exact r1
theorem y_wordOf (hB : yBk t (H + 8) NL I OL SL) (k0 : 0 ≤ k) (k1 : k < NL.length) (h : lts (tNa NL k)) : ∃ kd dr ot, m_X37_wordOf t H k = some (jp t 42 (H + 4) 0 0, wV kd dr ot) ∧ nmKn (tNa NL k) kd dr ot := by
  rw [em_X37_wordOf]; unfold dm_X37_wordOf
  have e1 : pk (((tNa NL k).take 0).take 8) = 0 := by rw [List.take_zero, List.take_nil]; rfl
  have e2 : pk (((tNa NL k).take 0).drop 8) = 0 := by rw [List.take_zero, List.drop_nil]; rfl
  have := y_wordL hB k0 k1 rfl h (tNa NL k).length 0 (by omega) (by rw [e1]; unfold j64; omega) (by rw [e2]; unfold j64; omega)
  rw [e1, e2] at this
  exact this
end jTwrd
