/-! the component's object that is made: clear, put, bss, align, start, letter, symbol, relocation -/
section jMade
variable {s t u : jS} {b O X y z lo n x : Int} {o : Int → Int → Int → Int} {w w' d : Int → Int}
theorem in_1 {lo hi : Int} (h0 : lo ≤ x) (h1 : x ≤ hi) : m_X13_in s x lo hi = some 1 := by rw [e_X13_in, if_pos (by omega)]
theorem in_0 {lo hi : Int} (h : x < lo ∨ hi < x) : m_X13_in s x lo hi = some 0 := by rw [e_X13_in, if_neg (by omega)]
theorem T33 (h : jTt s 33 O) : (0 ≤ O ∧ jK s O = 17) ∧ jTt s 34 (O + 1) ∧ jTt s 34 (O + 614) ∧ jTt s 37 (O + 1227) ∧ jTt s 39 (O + 1229) ∧ jTt s 40 (O + 1231) ∧ jTt s 41 (O + 1239) ∧ jf s 17 O 0 = O + 1 ∧ jf s 17 O 1 = O + 614 ∧ jf s 17 O 2 = O + 1227 ∧ jf s 17 O 3 = O + 1229 ∧ jf s 17 O 4 = O + 1231 ∧ jf s 17 O 5 = O + 1239 := by
  have k : jK s O = 17 := h.zz.2.2.1
  have f0 := h.fld (k := 0) (o := 1) (t' := 34) (by decide)
  have f1 := h.fld (k := 1) (o := 614) (t' := 34) (by decide)
  have f2 := h.fld (k := 2) (o := 1227) (t' := 37) (by decide)
  have f3 := h.fld (k := 3) (o := 1229) (t' := 39) (by decide)
  have f4 := h.fld (k := 4) (o := 1231) (t' := 40) (by decide)
  have f5 := h.fld (k := 5) (o := 1239) (t' := 41) (by decide)
  rw [jF_k k] at f0 f1 f2 f3 f4 f5
  exact ⟨⟨h.zz.1, k⟩, f0.2, f1.2, f2.2, f3.2, f4.2, f5.2, f0.1, f1.1, f2.1, f3.1, f4.1, f5.1⟩
theorem cObA.keep (h : cObA s b o) (e : ∀ x k, 0 ≤ x → x < 4 → jf t 19 ((b + 1) + 4 + 2 * x) k = jf s 19 ((b + 1) + 4 + 2 * x) k) : cObA t b o := fun x x0 x1 => by rw [e x 1 x0 x1, e x 2 x0 x1]; exact h x x0 x1
theorem cObB.keep (h : cObB s b o) (e : ∀ x k, 0 ≤ x → x < 3 → jf t 1001 (((b + 1) + 4 + 2 * x) + 1) k = jf s 1001 (((b + 1) + 4 + 2 * x) + 1) k) : cObB t b o := fun x k x0 x1 k0 k1 => by rw [e x k x0 x1]; exact h x k x0 x1 k0 k1
theorem cObT.keep (h : cObT s b o) (e : ∀ k, jf t 1003 (b + 2) k = jf s 1003 (b + 2) k) : cObT t b o := fun k k0 k1 => by rw [e]; exact h k k0 k1
theorem cObN.keep (h : cObN s b o) (e : ∀ k, jf t 18 b k = jf s 18 b k) : cObN t b o := by unfold cObN at *; simp only [e]; exact h
theorem cObY.keep (h : cObY s b o) (v : vObN o) (e : ∀ c a k, b + 13 ≤ a → a < b + 313 → jf t c a k = jf s c a k) : cObY t b o := fun k k0 k1 => (h k k0 k1).keep fun c a j a0 a1 => e c a j (by omega) (by have := v.2.2.2.1; omega)
theorem cObR.keep (h : cObR s b o) (v : vObN o) (e : ∀ c a k, b + 313 ≤ a → a < b + 613 → jf t c a k = jf s c a k) : cObR t b o := fun k k0 k1 => (h k k0 k1).keep fun j => e _ _ j (by omega) (by have := v.2.2.2.2.2; omega)
/-- the parts of a value that are as they were -/
theorem cObA.val {o' : Int → Int → Int → Int} (h : cObA s b o) (e : ∀ x k, o' 1 x k = o 1 x k) : cObA s b o' := fun x x0 x1 => by rw [e, e]; exact h x x0 x1
theorem cObB.val {o' : Int → Int → Int → Int} (h : cObB s b o) (e : ∀ x k, o' 1 x k = o 1 x k) (e' : ∀ x k, o' 0 x k = o 0 x k) : cObB s b o' := fun x k x0 x1 k0 k1 => by rw [e']; rw [e] at k1; exact h x k x0 x1 k0 k1
theorem cObT.val {o' : Int → Int → Int → Int} (h : cObT s b o) (e : o' 2 0 0 = o 2 0 0) (e' : ∀ k, o' 3 k 0 = o 3 k 0) : cObT s b o' := fun k k0 k1 => by rw [e']; rw [e] at k1; exact h k k0 k1
theorem cObY.val {o' : Int → Int → Int → Int} (h : cObY s b o) (e : o' 2 1 0 = o 2 1 0) (e' : ∀ k, o' 4 k = o 4 k) : cObY s b o' := fun k k0 k1 => by rw [e']; rw [e] at k1; exact h k k0 k1
theorem cObR.val {o' : Int → Int → Int → Int} (h : cObR s b o) (e : o' 2 2 0 = o 2 2 0) (e' : ∀ k, o' 5 k = o 5 k) : cObR s b o' := fun k k0 k1 => by rw [e']; rw [e] at k1; exact h k k0 k1
theorem cObN.val {o' : Int → Int → Int → Int} (h : cObN s b o) (e : ∀ k, o' 2 k 0 = o 2 k 0) : cObN s b o' := by unfold cObN at *; simp only [e]; exact h
def oNew : Int → Int → Int → Int := fun c _ k => if c = 1 ∧ k = 1 then 1 else 0
theorem c_clear (hL : cObL s b) : jE (m_X14_clear s b) fun q => jFx s q.1 b 613 ∧ cOb q.1 b oNew := by
  rw [em_X14_clear]; unfold dm_X14_clear
  rw [eu_X14_clear_2]; unfold du_X14_clear_2
  refine jS_for (fun k u => jFx s u b 613 ∧ ∀ x, 0 ≤ x → x < k → jf u 19 ((b + 1) + 4 + 2 * x) 1 = 0 ∧ jf u 19 ((b + 1) + 4 + 2 * x) 2 = 1) (fun k => [b, k]) 0 4 (by omega) ⟨jFx.rfl, fun x x0 x1 => by omega⟩ (fun k u k0 k1 ⟨g, e⟩ => ?_) (fun u ⟨g, e⟩ => ?_)
  · show jE (b_X14_clear_2 u b k) _
    unfold b_X14_clear_2
    (repeat (first | with_reducible refine jS_pos (by omega) ?_ | with_reducible refine jS_neg (by omega) ?_ | with_reducible refine jS_posB (by omega) ?_ | with_reducible refine jS_negB (by omega) ?_ | with_reducible refine jS_some ?_ | with_reducible refine jS_ls ?_ | with_reducible refine jS_let ?_ | with_reducible refine jS_lt (by omega) (by omega) ?_ | with_reducible refine jS_st (by omega) (by omega) ?_ | with_reducible refine jS_ix (by omega) (by omega) ?_ | with_reducible refine jS_dv (by omega) ?_ | with_reducible refine jS_zb (by omega) ?_ | with_reducible refine jS_bb ?_ | with_reducible refine jS_inr ?_ | with_reducible refine jS_lsB ?_ | with_reducible refine jS_letB ?_ | with_reducible refine jS_ck0 (by omega) ?_ | with_reducible refine jS_ck0B (by omega) ?_ | rw [W32_in (by omega) (by omega)] | rw [W32_aL] | rw [W32_aR] | rw [W32_sL] | rw [W32_mR] | rw [jf_neg (by omega)] | rw [jf_pos (by omega)] | with_reducible refine jS_bb ?_))
    rw [em_X15_clear]; unfold dm_X15_clear
    (repeat (first | with_reducible refine jS_pos (by omega) ?_ | with_reducible refine jS_neg (by omega) ?_ | with_reducible refine jS_posB (by omega) ?_ | with_reducible refine jS_negB (by omega) ?_ | with_reducible refine jS_some ?_ | with_reducible refine jS_ls ?_ | with_reducible refine jS_let ?_ | with_reducible refine jS_lt (by omega) (by omega) ?_ | with_reducible refine jS_st (by omega) (by omega) ?_ | with_reducible refine jS_ix (by omega) (by omega) ?_ | with_reducible refine jS_dv (by omega) ?_ | with_reducible refine jS_zb (by omega) ?_ | with_reducible refine jS_bb ?_ | with_reducible refine jS_inr ?_ | with_reducible refine jS_lsB ?_ | with_reducible refine jS_letB ?_ | with_reducible refine jS_ck0 (by omega) ?_ | with_reducible refine jS_ck0B (by omega) ?_ | rw [W32_in (by omega) (by omega)] | rw [W32_aL] | rw [W32_aR] | rw [W32_sL] | rw [W32_mR] | rw [jf_neg (by omega)] | rw [jf_pos (by omega)] | with_reducible refine jS_bb ?_))
    refine jS_end ⟨rfl, (g.jp rfl (by omega) (by omega)).jp rfl (by omega) (by omega), fun x x0 x1 => ?_⟩
    by_cases c : x = k
    · subst c; (repeat (first | rw [jf_neg (by omega)] | rw [jf_pos (by omega)] | rw [ou_neg (by omega)] | rw [ou_pos (by omega)])); exact ⟨rfl, rfl⟩
    · (repeat (first | rw [jf_neg (by omega)] | rw [jf_pos (by omega)] | rw [ou_neg (by omega)] | rw [ou_pos (by omega)])); exact e x x0 (by omega)
  · show jE (b_X14_clear_2 u b 4) _
    unfold b_X14_clear_2
    (repeat (first | with_reducible refine jS_pos (by omega) ?_ | with_reducible refine jS_neg (by omega) ?_ | with_reducible refine jS_posB (by omega) ?_ | with_reducible refine jS_negB (by omega) ?_ | with_reducible refine jS_some ?_ | with_reducible refine jS_ls ?_ | with_reducible refine jS_let ?_ | with_reducible refine jS_lt (by omega) (by omega) ?_ | with_reducible refine jS_st (by omega) (by omega) ?_ | with_reducible refine jS_ix (by omega) (by omega) ?_ | with_reducible refine jS_dv (by omega) ?_ | with_reducible refine jS_zb (by omega) ?_ | with_reducible refine jS_bb ?_ | with_reducible refine jS_inr ?_ | with_reducible refine jS_lsB ?_ | with_reducible refine jS_letB ?_ | with_reducible refine jS_ck0 (by omega) ?_ | with_reducible refine jS_ck0B (by omega) ?_ | rw [W32_in (by omega) (by omega)] | rw [W32_aL] | rw [W32_aR] | rw [W32_sL] | rw [W32_mR] | rw [jf_neg (by omega)] | rw [jf_pos (by omega)] | with_reducible refine jS_bb ?_))
    simp only [em_X14_clear, dm_X14_clear, eu_X14_clear_22, du_X14_clear_22]
    (repeat (first | with_reducible refine jS_pos (by omega) ?_ | with_reducible refine jS_neg (by omega) ?_ | with_reducible refine jS_posB (by omega) ?_ | with_reducible refine jS_negB (by omega) ?_ | with_reducible refine jS_some ?_ | with_reducible refine jS_ls ?_ | with_reducible refine jS_let ?_ | with_reducible refine jS_lt (by omega) (by omega) ?_ | with_reducible refine jS_st (by omega) (by omega) ?_ | with_reducible refine jS_ix (by omega) (by omega) ?_ | with_reducible refine jS_dv (by omega) ?_ | with_reducible refine jS_zb (by omega) ?_ | with_reducible refine jS_bb ?_ | with_reducible refine jS_inr ?_ | with_reducible refine jS_lsB ?_ | with_reducible refine jS_letB ?_ | with_reducible refine jS_ck0 (by omega) ?_ | with_reducible refine jS_ck0B (by omega) ?_ | rw [W32_in (by omega) (by omega)] | rw [W32_aL] | rw [W32_aR] | rw [W32_sL] | rw [W32_mR] | rw [jf_neg (by omega)] | rw [jf_pos (by omega)] | with_reducible refine jS_bb ?_))
    refine jS_end ⟨((g.jp rfl (by omega) (by omega)).jp rfl (by omega) (by omega)).jp rfl (by omega) (by omega), ?_, fun x x0 x1 => ?_, fun x k x0 x1 k0 k1 => ?_, ⟨?_, ?_, ?_⟩, fun k k0 k1 => ?_, fun k k0 k1 => ?_, fun k k0 k1 => ?_⟩
    · intro x x0 x1
      show jN u _ = _
      rw [g.N]; exact hL x x0 x1
    · have := e x x0 x1
      (repeat (first | rw [jf_neg (by omega)] | rw [jf_pos (by omega)] | rw [ou_neg (by omega)] | rw [ou_pos (by omega)])); exact this
    · have : oNew 1 x 0 = 0 := rfl
      omega
    · (repeat (first | rw [jf_neg (by omega)] | rw [jf_pos (by omega)] | rw [ou_neg (by omega)] | rw [ou_pos (by omega)])); rfl
    · (repeat (first | rw [jf_neg (by omega)] | rw [jf_pos (by omega)] | rw [ou_neg (by omega)] | rw [ou_pos (by omega)])); rfl
    · (repeat (first | rw [jf_neg (by omega)] | rw [jf_pos (by omega)] | rw [ou_neg (by omega)] | rw [ou_pos (by omega)])); rfl
    · have : oNew 2 0 0 = 0 := rfl
      omega
    · have : oNew 2 1 0 = 0 := rfl
      omega
    · have : oNew 2 2 0 = 0 := rfl
      omega
theorem vNew : vOb oNew := by
  refine ⟨fun x x0 x1 => ⟨Int.le_refl 0, ?_, .inl rfl⟩, fun x k x0 x1 k0 k1 => ?_, by unfold vObN oNew; decide, fun k k0 k1 => ?_, fun k k0 k1 => ?_, fun k k0 k1 => ?_⟩
  · show (0 : Int) ≤ _
    split <;> omega
  · have : oNew 1 x 0 = 0 := rfl
    omega
  · have : oNew 2 0 0 = 0 := rfl
    omega
  · have : oNew 2 1 0 = 0 := rfl
    omega
  · have : oNew 2 2 0 = 0 := rfl
    omega
/-- the maker: all of its types, the object that is made, the name at hand -/
def cMk (s : jS) (O : Int) (o : Int → Int → Int → Int) (d : Int → Int) : Prop := jTt s 33 O ∧ cOb s (O + 1) o ∧ vOb o ∧ cNm s (O + 1227) d ∧ vNm d
def dNew : Int → Int := fun _ => 0
theorem vdNew : vNm dNew := ⟨by decide, by decide, fun i i0 i1 => by have : dNew 5 = 0 := rfl; omega⟩
theorem c_mclear (h : jTt s 33 O) (hL : cObL s (O + 1)) : jE (m_X13_clear s O) fun q => jFx s q.1 O 1858 ∧ cMk q.1 O oNew dNew := by
  rw [em_X13_clear]; unfold dm_X13_clear
  refine jS_call (c_clear hL) fun q ⟨g, e⟩ => ?_
  (repeat (first | with_reducible refine jS_pos (by omega) ?_ | with_reducible refine jS_neg (by omega) ?_ | with_reducible refine jS_posB (by omega) ?_ | with_reducible refine jS_negB (by omega) ?_ | with_reducible refine jS_some ?_ | with_reducible refine jS_ls ?_ | with_reducible refine jS_let ?_ | with_reducible refine jS_lt (by omega) (by omega) ?_ | with_reducible refine jS_st (by omega) (by omega) ?_ | with_reducible refine jS_ix (by omega) (by omega) ?_ | with_reducible refine jS_dv (by omega) ?_ | with_reducible refine jS_zb (by omega) ?_ | with_reducible refine jS_bb ?_ | with_reducible refine jS_inr ?_ | with_reducible refine jS_lsB ?_ | with_reducible refine jS_letB ?_ | with_reducible refine jS_ck0 (by omega) ?_ | with_reducible refine jS_ck0B (by omega) ?_ | rw [W32_in (by omega) (by omega)] | rw [W32_aL] | rw [W32_aR] | rw [W32_sL] | rw [W32_mR] | rw [jf_neg (by omega)] | rw [jf_pos (by omega)] | with_reducible refine jS_bb ?_))
  have G : jFx s (jp q.1 21 (O + 1227) 1 0) O 1858 := (g.wide (by omega) (by omega)).jp rfl (by omega) (by omega)
  refine jS_end ⟨G, h.ext G.2, e.kf (t := jp q.1 21 (O + 1227) 1 0) (lo := O + 1227) (n := 1) (jFx.rfl.jp rfl (by omega) (by omega)) (by omega) vNew.2.2.1, vNew, ⟨by (repeat (first | rw [jf_neg (by omega)] | rw [jf_pos (by omega)] | rw [ou_neg (by omega)] | rw [ou_pos (by omega)])); rfl, fun i i0 i1 => ?_⟩, vdNew⟩
  have : dNew 5 = 0 := rfl
  omega
/-- a byte more -/
def oPut (o : Int → Int → Int → Int) (x v : Int) : Int → Int → Int → Int := ou (ou o 0 x (o 1 x 0) v) 1 x 0 (o 1 x 0 + 1)
theorem c_add (hT : jTt s 34 b) (h : cOb s b o) (v : vOb o) (x0 : 0 ≤ x) (x1 : x < 3) (h1 : o 1 x 0 < 2048) {p c : Int} (hp : p % 256 = c) : jE (m_X15_add s ((b + 1) + 4 + 2 * x) p) fun q => jFx s q.1 b 613 ∧ cOb q.1 b (oPut o x c) ∧ vOb (oPut o x c) := by
  obtain ⟨hL, hA, hB, hN, hS, hY, hR⟩ := h
  obtain ⟨a1, a2⟩ := hA x x0 (by omega)
  have hl := hL x x0 (by omega)
  rw [if_neg (by omega)] at hl
  obtain ⟨v1, v2, v3⟩ := v.1 x x0 (by omega)
  rw [em_X15_add]; unfold dm_X15_add
  rw [a1]
  (repeat (first | with_reducible refine jS_pos (by omega) ?_ | with_reducible refine jS_neg (by omega) ?_ | with_reducible refine jS_posB (by omega) ?_ | with_reducible refine jS_negB (by omega) ?_ | with_reducible refine jS_some ?_ | with_reducible refine jS_ls ?_ | with_reducible refine jS_let ?_ | with_reducible refine jS_lt (by omega) (by omega) ?_ | with_reducible refine jS_st (by omega) (by omega) ?_ | with_reducible refine jS_ix (by omega) (by omega) ?_ | with_reducible refine jS_dv (by omega) ?_ | with_reducible refine jS_zb (by omega) ?_ | with_reducible refine jS_bb ?_ | with_reducible refine jS_inr ?_ | with_reducible refine jS_lsB ?_ | with_reducible refine jS_letB ?_ | with_reducible refine jS_ck0 (by omega) ?_ | with_reducible refine jS_ck0B (by omega) ?_ | rw [W32_in (by omega) (by omega)] | rw [W32_aL] | rw [W32_aR] | rw [W32_sL] | rw [W32_mR] | rw [jf_neg (by omega)] | rw [jf_pos (by omega)] | with_reducible refine jS_bb ?_))
  rw [a1]
  (repeat (first | with_reducible refine jS_pos (by omega) ?_ | with_reducible refine jS_neg (by omega) ?_ | with_reducible refine jS_posB (by omega) ?_ | with_reducible refine jS_negB (by omega) ?_ | with_reducible refine jS_some ?_ | with_reducible refine jS_ls ?_ | with_reducible refine jS_let ?_ | with_reducible refine jS_lt (by omega) (by omega) ?_ | with_reducible refine jS_st (by omega) (by omega) ?_ | with_reducible refine jS_ix (by omega) (by omega) ?_ | with_reducible refine jS_dv (by omega) ?_ | with_reducible refine jS_zb (by omega) ?_ | with_reducible refine jS_bb ?_ | with_reducible refine jS_inr ?_ | with_reducible refine jS_lsB ?_ | with_reducible refine jS_letB ?_ | with_reducible refine jS_ck0 (by omega) ?_ | with_reducible refine jS_ck0B (by omega) ?_ | rw [W32_in (by omega) (by omega)] | rw [W32_aL] | rw [W32_aR] | rw [W32_sL] | rw [W32_mR] | rw [jf_neg (by omega)] | rw [jf_pos (by omega)] | with_reducible refine jS_bb ?_))
  rw [W8_W8, hp]
  have hc : 0 ≤ c ∧ c < 256 := by omega
  have G : jFx s (jp (jp s 1001 ((b + 1) + 4 + 2 * x + 1) (o 1 x 0) (sb c)) 19 ((b + 1) + 4 + 2 * x) 1 (o 1 x 0 + 1)) b 613 := (jFx.rfl.jp (jSs_a (by omega) rfl _) (by omega) (by omega)).jp rfl (by omega) (by omega)
  have nv : ∀ k, oPut o x c 2 k 0 = o 2 k 0 := fun k => by unfold oPut; (repeat (first | rw [jf_neg (by omega)] | rw [jf_pos (by omega)] | rw [ou_neg (by omega)] | rw [ou_pos (by omega)]))
  refine jS_end ⟨G, ⟨fun y y0 y1 => (show jN s _ = _ from hL y y0 y1), fun y y0 y1 => ?_, fun y k y0 y1 k0 k1 => ?_, (hN.keep fun k => by (repeat (first | rw [jf_neg (by omega)] | rw [jf_pos (by omega)] | rw [ou_neg (by omega)] | rw [ou_pos (by omega)]))).val nv, (hS.keep fun k => by (repeat (first | rw [jf_neg (by omega)] | rw [jf_pos (by omega)] | rw [ou_neg (by omega)] | rw [ou_pos (by omega)]))).val (nv 0) (fun k => by unfold oPut; (repeat (first | rw [jf_neg (by omega)] | rw [jf_pos (by omega)] | rw [ou_neg (by omega)] | rw [ou_pos (by omega)]))), (hY.keep v.2.2.1 fun c a k a0 a1 => by (repeat (first | rw [jf_neg (by omega)] | rw [jf_pos (by omega)] | rw [ou_neg (by omega)] | rw [ou_pos (by omega)]))).val (nv 1) (fun k => by unfold oPut; rw [ou_row (by omega), ou_row (by omega)]), (hR.keep v.2.2.1 fun c a k a0 a1 => by (repeat (first | rw [jf_neg (by omega)] | rw [jf_pos (by omega)] | rw [ou_neg (by omega)] | rw [ou_pos (by omega)]))).val (nv 2) (fun k => by unfold oPut; rw [ou_row (by omega), ou_row (by omega)])⟩, fun y y0 y1 => ?_, fun y k y0 y1 k0 k1 => ?_, by have := v.2.2.1; unfold vObN at *; simp only [nv]; exact this, fun k k0 k1 => ?_, fun k k0 k1 => ?_, fun k k0 k1 => ?_⟩
  · unfold oPut
    by_cases e : y = x
    · subst e; (repeat (first | rw [jf_neg (by omega)] | rw [jf_pos (by omega)] | rw [ou_neg (by omega)] | rw [ou_pos (by omega)])); exact ⟨rfl, a2⟩
    · (repeat (first | rw [jf_neg (by omega)] | rw [jf_pos (by omega)] | rw [ou_neg (by omega)] | rw [ou_pos (by omega)])); exact hA y y0 y1
  · unfold oPut at *
    by_cases e : y = x
    · subst e
      rw [ou_pos ⟨rfl, rfl, rfl⟩] at k1
      by_cases e' : k = o 1 y 0
      · subst e'; (repeat (first | rw [jf_neg (by omega)] | rw [jf_pos (by omega)] | rw [ou_neg (by omega)] | rw [ou_pos (by omega)]))
      · (repeat (first | rw [jf_neg (by omega)] | rw [jf_pos (by omega)] | rw [ou_neg (by omega)] | rw [ou_pos (by omega)])); exact hB y k y0 y1 k0 (by omega)
    · rw [ou_neg (by omega), ou_neg (by omega)] at k1
      (repeat (first | rw [jf_neg (by omega)] | rw [jf_pos (by omega)] | rw [ou_neg (by omega)] | rw [ou_pos (by omega)])); exact hB y k y0 y1 k0 k1
  · unfold oPut
    by_cases e : y = x
    · subst e; (repeat (first | rw [jf_neg (by omega)] | rw [jf_pos (by omega)] | rw [ou_neg (by omega)] | rw [ou_pos (by omega)]))
      rw [if_neg (by omega)]
      exact ⟨by omega, by omega, v3⟩
    · (repeat (first | rw [jf_neg (by omega)] | rw [jf_pos (by omega)] | rw [ou_neg (by omega)] | rw [ou_pos (by omega)])); exact v.1 y y0 y1
  · unfold oPut at *
    by_cases e : y = x
    · subst e
      rw [ou_pos ⟨rfl, rfl, rfl⟩] at k1
      by_cases e' : k = o 1 y 0
      · subst e'; (repeat (first | rw [jf_neg (by omega)] | rw [jf_pos (by omega)] | rw [ou_neg (by omega)] | rw [ou_pos (by omega)])); exact hc
      · (repeat (first | rw [jf_neg (by omega)] | rw [jf_pos (by omega)] | rw [ou_neg (by omega)] | rw [ou_pos (by omega)])); exact v.2.1 y k y0 y1 k0 (by omega)
    · rw [ou_neg (by omega), ou_neg (by omega)] at k1
      (repeat (first | rw [jf_neg (by omega)] | rw [jf_pos (by omega)] | rw [ou_neg (by omega)] | rw [ou_pos (by omega)])); exact v.2.1 y k y0 y1 k0 k1
  · have e3 : ∀ k, oPut o x c 3 k 0 = o 3 k 0 := fun k => by unfold oPut; (repeat (first | rw [jf_neg (by omega)] | rw [jf_pos (by omega)] | rw [ou_neg (by omega)] | rw [ou_pos (by omega)]))
    simp only [e3, nv] at *
    exact v.2.2.2.1 k k0 k1
  · have e4 : ∀ k, oPut o x c 4 k = o 4 k := fun k => by unfold oPut; rw [ou_row (by omega), ou_row (by omega)]
    rw [e4]; rw [nv] at k1
    exact v.2.2.2.2.1 k k0 k1
  · have e4 : ∀ k, oPut o x c 5 k = o 5 k := fun k => by unfold oPut; rw [ou_row (by omega), ou_row (by omega)]
    rw [e4, nv]; rw [nv] at k1
    exact v.2.2.2.2.2 k k0 k1
theorem c_put (h : cMk s O o d) (x0 : 0 ≤ x) (x1 : x < 3) {p c : Int} (hp : L2i (L_shr p 56) % 256 = c) : jE (m_X13_put s O x 1 p) fun q => jFx s q.1 O 1858 ∧ cMk q.1 O (if o 1 x 0 < 2048 then oPut o x c else o) d := by
  obtain ⟨hT, hO, hv, hd, hvd⟩ := h
  have hT2 := T33 hT
  have a1 := (hO.2.1 x x0 (by omega)).1
  obtain ⟨v1, v2, v3⟩ := hv.1 x x0 (by omega)
  rw [if_neg (by omega)] at v2
  rw [em_X13_put]; unfold dm_X13_put
  refine jS_e (in_1 (by omega) (by omega)) ?_
  (repeat (first | with_reducible refine jS_pos (by omega) ?_ | with_reducible refine jS_neg (by omega) ?_ | with_reducible refine jS_posB (by omega) ?_ | with_reducible refine jS_negB (by omega) ?_ | with_reducible refine jS_some ?_ | with_reducible refine jS_ls ?_ | with_reducible refine jS_let ?_ | with_reducible refine jS_lt (by omega) (by omega) ?_ | with_reducible refine jS_st (by omega) (by omega) ?_ | with_reducible refine jS_ix (by omega) (by omega) ?_ | with_reducible refine jS_dv (by omega) ?_ | with_reducible refine jS_zb (by omega) ?_ | with_reducible refine jS_bb ?_ | with_reducible refine jS_inr ?_ | with_reducible refine jS_lsB ?_ | with_reducible refine jS_letB ?_ | with_reducible refine jS_ck0 (by omega) ?_ | with_reducible refine jS_ck0B (by omega) ?_ | rw [W32_in (by omega) (by omega)] | rw [W32_aL] | rw [W32_aR] | rw [W32_sL] | rw [W32_mR] | rw [jf_neg (by omega)] | rw [jf_pos (by omega)] | with_reducible refine jS_bb ?_))
  refine jS_e (in_1 (by omega) (by omega)) ?_
  (repeat (first | with_reducible refine jS_pos (by omega) ?_ | with_reducible refine jS_neg (by omega) ?_ | with_reducible refine jS_posB (by omega) ?_ | with_reducible refine jS_negB (by omega) ?_ | with_reducible refine jS_some ?_ | with_reducible refine jS_ls ?_ | with_reducible refine jS_let ?_ | with_reducible refine jS_lt (by omega) (by omega) ?_ | with_reducible refine jS_st (by omega) (by omega) ?_ | with_reducible refine jS_ix (by omega) (by omega) ?_ | with_reducible refine jS_dv (by omega) ?_ | with_reducible refine jS_zb (by omega) ?_ | with_reducible refine jS_bb ?_ | with_reducible refine jS_inr ?_ | with_reducible refine jS_lsB ?_ | with_reducible refine jS_letB ?_ | with_reducible refine jS_ck0 (by omega) ?_ | with_reducible refine jS_ck0B (by omega) ?_ | rw [W32_in (by omega) (by omega)] | rw [W32_aL] | rw [W32_aR] | rw [W32_sL] | rw [W32_mR] | rw [jf_neg (by omega)] | rw [jf_pos (by omega)] | with_reducible refine jS_bb ?_))
  refine jS_e (e_X14_room _ _ _ (by omega)) ?_
  rw [a1, W32_in (by omega) (by omega)]
  by_cases c1 : o 1 x 0 < 2048
  · rw [if_pos c1]
    (repeat (first | with_reducible refine jS_pos (by omega) ?_ | with_reducible refine jS_neg (by omega) ?_ | with_reducible refine jS_posB (by omega) ?_ | with_reducible refine jS_negB (by omega) ?_ | with_reducible refine jS_some ?_ | with_reducible refine jS_ls ?_ | with_reducible refine jS_let ?_ | with_reducible refine jS_lt (by omega) (by omega) ?_ | with_reducible refine jS_st (by omega) (by omega) ?_ | with_reducible refine jS_ix (by omega) (by omega) ?_ | with_reducible refine jS_dv (by omega) ?_ | with_reducible refine jS_zb (by omega) ?_ | with_reducible refine jS_bb ?_ | with_reducible refine jS_inr ?_ | with_reducible refine jS_lsB ?_ | with_reducible refine jS_letB ?_ | with_reducible refine jS_ck0 (by omega) ?_ | with_reducible refine jS_ck0B (by omega) ?_ | rw [W32_in (by omega) (by omega)] | rw [W32_aL] | rw [W32_aR] | rw [W32_sL] | rw [W32_mR] | rw [jf_neg (by omega)] | rw [jf_pos (by omega)] | with_reducible refine jS_bb ?_))
    rw [eu_X13_put_40]; unfold du_X13_put_40
    refine jS_for (fun k u => if k = 0 then u = s else jFx s u O 1858 ∧ cMk u O (oPut o x c) d) (fun k => [O, x, 1, p, k]) 0 1 (by omega) (by rw [if_pos rfl]) (fun k u k0 k1 e => ?_) (fun u e => ?_)
    · have : k = 0 := by omega
      subst this
      rw [if_pos rfl] at e
      subst e
      show jE (b_X13_put_40 u O x 1 p 0) _
      unfold b_X13_put_40
      (repeat (first | with_reducible refine jS_pos (by omega) ?_ | with_reducible refine jS_neg (by omega) ?_ | with_reducible refine jS_posB (by omega) ?_ | with_reducible refine jS_negB (by omega) ?_ | with_reducible refine jS_some ?_ | with_reducible refine jS_ls ?_ | with_reducible refine jS_let ?_ | with_reducible refine jS_lt (by omega) (by omega) ?_ | with_reducible refine jS_st (by omega) (by omega) ?_ | with_reducible refine jS_ix (by omega) (by omega) ?_ | with_reducible refine jS_dv (by omega) ?_ | with_reducible refine jS_zb (by omega) ?_ | with_reducible refine jS_bb ?_ | with_reducible refine jS_inr ?_ | with_reducible refine jS_lsB ?_ | with_reducible refine jS_letB ?_ | with_reducible refine jS_ck0 (by omega) ?_ | with_reducible refine jS_ck0B (by omega) ?_ | rw [W32_in (by omega) (by omega)] | rw [W32_aL] | rw [W32_aR] | rw [W32_sL] | rw [W32_mR] | rw [jf_neg (by omega)] | rw [jf_pos (by omega)] | with_reducible refine jS_bb ?_))
      rw [show W32 (56 - W32 (8 * 0)) = 56 by rw [show W32 (8 * 0) = 0 from W32_in (by omega) (by omega)]; exact W32_in (by omega) (by omega)]
      refine jS_call (c_add (b := O + 1) hT2.2.1 hO hv x0 x1 c1 hp) fun q ⟨g, e1, e2⟩ => ?_
      (repeat (first | with_reducible refine jS_pos (by omega) ?_ | with_reducible refine jS_neg (by omega) ?_ | with_reducible refine jS_posB (by omega) ?_ | with_reducible refine jS_negB (by omega) ?_ | with_reducible refine jS_some ?_ | with_reducible refine jS_ls ?_ | with_reducible refine jS_let ?_ | with_reducible refine jS_lt (by omega) (by omega) ?_ | with_reducible refine jS_st (by omega) (by omega) ?_ | with_reducible refine jS_ix (by omega) (by omega) ?_ | with_reducible refine jS_dv (by omega) ?_ | with_reducible refine jS_zb (by omega) ?_ | with_reducible refine jS_bb ?_ | with_reducible refine jS_inr ?_ | with_reducible refine jS_lsB ?_ | with_reducible refine jS_letB ?_ | with_reducible refine jS_ck0 (by omega) ?_ | with_reducible refine jS_ck0B (by omega) ?_ | rw [W32_in (by omega) (by omega)] | rw [W32_aL] | rw [W32_aR] | rw [W32_sL] | rw [W32_mR] | rw [jf_neg (by omega)] | rw [jf_pos (by omega)] | with_reducible refine jS_bb ?_))
      have G := g.wide (lo' := O) (n' := 1858) (by omega) (by omega)
      refine jS_end ⟨rfl, ?_⟩
      rw [if_neg (by omega)]
      exact ⟨G, hT.ext G.2, e1, e2, hd.keep fun c a k a0 a1 => g.F (by omega) k, hvd⟩
    · rw [if_neg (by omega)] at e
      show jE (b_X13_put_40 u O x 1 p 1) _
      unfold b_X13_put_40
      (repeat (first | with_reducible refine jS_pos (by omega) ?_ | with_reducible refine jS_neg (by omega) ?_ | with_reducible refine jS_posB (by omega) ?_ | with_reducible refine jS_negB (by omega) ?_ | with_reducible refine jS_some ?_ | with_reducible refine jS_ls ?_ | with_reducible refine jS_let ?_ | with_reducible refine jS_lt (by omega) (by omega) ?_ | with_reducible refine jS_st (by omega) (by omega) ?_ | with_reducible refine jS_ix (by omega) (by omega) ?_ | with_reducible refine jS_dv (by omega) ?_ | with_reducible refine jS_zb (by omega) ?_ | with_reducible refine jS_bb ?_ | with_reducible refine jS_inr ?_ | with_reducible refine jS_lsB ?_ | with_reducible refine jS_letB ?_ | with_reducible refine jS_ck0 (by omega) ?_ | with_reducible refine jS_ck0B (by omega) ?_ | rw [W32_in (by omega) (by omega)] | rw [W32_aL] | rw [W32_aR] | rw [W32_sL] | rw [W32_mR] | rw [jf_neg (by omega)] | rw [jf_pos (by omega)] | with_reducible refine jS_bb ?_))
      exact jS_end e
  · rw [if_neg c1]
    (repeat (first | with_reducible refine jS_pos (by omega) ?_ | with_reducible refine jS_neg (by omega) ?_ | with_reducible refine jS_posB (by omega) ?_ | with_reducible refine jS_negB (by omega) ?_ | with_reducible refine jS_some ?_ | with_reducible refine jS_ls ?_ | with_reducible refine jS_let ?_ | with_reducible refine jS_lt (by omega) (by omega) ?_ | with_reducible refine jS_st (by omega) (by omega) ?_ | with_reducible refine jS_ix (by omega) (by omega) ?_ | with_reducible refine jS_dv (by omega) ?_ | with_reducible refine jS_zb (by omega) ?_ | with_reducible refine jS_bb ?_ | with_reducible refine jS_inr ?_ | with_reducible refine jS_lsB ?_ | with_reducible refine jS_letB ?_ | with_reducible refine jS_ck0 (by omega) ?_ | with_reducible refine jS_ck0B (by omega) ?_ | rw [W32_in (by omega) (by omega)] | rw [W32_aL] | rw [W32_aR] | rw [W32_sL] | rw [W32_mR] | rw [jf_neg (by omega)] | rw [jf_pos (by omega)] | with_reducible refine jS_bb ?_))
    exact jS_end ⟨jFx.rfl, hT, hO, hv, hd, hvd⟩
theorem cMk.of {o' : Int → Int → Int → Int} {d' : Int → Int} (hT : jTt s 33 O) (g : jFx s t O 1858) (h1 : cOb t (O + 1) o') (h2 : vOb o') (h3 : cNm t (O + 1227) d') (h4 : vNm d') : jFx s t O 1858 ∧ cMk t O o' d' := ⟨g, hT.ext g.2, h1, h2, h3, h4⟩
theorem c_bss (h : cMk s O o d) {n : Int} : jE (m_X13_bss s O n) fun q => jFx s q.1 O 1858 ∧ cMk q.1 O (if 0 ≤ n ∧ n ≤ 4096 then ou o 1 3 0 n else o) d := by
  obtain ⟨hT, hO, hv, hd, hvd⟩ := h
  rw [em_X13_bss]; unfold dm_X13_bss
  by_cases c : 0 ≤ n ∧ n ≤ 4096
  · rw [if_pos c]
    refine jS_e (in_1 (by omega) (by omega)) ?_
    (repeat (first | with_reducible refine jS_pos (by omega) ?_ | with_reducible refine jS_neg (by omega) ?_ | with_reducible refine jS_posB (by omega) ?_ | with_reducible refine jS_negB (by omega) ?_ | with_reducible refine jS_some ?_ | with_reducible refine jS_ls ?_ | with_reducible refine jS_let ?_ | with_reducible refine jS_lt (by omega) (by omega) ?_ | with_reducible refine jS_st (by omega) (by omega) ?_ | with_reducible refine jS_ix (by omega) (by omega) ?_ | with_reducible refine jS_dv (by omega) ?_ | with_reducible refine jS_zb (by omega) ?_ | with_reducible refine jS_bb ?_ | with_reducible refine jS_inr ?_ | with_reducible refine jS_lsB ?_ | with_reducible refine jS_letB ?_ | with_reducible refine jS_ck0 (by omega) ?_ | with_reducible refine jS_ck0B (by omega) ?_ | rw [W32_in (by omega) (by omega)] | rw [W32_aL] | rw [W32_aR] | rw [W32_sL] | rw [W32_mR] | rw [jf_neg (by omega)] | rw [jf_pos (by omega)] | with_reducible refine jS_bb ?_))
    obtain ⟨hL, hA, hB, hN, hS, hY, hR⟩ := hO
    have nv : ∀ c a, ¬ (c = 1 ∧ a = 3) → ou o 1 3 0 n c a = o c a := fun c a e => ou_row e
    refine jS_end (cMk.of hT (jFx.rfl.jp rfl (by omega) (by omega)) ⟨hL, fun x x0 x1 => ?_, fun x k x0 x1 k0 k1 => ?_, (hN.keep fun k => by (repeat (first | rw [jf_neg (by omega)] | rw [jf_pos (by omega)] | rw [ou_neg (by omega)] | rw [ou_pos (by omega)]))).val fun k => by rw [nv _ _ (by omega)], (hS.keep fun k => by (repeat (first | rw [jf_neg (by omega)] | rw [jf_pos (by omega)] | rw [ou_neg (by omega)] | rw [ou_pos (by omega)]))).val (by rw [nv _ _ (by omega)]) (fun k => by rw [nv _ _ (by omega)]), (hY.keep hv.2.2.1 fun c a k a0 a1 => by (repeat (first | rw [jf_neg (by omega)] | rw [jf_pos (by omega)] | rw [ou_neg (by omega)] | rw [ou_pos (by omega)]))).val (by rw [nv _ _ (by omega)]) (fun k => by rw [nv _ _ (by omega)]), (hR.keep hv.2.2.1 fun c a k a0 a1 => by (repeat (first | rw [jf_neg (by omega)] | rw [jf_pos (by omega)] | rw [ou_neg (by omega)] | rw [ou_pos (by omega)]))).val (by rw [nv _ _ (by omega)]) (fun k => by rw [nv _ _ (by omega)])⟩ ⟨fun x x0 x1 => ?_, fun x k x0 x1 => ?_, ?_, ?_, ?_, ?_⟩ (hd.keep fun c a k a0 a1 => by (repeat (first | rw [jf_neg (by omega)] | rw [jf_pos (by omega)] | rw [ou_neg (by omega)] | rw [ou_pos (by omega)]))) hvd)
    · by_cases e : x = 3
      · subst e; (repeat (first | rw [jf_neg (by omega)] | rw [jf_pos (by omega)] | rw [ou_neg (by omega)] | rw [ou_pos (by omega)])); exact ⟨rfl, (hA 3 x0 x1).2⟩
      · (repeat (first | rw [jf_neg (by omega)] | rw [jf_pos (by omega)] | rw [ou_neg (by omega)] | rw [ou_pos (by omega)])); exact hA x x0 x1
    · rw [nv _ _ (by omega)] at k1
      rw [nv _ _ (by omega)]; (repeat (first | rw [jf_neg (by omega)] | rw [jf_pos (by omega)] | rw [ou_neg (by omega)] | rw [ou_pos (by omega)])); exact hB x k x0 x1 k0 k1
    · by_cases e : x = 3
      · subst e; (repeat (first | rw [jf_neg (by omega)] | rw [jf_pos (by omega)] | rw [ou_neg (by omega)] | rw [ou_pos (by omega)]))
        rw [if_pos rfl]
        exact ⟨c.1, c.2, (hv.1 3 x0 x1).2.2⟩
      · (repeat (first | rw [jf_neg (by omega)] | rw [jf_pos (by omega)] | rw [ou_neg (by omega)] | rw [ou_pos (by omega)])); exact hv.1 x x0 x1
    · rw [nv _ _ (by omega), nv _ _ (by omega)]; exact hv.2.1 x k x0 x1
    · have := hv.2.2.1
      unfold vObN at *
      rw [nv _ _ (by omega), nv _ _ (by omega), nv _ _ (by omega)]; exact this
    · have := hv.2.2.2.1
      unfold vObT at *
      intro k
      rw [nv _ _ (by omega), nv _ _ (by omega)]
      intro k0 k1
      obtain ⟨h1, h2, h3, h4⟩ := this k k0 k1
      exact ⟨h1, h2, h3, fun j j0 j1 => by rw [nv _ _ (by omega)]; exact h4 j j0 j1⟩
    · intro k
      rw [nv _ _ (by omega), nv _ _ (by omega)]; exact hv.2.2.2.2.1 k
    · intro k
      rw [nv _ _ (by omega), nv _ _ (by omega), nv _ _ (by omega)]; exact hv.2.2.2.2.2 k
  · rw [if_neg c]
    refine jS_e (in_0 (by omega)) ?_
    (repeat (first | with_reducible refine jS_pos (by omega) ?_ | with_reducible refine jS_neg (by omega) ?_ | with_reducible refine jS_posB (by omega) ?_ | with_reducible refine jS_negB (by omega) ?_ | with_reducible refine jS_some ?_ | with_reducible refine jS_ls ?_ | with_reducible refine jS_let ?_ | with_reducible refine jS_lt (by omega) (by omega) ?_ | with_reducible refine jS_st (by omega) (by omega) ?_ | with_reducible refine jS_ix (by omega) (by omega) ?_ | with_reducible refine jS_dv (by omega) ?_ | with_reducible refine jS_zb (by omega) ?_ | with_reducible refine jS_bb ?_ | with_reducible refine jS_inr ?_ | with_reducible refine jS_lsB ?_ | with_reducible refine jS_letB ?_ | with_reducible refine jS_ck0 (by omega) ?_ | with_reducible refine jS_ck0B (by omega) ?_ | rw [W32_in (by omega) (by omega)] | rw [W32_aL] | rw [W32_aR] | rw [W32_sL] | rw [W32_mR] | rw [jf_neg (by omega)] | rw [jf_pos (by omega)] | with_reducible refine jS_bb ?_))
    exact jS_end ⟨jFx.rfl, hT, hO, hv, hd, hvd⟩
end jMade
