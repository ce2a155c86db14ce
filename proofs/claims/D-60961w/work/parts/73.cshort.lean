/-! the component's short words taken apart: printed by gen_cshort.py -/
set_option maxRecDepth 100000
section jCshort
/-- what the word object holds beside its kind -/
def pOld (s : jS) (o : Int) : jP4 := (jf s 34 o 1, jf s 34 o 2, jf s 34 o 3, jf s 34 o 4)
theorem pw5_old (s : jS) (o v : Int) : jp s 34 o 0 v = pw5 s o (v, pOld s o) := by
  refine jS_eq (s := s) jSm.rfl jSm.rfl fun c a k => ?_
  rw [jf_pw5, jf_jp]
  by_cases h : c = 34 ∧ a = o
  · obtain ⟨rfl, rfl⟩ := h
    by_cases k4 : k = 4
    · subst k4; simp [pOld]
    by_cases k3 : k = 3
    · subst k3; simp [pOld]
    by_cases k2 : k = 2
    · subst k2; simp [pOld]
    by_cases k1 : k = 1
    · subst k1; simp [pOld]
    simp [k4, k3, k2, k1]
  · repeat rw [if_neg (by omega)]

theorem or_six (w : Int) : (I_or (I_shl (pSl 12 1 w) 5) (pSl 2 5 w)) = pSl 2 5 w + pSl 12 1 w * 32 := by
  have f2_5 := pSl_lo 2 5 w
  have f12_1 := pSl_lo 12 1 w
  simp only [show (2 : Int) ^ 1 = 2 from rfl, show (2 : Int) ^ 2 = 4 from rfl, show (2 : Int) ^ 3 = 8 from rfl, show (2 : Int) ^ 4 = 16 from rfl, show (2 : Int) ^ 5 = 32 from rfl, show (2 : Int) ^ 6 = 64 from rfl, show (2 : Int) ^ 7 = 128 from rfl] at f2_5 f12_1
  rw [show I_shl (pSl 12 1 w) 5 = pSl 12 1 w * 32 from shl_n 5 (by decide) (by decide) (by omega) (by omega)]
  rw [or_sl (x := pSl 12 1 w * 32) (y := pSl 2 5 w) (p := 32) 5 (by decide) (by decide) (by omega) (by omega) (by omega) (by omega) (by omega)]
  all_goals omega

theorem or_jmp (w : Int) : (I_or (I_or (I_or (I_or (I_or (I_or (I_or (I_shl (pSl 12 1 w) 11) (I_shl (pSl 8 1 w) 10)) (I_shl (pSl 9 2 w) 8)) (I_shl (pSl 6 1 w) 7)) (I_shl (pSl 7 1 w) 6)) (I_shl (pSl 2 1 w) 5)) (I_shl (pSl 11 1 w) 4)) (I_shl (pSl 3 3 w) 1)) = pSl 2 1 w * 32 + pSl 3 3 w * 2 + pSl 6 1 w * 128 + pSl 7 1 w * 64 + pSl 8 1 w * 1024 + pSl 9 2 w * 256 + pSl 11 1 w * 16 + pSl 12 1 w * 2048 := by
  have f2_1 := pSl_lo 2 1 w
  have f3_3 := pSl_lo 3 3 w
  have f6_1 := pSl_lo 6 1 w
  have f7_1 := pSl_lo 7 1 w
  have f8_1 := pSl_lo 8 1 w
  have f9_2 := pSl_lo 9 2 w
  have f11_1 := pSl_lo 11 1 w
  have f12_1 := pSl_lo 12 1 w
  simp only [show (2 : Int) ^ 1 = 2 from rfl, show (2 : Int) ^ 2 = 4 from rfl, show (2 : Int) ^ 3 = 8 from rfl, show (2 : Int) ^ 4 = 16 from rfl, show (2 : Int) ^ 5 = 32 from rfl, show (2 : Int) ^ 6 = 64 from rfl, show (2 : Int) ^ 7 = 128 from rfl] at f2_1 f3_3 f6_1 f7_1 f8_1 f9_2 f11_1 f12_1
  rw [show I_shl (pSl 12 1 w) 11 = pSl 12 1 w * 2048 from shl_n 11 (by decide) (by decide) (by omega) (by omega), show I_shl (pSl 8 1 w) 10 = pSl 8 1 w * 1024 from shl_n 10 (by decide) (by decide) (by omega) (by omega), show I_shl (pSl 9 2 w) 8 = pSl 9 2 w * 256 from shl_n 8 (by decide) (by decide) (by omega) (by omega), show I_shl (pSl 6 1 w) 7 = pSl 6 1 w * 128 from shl_n 7 (by decide) (by decide) (by omega) (by omega), show I_shl (pSl 7 1 w) 6 = pSl 7 1 w * 64 from shl_n 6 (by decide) (by decide) (by omega) (by omega), show I_shl (pSl 2 1 w) 5 = pSl 2 1 w * 32 from shl_n 5 (by decide) (by decide) (by omega) (by omega), show I_shl (pSl 11 1 w) 4 = pSl 11 1 w * 16 from shl_n 4 (by decide) (by decide) (by omega) (by omega), show I_shl (pSl 3 3 w) 1 = pSl 3 3 w * 2 from shl_n 1 (by decide) (by decide) (by omega) (by omega)]
  rw [or_sl (x := pSl 12 1 w * 2048) (y := pSl 8 1 w * 1024) (p := 2048) 11 (by decide) (by decide) (by omega) (by omega) (by omega) (by omega) (by omega), or_sl (x := pSl 12 1 w * 2048 + pSl 8 1 w * 1024) (y := pSl 9 2 w * 256) (p := 1024) 10 (by decide) (by decide) (by omega) (by omega) (by omega) (by omega) (by omega), or_sl (x := pSl 12 1 w * 2048 + pSl 8 1 w * 1024 + pSl 9 2 w * 256) (y := pSl 6 1 w * 128) (p := 256) 8 (by decide) (by decide) (by omega) (by omega) (by omega) (by omega) (by omega), or_sl (x := pSl 12 1 w * 2048 + pSl 8 1 w * 1024 + pSl 9 2 w * 256 + pSl 6 1 w * 128) (y := pSl 7 1 w * 64) (p := 128) 7 (by decide) (by decide) (by omega) (by omega) (by omega) (by omega) (by omega), or_sl (x := pSl 12 1 w * 2048 + pSl 8 1 w * 1024 + pSl 9 2 w * 256 + pSl 6 1 w * 128 + pSl 7 1 w * 64) (y := pSl 2 1 w * 32) (p := 64) 6 (by decide) (by decide) (by omega) (by omega) (by omega) (by omega) (by omega), or_sl (x := pSl 12 1 w * 2048 + pSl 8 1 w * 1024 + pSl 9 2 w * 256 + pSl 6 1 w * 128 + pSl 7 1 w * 64 + pSl 2 1 w * 32) (y := pSl 11 1 w * 16) (p := 32) 5 (by decide) (by decide) (by omega) (by omega) (by omega) (by omega) (by omega), or_sl (x := pSl 12 1 w * 2048 + pSl 8 1 w * 1024 + pSl 9 2 w * 256 + pSl 6 1 w * 128 + pSl 7 1 w * 64 + pSl 2 1 w * 32 + pSl 11 1 w * 16) (y := pSl 3 3 w * 2) (p := 16) 4 (by decide) (by decide) (by omega) (by omega) (by omega) (by omega) (by omega)]
  all_goals omega

theorem or_brn (w : Int) : (I_or (I_or (I_or (I_or (I_shl (pSl 12 1 w) 8) (I_shl (pSl 5 2 w) 6)) (I_shl (pSl 2 1 w) 5)) (I_shl (pSl 10 2 w) 3)) (I_shl (pSl 3 2 w) 1)) = pSl 2 1 w * 32 + pSl 3 2 w * 2 + pSl 5 2 w * 64 + pSl 10 2 w * 8 + pSl 12 1 w * 256 := by
  have f2_1 := pSl_lo 2 1 w
  have f3_2 := pSl_lo 3 2 w
  have f5_2 := pSl_lo 5 2 w
  have f10_2 := pSl_lo 10 2 w
  have f12_1 := pSl_lo 12 1 w
  simp only [show (2 : Int) ^ 1 = 2 from rfl, show (2 : Int) ^ 2 = 4 from rfl, show (2 : Int) ^ 3 = 8 from rfl, show (2 : Int) ^ 4 = 16 from rfl, show (2 : Int) ^ 5 = 32 from rfl, show (2 : Int) ^ 6 = 64 from rfl, show (2 : Int) ^ 7 = 128 from rfl] at f2_1 f3_2 f5_2 f10_2 f12_1
  rw [show I_shl (pSl 12 1 w) 8 = pSl 12 1 w * 256 from shl_n 8 (by decide) (by decide) (by omega) (by omega), show I_shl (pSl 5 2 w) 6 = pSl 5 2 w * 64 from shl_n 6 (by decide) (by decide) (by omega) (by omega), show I_shl (pSl 2 1 w) 5 = pSl 2 1 w * 32 from shl_n 5 (by decide) (by decide) (by omega) (by omega), show I_shl (pSl 10 2 w) 3 = pSl 10 2 w * 8 from shl_n 3 (by decide) (by decide) (by omega) (by omega), show I_shl (pSl 3 2 w) 1 = pSl 3 2 w * 2 from shl_n 1 (by decide) (by decide) (by omega) (by omega)]
  rw [or_sl (x := pSl 12 1 w * 256) (y := pSl 5 2 w * 64) (p := 256) 8 (by decide) (by decide) (by omega) (by omega) (by omega) (by omega) (by omega), or_sl (x := pSl 12 1 w * 256 + pSl 5 2 w * 64) (y := pSl 2 1 w * 32) (p := 64) 6 (by decide) (by decide) (by omega) (by omega) (by omega) (by omega) (by omega), or_sl (x := pSl 12 1 w * 256 + pSl 5 2 w * 64 + pSl 2 1 w * 32) (y := pSl 10 2 w * 8) (p := 32) 5 (by decide) (by decide) (by omega) (by omega) (by omega) (by omega) (by omega), or_sl (x := pSl 12 1 w * 256 + pSl 5 2 w * 64 + pSl 2 1 w * 32 + pSl 10 2 w * 8) (y := pSl 3 2 w * 2) (p := 8) 3 (by decide) (by decide) (by omega) (by omega) (by omega) (by omega) (by omega)]
  all_goals omega

theorem or_word (w : Int) : (I_or (I_or (I_shl (pSl 5 1 w) 6) (I_shl (pSl 10 3 w) 3)) (I_shl (pSl 6 1 w) 2)) = pSl 5 1 w * 64 + pSl 6 1 w * 4 + pSl 10 3 w * 8 := by
  have f5_1 := pSl_lo 5 1 w
  have f6_1 := pSl_lo 6 1 w
  have f10_3 := pSl_lo 10 3 w
  simp only [show (2 : Int) ^ 1 = 2 from rfl, show (2 : Int) ^ 2 = 4 from rfl, show (2 : Int) ^ 3 = 8 from rfl, show (2 : Int) ^ 4 = 16 from rfl, show (2 : Int) ^ 5 = 32 from rfl, show (2 : Int) ^ 6 = 64 from rfl, show (2 : Int) ^ 7 = 128 from rfl] at f5_1 f6_1 f10_3
  rw [show I_shl (pSl 5 1 w) 6 = pSl 5 1 w * 64 from shl_n 6 (by decide) (by decide) (by omega) (by omega), show I_shl (pSl 10 3 w) 3 = pSl 10 3 w * 8 from shl_n 3 (by decide) (by decide) (by omega) (by omega), show I_shl (pSl 6 1 w) 2 = pSl 6 1 w * 4 from shl_n 2 (by decide) (by decide) (by omega) (by omega)]
  rw [or_sl (x := pSl 5 1 w * 64) (y := pSl 10 3 w * 8) (p := 64) 6 (by decide) (by decide) (by omega) (by omega) (by omega) (by omega) (by omega), or_sl (x := pSl 5 1 w * 64 + pSl 10 3 w * 8) (y := pSl 6 1 w * 4) (p := 8) 3 (by decide) (by decide) (by omega) (by omega) (by omega) (by omega) (by omega)]
  all_goals omega

theorem or_sm (w : Int) : (I_or (I_or (I_or (I_shl (pSl 7 4 w) 6) (I_shl (pSl 11 2 w) 4)) (I_shl (pSl 5 1 w) 3)) (I_shl (pSl 6 1 w) 2)) = pSl 5 1 w * 8 + pSl 6 1 w * 4 + pSl 7 4 w * 64 + pSl 11 2 w * 16 := by
  have f5_1 := pSl_lo 5 1 w
  have f6_1 := pSl_lo 6 1 w
  have f7_4 := pSl_lo 7 4 w
  have f11_2 := pSl_lo 11 2 w
  simp only [show (2 : Int) ^ 1 = 2 from rfl, show (2 : Int) ^ 2 = 4 from rfl, show (2 : Int) ^ 3 = 8 from rfl, show (2 : Int) ^ 4 = 16 from rfl, show (2 : Int) ^ 5 = 32 from rfl, show (2 : Int) ^ 6 = 64 from rfl, show (2 : Int) ^ 7 = 128 from rfl] at f5_1 f6_1 f7_4 f11_2
  rw [show I_shl (pSl 7 4 w) 6 = pSl 7 4 w * 64 from shl_n 6 (by decide) (by decide) (by omega) (by omega), show I_shl (pSl 11 2 w) 4 = pSl 11 2 w * 16 from shl_n 4 (by decide) (by decide) (by omega) (by omega), show I_shl (pSl 5 1 w) 3 = pSl 5 1 w * 8 from shl_n 3 (by decide) (by decide) (by omega) (by omega), show I_shl (pSl 6 1 w) 2 = pSl 6 1 w * 4 from shl_n 2 (by decide) (by decide) (by omega) (by omega)]
  rw [or_sl (x := pSl 7 4 w * 64) (y := pSl 11 2 w * 16) (p := 64) 6 (by decide) (by decide) (by omega) (by omega) (by omega) (by omega) (by omega), or_sl (x := pSl 7 4 w * 64 + pSl 11 2 w * 16) (y := pSl 5 1 w * 8) (p := 16) 4 (by decide) (by decide) (by omega) (by omega) (by omega) (by omega) (by omega), or_sl (x := pSl 7 4 w * 64 + pSl 11 2 w * 16 + pSl 5 1 w * 8) (y := pSl 6 1 w * 4) (p := 8) 3 (by decide) (by decide) (by omega) (by omega) (by omega) (by omega) (by omega)]
  all_goals omega

theorem or_far (w : Int) : (I_or (I_or (I_or (I_or (I_shl (pSl 12 1 w) 9) (I_shl (pSl 3 2 w) 7)) (I_shl (pSl 5 1 w) 6)) (I_shl (pSl 2 1 w) 5)) (I_shl (pSl 6 1 w) 4)) = pSl 2 1 w * 32 + pSl 3 2 w * 128 + pSl 5 1 w * 64 + pSl 6 1 w * 16 + pSl 12 1 w * 512 := by
  have f2_1 := pSl_lo 2 1 w
  have f3_2 := pSl_lo 3 2 w
  have f5_1 := pSl_lo 5 1 w
  have f6_1 := pSl_lo 6 1 w
  have f12_1 := pSl_lo 12 1 w
  simp only [show (2 : Int) ^ 1 = 2 from rfl, show (2 : Int) ^ 2 = 4 from rfl, show (2 : Int) ^ 3 = 8 from rfl, show (2 : Int) ^ 4 = 16 from rfl, show (2 : Int) ^ 5 = 32 from rfl, show (2 : Int) ^ 6 = 64 from rfl, show (2 : Int) ^ 7 = 128 from rfl] at f2_1 f3_2 f5_1 f6_1 f12_1
  rw [show I_shl (pSl 12 1 w) 9 = pSl 12 1 w * 512 from shl_n 9 (by decide) (by decide) (by omega) (by omega), show I_shl (pSl 3 2 w) 7 = pSl 3 2 w * 128 from shl_n 7 (by decide) (by decide) (by omega) (by omega), show I_shl (pSl 5 1 w) 6 = pSl 5 1 w * 64 from shl_n 6 (by decide) (by decide) (by omega) (by omega), show I_shl (pSl 2 1 w) 5 = pSl 2 1 w * 32 from shl_n 5 (by decide) (by decide) (by omega) (by omega), show I_shl (pSl 6 1 w) 4 = pSl 6 1 w * 16 from shl_n 4 (by decide) (by decide) (by omega) (by omega)]
  rw [or_sl (x := pSl 12 1 w * 512) (y := pSl 3 2 w * 128) (p := 512) 9 (by decide) (by decide) (by omega) (by omega) (by omega) (by omega) (by omega), or_sl (x := pSl 12 1 w * 512 + pSl 3 2 w * 128) (y := pSl 5 1 w * 64) (p := 128) 7 (by decide) (by decide) (by omega) (by omega) (by omega) (by omega) (by omega), or_sl (x := pSl 12 1 w * 512 + pSl 3 2 w * 128 + pSl 5 1 w * 64) (y := pSl 2 1 w * 32) (p := 64) 6 (by decide) (by decide) (by omega) (by omega) (by omega) (by omega) (by omega), or_sl (x := pSl 12 1 w * 512 + pSl 3 2 w * 128 + pSl 5 1 w * 64 + pSl 2 1 w * 32) (y := pSl 6 1 w * 16) (p := 32) 5 (by decide) (by decide) (by omega) (by omega) (by omega) (by omega) (by omega)]
  all_goals omega

theorem or_t2 (w : Int) : (I_or (I_or (I_shl (pSl 2 2 w) 6) (I_shl (pSl 12 1 w) 5)) (I_shl (pSl 4 3 w) 2)) = pSl 2 2 w * 64 + pSl 4 3 w * 4 + pSl 12 1 w * 32 := by
  have f2_2 := pSl_lo 2 2 w
  have f4_3 := pSl_lo 4 3 w
  have f12_1 := pSl_lo 12 1 w
  simp only [show (2 : Int) ^ 1 = 2 from rfl, show (2 : Int) ^ 2 = 4 from rfl, show (2 : Int) ^ 3 = 8 from rfl, show (2 : Int) ^ 4 = 16 from rfl, show (2 : Int) ^ 5 = 32 from rfl, show (2 : Int) ^ 6 = 64 from rfl, show (2 : Int) ^ 7 = 128 from rfl] at f2_2 f4_3 f12_1
  rw [show I_shl (pSl 2 2 w) 6 = pSl 2 2 w * 64 from shl_n 6 (by decide) (by decide) (by omega) (by omega), show I_shl (pSl 12 1 w) 5 = pSl 12 1 w * 32 from shl_n 5 (by decide) (by decide) (by omega) (by omega), show I_shl (pSl 4 3 w) 2 = pSl 4 3 w * 4 from shl_n 2 (by decide) (by decide) (by omega) (by omega)]
  rw [or_sl (x := pSl 2 2 w * 64) (y := pSl 12 1 w * 32) (p := 64) 6 (by decide) (by decide) (by omega) (by omega) (by omega) (by omega) (by omega), or_sl (x := pSl 2 2 w * 64 + pSl 12 1 w * 32) (y := pSl 4 3 w * 4) (p := 32) 5 (by decide) (by decide) (by omega) (by omega) (by omega) (by omega) (by omega)]
  all_goals omega

theorem or_t6 (w : Int) : (I_or (I_shl (pSl 7 2 w) 6) (I_shl (pSl 9 4 w) 2)) = pSl 7 2 w * 64 + pSl 9 4 w * 4 := by
  have f7_2 := pSl_lo 7 2 w
  have f9_4 := pSl_lo 9 4 w
  simp only [show (2 : Int) ^ 1 = 2 from rfl, show (2 : Int) ^ 2 = 4 from rfl, show (2 : Int) ^ 3 = 8 from rfl, show (2 : Int) ^ 4 = 16 from rfl, show (2 : Int) ^ 5 = 32 from rfl, show (2 : Int) ^ 6 = 64 from rfl, show (2 : Int) ^ 7 = 128 from rfl] at f7_2 f9_4
  rw [show I_shl (pSl 7 2 w) 6 = pSl 7 2 w * 64 from shl_n 6 (by decide) (by decide) (by omega) (by omega), show I_shl (pSl 9 4 w) 2 = pSl 9 4 w * 4 from shl_n 2 (by decide) (by decide) (by omega) (by omega)]
  rw [or_sl (x := pSl 7 2 w * 64) (y := pSl 9 4 w * 4) (p := 64) 6 (by decide) (by decide) (by omega) (by omega) (by omega) (by omega) (by omega)]
  all_goals omega

def cSix (w : Int) : Int := sxt 6 (pSl 2 5 w + pSl 12 1 w * 32)
def cJmp (w : Int) : Int := sxt 12 (pSl 2 1 w * 32 + pSl 3 3 w * 2 + pSl 6 1 w * 128 + pSl 7 1 w * 64 + pSl 8 1 w * 1024 + pSl 9 2 w * 256 + pSl 11 1 w * 16 + pSl 12 1 w * 2048)
def cBrn (w : Int) : Int := sxt 9 (pSl 2 1 w * 32 + pSl 3 2 w * 2 + pSl 5 2 w * 64 + pSl 10 2 w * 8 + pSl 12 1 w * 256)
def cFar (w : Int) : Int := sxt 10 (pSl 2 1 w * 32 + pSl 3 2 w * 128 + pSl 5 1 w * 64 + pSl 6 1 w * 16 + pSl 12 1 w * 512)
def cWord (w : Int) : Int := pSl 5 1 w * 64 + pSl 6 1 w * 4 + pSl 10 3 w * 8
def cSm (w : Int) : Int := pSl 5 1 w * 8 + pSl 6 1 w * 4 + pSl 7 4 w * 64 + pSl 11 2 w * 16
def cT2 (w : Int) : Int := pSl 2 2 w * 64 + pSl 4 3 w * 4 + pSl 12 1 w * 32
def cT6 (w : Int) : Int := pSl 7 2 w * 64 + pSl 9 4 w * 4

theorem s_six (s : jS) (w : Int) : m_X29_six s w = some (cSix w) := by
  rw [em_X29_six]; unfold dm_X29_six
  have f2_5 := pSl_lo 2 5 w
  have f12_1 := pSl_lo 12 1 w
  simp only [show (2 : Int) ^ 1 = 2 from rfl, show (2 : Int) ^ 2 = 4 from rfl, show (2 : Int) ^ 3 = 8 from rfl, show (2 : Int) ^ 4 = 16 from rfl, show (2 : Int) ^ 5 = 32 from rfl, show (2 : Int) ^ 6 = 64 from rfl, show (2 : Int) ^ 7 = 128 from rfl] at f2_5 f12_1
  simp only [bt_12_12, bt_6_2, Option.bind_some, or_six]
  rw [show m_X29_signed s (pSl 2 5 w + pSl 12 1 w * 32) 6 = some (sxt 6 (pSl 2 5 w + pSl 12 1 w * 32)) from s_signed s _ 6 (by decide) (by decide) (by omega) (by show _ < (2 : Int) ^ 6; rw [show (2 : Int) ^ 6 = 64 from rfl]; omega)]
  rfl

theorem s_jump (s : jS) (w : Int) : m_X29_jump s w = some (cJmp w) := by
  rw [em_X29_jump]; unfold dm_X29_jump
  have f2_1 := pSl_lo 2 1 w
  have f3_3 := pSl_lo 3 3 w
  have f6_1 := pSl_lo 6 1 w
  have f7_1 := pSl_lo 7 1 w
  have f8_1 := pSl_lo 8 1 w
  have f9_2 := pSl_lo 9 2 w
  have f11_1 := pSl_lo 11 1 w
  have f12_1 := pSl_lo 12 1 w
  simp only [show (2 : Int) ^ 1 = 2 from rfl, show (2 : Int) ^ 2 = 4 from rfl, show (2 : Int) ^ 3 = 8 from rfl, show (2 : Int) ^ 4 = 16 from rfl, show (2 : Int) ^ 5 = 32 from rfl, show (2 : Int) ^ 6 = 64 from rfl, show (2 : Int) ^ 7 = 128 from rfl] at f2_1 f3_3 f6_1 f7_1 f8_1 f9_2 f11_1 f12_1
  simp only [bt_12_12, bt_8_8, bt_10_9, bt_6_6, bt_7_7, bt_2_2, bt_11_11, bt_5_3, Option.bind_some, or_jmp]
  rw [show m_X29_signed s (pSl 2 1 w * 32 + pSl 3 3 w * 2 + pSl 6 1 w * 128 + pSl 7 1 w * 64 + pSl 8 1 w * 1024 + pSl 9 2 w * 256 + pSl 11 1 w * 16 + pSl 12 1 w * 2048) 12 = some (sxt 12 (pSl 2 1 w * 32 + pSl 3 3 w * 2 + pSl 6 1 w * 128 + pSl 7 1 w * 64 + pSl 8 1 w * 1024 + pSl 9 2 w * 256 + pSl 11 1 w * 16 + pSl 12 1 w * 2048)) from s_signed s _ 12 (by decide) (by decide) (by omega) (by show _ < (2 : Int) ^ 12; rw [show (2 : Int) ^ 12 = 4096 from rfl]; omega)]
  rfl

theorem s_branch (s : jS) (w : Int) : m_X29_branch s w = some (cBrn w) := by
  rw [em_X29_branch]; unfold dm_X29_branch
  have f2_1 := pSl_lo 2 1 w
  have f3_2 := pSl_lo 3 2 w
  have f5_2 := pSl_lo 5 2 w
  have f10_2 := pSl_lo 10 2 w
  have f12_1 := pSl_lo 12 1 w
  simp only [show (2 : Int) ^ 1 = 2 from rfl, show (2 : Int) ^ 2 = 4 from rfl, show (2 : Int) ^ 3 = 8 from rfl, show (2 : Int) ^ 4 = 16 from rfl, show (2 : Int) ^ 5 = 32 from rfl, show (2 : Int) ^ 6 = 64 from rfl, show (2 : Int) ^ 7 = 128 from rfl] at f2_1 f3_2 f5_2 f10_2 f12_1
  simp only [bt_12_12, bt_6_5, bt_2_2, bt_11_10, bt_4_3, Option.bind_some, or_brn]
  rw [show m_X29_signed s (pSl 2 1 w * 32 + pSl 3 2 w * 2 + pSl 5 2 w * 64 + pSl 10 2 w * 8 + pSl 12 1 w * 256) 9 = some (sxt 9 (pSl 2 1 w * 32 + pSl 3 2 w * 2 + pSl 5 2 w * 64 + pSl 10 2 w * 8 + pSl 12 1 w * 256)) from s_signed s _ 9 (by decide) (by decide) (by omega) (by show _ < (2 : Int) ^ 9; rw [show (2 : Int) ^ 9 = 512 from rfl]; omega)]
  rfl

theorem ushr_13 {w : Int} (h0 : 0 ≤ w) (h1 : w < 65536) : I_ushr w 13 = pSl 13 3 w := by
  have e : I_ushr w 13 = pSl 13 19 w := ushr_sl 13 (by decide) (by decide)
  rw [e]
  simp only [pSl, show (2 : Int) ^ 13 = 8192 from rfl, show (2 : Int) ^ 19 = 524288 from rfl, show (2 : Int) ^ 3 = 8 from rfl]
  omega
def cFirst (r : jP4) (w : Int) : jP5 :=
  if pSl 13 3 w = 0 then (if cSm w = 0 then -1 else 18, 8 + pSl 2 3 w, 2, 0, cSm w)
  else if pSl 13 3 w = 2 then (12, 8 + pSl 2 3 w, 8 + pSl 7 3 w, 0, cWord w)
  else if pSl 13 3 w = 6 then (17, 0, 8 + pSl 7 3 w, 8 + pSl 2 3 w, cWord w)
  else (-1, r)
def cPairs (w d i : Int) : jP5 :=
  if pSl 10 2 w < 2 then (if pSl 12 1 w = 0 ∧ ¬ i % 32 = 0 then 25 + pSl 10 2 w else -1, d, d, 0, i % 32)
  else if pSl 10 2 w = 2 then (23, d, d, 0, i)
  else (if pSl 12 1 w = 0 then (if pSl 5 2 w = 0 then 28 else if pSl 5 2 w = 1 then 32 else 33 + pSl 5 2 w) else -1, d, d, 8 + pSl 2 3 w, 0)
def cSecond (w : Int) : jP5 :=
  if pSl 13 3 w = 0 then (if w = 1 ∨ ¬ pSl 7 5 w = 0 ∧ ¬ cSix w = 0 then 18 else -1, pSl 7 5 w, pSl 7 5 w, 0, cSix w)
  else if pSl 13 3 w = 1 then (2, 1, 0, 0, cJmp w)
  else if pSl 13 3 w = 2 then (if pSl 7 5 w = 0 then -1 else 18, pSl 7 5 w, 0, 0, cSix w)
  else if pSl 13 3 w = 3 then (if pSl 7 5 w = 2 then (if cFar w = 0 then -1 else 18, 2, 2, 0, cFar w) else (if pSl 7 5 w = 0 ∨ cSix w = 0 then -1 else 0, pSl 7 5 w, 0, 0, cSix w % 1048576))
  else if pSl 13 3 w = 4 then cPairs w (8 + pSl 7 3 w) (cSix w)
  else if pSl 13 3 w = 5 then (2, 0, 0, 0, cJmp w)
  else if pSl 13 3 w = 6 then (4, 0, 8 + pSl 7 3 w, 0, cBrn w)
  else (5, 0, 8 + pSl 7 3 w, 0, cBrn w)
def cThird (r : jP4) (w : Int) : jP5 :=
  if pSl 13 3 w = 0 then (if ¬ pSl 7 5 w = 0 ∧ ¬ pSl 2 5 w = 0 ∧ ¬ pSl 12 1 w = 1 then 24 else -1, pSl 7 5 w, pSl 7 5 w, 0, pSl 2 5 w)
  else if pSl 13 3 w = 2 then (if pSl 7 5 w = 0 then -1 else 12, pSl 7 5 w, 2, 0, cT2 w)
  else if pSl 13 3 w = 4 then
    (if pSl 2 5 w = 0 then (if pSl 7 5 w = 0 then (if pSl 12 1 w = 1 then 47 else -1, 0, 0, 0, 0) else (3, if pSl 12 1 w = 1 then 1 else 0, pSl 7 5 w, 0, 0))
     else (if pSl 7 5 w = 0 then -1 else 27, pSl 7 5 w, if pSl 12 1 w = 1 then pSl 7 5 w else 0, pSl 2 5 w, 0))
  else if pSl 13 3 w = 6 then (17, 0, 2, pSl 2 5 w, cT6 w)
  else (-1, r)
def cShort (r : jP4) (w : Int) : jP5 := if pSl 0 2 w = 0 then cFirst r w else if pSl 0 2 w = 1 then cSecond w else cThird r w
theorem s_takeFirst (s : jS) (o w : Int) (ho : jTz s 50 o) (h0 : 0 ≤ w) (h1 : w < 65536) : m_X29_takeFirst s o w = some (pw5 s o (cFirst (pOld s o) w), 0) := by
  have f2_3 := pSl_lo 2 3 w
  have f7_3 := pSl_lo 7 3 w
  simp only [show (2 : Int) ^ 3 = 8 from rfl] at f2_3 f7_3
  have hk : jK s o = 34 := ho.2.2.1
  rw [em_X29_takeFirst]; unfold dm_X29_takeFirst
  simp only [jlet, bt_4_2, bt_9_7, bt_5_5, bt_12_10, bt_6_6, bt_10_7, bt_12_11, Option.bind_some, or_word, or_sm, ushr_13 h0 h1, em_X29_takeFirst, dm_X29_takeFirst, eu_X29_takeFirst_159, du_X29_takeFirst_159, s_is _ _ _ _ _ _ _ ho, s_only _ _ _ _ ho, jwr_in ho.1 hk, pw5_old, W32_in (z := 8 + pSl 2 3 w) (by omega) (by omega), W32_in (z := 8 + pSl 7 3 w) (by omega) (by omega)]
  unfold cFirst cSm cWord
  by_cases e : pSl 13 3 w = 0
  · rw [if_pos e, if_pos e]
    all_goals (repeat' split)
    all_goals first | rfl | (exfalso; omega) | (exfalso; simp_all; done)
  rw [if_neg e, if_neg e]
  clear e
  by_cases e : pSl 13 3 w = 2
  · rw [if_pos e, if_pos e]
  rw [if_neg e, if_neg e]
  clear e
  by_cases e : pSl 13 3 w = 6
  · rw [if_pos e, if_pos e]
  rw [if_neg e, if_neg e]

theorem s_takePairs (s : jS) (o w d i : Int) (ho : jTz s 50 o) : m_X29_takePairs s o w d i = some (pw5 s o (cPairs w d i), 0) := by
  have f2_3 := pSl_lo 2 3 w
  have f10 := pSl_lo 10 2 w
  have f5 := pSl_lo 5 2 w
  have f12 := pSl_lo 12 1 w
  simp only [show (2 : Int) ^ 3 = 8 from rfl, show (2 : Int) ^ 2 = 4 from rfl, show (2 : Int) ^ 1 = 2 from rfl] at f2_3 f10 f5 f12
  rw [em_X29_takePairs]; unfold dm_X29_takePairs
  simp only [jlet, bt_11_10, bt_6_5, bt_12_12, bt_4_2, Option.bind_some, I_and_31, em_X29_takePairs, dm_X29_takePairs, eu_X29_takePairs_152, du_X29_takePairs_152, eu_X29_takePairs_119, du_X29_takePairs_119, eu_X29_takePairs_66, du_X29_takePairs_66, eu_X29_takePairs_65, du_X29_takePairs_65, s_is _ _ _ _ _ _ _ ho, s_only _ _ _ _ ho, W32_in (z := 8 + pSl 2 3 w) (by omega) (by omega), W32_in (z := 25 + pSl 10 2 w) (by omega) (by omega), W32_in (z := 33 + pSl 5 2 w) (by omega) (by omega)]
  unfold cPairs
  by_cases e : pSl 10 2 w < 2
  · rw [if_pos e, if_pos e]
    all_goals (repeat' split)
    all_goals first | rfl | (exfalso; omega) | (exfalso; simp_all; done)
  rw [if_neg e, if_neg e]
  clear e
  by_cases e : pSl 10 2 w = 2
  · rw [if_pos e, if_pos e]
    all_goals (repeat' split)
    all_goals first | rfl | (exfalso; omega) | (exfalso; simp_all; done)
  rw [if_neg e, if_neg e]
  clear e
  all_goals (repeat' split)
  all_goals first | rfl | (exfalso; omega) | (exfalso; simp_all; done)

theorem s_takeSecond (s : jS) (o w : Int) (ho : jTz s 50 o) (h0 : 0 ≤ w) (h1 : w < 65536) : m_X29_takeSecond s o w = some (pw5 s o (cSecond w), 0) := by
  have f7_3 := pSl_lo 7 3 w
  simp only [show (2 : Int) ^ 3 = 8 from rfl] at f7_3
  have hfar : m_X29_signed s (pSl 2 1 w * 32 + pSl 3 2 w * 128 + pSl 5 1 w * 64 + pSl 6 1 w * 16 + pSl 12 1 w * 512) 10 = some (cFar w) := by
    have a := pSl_lo 2 1 w
    have b := pSl_lo 3 2 w
    have c := pSl_lo 5 1 w
    have d := pSl_lo 6 1 w
    have e := pSl_lo 12 1 w
    simp only [show (2 : Int) ^ 1 = 2 from rfl, show (2 : Int) ^ 2 = 4 from rfl] at a b c d e
    exact s_signed s _ 10 (by decide) (by decide) (by omega) (by rw [show (2 : Int) ^ 10 = 1024 from rfl]; omega)
  rw [em_X29_takeSecond]; unfold dm_X29_takeSecond
  simp only [jlet, bt_11_7, bt_9_7, bt_12_12, bt_4_3, bt_5_5, bt_2_2, bt_6_6, s_six, s_jump, s_branch, or_far, hfar, Option.bind_some, ushr_13 h0 h1, I_and_1048575, s_takePairs _ _ _ _ _ ho, em_X29_takeSecond, dm_X29_takeSecond, eu_X29_takeSecond_268, du_X29_takeSecond_268, eu_X29_takeSecond_267, du_X29_takeSecond_267, eu_X29_takeSecond_263, du_X29_takeSecond_263, eu_X29_takeSecond_240, du_X29_takeSecond_240, eu_X29_takeSecond_144, du_X29_takeSecond_144, eu_X29_takeSecond_104, du_X29_takeSecond_104, eu_X29_takeSecond_103, du_X29_takeSecond_103, eu_X29_takeSecond_99, du_X29_takeSecond_99, s_is _ _ _ _ _ _ _ ho, s_only _ _ _ _ ho, W32_in (z := 8 + pSl 7 3 w) (by omega) (by omega)]
  unfold cSecond
  by_cases e : pSl 13 3 w = 0
  · rw [if_pos e, if_pos e]
    all_goals (repeat' split)
    all_goals first | rfl | (exfalso; omega) | (exfalso; simp_all; done)
  rw [if_neg e, if_neg e]
  clear e
  by_cases e : pSl 13 3 w = 1
  · rw [if_pos e, if_pos e]
    all_goals (repeat' split)
    all_goals first | rfl | (exfalso; omega) | (exfalso; simp_all; done)
  rw [if_neg e, if_neg e]
  clear e
  by_cases e : pSl 13 3 w = 2
  · rw [if_pos e, if_pos e]
    all_goals (repeat' split)
    all_goals first | rfl | (exfalso; omega) | (exfalso; simp_all; done)
  rw [if_neg e, if_neg e]
  clear e
  by_cases e : pSl 13 3 w = 3
  · rw [if_pos e, if_pos e]
    all_goals (repeat' split)
    all_goals first | rfl | (exfalso; omega) | (exfalso; simp_all; done)
  rw [if_neg e, if_neg e]
  clear e
  by_cases e : pSl 13 3 w = 4
  · rw [if_pos e, if_pos e]
    all_goals (repeat' split)
    all_goals first | rfl | (exfalso; omega) | (exfalso; simp_all; done)
  rw [if_neg e, if_neg e]
  clear e
  by_cases e : pSl 13 3 w = 5
  · rw [if_pos e, if_pos e]
    all_goals (repeat' split)
    all_goals first | rfl | (exfalso; omega) | (exfalso; simp_all; done)
  rw [if_neg e, if_neg e]
  clear e
  by_cases e : pSl 13 3 w = 6
  · rw [if_pos e, if_pos e]
    all_goals (repeat' split)
    all_goals first | rfl | (exfalso; omega) | (exfalso; simp_all; done)
  rw [if_neg e, if_neg e]

theorem s_takeThird (s : jS) (o w : Int) (ho : jTz s 50 o) (h0 : 0 ≤ w) (h1 : w < 65536) : m_X29_takeThird s o w = some (pw5 s o (cThird (pOld s o) w), 0) := by
  have f12 := pSl_lo 12 1 w
  simp only [show (2 : Int) ^ 1 = 2 from rfl] at f12
  have hk : jK s o = 34 := ho.2.2.1
  rw [em_X29_takeThird]; unfold dm_X29_takeThird
  simp only [jlet, bt_11_7, bt_6_2, bt_12_12, bt_3_2, bt_6_4, bt_8_7, bt_12_9, or_t2, or_t6, Option.bind_some, ushr_13 h0 h1, em_X29_takeThird, dm_X29_takeThird, eu_X29_takeThird_296, du_X29_takeThird_296, eu_X29_takeThird_259, du_X29_takeThird_259, eu_X29_takeThird_254, du_X29_takeThird_254, eu_X29_takeThird_245, du_X29_takeThird_245, eu_X29_takeThird_238, du_X29_takeThird_238, eu_X29_takeThird_215, du_X29_takeThird_215, eu_X29_takeThird_190, du_X29_takeThird_190, eu_X29_takeThird_168, du_X29_takeThird_168, eu_X29_takeThird_114, du_X29_takeThird_114, eu_X29_takeThird_113, du_X29_takeThird_113, eu_X29_takeThird_34, du_X29_takeThird_34, s_is _ _ _ _ _ _ _ ho, s_only _ _ _ _ ho, jwr_in ho.1 hk, pw5_old]
  unfold cThird cT2 cT6
  by_cases t : pSl 12 1 w = 1
  · simp only [if_pos t]
    by_cases e : pSl 13 3 w = 0
    · rw [if_pos e, if_pos e]
      all_goals (repeat' split)
      all_goals first | rfl | (exfalso; omega) | (exfalso; simp_all; done)
    rw [if_neg e, if_neg e]
    clear e
    by_cases e : pSl 13 3 w = 1
    · rw [if_pos e]
      repeat rw [if_neg (by omega)]
    rw [if_neg e]
    clear e
    by_cases e : pSl 13 3 w = 2
    · rw [if_pos e, if_pos e]
      all_goals (repeat' split)
      all_goals first | rfl | (exfalso; omega) | (exfalso; simp_all; done)
    rw [if_neg e, if_neg e]
    clear e
    by_cases e : pSl 13 3 w = 3
    · rw [if_pos e]
      repeat rw [if_neg (by omega)]
    rw [if_neg e]
    clear e
    by_cases e : pSl 13 3 w = 4
    · rw [if_pos e, if_pos e]
      all_goals (repeat' split)
      all_goals first | rfl | (exfalso; omega) | (exfalso; simp_all; done)
    rw [if_neg e, if_neg e]
    clear e
    by_cases e : pSl 13 3 w = 5
    · rw [if_pos e]
      repeat rw [if_neg (by omega)]
    rw [if_neg e]
    clear e
    by_cases e : pSl 13 3 w = 6
    · rw [if_pos e, if_pos e]
      all_goals (repeat' split)
      all_goals first | rfl | (exfalso; omega) | (exfalso; simp_all; done)
    rw [if_neg e, if_neg e]
  · simp only [if_neg t]
    by_cases e : pSl 13 3 w = 0
    · rw [if_pos e, if_pos e]
      all_goals (repeat' split)
      all_goals first | rfl | (exfalso; omega) | (exfalso; simp_all; done)
    rw [if_neg e, if_neg e]
    clear e
    by_cases e : pSl 13 3 w = 1
    · rw [if_pos e]
      repeat rw [if_neg (by omega)]
    rw [if_neg e]
    clear e
    by_cases e : pSl 13 3 w = 2
    · rw [if_pos e, if_pos e]
      all_goals (repeat' split)
      all_goals first | rfl | (exfalso; omega) | (exfalso; simp_all; done)
    rw [if_neg e, if_neg e]
    clear e
    by_cases e : pSl 13 3 w = 3
    · rw [if_pos e]
      repeat rw [if_neg (by omega)]
    rw [if_neg e]
    clear e
    by_cases e : pSl 13 3 w = 4
    · rw [if_pos e, if_pos e]
      all_goals (repeat' split)
      all_goals first | rfl | (exfalso; omega) | (exfalso; simp_all; done)
    rw [if_neg e, if_neg e]
    clear e
    by_cases e : pSl 13 3 w = 5
    · rw [if_pos e]
      repeat rw [if_neg (by omega)]
    rw [if_neg e]
    clear e
    by_cases e : pSl 13 3 w = 6
    · rw [if_pos e, if_pos e]
      all_goals (repeat' split)
      all_goals first | rfl | (exfalso; omega) | (exfalso; simp_all; done)
    rw [if_neg e, if_neg e]

theorem s_takeShort (s : jS) (o w : Int) (ho : jTz s 50 o) (h0 : 0 ≤ w) (h1 : w < 65536) : m_X29_takeShort s o w = some (pw5 s o (cShort (pOld s o) w), 0) := by
  rw [em_X29_takeShort]; unfold dm_X29_takeShort
  have e3 : I_and w 3 = pSl 0 2 w := by rw [I_and_3]; unfold pSl; simp
  simp only [e3, s_takeFirst s o w ho h0 h1, s_takeSecond s o w ho h0 h1, s_takeThird s o w ho h0 h1, Option.bind_some]
  unfold cShort
  repeat' split
  all_goals rfl

end jCshort
