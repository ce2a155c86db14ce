/-! the twin stretches short words: printed by gen_st.py -/
set_option maxRecDepth 100000
section jStre

theorem s_stretch_48 (s : jS) (x0 : Int) (p : jP4) : m_X43_stretch (pw4 s (x0 + 2) p) x0 48 = (m_X43_put (pw4 s (x0 + 2) (pStr 48 p)) x0 18).bind fun v => some (pw4 s (x0 + 2) (pStr 48 p), v) := by
  rw [em_X43_stretch]; unfold dm_X43_stretch
  have e1 : jlt (pw4 s (x0 + 2) p) 1000 (x0 + 2) 4 0 = some p.1 := by rw [jlt_in (by decide) (by decide), jf_pw4, if_pos ⟨rfl, rfl, by decide, by decide⟩]; rfl
  have e2 : ∀ (q : jP4) (e v : Int), 0 ≤ e → e < 4 → jst (pw4 s (x0 + 2) q) 1000 (x0 + 2) 4 e v = some (pw4 s (x0 + 2) (p4s q e.toNat v)) := fun q e v a b => by rw [jst_in a b, pw4_put _ _ _ _ a b]
  simp [em_X43_stretch, dm_X43_stretch, eu_X43_stretch_241, du_X43_stretch_241, eu_X43_stretch_234, du_X43_stretch_234, eu_X43_stretch_216, du_X43_stretch_216, eu_X43_stretch_209, du_X43_stretch_209, eu_X43_stretch_197, du_X43_stretch_197, eu_X43_stretch_184, du_X43_stretch_184, eu_X43_stretch_177, du_X43_stretch_177, eu_X43_stretch_165, du_X43_stretch_165, eu_X43_stretch_158, du_X43_stretch_158, eu_X43_stretch_140, du_X43_stretch_140, eu_X43_stretch_133, du_X43_stretch_133, eu_X43_stretch_115, du_X43_stretch_115, eu_X43_stretch_103, du_X43_stretch_103, eu_X43_stretch_90, du_X43_stretch_90, eu_X43_stretch_85, du_X43_stretch_85, eu_X43_stretch_60, du_X43_stretch_60, eu_X43_stretch_55, du_X43_stretch_55, eu_X43_stretch_43, du_X43_stretch_43, e1, e2, e_X43_longKind, v_X43_longKind, p4s, pStr]
theorem s_stretch_49 (s : jS) (x0 : Int) (p : jP4) : m_X43_stretch (pw4 s (x0 + 2) p) x0 49 = (m_X43_put (pw4 s (x0 + 2) (pStr 49 p)) x0 12).bind fun v => some (pw4 s (x0 + 2) (pStr 49 p), v) := by
  rw [em_X43_stretch]; unfold dm_X43_stretch
  have e1 : jlt (pw4 s (x0 + 2) p) 1000 (x0 + 2) 4 0 = some p.1 := by rw [jlt_in (by decide) (by decide), jf_pw4, if_pos ⟨rfl, rfl, by decide, by decide⟩]; rfl
  have e2 : ∀ (q : jP4) (e v : Int), 0 ≤ e → e < 4 → jst (pw4 s (x0 + 2) q) 1000 (x0 + 2) 4 e v = some (pw4 s (x0 + 2) (p4s q e.toNat v)) := fun q e v a b => by rw [jst_in a b, pw4_put _ _ _ _ a b]
  simp [em_X43_stretch, dm_X43_stretch, eu_X43_stretch_241, du_X43_stretch_241, eu_X43_stretch_234, du_X43_stretch_234, eu_X43_stretch_216, du_X43_stretch_216, eu_X43_stretch_209, du_X43_stretch_209, eu_X43_stretch_197, du_X43_stretch_197, eu_X43_stretch_184, du_X43_stretch_184, eu_X43_stretch_177, du_X43_stretch_177, eu_X43_stretch_165, du_X43_stretch_165, eu_X43_stretch_158, du_X43_stretch_158, eu_X43_stretch_140, du_X43_stretch_140, eu_X43_stretch_133, du_X43_stretch_133, eu_X43_stretch_115, du_X43_stretch_115, eu_X43_stretch_103, du_X43_stretch_103, eu_X43_stretch_90, du_X43_stretch_90, eu_X43_stretch_85, du_X43_stretch_85, eu_X43_stretch_60, du_X43_stretch_60, eu_X43_stretch_55, du_X43_stretch_55, eu_X43_stretch_43, du_X43_stretch_43, e1, e2, e_X43_longKind, v_X43_longKind, p4s, pStr]
theorem s_stretch_50 (s : jS) (x0 : Int) (p : jP4) : m_X43_stretch (pw4 s (x0 + 2) p) x0 50 = (m_X43_put (pw4 s (x0 + 2) (pStr 50 p)) x0 17).bind fun v => some (pw4 s (x0 + 2) (pStr 50 p), v) := by
  rw [em_X43_stretch]; unfold dm_X43_stretch
  have e1 : jlt (pw4 s (x0 + 2) p) 1000 (x0 + 2) 4 0 = some p.1 := by rw [jlt_in (by decide) (by decide), jf_pw4, if_pos ⟨rfl, rfl, by decide, by decide⟩]; rfl
  have e2 : ∀ (q : jP4) (e v : Int), 0 ≤ e → e < 4 → jst (pw4 s (x0 + 2) q) 1000 (x0 + 2) 4 e v = some (pw4 s (x0 + 2) (p4s q e.toNat v)) := fun q e v a b => by rw [jst_in a b, pw4_put _ _ _ _ a b]
  simp [em_X43_stretch, dm_X43_stretch, eu_X43_stretch_241, du_X43_stretch_241, eu_X43_stretch_234, du_X43_stretch_234, eu_X43_stretch_216, du_X43_stretch_216, eu_X43_stretch_209, du_X43_stretch_209, eu_X43_stretch_197, du_X43_stretch_197, eu_X43_stretch_184, du_X43_stretch_184, eu_X43_stretch_177, du_X43_stretch_177, eu_X43_stretch_165, du_X43_stretch_165, eu_X43_stretch_158, du_X43_stretch_158, eu_X43_stretch_140, du_X43_stretch_140, eu_X43_stretch_133, du_X43_stretch_133, eu_X43_stretch_115, du_X43_stretch_115, eu_X43_stretch_103, du_X43_stretch_103, eu_X43_stretch_90, du_X43_stretch_90, eu_X43_stretch_85, du_X43_stretch_85, eu_X43_stretch_60, du_X43_stretch_60, eu_X43_stretch_55, du_X43_stretch_55, eu_X43_stretch_43, du_X43_stretch_43, e1, e2, e_X43_longKind, v_X43_longKind, p4s, pStr]
theorem s_stretch_51 (s : jS) (x0 : Int) (p : jP4) : m_X43_stretch (pw4 s (x0 + 2) p) x0 51 = (m_X43_put (pw4 s (x0 + 2) (pStr 51 p)) x0 18).bind fun v => some (pw4 s (x0 + 2) (pStr 51 p), v) := by
  rw [em_X43_stretch]; unfold dm_X43_stretch
  have e1 : jlt (pw4 s (x0 + 2) p) 1000 (x0 + 2) 4 0 = some p.1 := by rw [jlt_in (by decide) (by decide), jf_pw4, if_pos ⟨rfl, rfl, by decide, by decide⟩]; rfl
  have e2 : ∀ (q : jP4) (e v : Int), 0 ≤ e → e < 4 → jst (pw4 s (x0 + 2) q) 1000 (x0 + 2) 4 e v = some (pw4 s (x0 + 2) (p4s q e.toNat v)) := fun q e v a b => by rw [jst_in a b, pw4_put _ _ _ _ a b]
  simp [em_X43_stretch, dm_X43_stretch, eu_X43_stretch_241, du_X43_stretch_241, eu_X43_stretch_234, du_X43_stretch_234, eu_X43_stretch_216, du_X43_stretch_216, eu_X43_stretch_209, du_X43_stretch_209, eu_X43_stretch_197, du_X43_stretch_197, eu_X43_stretch_184, du_X43_stretch_184, eu_X43_stretch_177, du_X43_stretch_177, eu_X43_stretch_165, du_X43_stretch_165, eu_X43_stretch_158, du_X43_stretch_158, eu_X43_stretch_140, du_X43_stretch_140, eu_X43_stretch_133, du_X43_stretch_133, eu_X43_stretch_115, du_X43_stretch_115, eu_X43_stretch_103, du_X43_stretch_103, eu_X43_stretch_90, du_X43_stretch_90, eu_X43_stretch_85, du_X43_stretch_85, eu_X43_stretch_60, du_X43_stretch_60, eu_X43_stretch_55, du_X43_stretch_55, eu_X43_stretch_43, du_X43_stretch_43, e1, e2, e_X43_longKind, v_X43_longKind, p4s, pStr]
theorem s_stretch_52 (s : jS) (x0 : Int) (p : jP4) : m_X43_stretch (pw4 s (x0 + 2) p) x0 52 = (m_X43_put (pw4 s (x0 + 2) (pStr 52 p)) x0 18).bind fun v => some (pw4 s (x0 + 2) (pStr 52 p), v) := by
  rw [em_X43_stretch]; unfold dm_X43_stretch
  have e1 : jlt (pw4 s (x0 + 2) p) 1000 (x0 + 2) 4 0 = some p.1 := by rw [jlt_in (by decide) (by decide), jf_pw4, if_pos ⟨rfl, rfl, by decide, by decide⟩]; rfl
  have e2 : ∀ (q : jP4) (e v : Int), 0 ≤ e → e < 4 → jst (pw4 s (x0 + 2) q) 1000 (x0 + 2) 4 e v = some (pw4 s (x0 + 2) (p4s q e.toNat v)) := fun q e v a b => by rw [jst_in a b, pw4_put _ _ _ _ a b]
  simp [em_X43_stretch, dm_X43_stretch, eu_X43_stretch_241, du_X43_stretch_241, eu_X43_stretch_234, du_X43_stretch_234, eu_X43_stretch_216, du_X43_stretch_216, eu_X43_stretch_209, du_X43_stretch_209, eu_X43_stretch_197, du_X43_stretch_197, eu_X43_stretch_184, du_X43_stretch_184, eu_X43_stretch_177, du_X43_stretch_177, eu_X43_stretch_165, du_X43_stretch_165, eu_X43_stretch_158, du_X43_stretch_158, eu_X43_stretch_140, du_X43_stretch_140, eu_X43_stretch_133, du_X43_stretch_133, eu_X43_stretch_115, du_X43_stretch_115, eu_X43_stretch_103, du_X43_stretch_103, eu_X43_stretch_90, du_X43_stretch_90, eu_X43_stretch_85, du_X43_stretch_85, eu_X43_stretch_60, du_X43_stretch_60, eu_X43_stretch_55, du_X43_stretch_55, eu_X43_stretch_43, du_X43_stretch_43, e1, e2, e_X43_longKind, v_X43_longKind, p4s, pStr]
theorem s_stretch_53 (s : jS) (x0 : Int) (p : jP4) : m_X43_stretch (pw4 s (x0 + 2) p) x0 53 = (m_X43_put (pw4 s (x0 + 2) (pStr 53 p)) x0 2).bind fun v => some (pw4 s (x0 + 2) (pStr 53 p), v) := by
  rw [em_X43_stretch]; unfold dm_X43_stretch
  have e1 : jlt (pw4 s (x0 + 2) p) 1000 (x0 + 2) 4 0 = some p.1 := by rw [jlt_in (by decide) (by decide), jf_pw4, if_pos ⟨rfl, rfl, by decide, by decide⟩]; rfl
  have e2 : ∀ (q : jP4) (e v : Int), 0 ≤ e → e < 4 → jst (pw4 s (x0 + 2) q) 1000 (x0 + 2) 4 e v = some (pw4 s (x0 + 2) (p4s q e.toNat v)) := fun q e v a b => by rw [jst_in a b, pw4_put _ _ _ _ a b]
  simp [em_X43_stretch, dm_X43_stretch, eu_X43_stretch_241, du_X43_stretch_241, eu_X43_stretch_234, du_X43_stretch_234, eu_X43_stretch_216, du_X43_stretch_216, eu_X43_stretch_209, du_X43_stretch_209, eu_X43_stretch_197, du_X43_stretch_197, eu_X43_stretch_184, du_X43_stretch_184, eu_X43_stretch_177, du_X43_stretch_177, eu_X43_stretch_165, du_X43_stretch_165, eu_X43_stretch_158, du_X43_stretch_158, eu_X43_stretch_140, du_X43_stretch_140, eu_X43_stretch_133, du_X43_stretch_133, eu_X43_stretch_115, du_X43_stretch_115, eu_X43_stretch_103, du_X43_stretch_103, eu_X43_stretch_90, du_X43_stretch_90, eu_X43_stretch_85, du_X43_stretch_85, eu_X43_stretch_60, du_X43_stretch_60, eu_X43_stretch_55, du_X43_stretch_55, eu_X43_stretch_43, du_X43_stretch_43, e1, e2, e_X43_longKind, v_X43_longKind, p4s, pStr]
theorem s_stretch_54 (s : jS) (x0 : Int) (p : jP4) : m_X43_stretch (pw4 s (x0 + 2) p) x0 54 = (m_X43_put (pw4 s (x0 + 2) (pStr 54 p)) x0 18).bind fun v => some (pw4 s (x0 + 2) (pStr 54 p), v) := by
  rw [em_X43_stretch]; unfold dm_X43_stretch
  have e1 : jlt (pw4 s (x0 + 2) p) 1000 (x0 + 2) 4 0 = some p.1 := by rw [jlt_in (by decide) (by decide), jf_pw4, if_pos ⟨rfl, rfl, by decide, by decide⟩]; rfl
  have e2 : ∀ (q : jP4) (e v : Int), 0 ≤ e → e < 4 → jst (pw4 s (x0 + 2) q) 1000 (x0 + 2) 4 e v = some (pw4 s (x0 + 2) (p4s q e.toNat v)) := fun q e v a b => by rw [jst_in a b, pw4_put _ _ _ _ a b]
  simp [em_X43_stretch, dm_X43_stretch, eu_X43_stretch_241, du_X43_stretch_241, eu_X43_stretch_234, du_X43_stretch_234, eu_X43_stretch_216, du_X43_stretch_216, eu_X43_stretch_209, du_X43_stretch_209, eu_X43_stretch_197, du_X43_stretch_197, eu_X43_stretch_184, du_X43_stretch_184, eu_X43_stretch_177, du_X43_stretch_177, eu_X43_stretch_165, du_X43_stretch_165, eu_X43_stretch_158, du_X43_stretch_158, eu_X43_stretch_140, du_X43_stretch_140, eu_X43_stretch_133, du_X43_stretch_133, eu_X43_stretch_115, du_X43_stretch_115, eu_X43_stretch_103, du_X43_stretch_103, eu_X43_stretch_90, du_X43_stretch_90, eu_X43_stretch_85, du_X43_stretch_85, eu_X43_stretch_60, du_X43_stretch_60, eu_X43_stretch_55, du_X43_stretch_55, eu_X43_stretch_43, du_X43_stretch_43, e1, e2, e_X43_longKind, v_X43_longKind, p4s, pStr]
theorem s_stretch_55 (s : jS) (x0 : Int) (p : jP4) : m_X43_stretch (pw4 s (x0 + 2) p) x0 55 = (m_X43_put (pw4 s (x0 + 2) (pStr 55 p)) x0 18).bind fun v => some (pw4 s (x0 + 2) (pStr 55 p), v) := by
  rw [em_X43_stretch]; unfold dm_X43_stretch
  have e1 : jlt (pw4 s (x0 + 2) p) 1000 (x0 + 2) 4 0 = some p.1 := by rw [jlt_in (by decide) (by decide), jf_pw4, if_pos ⟨rfl, rfl, by decide, by decide⟩]; rfl
  have e2 : ∀ (q : jP4) (e v : Int), 0 ≤ e → e < 4 → jst (pw4 s (x0 + 2) q) 1000 (x0 + 2) 4 e v = some (pw4 s (x0 + 2) (p4s q e.toNat v)) := fun q e v a b => by rw [jst_in a b, pw4_put _ _ _ _ a b]
  simp [em_X43_stretch, dm_X43_stretch, eu_X43_stretch_241, du_X43_stretch_241, eu_X43_stretch_234, du_X43_stretch_234, eu_X43_stretch_216, du_X43_stretch_216, eu_X43_stretch_209, du_X43_stretch_209, eu_X43_stretch_197, du_X43_stretch_197, eu_X43_stretch_184, du_X43_stretch_184, eu_X43_stretch_177, du_X43_stretch_177, eu_X43_stretch_165, du_X43_stretch_165, eu_X43_stretch_158, du_X43_stretch_158, eu_X43_stretch_140, du_X43_stretch_140, eu_X43_stretch_133, du_X43_stretch_133, eu_X43_stretch_115, du_X43_stretch_115, eu_X43_stretch_103, du_X43_stretch_103, eu_X43_stretch_90, du_X43_stretch_90, eu_X43_stretch_85, du_X43_stretch_85, eu_X43_stretch_60, du_X43_stretch_60, eu_X43_stretch_55, du_X43_stretch_55, eu_X43_stretch_43, du_X43_stretch_43, e1, e2, e_X43_longKind, v_X43_longKind, p4s, pStr]
theorem s_stretch_56 (s : jS) (x0 : Int) (p : jP4) : m_X43_stretch (pw4 s (x0 + 2) p) x0 56 = (m_X43_put (pw4 s (x0 + 2) (pStr 56 p)) x0 0).bind fun v => some (pw4 s (x0 + 2) (pStr 56 p), v) := by
  rw [em_X43_stretch]; unfold dm_X43_stretch
  have e1 : jlt (pw4 s (x0 + 2) p) 1000 (x0 + 2) 4 0 = some p.1 := by rw [jlt_in (by decide) (by decide), jf_pw4, if_pos ⟨rfl, rfl, by decide, by decide⟩]; rfl
  have e2 : ∀ (q : jP4) (e v : Int), 0 ≤ e → e < 4 → jst (pw4 s (x0 + 2) q) 1000 (x0 + 2) 4 e v = some (pw4 s (x0 + 2) (p4s q e.toNat v)) := fun q e v a b => by rw [jst_in a b, pw4_put _ _ _ _ a b]
  simp [em_X43_stretch, dm_X43_stretch, eu_X43_stretch_241, du_X43_stretch_241, eu_X43_stretch_234, du_X43_stretch_234, eu_X43_stretch_216, du_X43_stretch_216, eu_X43_stretch_209, du_X43_stretch_209, eu_X43_stretch_197, du_X43_stretch_197, eu_X43_stretch_184, du_X43_stretch_184, eu_X43_stretch_177, du_X43_stretch_177, eu_X43_stretch_165, du_X43_stretch_165, eu_X43_stretch_158, du_X43_stretch_158, eu_X43_stretch_140, du_X43_stretch_140, eu_X43_stretch_133, du_X43_stretch_133, eu_X43_stretch_115, du_X43_stretch_115, eu_X43_stretch_103, du_X43_stretch_103, eu_X43_stretch_90, du_X43_stretch_90, eu_X43_stretch_85, du_X43_stretch_85, eu_X43_stretch_60, du_X43_stretch_60, eu_X43_stretch_55, du_X43_stretch_55, eu_X43_stretch_43, du_X43_stretch_43, e1, e2, e_X43_longKind, v_X43_longKind, p4s, pStr]
theorem s_stretch_57 (s : jS) (x0 : Int) (p : jP4) : m_X43_stretch (pw4 s (x0 + 2) p) x0 57 = (m_X43_put (pw4 s (x0 + 2) (pStr 57 p)) x0 25).bind fun v => some (pw4 s (x0 + 2) (pStr 57 p), v) := by
  rw [em_X43_stretch]; unfold dm_X43_stretch
  have e1 : jlt (pw4 s (x0 + 2) p) 1000 (x0 + 2) 4 0 = some p.1 := by rw [jlt_in (by decide) (by decide), jf_pw4, if_pos ⟨rfl, rfl, by decide, by decide⟩]; rfl
  have e2 : ∀ (q : jP4) (e v : Int), 0 ≤ e → e < 4 → jst (pw4 s (x0 + 2) q) 1000 (x0 + 2) 4 e v = some (pw4 s (x0 + 2) (p4s q e.toNat v)) := fun q e v a b => by rw [jst_in a b, pw4_put _ _ _ _ a b]
  simp [em_X43_stretch, dm_X43_stretch, eu_X43_stretch_241, du_X43_stretch_241, eu_X43_stretch_234, du_X43_stretch_234, eu_X43_stretch_216, du_X43_stretch_216, eu_X43_stretch_209, du_X43_stretch_209, eu_X43_stretch_197, du_X43_stretch_197, eu_X43_stretch_184, du_X43_stretch_184, eu_X43_stretch_177, du_X43_stretch_177, eu_X43_stretch_165, du_X43_stretch_165, eu_X43_stretch_158, du_X43_stretch_158, eu_X43_stretch_140, du_X43_stretch_140, eu_X43_stretch_133, du_X43_stretch_133, eu_X43_stretch_115, du_X43_stretch_115, eu_X43_stretch_103, du_X43_stretch_103, eu_X43_stretch_90, du_X43_stretch_90, eu_X43_stretch_85, du_X43_stretch_85, eu_X43_stretch_60, du_X43_stretch_60, eu_X43_stretch_55, du_X43_stretch_55, eu_X43_stretch_43, du_X43_stretch_43, e1, e2, e_X43_longKind, v_X43_longKind, p4s, pStr]
theorem s_stretch_58 (s : jS) (x0 : Int) (p : jP4) : m_X43_stretch (pw4 s (x0 + 2) p) x0 58 = (m_X43_put (pw4 s (x0 + 2) (pStr 58 p)) x0 26).bind fun v => some (pw4 s (x0 + 2) (pStr 58 p), v) := by
  rw [em_X43_stretch]; unfold dm_X43_stretch
  have e1 : jlt (pw4 s (x0 + 2) p) 1000 (x0 + 2) 4 0 = some p.1 := by rw [jlt_in (by decide) (by decide), jf_pw4, if_pos ⟨rfl, rfl, by decide, by decide⟩]; rfl
  have e2 : ∀ (q : jP4) (e v : Int), 0 ≤ e → e < 4 → jst (pw4 s (x0 + 2) q) 1000 (x0 + 2) 4 e v = some (pw4 s (x0 + 2) (p4s q e.toNat v)) := fun q e v a b => by rw [jst_in a b, pw4_put _ _ _ _ a b]
  simp [em_X43_stretch, dm_X43_stretch, eu_X43_stretch_241, du_X43_stretch_241, eu_X43_stretch_234, du_X43_stretch_234, eu_X43_stretch_216, du_X43_stretch_216, eu_X43_stretch_209, du_X43_stretch_209, eu_X43_stretch_197, du_X43_stretch_197, eu_X43_stretch_184, du_X43_stretch_184, eu_X43_stretch_177, du_X43_stretch_177, eu_X43_stretch_165, du_X43_stretch_165, eu_X43_stretch_158, du_X43_stretch_158, eu_X43_stretch_140, du_X43_stretch_140, eu_X43_stretch_133, du_X43_stretch_133, eu_X43_stretch_115, du_X43_stretch_115, eu_X43_stretch_103, du_X43_stretch_103, eu_X43_stretch_90, du_X43_stretch_90, eu_X43_stretch_85, du_X43_stretch_85, eu_X43_stretch_60, du_X43_stretch_60, eu_X43_stretch_55, du_X43_stretch_55, eu_X43_stretch_43, du_X43_stretch_43, e1, e2, e_X43_longKind, v_X43_longKind, p4s, pStr]
theorem s_stretch_59 (s : jS) (x0 : Int) (p : jP4) : m_X43_stretch (pw4 s (x0 + 2) p) x0 59 = (m_X43_put (pw4 s (x0 + 2) (pStr 59 p)) x0 23).bind fun v => some (pw4 s (x0 + 2) (pStr 59 p), v) := by
  rw [em_X43_stretch]; unfold dm_X43_stretch
  have e1 : jlt (pw4 s (x0 + 2) p) 1000 (x0 + 2) 4 0 = some p.1 := by rw [jlt_in (by decide) (by decide), jf_pw4, if_pos ⟨rfl, rfl, by decide, by decide⟩]; rfl
  have e2 : ∀ (q : jP4) (e v : Int), 0 ≤ e → e < 4 → jst (pw4 s (x0 + 2) q) 1000 (x0 + 2) 4 e v = some (pw4 s (x0 + 2) (p4s q e.toNat v)) := fun q e v a b => by rw [jst_in a b, pw4_put _ _ _ _ a b]
  simp [em_X43_stretch, dm_X43_stretch, eu_X43_stretch_241, du_X43_stretch_241, eu_X43_stretch_234, du_X43_stretch_234, eu_X43_stretch_216, du_X43_stretch_216, eu_X43_stretch_209, du_X43_stretch_209, eu_X43_stretch_197, du_X43_stretch_197, eu_X43_stretch_184, du_X43_stretch_184, eu_X43_stretch_177, du_X43_stretch_177, eu_X43_stretch_165, du_X43_stretch_165, eu_X43_stretch_158, du_X43_stretch_158, eu_X43_stretch_140, du_X43_stretch_140, eu_X43_stretch_133, du_X43_stretch_133, eu_X43_stretch_115, du_X43_stretch_115, eu_X43_stretch_103, du_X43_stretch_103, eu_X43_stretch_90, du_X43_stretch_90, eu_X43_stretch_85, du_X43_stretch_85, eu_X43_stretch_60, du_X43_stretch_60, eu_X43_stretch_55, du_X43_stretch_55, eu_X43_stretch_43, du_X43_stretch_43, e1, e2, e_X43_longKind, v_X43_longKind, p4s, pStr]
theorem s_stretch_60 (s : jS) (x0 : Int) (p : jP4) : m_X43_stretch (pw4 s (x0 + 2) p) x0 60 = (m_X43_put (pw4 s (x0 + 2) (pStr 60 p)) x0 28).bind fun v => some (pw4 s (x0 + 2) (pStr 60 p), v) := by
  rw [em_X43_stretch]; unfold dm_X43_stretch
  have e1 : jlt (pw4 s (x0 + 2) p) 1000 (x0 + 2) 4 0 = some p.1 := by rw [jlt_in (by decide) (by decide), jf_pw4, if_pos ⟨rfl, rfl, by decide, by decide⟩]; rfl
  have e2 : ∀ (q : jP4) (e v : Int), 0 ≤ e → e < 4 → jst (pw4 s (x0 + 2) q) 1000 (x0 + 2) 4 e v = some (pw4 s (x0 + 2) (p4s q e.toNat v)) := fun q e v a b => by rw [jst_in a b, pw4_put _ _ _ _ a b]
  simp [em_X43_stretch, dm_X43_stretch, eu_X43_stretch_241, du_X43_stretch_241, eu_X43_stretch_234, du_X43_stretch_234, eu_X43_stretch_216, du_X43_stretch_216, eu_X43_stretch_209, du_X43_stretch_209, eu_X43_stretch_197, du_X43_stretch_197, eu_X43_stretch_184, du_X43_stretch_184, eu_X43_stretch_177, du_X43_stretch_177, eu_X43_stretch_165, du_X43_stretch_165, eu_X43_stretch_158, du_X43_stretch_158, eu_X43_stretch_140, du_X43_stretch_140, eu_X43_stretch_133, du_X43_stretch_133, eu_X43_stretch_115, du_X43_stretch_115, eu_X43_stretch_103, du_X43_stretch_103, eu_X43_stretch_90, du_X43_stretch_90, eu_X43_stretch_85, du_X43_stretch_85, eu_X43_stretch_60, du_X43_stretch_60, eu_X43_stretch_55, du_X43_stretch_55, eu_X43_stretch_43, du_X43_stretch_43, e1, e2, e_X43_longKind, v_X43_longKind, p4s, pStr]
theorem s_stretch_61 (s : jS) (x0 : Int) (p : jP4) : m_X43_stretch (pw4 s (x0 + 2) p) x0 61 = (m_X43_put (pw4 s (x0 + 2) (pStr 61 p)) x0 32).bind fun v => some (pw4 s (x0 + 2) (pStr 61 p), v) := by
  rw [em_X43_stretch]; unfold dm_X43_stretch
  have e1 : jlt (pw4 s (x0 + 2) p) 1000 (x0 + 2) 4 0 = some p.1 := by rw [jlt_in (by decide) (by decide), jf_pw4, if_pos ⟨rfl, rfl, by decide, by decide⟩]; rfl
  have e2 : ∀ (q : jP4) (e v : Int), 0 ≤ e → e < 4 → jst (pw4 s (x0 + 2) q) 1000 (x0 + 2) 4 e v = some (pw4 s (x0 + 2) (p4s q e.toNat v)) := fun q e v a b => by rw [jst_in a b, pw4_put _ _ _ _ a b]
  simp [em_X43_stretch, dm_X43_stretch, eu_X43_stretch_241, du_X43_stretch_241, eu_X43_stretch_234, du_X43_stretch_234, eu_X43_stretch_216, du_X43_stretch_216, eu_X43_stretch_209, du_X43_stretch_209, eu_X43_stretch_197, du_X43_stretch_197, eu_X43_stretch_184, du_X43_stretch_184, eu_X43_stretch_177, du_X43_stretch_177, eu_X43_stretch_165, du_X43_stretch_165, eu_X43_stretch_158, du_X43_stretch_158, eu_X43_stretch_140, du_X43_stretch_140, eu_X43_stretch_133, du_X43_stretch_133, eu_X43_stretch_115, du_X43_stretch_115, eu_X43_stretch_103, du_X43_stretch_103, eu_X43_stretch_90, du_X43_stretch_90, eu_X43_stretch_85, du_X43_stretch_85, eu_X43_stretch_60, du_X43_stretch_60, eu_X43_stretch_55, du_X43_stretch_55, eu_X43_stretch_43, du_X43_stretch_43, e1, e2, e_X43_longKind, v_X43_longKind, p4s, pStr]
theorem s_stretch_62 (s : jS) (x0 : Int) (p : jP4) : m_X43_stretch (pw4 s (x0 + 2) p) x0 62 = (m_X43_put (pw4 s (x0 + 2) (pStr 62 p)) x0 35).bind fun v => some (pw4 s (x0 + 2) (pStr 62 p), v) := by
  rw [em_X43_stretch]; unfold dm_X43_stretch
  have e1 : jlt (pw4 s (x0 + 2) p) 1000 (x0 + 2) 4 0 = some p.1 := by rw [jlt_in (by decide) (by decide), jf_pw4, if_pos ⟨rfl, rfl, by decide, by decide⟩]; rfl
  have e2 : ∀ (q : jP4) (e v : Int), 0 ≤ e → e < 4 → jst (pw4 s (x0 + 2) q) 1000 (x0 + 2) 4 e v = some (pw4 s (x0 + 2) (p4s q e.toNat v)) := fun q e v a b => by rw [jst_in a b, pw4_put _ _ _ _ a b]
  simp [em_X43_stretch, dm_X43_stretch, eu_X43_stretch_241, du_X43_stretch_241, eu_X43_stretch_234, du_X43_stretch_234, eu_X43_stretch_216, du_X43_stretch_216, eu_X43_stretch_209, du_X43_stretch_209, eu_X43_stretch_197, du_X43_stretch_197, eu_X43_stretch_184, du_X43_stretch_184, eu_X43_stretch_177, du_X43_stretch_177, eu_X43_stretch_165, du_X43_stretch_165, eu_X43_stretch_158, du_X43_stretch_158, eu_X43_stretch_140, du_X43_stretch_140, eu_X43_stretch_133, du_X43_stretch_133, eu_X43_stretch_115, du_X43_stretch_115, eu_X43_stretch_103, du_X43_stretch_103, eu_X43_stretch_90, du_X43_stretch_90, eu_X43_stretch_85, du_X43_stretch_85, eu_X43_stretch_60, du_X43_stretch_60, eu_X43_stretch_55, du_X43_stretch_55, eu_X43_stretch_43, du_X43_stretch_43, e1, e2, e_X43_longKind, v_X43_longKind, p4s, pStr]
theorem s_stretch_63 (s : jS) (x0 : Int) (p : jP4) : m_X43_stretch (pw4 s (x0 + 2) p) x0 63 = (m_X43_put (pw4 s (x0 + 2) (pStr 63 p)) x0 36).bind fun v => some (pw4 s (x0 + 2) (pStr 63 p), v) := by
  rw [em_X43_stretch]; unfold dm_X43_stretch
  have e1 : jlt (pw4 s (x0 + 2) p) 1000 (x0 + 2) 4 0 = some p.1 := by rw [jlt_in (by decide) (by decide), jf_pw4, if_pos ⟨rfl, rfl, by decide, by decide⟩]; rfl
  have e2 : ∀ (q : jP4) (e v : Int), 0 ≤ e → e < 4 → jst (pw4 s (x0 + 2) q) 1000 (x0 + 2) 4 e v = some (pw4 s (x0 + 2) (p4s q e.toNat v)) := fun q e v a b => by rw [jst_in a b, pw4_put _ _ _ _ a b]
  simp [em_X43_stretch, dm_X43_stretch, eu_X43_stretch_241, du_X43_stretch_241, eu_X43_stretch_234, du_X43_stretch_234, eu_X43_stretch_216, du_X43_stretch_216, eu_X43_stretch_209, du_X43_stretch_209, eu_X43_stretch_197, du_X43_stretch_197, eu_X43_stretch_184, du_X43_stretch_184, eu_X43_stretch_177, du_X43_stretch_177, eu_X43_stretch_165, du_X43_stretch_165, eu_X43_stretch_158, du_X43_stretch_158, eu_X43_stretch_140, du_X43_stretch_140, eu_X43_stretch_133, du_X43_stretch_133, eu_X43_stretch_115, du_X43_stretch_115, eu_X43_stretch_103, du_X43_stretch_103, eu_X43_stretch_90, du_X43_stretch_90, eu_X43_stretch_85, du_X43_stretch_85, eu_X43_stretch_60, du_X43_stretch_60, eu_X43_stretch_55, du_X43_stretch_55, eu_X43_stretch_43, du_X43_stretch_43, e1, e2, e_X43_longKind, v_X43_longKind, p4s, pStr]
theorem s_stretch_64 (s : jS) (x0 : Int) (p : jP4) : m_X43_stretch (pw4 s (x0 + 2) p) x0 64 = (m_X43_put (pw4 s (x0 + 2) (pStr 64 p)) x0 2).bind fun v => some (pw4 s (x0 + 2) (pStr 64 p), v) := by
  rw [em_X43_stretch]; unfold dm_X43_stretch
  have e1 : jlt (pw4 s (x0 + 2) p) 1000 (x0 + 2) 4 0 = some p.1 := by rw [jlt_in (by decide) (by decide), jf_pw4, if_pos ⟨rfl, rfl, by decide, by decide⟩]; rfl
  have e2 : ∀ (q : jP4) (e v : Int), 0 ≤ e → e < 4 → jst (pw4 s (x0 + 2) q) 1000 (x0 + 2) 4 e v = some (pw4 s (x0 + 2) (p4s q e.toNat v)) := fun q e v a b => by rw [jst_in a b, pw4_put _ _ _ _ a b]
  simp [em_X43_stretch, dm_X43_stretch, eu_X43_stretch_241, du_X43_stretch_241, eu_X43_stretch_234, du_X43_stretch_234, eu_X43_stretch_216, du_X43_stretch_216, eu_X43_stretch_209, du_X43_stretch_209, eu_X43_stretch_197, du_X43_stretch_197, eu_X43_stretch_184, du_X43_stretch_184, eu_X43_stretch_177, du_X43_stretch_177, eu_X43_stretch_165, du_X43_stretch_165, eu_X43_stretch_158, du_X43_stretch_158, eu_X43_stretch_140, du_X43_stretch_140, eu_X43_stretch_133, du_X43_stretch_133, eu_X43_stretch_115, du_X43_stretch_115, eu_X43_stretch_103, du_X43_stretch_103, eu_X43_stretch_90, du_X43_stretch_90, eu_X43_stretch_85, du_X43_stretch_85, eu_X43_stretch_60, du_X43_stretch_60, eu_X43_stretch_55, du_X43_stretch_55, eu_X43_stretch_43, du_X43_stretch_43, e1, e2, e_X43_longKind, v_X43_longKind, p4s, pStr]
theorem s_stretch_65 (s : jS) (x0 : Int) (p : jP4) : m_X43_stretch (pw4 s (x0 + 2) p) x0 65 = (m_X43_put (pw4 s (x0 + 2) (pStr 65 p)) x0 4).bind fun v => some (pw4 s (x0 + 2) (pStr 65 p), v) := by
  rw [em_X43_stretch]; unfold dm_X43_stretch
  have e1 : jlt (pw4 s (x0 + 2) p) 1000 (x0 + 2) 4 0 = some p.1 := by rw [jlt_in (by decide) (by decide), jf_pw4, if_pos ⟨rfl, rfl, by decide, by decide⟩]; rfl
  have e2 : ∀ (q : jP4) (e v : Int), 0 ≤ e → e < 4 → jst (pw4 s (x0 + 2) q) 1000 (x0 + 2) 4 e v = some (pw4 s (x0 + 2) (p4s q e.toNat v)) := fun q e v a b => by rw [jst_in a b, pw4_put _ _ _ _ a b]
  simp [em_X43_stretch, dm_X43_stretch, eu_X43_stretch_241, du_X43_stretch_241, eu_X43_stretch_234, du_X43_stretch_234, eu_X43_stretch_216, du_X43_stretch_216, eu_X43_stretch_209, du_X43_stretch_209, eu_X43_stretch_197, du_X43_stretch_197, eu_X43_stretch_184, du_X43_stretch_184, eu_X43_stretch_177, du_X43_stretch_177, eu_X43_stretch_165, du_X43_stretch_165, eu_X43_stretch_158, du_X43_stretch_158, eu_X43_stretch_140, du_X43_stretch_140, eu_X43_stretch_133, du_X43_stretch_133, eu_X43_stretch_115, du_X43_stretch_115, eu_X43_stretch_103, du_X43_stretch_103, eu_X43_stretch_90, du_X43_stretch_90, eu_X43_stretch_85, du_X43_stretch_85, eu_X43_stretch_60, du_X43_stretch_60, eu_X43_stretch_55, du_X43_stretch_55, eu_X43_stretch_43, du_X43_stretch_43, e1, e2, e_X43_longKind, v_X43_longKind, p4s, pStr]
theorem s_stretch_66 (s : jS) (x0 : Int) (p : jP4) : m_X43_stretch (pw4 s (x0 + 2) p) x0 66 = (m_X43_put (pw4 s (x0 + 2) (pStr 66 p)) x0 5).bind fun v => some (pw4 s (x0 + 2) (pStr 66 p), v) := by
  rw [em_X43_stretch]; unfold dm_X43_stretch
  have e1 : jlt (pw4 s (x0 + 2) p) 1000 (x0 + 2) 4 0 = some p.1 := by rw [jlt_in (by decide) (by decide), jf_pw4, if_pos ⟨rfl, rfl, by decide, by decide⟩]; rfl
  have e2 : ∀ (q : jP4) (e v : Int), 0 ≤ e → e < 4 → jst (pw4 s (x0 + 2) q) 1000 (x0 + 2) 4 e v = some (pw4 s (x0 + 2) (p4s q e.toNat v)) := fun q e v a b => by rw [jst_in a b, pw4_put _ _ _ _ a b]
  simp [em_X43_stretch, dm_X43_stretch, eu_X43_stretch_241, du_X43_stretch_241, eu_X43_stretch_234, du_X43_stretch_234, eu_X43_stretch_216, du_X43_stretch_216, eu_X43_stretch_209, du_X43_stretch_209, eu_X43_stretch_197, du_X43_stretch_197, eu_X43_stretch_184, du_X43_stretch_184, eu_X43_stretch_177, du_X43_stretch_177, eu_X43_stretch_165, du_X43_stretch_165, eu_X43_stretch_158, du_X43_stretch_158, eu_X43_stretch_140, du_X43_stretch_140, eu_X43_stretch_133, du_X43_stretch_133, eu_X43_stretch_115, du_X43_stretch_115, eu_X43_stretch_103, du_X43_stretch_103, eu_X43_stretch_90, du_X43_stretch_90, eu_X43_stretch_85, du_X43_stretch_85, eu_X43_stretch_60, du_X43_stretch_60, eu_X43_stretch_55, du_X43_stretch_55, eu_X43_stretch_43, du_X43_stretch_43, e1, e2, e_X43_longKind, v_X43_longKind, p4s, pStr]
theorem s_stretch_67 (s : jS) (x0 : Int) (p : jP4) : m_X43_stretch (pw4 s (x0 + 2) p) x0 67 = (m_X43_put (pw4 s (x0 + 2) (pStr 67 p)) x0 24).bind fun v => some (pw4 s (x0 + 2) (pStr 67 p), v) := by
  rw [em_X43_stretch]; unfold dm_X43_stretch
  have e1 : jlt (pw4 s (x0 + 2) p) 1000 (x0 + 2) 4 0 = some p.1 := by rw [jlt_in (by decide) (by decide), jf_pw4, if_pos ⟨rfl, rfl, by decide, by decide⟩]; rfl
  have e2 : ∀ (q : jP4) (e v : Int), 0 ≤ e → e < 4 → jst (pw4 s (x0 + 2) q) 1000 (x0 + 2) 4 e v = some (pw4 s (x0 + 2) (p4s q e.toNat v)) := fun q e v a b => by rw [jst_in a b, pw4_put _ _ _ _ a b]
  simp [em_X43_stretch, dm_X43_stretch, eu_X43_stretch_241, du_X43_stretch_241, eu_X43_stretch_234, du_X43_stretch_234, eu_X43_stretch_216, du_X43_stretch_216, eu_X43_stretch_209, du_X43_stretch_209, eu_X43_stretch_197, du_X43_stretch_197, eu_X43_stretch_184, du_X43_stretch_184, eu_X43_stretch_177, du_X43_stretch_177, eu_X43_stretch_165, du_X43_stretch_165, eu_X43_stretch_158, du_X43_stretch_158, eu_X43_stretch_140, du_X43_stretch_140, eu_X43_stretch_133, du_X43_stretch_133, eu_X43_stretch_115, du_X43_stretch_115, eu_X43_stretch_103, du_X43_stretch_103, eu_X43_stretch_90, du_X43_stretch_90, eu_X43_stretch_85, du_X43_stretch_85, eu_X43_stretch_60, du_X43_stretch_60, eu_X43_stretch_55, du_X43_stretch_55, eu_X43_stretch_43, du_X43_stretch_43, e1, e2, e_X43_longKind, v_X43_longKind, p4s, pStr]
theorem s_stretch_68 (s : jS) (x0 : Int) (p : jP4) : m_X43_stretch (pw4 s (x0 + 2) p) x0 68 = (m_X43_put (pw4 s (x0 + 2) (pStr 68 p)) x0 12).bind fun v => some (pw4 s (x0 + 2) (pStr 68 p), v) := by
  rw [em_X43_stretch]; unfold dm_X43_stretch
  have e1 : jlt (pw4 s (x0 + 2) p) 1000 (x0 + 2) 4 0 = some p.1 := by rw [jlt_in (by decide) (by decide), jf_pw4, if_pos ⟨rfl, rfl, by decide, by decide⟩]; rfl
  have e2 : ∀ (q : jP4) (e v : Int), 0 ≤ e → e < 4 → jst (pw4 s (x0 + 2) q) 1000 (x0 + 2) 4 e v = some (pw4 s (x0 + 2) (p4s q e.toNat v)) := fun q e v a b => by rw [jst_in a b, pw4_put _ _ _ _ a b]
  simp [em_X43_stretch, dm_X43_stretch, eu_X43_stretch_241, du_X43_stretch_241, eu_X43_stretch_234, du_X43_stretch_234, eu_X43_stretch_216, du_X43_stretch_216, eu_X43_stretch_209, du_X43_stretch_209, eu_X43_stretch_197, du_X43_stretch_197, eu_X43_stretch_184, du_X43_stretch_184, eu_X43_stretch_177, du_X43_stretch_177, eu_X43_stretch_165, du_X43_stretch_165, eu_X43_stretch_158, du_X43_stretch_158, eu_X43_stretch_140, du_X43_stretch_140, eu_X43_stretch_133, du_X43_stretch_133, eu_X43_stretch_115, du_X43_stretch_115, eu_X43_stretch_103, du_X43_stretch_103, eu_X43_stretch_90, du_X43_stretch_90, eu_X43_stretch_85, du_X43_stretch_85, eu_X43_stretch_60, du_X43_stretch_60, eu_X43_stretch_55, du_X43_stretch_55, eu_X43_stretch_43, du_X43_stretch_43, e1, e2, e_X43_longKind, v_X43_longKind, p4s, pStr]
theorem s_stretch_69 (s : jS) (x0 : Int) (p : jP4) : m_X43_stretch (pw4 s (x0 + 2) p) x0 69 = (m_X43_put (pw4 s (x0 + 2) (pStr 69 p)) x0 3).bind fun v => some (pw4 s (x0 + 2) (pStr 69 p), v) := by
  rw [em_X43_stretch]; unfold dm_X43_stretch
  have e1 : jlt (pw4 s (x0 + 2) p) 1000 (x0 + 2) 4 0 = some p.1 := by rw [jlt_in (by decide) (by decide), jf_pw4, if_pos ⟨rfl, rfl, by decide, by decide⟩]; rfl
  have e2 : ∀ (q : jP4) (e v : Int), 0 ≤ e → e < 4 → jst (pw4 s (x0 + 2) q) 1000 (x0 + 2) 4 e v = some (pw4 s (x0 + 2) (p4s q e.toNat v)) := fun q e v a b => by rw [jst_in a b, pw4_put _ _ _ _ a b]
  simp [em_X43_stretch, dm_X43_stretch, eu_X43_stretch_241, du_X43_stretch_241, eu_X43_stretch_234, du_X43_stretch_234, eu_X43_stretch_216, du_X43_stretch_216, eu_X43_stretch_209, du_X43_stretch_209, eu_X43_stretch_197, du_X43_stretch_197, eu_X43_stretch_184, du_X43_stretch_184, eu_X43_stretch_177, du_X43_stretch_177, eu_X43_stretch_165, du_X43_stretch_165, eu_X43_stretch_158, du_X43_stretch_158, eu_X43_stretch_140, du_X43_stretch_140, eu_X43_stretch_133, du_X43_stretch_133, eu_X43_stretch_115, du_X43_stretch_115, eu_X43_stretch_103, du_X43_stretch_103, eu_X43_stretch_90, du_X43_stretch_90, eu_X43_stretch_85, du_X43_stretch_85, eu_X43_stretch_60, du_X43_stretch_60, eu_X43_stretch_55, du_X43_stretch_55, eu_X43_stretch_43, du_X43_stretch_43, e1, e2, e_X43_longKind, v_X43_longKind, p4s, pStr]
theorem s_stretch_70 (s : jS) (x0 : Int) (p : jP4) : m_X43_stretch (pw4 s (x0 + 2) p) x0 70 = (m_X43_put (pw4 s (x0 + 2) (pStr 70 p)) x0 27).bind fun v => some (pw4 s (x0 + 2) (pStr 70 p), v) := by
  rw [em_X43_stretch]; unfold dm_X43_stretch
  have e1 : jlt (pw4 s (x0 + 2) p) 1000 (x0 + 2) 4 0 = some p.1 := by rw [jlt_in (by decide) (by decide), jf_pw4, if_pos ⟨rfl, rfl, by decide, by decide⟩]; rfl
  have e2 : ∀ (q : jP4) (e v : Int), 0 ≤ e → e < 4 → jst (pw4 s (x0 + 2) q) 1000 (x0 + 2) 4 e v = some (pw4 s (x0 + 2) (p4s q e.toNat v)) := fun q e v a b => by rw [jst_in a b, pw4_put _ _ _ _ a b]
  simp [em_X43_stretch, dm_X43_stretch, eu_X43_stretch_241, du_X43_stretch_241, eu_X43_stretch_234, du_X43_stretch_234, eu_X43_stretch_216, du_X43_stretch_216, eu_X43_stretch_209, du_X43_stretch_209, eu_X43_stretch_197, du_X43_stretch_197, eu_X43_stretch_184, du_X43_stretch_184, eu_X43_stretch_177, du_X43_stretch_177, eu_X43_stretch_165, du_X43_stretch_165, eu_X43_stretch_158, du_X43_stretch_158, eu_X43_stretch_140, du_X43_stretch_140, eu_X43_stretch_133, du_X43_stretch_133, eu_X43_stretch_115, du_X43_stretch_115, eu_X43_stretch_103, du_X43_stretch_103, eu_X43_stretch_90, du_X43_stretch_90, eu_X43_stretch_85, du_X43_stretch_85, eu_X43_stretch_60, du_X43_stretch_60, eu_X43_stretch_55, du_X43_stretch_55, eu_X43_stretch_43, du_X43_stretch_43, e1, e2, e_X43_longKind, v_X43_longKind, p4s, pStr]
theorem s_stretch_71 (s : jS) (x0 : Int) (p : jP4) : m_X43_stretch (pw4 s (x0 + 2) p) x0 71 = (m_X43_put (pw4 s (x0 + 2) (pStr 71 p)) x0 47).bind fun v => some (pw4 s (x0 + 2) (pStr 71 p), v) := by
  rw [em_X43_stretch]; unfold dm_X43_stretch
  have e1 : jlt (pw4 s (x0 + 2) p) 1000 (x0 + 2) 4 0 = some p.1 := by rw [jlt_in (by decide) (by decide), jf_pw4, if_pos ⟨rfl, rfl, by decide, by decide⟩]; rfl
  have e2 : ∀ (q : jP4) (e v : Int), 0 ≤ e → e < 4 → jst (pw4 s (x0 + 2) q) 1000 (x0 + 2) 4 e v = some (pw4 s (x0 + 2) (p4s q e.toNat v)) := fun q e v a b => by rw [jst_in a b, pw4_put _ _ _ _ a b]
  simp [em_X43_stretch, dm_X43_stretch, eu_X43_stretch_241, du_X43_stretch_241, eu_X43_stretch_234, du_X43_stretch_234, eu_X43_stretch_216, du_X43_stretch_216, eu_X43_stretch_209, du_X43_stretch_209, eu_X43_stretch_197, du_X43_stretch_197, eu_X43_stretch_184, du_X43_stretch_184, eu_X43_stretch_177, du_X43_stretch_177, eu_X43_stretch_165, du_X43_stretch_165, eu_X43_stretch_158, du_X43_stretch_158, eu_X43_stretch_140, du_X43_stretch_140, eu_X43_stretch_133, du_X43_stretch_133, eu_X43_stretch_115, du_X43_stretch_115, eu_X43_stretch_103, du_X43_stretch_103, eu_X43_stretch_90, du_X43_stretch_90, eu_X43_stretch_85, du_X43_stretch_85, eu_X43_stretch_60, du_X43_stretch_60, eu_X43_stretch_55, du_X43_stretch_55, eu_X43_stretch_43, du_X43_stretch_43, e1, e2, e_X43_longKind, v_X43_longKind, p4s, pStr]
theorem s_stretch_72 (s : jS) (x0 : Int) (p : jP4) : m_X43_stretch (pw4 s (x0 + 2) p) x0 72 = (m_X43_put (pw4 s (x0 + 2) (pStr 72 p)) x0 3).bind fun v => some (pw4 s (x0 + 2) (pStr 72 p), v) := by
  rw [em_X43_stretch]; unfold dm_X43_stretch
  have e1 : jlt (pw4 s (x0 + 2) p) 1000 (x0 + 2) 4 0 = some p.1 := by rw [jlt_in (by decide) (by decide), jf_pw4, if_pos ⟨rfl, rfl, by decide, by decide⟩]; rfl
  have e2 : ∀ (q : jP4) (e v : Int), 0 ≤ e → e < 4 → jst (pw4 s (x0 + 2) q) 1000 (x0 + 2) 4 e v = some (pw4 s (x0 + 2) (p4s q e.toNat v)) := fun q e v a b => by rw [jst_in a b, pw4_put _ _ _ _ a b]
  simp [em_X43_stretch, dm_X43_stretch, eu_X43_stretch_241, du_X43_stretch_241, eu_X43_stretch_234, du_X43_stretch_234, eu_X43_stretch_216, du_X43_stretch_216, eu_X43_stretch_209, du_X43_stretch_209, eu_X43_stretch_197, du_X43_stretch_197, eu_X43_stretch_184, du_X43_stretch_184, eu_X43_stretch_177, du_X43_stretch_177, eu_X43_stretch_165, du_X43_stretch_165, eu_X43_stretch_158, du_X43_stretch_158, eu_X43_stretch_140, du_X43_stretch_140, eu_X43_stretch_133, du_X43_stretch_133, eu_X43_stretch_115, du_X43_stretch_115, eu_X43_stretch_103, du_X43_stretch_103, eu_X43_stretch_90, du_X43_stretch_90, eu_X43_stretch_85, du_X43_stretch_85, eu_X43_stretch_60, du_X43_stretch_60, eu_X43_stretch_55, du_X43_stretch_55, eu_X43_stretch_43, du_X43_stretch_43, e1, e2, e_X43_longKind, v_X43_longKind, p4s, pStr]
theorem s_stretch_73 (s : jS) (x0 : Int) (p : jP4) : m_X43_stretch (pw4 s (x0 + 2) p) x0 73 = (m_X43_put (pw4 s (x0 + 2) (pStr 73 p)) x0 27).bind fun v => some (pw4 s (x0 + 2) (pStr 73 p), v) := by
  rw [em_X43_stretch]; unfold dm_X43_stretch
  have e1 : jlt (pw4 s (x0 + 2) p) 1000 (x0 + 2) 4 0 = some p.1 := by rw [jlt_in (by decide) (by decide), jf_pw4, if_pos ⟨rfl, rfl, by decide, by decide⟩]; rfl
  have e2 : ∀ (q : jP4) (e v : Int), 0 ≤ e → e < 4 → jst (pw4 s (x0 + 2) q) 1000 (x0 + 2) 4 e v = some (pw4 s (x0 + 2) (p4s q e.toNat v)) := fun q e v a b => by rw [jst_in a b, pw4_put _ _ _ _ a b]
  simp [em_X43_stretch, dm_X43_stretch, eu_X43_stretch_241, du_X43_stretch_241, eu_X43_stretch_234, du_X43_stretch_234, eu_X43_stretch_216, du_X43_stretch_216, eu_X43_stretch_209, du_X43_stretch_209, eu_X43_stretch_197, du_X43_stretch_197, eu_X43_stretch_184, du_X43_stretch_184, eu_X43_stretch_177, du_X43_stretch_177, eu_X43_stretch_165, du_X43_stretch_165, eu_X43_stretch_158, du_X43_stretch_158, eu_X43_stretch_140, du_X43_stretch_140, eu_X43_stretch_133, du_X43_stretch_133, eu_X43_stretch_115, du_X43_stretch_115, eu_X43_stretch_103, du_X43_stretch_103, eu_X43_stretch_90, du_X43_stretch_90, eu_X43_stretch_85, du_X43_stretch_85, eu_X43_stretch_60, du_X43_stretch_60, eu_X43_stretch_55, du_X43_stretch_55, eu_X43_stretch_43, du_X43_stretch_43, e1, e2, e_X43_longKind, v_X43_longKind, p4s, pStr]
theorem s_stretch_74 (s : jS) (x0 : Int) (p : jP4) : m_X43_stretch (pw4 s (x0 + 2) p) x0 74 = (m_X43_put (pw4 s (x0 + 2) (pStr 74 p)) x0 17).bind fun v => some (pw4 s (x0 + 2) (pStr 74 p), v) := by
  rw [em_X43_stretch]; unfold dm_X43_stretch
  have e1 : jlt (pw4 s (x0 + 2) p) 1000 (x0 + 2) 4 0 = some p.1 := by rw [jlt_in (by decide) (by decide), jf_pw4, if_pos ⟨rfl, rfl, by decide, by decide⟩]; rfl
  have e2 : ∀ (q : jP4) (e v : Int), 0 ≤ e → e < 4 → jst (pw4 s (x0 + 2) q) 1000 (x0 + 2) 4 e v = some (pw4 s (x0 + 2) (p4s q e.toNat v)) := fun q e v a b => by rw [jst_in a b, pw4_put _ _ _ _ a b]
  simp [em_X43_stretch, dm_X43_stretch, eu_X43_stretch_241, du_X43_stretch_241, eu_X43_stretch_234, du_X43_stretch_234, eu_X43_stretch_216, du_X43_stretch_216, eu_X43_stretch_209, du_X43_stretch_209, eu_X43_stretch_197, du_X43_stretch_197, eu_X43_stretch_184, du_X43_stretch_184, eu_X43_stretch_177, du_X43_stretch_177, eu_X43_stretch_165, du_X43_stretch_165, eu_X43_stretch_158, du_X43_stretch_158, eu_X43_stretch_140, du_X43_stretch_140, eu_X43_stretch_133, du_X43_stretch_133, eu_X43_stretch_115, du_X43_stretch_115, eu_X43_stretch_103, du_X43_stretch_103, eu_X43_stretch_90, du_X43_stretch_90, eu_X43_stretch_85, du_X43_stretch_85, eu_X43_stretch_60, du_X43_stretch_60, eu_X43_stretch_55, du_X43_stretch_55, eu_X43_stretch_43, du_X43_stretch_43, e1, e2, e_X43_longKind, v_X43_longKind, p4s, pStr]
theorem st_48 (w : Int) (h : pTk 48 w = true) : pTk 18 (pPut 18 (pStr 48 (pPt 48 w))) = true ∧ pPt 18 (pPut 18 (pStr 48 (pPt 48 w))) = pStr 48 (pPt 48 w) ∧ ∀ e, e < 4 → -2147483640 ≤ p4g (pStr 48 (pPt 48 w)) e ∧ p4g (pStr 48 (pPt 48 w)) e ≤ 2147483647 := by
  obtain ⟨t1, t2⟩ := pTk_48 w
  rw [t2 h]
  have h := t1.mp h
  have b11_2 : 0 ≤ pSl 11 2 w ∧ pSl 11 2 w < 4 := pSl_lo 11 2 w
  have b2_3 : 0 ≤ pSl 2 3 w ∧ pSl 2 3 w < 8 := pSl_lo 2 3 w
  have b5_1 : 0 ≤ pSl 5 1 w ∧ pSl 5 1 w < 2 := pSl_lo 5 1 w
  have b6_1 : 0 ≤ pSl 6 1 w ∧ pSl 6 1 w < 2 := pSl_lo 6 1 w
  have b7_4 : 0 ≤ pSl 7 4 w ∧ pSl 7 4 w < 16 := pSl_lo 7 4 w
  have h0 : 0 ≤ (8 + pSl 2 3 w : Int) ∧ (8 + pSl 2 3 w : Int) ≤ 31 := by omega
  have h1 : 0 ≤ (2 : Int) ∧ (2 : Int) ≤ 31 := by omega
  have h3 : -2048 ≤ (pSl 5 1 w * 8 + pSl 6 1 w * 4 + pSl 7 4 w * 64 + pSl 11 2 w * 16 : Int) ∧ (pSl 5 1 w * 8 + pSl 6 1 w * 4 + pSl 7 4 w * 64 + pSl 11 2 w * 16 : Int) ≤ 2047 ∧ (pSl 5 1 w * 8 + pSl 6 1 w * 4 + pSl 7 4 w * 64 + pSl 11 2 w * 16 : Int) % 1 = 0 := by omega
  have e : pStr 48 (8 + pSl 2 3 w, 0, 0, pSl 5 1 w * 8 + pSl 6 1 w * 4 + pSl 7 4 w * 64 + pSl 11 2 w * 16) = (8 + pSl 2 3 w, 2, 0, pSl 5 1 w * 8 + pSl 6 1 w * 4 + pSl 7 4 w * 64 + pSl 11 2 w * 16) := by simp [pStr]
  rw [e]
  refine ⟨(pPut_18 (8 + pSl 2 3 w) (2) (0) (pSl 5 1 w * 8 + pSl 6 1 w * 4 + pSl 7 4 w * 64 + pSl 11 2 w * 16) h0 h1 h3).1, (pPut_18 (8 + pSl 2 3 w) (2) (0) (pSl 5 1 w * 8 + pSl 6 1 w * 4 + pSl 7 4 w * 64 + pSl 11 2 w * 16) h0 h1 h3).2, ?_⟩
  intro e he
  have : e = 0 ∨ e = 1 ∨ e = 2 ∨ e = 3 := by omega
  rcases this with rfl | rfl | rfl | rfl
  · show -2147483640 ≤ 8 + pSl 2 3 w ∧ 8 + pSl 2 3 w ≤ 2147483647; omega
  · show -2147483640 ≤ 2 ∧ 2 ≤ 2147483647; omega
  · show -2147483640 ≤ 0 ∧ 0 ≤ 2147483647; omega
  · show -2147483640 ≤ pSl 5 1 w * 8 + pSl 6 1 w * 4 + pSl 7 4 w * 64 + pSl 11 2 w * 16 ∧ pSl 5 1 w * 8 + pSl 6 1 w * 4 + pSl 7 4 w * 64 + pSl 11 2 w * 16 ≤ 2147483647; omega
theorem st_49 (w : Int) (h : pTk 49 w = true) : pTk 12 (pPut 12 (pStr 49 (pPt 49 w))) = true ∧ pPt 12 (pPut 12 (pStr 49 (pPt 49 w))) = pStr 49 (pPt 49 w) ∧ ∀ e, e < 4 → -2147483640 ≤ p4g (pStr 49 (pPt 49 w)) e ∧ p4g (pStr 49 (pPt 49 w)) e ≤ 2147483647 := by
  obtain ⟨t1, t2⟩ := pTk_49 w
  rw [t2 h]
  have h := t1.mp h
  have b10_3 : 0 ≤ pSl 10 3 w ∧ pSl 10 3 w < 8 := pSl_lo 10 3 w
  have b2_3 : 0 ≤ pSl 2 3 w ∧ pSl 2 3 w < 8 := pSl_lo 2 3 w
  have b5_1 : 0 ≤ pSl 5 1 w ∧ pSl 5 1 w < 2 := pSl_lo 5 1 w
  have b6_1 : 0 ≤ pSl 6 1 w ∧ pSl 6 1 w < 2 := pSl_lo 6 1 w
  have b7_3 : 0 ≤ pSl 7 3 w ∧ pSl 7 3 w < 8 := pSl_lo 7 3 w
  have h0 : 0 ≤ (8 + pSl 2 3 w : Int) ∧ (8 + pSl 2 3 w : Int) ≤ 31 := by omega
  have h1 : 0 ≤ (8 + pSl 7 3 w : Int) ∧ (8 + pSl 7 3 w : Int) ≤ 31 := by omega
  have h3 : -2048 ≤ (pSl 5 1 w * 64 + pSl 6 1 w * 4 + pSl 10 3 w * 8 : Int) ∧ (pSl 5 1 w * 64 + pSl 6 1 w * 4 + pSl 10 3 w * 8 : Int) ≤ 2047 ∧ (pSl 5 1 w * 64 + pSl 6 1 w * 4 + pSl 10 3 w * 8 : Int) % 1 = 0 := by omega
  have e : pStr 49 (8 + pSl 2 3 w, 8 + pSl 7 3 w, 0, pSl 5 1 w * 64 + pSl 6 1 w * 4 + pSl 10 3 w * 8) = (8 + pSl 2 3 w, 8 + pSl 7 3 w, 0, pSl 5 1 w * 64 + pSl 6 1 w * 4 + pSl 10 3 w * 8) := by simp [pStr]
  rw [e]
  refine ⟨(pPut_12 (8 + pSl 2 3 w) (8 + pSl 7 3 w) (0) (pSl 5 1 w * 64 + pSl 6 1 w * 4 + pSl 10 3 w * 8) h0 h1 h3).1, (pPut_12 (8 + pSl 2 3 w) (8 + pSl 7 3 w) (0) (pSl 5 1 w * 64 + pSl 6 1 w * 4 + pSl 10 3 w * 8) h0 h1 h3).2, ?_⟩
  intro e he
  have : e = 0 ∨ e = 1 ∨ e = 2 ∨ e = 3 := by omega
  rcases this with rfl | rfl | rfl | rfl
  · show -2147483640 ≤ 8 + pSl 2 3 w ∧ 8 + pSl 2 3 w ≤ 2147483647; omega
  · show -2147483640 ≤ 8 + pSl 7 3 w ∧ 8 + pSl 7 3 w ≤ 2147483647; omega
  · show -2147483640 ≤ 0 ∧ 0 ≤ 2147483647; omega
  · show -2147483640 ≤ pSl 5 1 w * 64 + pSl 6 1 w * 4 + pSl 10 3 w * 8 ∧ pSl 5 1 w * 64 + pSl 6 1 w * 4 + pSl 10 3 w * 8 ≤ 2147483647; omega
theorem st_50 (w : Int) (h : pTk 50 w = true) : pTk 17 (pPut 17 (pStr 50 (pPt 50 w))) = true ∧ pPt 17 (pPut 17 (pStr 50 (pPt 50 w))) = pStr 50 (pPt 50 w) ∧ ∀ e, e < 4 → -2147483640 ≤ p4g (pStr 50 (pPt 50 w)) e ∧ p4g (pStr 50 (pPt 50 w)) e ≤ 2147483647 := by
  obtain ⟨t1, t2⟩ := pTk_50 w
  rw [t2 h]
  have h := t1.mp h
  have b10_3 : 0 ≤ pSl 10 3 w ∧ pSl 10 3 w < 8 := pSl_lo 10 3 w
  have b2_3 : 0 ≤ pSl 2 3 w ∧ pSl 2 3 w < 8 := pSl_lo 2 3 w
  have b5_1 : 0 ≤ pSl 5 1 w ∧ pSl 5 1 w < 2 := pSl_lo 5 1 w
  have b6_1 : 0 ≤ pSl 6 1 w ∧ pSl 6 1 w < 2 := pSl_lo 6 1 w
  have b7_3 : 0 ≤ pSl 7 3 w ∧ pSl 7 3 w < 8 := pSl_lo 7 3 w
  have h1 : 0 ≤ (8 + pSl 7 3 w : Int) ∧ (8 + pSl 7 3 w : Int) ≤ 31 := by omega
  have h2 : 0 ≤ (8 + pSl 2 3 w : Int) ∧ (8 + pSl 2 3 w : Int) ≤ 31 := by omega
  have h3 : -2048 ≤ (pSl 5 1 w * 64 + pSl 6 1 w * 4 + pSl 10 3 w * 8 : Int) ∧ (pSl 5 1 w * 64 + pSl 6 1 w * 4 + pSl 10 3 w * 8 : Int) ≤ 2047 ∧ (pSl 5 1 w * 64 + pSl 6 1 w * 4 + pSl 10 3 w * 8 : Int) % 1 = 0 := by omega
  have e : pStr 50 (0, 8 + pSl 7 3 w, 8 + pSl 2 3 w, pSl 5 1 w * 64 + pSl 6 1 w * 4 + pSl 10 3 w * 8) = (0, 8 + pSl 7 3 w, 8 + pSl 2 3 w, pSl 5 1 w * 64 + pSl 6 1 w * 4 + pSl 10 3 w * 8) := by simp [pStr]
  rw [e]
  refine ⟨(pPut_17 (0) (8 + pSl 7 3 w) (8 + pSl 2 3 w) (pSl 5 1 w * 64 + pSl 6 1 w * 4 + pSl 10 3 w * 8) h1 h2 h3).1, (pPut_17 (0) (8 + pSl 7 3 w) (8 + pSl 2 3 w) (pSl 5 1 w * 64 + pSl 6 1 w * 4 + pSl 10 3 w * 8) h1 h2 h3).2, ?_⟩
  intro e he
  have : e = 0 ∨ e = 1 ∨ e = 2 ∨ e = 3 := by omega
  rcases this with rfl | rfl | rfl | rfl
  · show -2147483640 ≤ 0 ∧ 0 ≤ 2147483647; omega
  · show -2147483640 ≤ 8 + pSl 7 3 w ∧ 8 + pSl 7 3 w ≤ 2147483647; omega
  · show -2147483640 ≤ 8 + pSl 2 3 w ∧ 8 + pSl 2 3 w ≤ 2147483647; omega
  · show -2147483640 ≤ pSl 5 1 w * 64 + pSl 6 1 w * 4 + pSl 10 3 w * 8 ∧ pSl 5 1 w * 64 + pSl 6 1 w * 4 + pSl 10 3 w * 8 ≤ 2147483647; omega
theorem st_51 (w : Int) (h : pTk 51 w = true) : pTk 18 (pPut 18 (pStr 51 (pPt 51 w))) = true ∧ pPt 18 (pPut 18 (pStr 51 (pPt 51 w))) = pStr 51 (pPt 51 w) ∧ ∀ e, e < 4 → -2147483640 ≤ p4g (pStr 51 (pPt 51 w)) e ∧ p4g (pStr 51 (pPt 51 w)) e ≤ 2147483647 := by
  obtain ⟨t1, t2⟩ := pTk_51 w
  rw [t2 h]
  have h := t1.mp h
  have h0 : 0 ≤ (0 : Int) ∧ (0 : Int) ≤ 31 := by omega
  have h1 : 0 ≤ (0 : Int) ∧ (0 : Int) ≤ 31 := by omega
  have h3 : -2048 ≤ (0 : Int) ∧ (0 : Int) ≤ 2047 ∧ (0 : Int) % 1 = 0 := by omega
  have e : pStr 51 (0, 0, 0, 0) = (0, 0, 0, 0) := by simp [pStr]
  rw [e]
  refine ⟨(pPut_18 (0) (0) (0) (0) h0 h1 h3).1, (pPut_18 (0) (0) (0) (0) h0 h1 h3).2, ?_⟩
  intro e he
  have : e = 0 ∨ e = 1 ∨ e = 2 ∨ e = 3 := by omega
  rcases this with rfl | rfl | rfl | rfl
  · show -2147483640 ≤ 0 ∧ 0 ≤ 2147483647; omega
  · show -2147483640 ≤ 0 ∧ 0 ≤ 2147483647; omega
  · show -2147483640 ≤ 0 ∧ 0 ≤ 2147483647; omega
  · show -2147483640 ≤ 0 ∧ 0 ≤ 2147483647; omega
theorem st_52 (w : Int) (h : pTk 52 w = true) : pTk 18 (pPut 18 (pStr 52 (pPt 52 w))) = true ∧ pPt 18 (pPut 18 (pStr 52 (pPt 52 w))) = pStr 52 (pPt 52 w) ∧ ∀ e, e < 4 → -2147483640 ≤ p4g (pStr 52 (pPt 52 w)) e ∧ p4g (pStr 52 (pPt 52 w)) e ≤ 2147483647 := by
  obtain ⟨t1, t2⟩ := pTk_52 w
  rw [t2 h]
  have h := t1.mp h
  have b12_1 : 0 ≤ pSl 12 1 w ∧ pSl 12 1 w < 2 := pSl_lo 12 1 w
  have b2_5 : 0 ≤ pSl 2 5 w ∧ pSl 2 5 w < 32 := pSl_lo 2 5 w
  have b7_5 : 0 ≤ pSl 7 5 w ∧ pSl 7 5 w < 32 := pSl_lo 7 5 w
  have bi : -32 ≤ sxt 6 (pSl 2 5 w + pSl 12 1 w * 32) ∧ sxt 6 (pSl 2 5 w + pSl 12 1 w * 32) < 32 := by unfold sxt; simp only [show (2 : Int) ^ 6 = 64 from rfl, show (2 : Int) ^ (6 - 1) = 32 from rfl]; split <;> omega
  have h0 : 0 ≤ (pSl 7 5 w : Int) ∧ (pSl 7 5 w : Int) ≤ 31 := by omega
  have h1 : 0 ≤ (pSl 7 5 w : Int) ∧ (pSl 7 5 w : Int) ≤ 31 := by omega
  have h3 : -2048 ≤ (sxt 6 (pSl 2 5 w + pSl 12 1 w * 32) : Int) ∧ (sxt 6 (pSl 2 5 w + pSl 12 1 w * 32) : Int) ≤ 2047 ∧ (sxt 6 (pSl 2 5 w + pSl 12 1 w * 32) : Int) % 1 = 0 := by unfold sxt; simp only [show (2 : Int) ^ 6 = 64 from rfl, show (2 : Int) ^ (6 - 1) = 32 from rfl]; split <;> omega
  have e : pStr 52 (pSl 7 5 w, 0, 0, sxt 6 (pSl 2 5 w + pSl 12 1 w * 32)) = (pSl 7 5 w, pSl 7 5 w, 0, sxt 6 (pSl 2 5 w + pSl 12 1 w * 32)) := by simp [pStr]
  rw [e]
  refine ⟨(pPut_18 (pSl 7 5 w) (pSl 7 5 w) (0) (sxt 6 (pSl 2 5 w + pSl 12 1 w * 32)) h0 h1 h3).1, (pPut_18 (pSl 7 5 w) (pSl 7 5 w) (0) (sxt 6 (pSl 2 5 w + pSl 12 1 w * 32)) h0 h1 h3).2, ?_⟩
  intro e he
  have : e = 0 ∨ e = 1 ∨ e = 2 ∨ e = 3 := by omega
  rcases this with rfl | rfl | rfl | rfl
  · show -2147483640 ≤ pSl 7 5 w ∧ pSl 7 5 w ≤ 2147483647; omega
  · show -2147483640 ≤ pSl 7 5 w ∧ pSl 7 5 w ≤ 2147483647; omega
  · show -2147483640 ≤ 0 ∧ 0 ≤ 2147483647; omega
  · show -2147483640 ≤ sxt 6 (pSl 2 5 w + pSl 12 1 w * 32) ∧ sxt 6 (pSl 2 5 w + pSl 12 1 w * 32) ≤ 2147483647; omega
theorem st_53 (w : Int) (h : pTk 53 w = true) : pTk 2 (pPut 2 (pStr 53 (pPt 53 w))) = true ∧ pPt 2 (pPut 2 (pStr 53 (pPt 53 w))) = pStr 53 (pPt 53 w) ∧ ∀ e, e < 4 → -2147483640 ≤ p4g (pStr 53 (pPt 53 w)) e ∧ p4g (pStr 53 (pPt 53 w)) e ≤ 2147483647 := by
  obtain ⟨t1, t2⟩ := pTk_53 w
  rw [t2 h]
  have h := t1.mp h
  have b11_1 : 0 ≤ pSl 11 1 w ∧ pSl 11 1 w < 2 := pSl_lo 11 1 w
  have b12_1 : 0 ≤ pSl 12 1 w ∧ pSl 12 1 w < 2 := pSl_lo 12 1 w
  have b2_1 : 0 ≤ pSl 2 1 w ∧ pSl 2 1 w < 2 := pSl_lo 2 1 w
  have b3_3 : 0 ≤ pSl 3 3 w ∧ pSl 3 3 w < 8 := pSl_lo 3 3 w
  have b6_1 : 0 ≤ pSl 6 1 w ∧ pSl 6 1 w < 2 := pSl_lo 6 1 w
  have b7_1 : 0 ≤ pSl 7 1 w ∧ pSl 7 1 w < 2 := pSl_lo 7 1 w
  have b8_1 : 0 ≤ pSl 8 1 w ∧ pSl 8 1 w < 2 := pSl_lo 8 1 w
  have b9_2 : 0 ≤ pSl 9 2 w ∧ pSl 9 2 w < 4 := pSl_lo 9 2 w
  have bi : -2048 ≤ sxt 12 (pSl 2 1 w * 32 + pSl 3 3 w * 2 + pSl 6 1 w * 128 + pSl 7 1 w * 64 + pSl 8 1 w * 1024 + pSl 9 2 w * 256 + pSl 11 1 w * 16 + pSl 12 1 w * 2048) ∧ sxt 12 (pSl 2 1 w * 32 + pSl 3 3 w * 2 + pSl 6 1 w * 128 + pSl 7 1 w * 64 + pSl 8 1 w * 1024 + pSl 9 2 w * 256 + pSl 11 1 w * 16 + pSl 12 1 w * 2048) < 2048 := by unfold sxt; simp only [show (2 : Int) ^ 12 = 4096 from rfl, show (2 : Int) ^ (12 - 1) = 2048 from rfl]; split <;> omega
  have h0 : 0 ≤ (1 : Int) ∧ (1 : Int) ≤ 31 := by omega
  have h3 : -1048576 ≤ (sxt 12 (pSl 2 1 w * 32 + pSl 3 3 w * 2 + pSl 6 1 w * 128 + pSl 7 1 w * 64 + pSl 8 1 w * 1024 + pSl 9 2 w * 256 + pSl 11 1 w * 16 + pSl 12 1 w * 2048) : Int) ∧ (sxt 12 (pSl 2 1 w * 32 + pSl 3 3 w * 2 + pSl 6 1 w * 128 + pSl 7 1 w * 64 + pSl 8 1 w * 1024 + pSl 9 2 w * 256 + pSl 11 1 w * 16 + pSl 12 1 w * 2048) : Int) ≤ 1048574 ∧ (sxt 12 (pSl 2 1 w * 32 + pSl 3 3 w * 2 + pSl 6 1 w * 128 + pSl 7 1 w * 64 + pSl 8 1 w * 1024 + pSl 9 2 w * 256 + pSl 11 1 w * 16 + pSl 12 1 w * 2048) : Int) % 2 = 0 := by unfold sxt; simp only [show (2 : Int) ^ 12 = 4096 from rfl, show (2 : Int) ^ (12 - 1) = 2048 from rfl]; split <;> omega
  have e : pStr 53 (0, 0, 0, sxt 12 (pSl 2 1 w * 32 + pSl 3 3 w * 2 + pSl 6 1 w * 128 + pSl 7 1 w * 64 + pSl 8 1 w * 1024 + pSl 9 2 w * 256 + pSl 11 1 w * 16 + pSl 12 1 w * 2048)) = (1, 0, 0, sxt 12 (pSl 2 1 w * 32 + pSl 3 3 w * 2 + pSl 6 1 w * 128 + pSl 7 1 w * 64 + pSl 8 1 w * 1024 + pSl 9 2 w * 256 + pSl 11 1 w * 16 + pSl 12 1 w * 2048)) := by simp [pStr]
  rw [e]
  refine ⟨(pPut_2 (1) (0) (0) (sxt 12 (pSl 2 1 w * 32 + pSl 3 3 w * 2 + pSl 6 1 w * 128 + pSl 7 1 w * 64 + pSl 8 1 w * 1024 + pSl 9 2 w * 256 + pSl 11 1 w * 16 + pSl 12 1 w * 2048)) h0 h3).1, (pPut_2 (1) (0) (0) (sxt 12 (pSl 2 1 w * 32 + pSl 3 3 w * 2 + pSl 6 1 w * 128 + pSl 7 1 w * 64 + pSl 8 1 w * 1024 + pSl 9 2 w * 256 + pSl 11 1 w * 16 + pSl 12 1 w * 2048)) h0 h3).2, ?_⟩
  intro e he
  have : e = 0 ∨ e = 1 ∨ e = 2 ∨ e = 3 := by omega
  rcases this with rfl | rfl | rfl | rfl
  · show -2147483640 ≤ 1 ∧ 1 ≤ 2147483647; omega
  · show -2147483640 ≤ 0 ∧ 0 ≤ 2147483647; omega
  · show -2147483640 ≤ 0 ∧ 0 ≤ 2147483647; omega
  · show -2147483640 ≤ sxt 12 (pSl 2 1 w * 32 + pSl 3 3 w * 2 + pSl 6 1 w * 128 + pSl 7 1 w * 64 + pSl 8 1 w * 1024 + pSl 9 2 w * 256 + pSl 11 1 w * 16 + pSl 12 1 w * 2048) ∧ sxt 12 (pSl 2 1 w * 32 + pSl 3 3 w * 2 + pSl 6 1 w * 128 + pSl 7 1 w * 64 + pSl 8 1 w * 1024 + pSl 9 2 w * 256 + pSl 11 1 w * 16 + pSl 12 1 w * 2048) ≤ 2147483647; omega
theorem st_54 (w : Int) (h : pTk 54 w = true) : pTk 18 (pPut 18 (pStr 54 (pPt 54 w))) = true ∧ pPt 18 (pPut 18 (pStr 54 (pPt 54 w))) = pStr 54 (pPt 54 w) ∧ ∀ e, e < 4 → -2147483640 ≤ p4g (pStr 54 (pPt 54 w)) e ∧ p4g (pStr 54 (pPt 54 w)) e ≤ 2147483647 := by
  obtain ⟨t1, t2⟩ := pTk_54 w
  rw [t2 h]
  have h := t1.mp h
  have b12_1 : 0 ≤ pSl 12 1 w ∧ pSl 12 1 w < 2 := pSl_lo 12 1 w
  have b2_5 : 0 ≤ pSl 2 5 w ∧ pSl 2 5 w < 32 := pSl_lo 2 5 w
  have b7_5 : 0 ≤ pSl 7 5 w ∧ pSl 7 5 w < 32 := pSl_lo 7 5 w
  have bi : -32 ≤ sxt 6 (pSl 2 5 w + pSl 12 1 w * 32) ∧ sxt 6 (pSl 2 5 w + pSl 12 1 w * 32) < 32 := by unfold sxt; simp only [show (2 : Int) ^ 6 = 64 from rfl, show (2 : Int) ^ (6 - 1) = 32 from rfl]; split <;> omega
  have h0 : 0 ≤ (pSl 7 5 w : Int) ∧ (pSl 7 5 w : Int) ≤ 31 := by omega
  have h1 : 0 ≤ (0 : Int) ∧ (0 : Int) ≤ 31 := by omega
  have h3 : -2048 ≤ (sxt 6 (pSl 2 5 w + pSl 12 1 w * 32) : Int) ∧ (sxt 6 (pSl 2 5 w + pSl 12 1 w * 32) : Int) ≤ 2047 ∧ (sxt 6 (pSl 2 5 w + pSl 12 1 w * 32) : Int) % 1 = 0 := by unfold sxt; simp only [show (2 : Int) ^ 6 = 64 from rfl, show (2 : Int) ^ (6 - 1) = 32 from rfl]; split <;> omega
  have e : pStr 54 (pSl 7 5 w, 0, 0, sxt 6 (pSl 2 5 w + pSl 12 1 w * 32)) = (pSl 7 5 w, 0, 0, sxt 6 (pSl 2 5 w + pSl 12 1 w * 32)) := by simp [pStr]
  rw [e]
  refine ⟨(pPut_18 (pSl 7 5 w) (0) (0) (sxt 6 (pSl 2 5 w + pSl 12 1 w * 32)) h0 h1 h3).1, (pPut_18 (pSl 7 5 w) (0) (0) (sxt 6 (pSl 2 5 w + pSl 12 1 w * 32)) h0 h1 h3).2, ?_⟩
  intro e he
  have : e = 0 ∨ e = 1 ∨ e = 2 ∨ e = 3 := by omega
  rcases this with rfl | rfl | rfl | rfl
  · show -2147483640 ≤ pSl 7 5 w ∧ pSl 7 5 w ≤ 2147483647; omega
  · show -2147483640 ≤ 0 ∧ 0 ≤ 2147483647; omega
  · show -2147483640 ≤ 0 ∧ 0 ≤ 2147483647; omega
  · show -2147483640 ≤ sxt 6 (pSl 2 5 w + pSl 12 1 w * 32) ∧ sxt 6 (pSl 2 5 w + pSl 12 1 w * 32) ≤ 2147483647; omega
theorem st_55 (w : Int) (h : pTk 55 w = true) : pTk 18 (pPut 18 (pStr 55 (pPt 55 w))) = true ∧ pPt 18 (pPut 18 (pStr 55 (pPt 55 w))) = pStr 55 (pPt 55 w) ∧ ∀ e, e < 4 → -2147483640 ≤ p4g (pStr 55 (pPt 55 w)) e ∧ p4g (pStr 55 (pPt 55 w)) e ≤ 2147483647 := by
  obtain ⟨t1, t2⟩ := pTk_55 w
  rw [t2 h]
  have h := t1.mp h
  have b12_1 : 0 ≤ pSl 12 1 w ∧ pSl 12 1 w < 2 := pSl_lo 12 1 w
  have b2_1 : 0 ≤ pSl 2 1 w ∧ pSl 2 1 w < 2 := pSl_lo 2 1 w
  have b3_2 : 0 ≤ pSl 3 2 w ∧ pSl 3 2 w < 4 := pSl_lo 3 2 w
  have b5_1 : 0 ≤ pSl 5 1 w ∧ pSl 5 1 w < 2 := pSl_lo 5 1 w
  have b6_1 : 0 ≤ pSl 6 1 w ∧ pSl 6 1 w < 2 := pSl_lo 6 1 w
  have bi : -512 ≤ sxt 10 (pSl 2 1 w * 32 + pSl 3 2 w * 128 + pSl 5 1 w * 64 + pSl 6 1 w * 16 + pSl 12 1 w * 512) ∧ sxt 10 (pSl 2 1 w * 32 + pSl 3 2 w * 128 + pSl 5 1 w * 64 + pSl 6 1 w * 16 + pSl 12 1 w * 512) < 512 := by unfold sxt; simp only [show (2 : Int) ^ 10 = 1024 from rfl, show (2 : Int) ^ (10 - 1) = 512 from rfl]; split <;> omega
  have h0 : 0 ≤ (2 : Int) ∧ (2 : Int) ≤ 31 := by omega
  have h1 : 0 ≤ (2 : Int) ∧ (2 : Int) ≤ 31 := by omega
  have h3 : -2048 ≤ (sxt 10 (pSl 2 1 w * 32 + pSl 3 2 w * 128 + pSl 5 1 w * 64 + pSl 6 1 w * 16 + pSl 12 1 w * 512) : Int) ∧ (sxt 10 (pSl 2 1 w * 32 + pSl 3 2 w * 128 + pSl 5 1 w * 64 + pSl 6 1 w * 16 + pSl 12 1 w * 512) : Int) ≤ 2047 ∧ (sxt 10 (pSl 2 1 w * 32 + pSl 3 2 w * 128 + pSl 5 1 w * 64 + pSl 6 1 w * 16 + pSl 12 1 w * 512) : Int) % 1 = 0 := by unfold sxt; simp only [show (2 : Int) ^ 10 = 1024 from rfl, show (2 : Int) ^ (10 - 1) = 512 from rfl]; split <;> omega
  have e : pStr 55 (0, 0, 0, sxt 10 (pSl 2 1 w * 32 + pSl 3 2 w * 128 + pSl 5 1 w * 64 + pSl 6 1 w * 16 + pSl 12 1 w * 512)) = (2, 2, 0, sxt 10 (pSl 2 1 w * 32 + pSl 3 2 w * 128 + pSl 5 1 w * 64 + pSl 6 1 w * 16 + pSl 12 1 w * 512)) := by simp [pStr]
  rw [e]
  refine ⟨(pPut_18 (2) (2) (0) (sxt 10 (pSl 2 1 w * 32 + pSl 3 2 w * 128 + pSl 5 1 w * 64 + pSl 6 1 w * 16 + pSl 12 1 w * 512)) h0 h1 h3).1, (pPut_18 (2) (2) (0) (sxt 10 (pSl 2 1 w * 32 + pSl 3 2 w * 128 + pSl 5 1 w * 64 + pSl 6 1 w * 16 + pSl 12 1 w * 512)) h0 h1 h3).2, ?_⟩
  intro e he
  have : e = 0 ∨ e = 1 ∨ e = 2 ∨ e = 3 := by omega
  rcases this with rfl | rfl | rfl | rfl
  · show -2147483640 ≤ 2 ∧ 2 ≤ 2147483647; omega
  · show -2147483640 ≤ 2 ∧ 2 ≤ 2147483647; omega
  · show -2147483640 ≤ 0 ∧ 0 ≤ 2147483647; omega
  · show -2147483640 ≤ sxt 10 (pSl 2 1 w * 32 + pSl 3 2 w * 128 + pSl 5 1 w * 64 + pSl 6 1 w * 16 + pSl 12 1 w * 512) ∧ sxt 10 (pSl 2 1 w * 32 + pSl 3 2 w * 128 + pSl 5 1 w * 64 + pSl 6 1 w * 16 + pSl 12 1 w * 512) ≤ 2147483647; omega
theorem st_56 (w : Int) (h : pTk 56 w = true) : pTk 0 (pPut 0 (pStr 56 (pPt 56 w))) = true ∧ pPt 0 (pPut 0 (pStr 56 (pPt 56 w))) = pStr 56 (pPt 56 w) ∧ ∀ e, e < 4 → -2147483640 ≤ p4g (pStr 56 (pPt 56 w)) e ∧ p4g (pStr 56 (pPt 56 w)) e ≤ 2147483647 := by
  obtain ⟨t1, t2⟩ := pTk_56 w
  rw [t2 h]
  have h := t1.mp h
  have b12_1 : 0 ≤ pSl 12 1 w ∧ pSl 12 1 w < 2 := pSl_lo 12 1 w
  have b2_5 : 0 ≤ pSl 2 5 w ∧ pSl 2 5 w < 32 := pSl_lo 2 5 w
  have b7_5 : 0 ≤ pSl 7 5 w ∧ pSl 7 5 w < 32 := pSl_lo 7 5 w
  skip
  have h0 : 0 ≤ (pSl 7 5 w : Int) ∧ (pSl 7 5 w : Int) ≤ 31 := by omega
  have h3 : 0 ≤ (sxt 6 (pSl 2 5 w + pSl 12 1 w * 32) % 1048576 : Int) ∧ (sxt 6 (pSl 2 5 w + pSl 12 1 w * 32) % 1048576 : Int) ≤ 1048575 ∧ (sxt 6 (pSl 2 5 w + pSl 12 1 w * 32) % 1048576 : Int) % 1 = 0 := by unfold sxt; simp only [show (2 : Int) ^ 6 = 64 from rfl, show (2 : Int) ^ (6 - 1) = 32 from rfl]; split <;> omega
  have e : pStr 56 (pSl 7 5 w, 0, 0, sxt 6 (pSl 2 5 w + pSl 12 1 w * 32) % 1048576) = (pSl 7 5 w, 0, 0, sxt 6 (pSl 2 5 w + pSl 12 1 w * 32) % 1048576) := by simp [pStr]
  rw [e]
  refine ⟨(pPut_0 (pSl 7 5 w) (0) (0) (sxt 6 (pSl 2 5 w + pSl 12 1 w * 32) % 1048576) h0 h3).1, (pPut_0 (pSl 7 5 w) (0) (0) (sxt 6 (pSl 2 5 w + pSl 12 1 w * 32) % 1048576) h0 h3).2, ?_⟩
  intro e he
  have : e = 0 ∨ e = 1 ∨ e = 2 ∨ e = 3 := by omega
  rcases this with rfl | rfl | rfl | rfl
  · show -2147483640 ≤ pSl 7 5 w ∧ pSl 7 5 w ≤ 2147483647; omega
  · show -2147483640 ≤ 0 ∧ 0 ≤ 2147483647; omega
  · show -2147483640 ≤ 0 ∧ 0 ≤ 2147483647; omega
  · show -2147483640 ≤ sxt 6 (pSl 2 5 w + pSl 12 1 w * 32) % 1048576 ∧ sxt 6 (pSl 2 5 w + pSl 12 1 w * 32) % 1048576 ≤ 2147483647; omega
theorem st_57 (w : Int) (h : pTk 57 w = true) : pTk 25 (pPut 25 (pStr 57 (pPt 57 w))) = true ∧ pPt 25 (pPut 25 (pStr 57 (pPt 57 w))) = pStr 57 (pPt 57 w) ∧ ∀ e, e < 4 → -2147483640 ≤ p4g (pStr 57 (pPt 57 w)) e ∧ p4g (pStr 57 (pPt 57 w)) e ≤ 2147483647 := by
  obtain ⟨t1, t2⟩ := pTk_57 w
  rw [t2 h]
  have h := t1.mp h
  have b2_5 : 0 ≤ pSl 2 5 w ∧ pSl 2 5 w < 32 := pSl_lo 2 5 w
  have b7_3 : 0 ≤ pSl 7 3 w ∧ pSl 7 3 w < 8 := pSl_lo 7 3 w
  have h0 : 0 ≤ (8 + pSl 7 3 w : Int) ∧ (8 + pSl 7 3 w : Int) ≤ 31 := by omega
  have h1 : 0 ≤ (8 + pSl 7 3 w : Int) ∧ (8 + pSl 7 3 w : Int) ≤ 31 := by omega
  have h3 : 0 ≤ (pSl 2 5 w : Int) ∧ (pSl 2 5 w : Int) ≤ 31 ∧ (pSl 2 5 w : Int) % 1 = 0 := by omega
  have e : pStr 57 (8 + pSl 7 3 w, 0, 0, pSl 2 5 w) = (8 + pSl 7 3 w, 8 + pSl 7 3 w, 0, pSl 2 5 w) := by simp [pStr]
  rw [e]
  refine ⟨(pPut_25 (8 + pSl 7 3 w) (8 + pSl 7 3 w) (0) (pSl 2 5 w) h0 h1 h3).1, (pPut_25 (8 + pSl 7 3 w) (8 + pSl 7 3 w) (0) (pSl 2 5 w) h0 h1 h3).2, ?_⟩
  intro e he
  have : e = 0 ∨ e = 1 ∨ e = 2 ∨ e = 3 := by omega
  rcases this with rfl | rfl | rfl | rfl
  · show -2147483640 ≤ 8 + pSl 7 3 w ∧ 8 + pSl 7 3 w ≤ 2147483647; omega
  · show -2147483640 ≤ 8 + pSl 7 3 w ∧ 8 + pSl 7 3 w ≤ 2147483647; omega
  · show -2147483640 ≤ 0 ∧ 0 ≤ 2147483647; omega
  · show -2147483640 ≤ pSl 2 5 w ∧ pSl 2 5 w ≤ 2147483647; omega
theorem st_58 (w : Int) (h : pTk 58 w = true) : pTk 26 (pPut 26 (pStr 58 (pPt 58 w))) = true ∧ pPt 26 (pPut 26 (pStr 58 (pPt 58 w))) = pStr 58 (pPt 58 w) ∧ ∀ e, e < 4 → -2147483640 ≤ p4g (pStr 58 (pPt 58 w)) e ∧ p4g (pStr 58 (pPt 58 w)) e ≤ 2147483647 := by
  obtain ⟨t1, t2⟩ := pTk_58 w
  rw [t2 h]
  have h := t1.mp h
  have b2_5 : 0 ≤ pSl 2 5 w ∧ pSl 2 5 w < 32 := pSl_lo 2 5 w
  have b7_3 : 0 ≤ pSl 7 3 w ∧ pSl 7 3 w < 8 := pSl_lo 7 3 w
  have h0 : 0 ≤ (8 + pSl 7 3 w : Int) ∧ (8 + pSl 7 3 w : Int) ≤ 31 := by omega
  have h1 : 0 ≤ (8 + pSl 7 3 w : Int) ∧ (8 + pSl 7 3 w : Int) ≤ 31 := by omega
  have h3 : 0 ≤ (pSl 2 5 w : Int) ∧ (pSl 2 5 w : Int) ≤ 31 ∧ (pSl 2 5 w : Int) % 1 = 0 := by omega
  have e : pStr 58 (8 + pSl 7 3 w, 0, 0, pSl 2 5 w) = (8 + pSl 7 3 w, 8 + pSl 7 3 w, 0, pSl 2 5 w) := by simp [pStr]
  rw [e]
  refine ⟨(pPut_26 (8 + pSl 7 3 w) (8 + pSl 7 3 w) (0) (pSl 2 5 w) h0 h1 h3).1, (pPut_26 (8 + pSl 7 3 w) (8 + pSl 7 3 w) (0) (pSl 2 5 w) h0 h1 h3).2, ?_⟩
  intro e he
  have : e = 0 ∨ e = 1 ∨ e = 2 ∨ e = 3 := by omega
  rcases this with rfl | rfl | rfl | rfl
  · show -2147483640 ≤ 8 + pSl 7 3 w ∧ 8 + pSl 7 3 w ≤ 2147483647; omega
  · show -2147483640 ≤ 8 + pSl 7 3 w ∧ 8 + pSl 7 3 w ≤ 2147483647; omega
  · show -2147483640 ≤ 0 ∧ 0 ≤ 2147483647; omega
  · show -2147483640 ≤ pSl 2 5 w ∧ pSl 2 5 w ≤ 2147483647; omega
theorem st_59 (w : Int) (h : pTk 59 w = true) : pTk 23 (pPut 23 (pStr 59 (pPt 59 w))) = true ∧ pPt 23 (pPut 23 (pStr 59 (pPt 59 w))) = pStr 59 (pPt 59 w) ∧ ∀ e, e < 4 → -2147483640 ≤ p4g (pStr 59 (pPt 59 w)) e ∧ p4g (pStr 59 (pPt 59 w)) e ≤ 2147483647 := by
  obtain ⟨t1, t2⟩ := pTk_59 w
  rw [t2 h]
  have h := t1.mp h
  have b12_1 : 0 ≤ pSl 12 1 w ∧ pSl 12 1 w < 2 := pSl_lo 12 1 w
  have b2_5 : 0 ≤ pSl 2 5 w ∧ pSl 2 5 w < 32 := pSl_lo 2 5 w
  have b7_3 : 0 ≤ pSl 7 3 w ∧ pSl 7 3 w < 8 := pSl_lo 7 3 w
  have bi : -32 ≤ sxt 6 (pSl 2 5 w + pSl 12 1 w * 32) ∧ sxt 6 (pSl 2 5 w + pSl 12 1 w * 32) < 32 := by unfold sxt; simp only [show (2 : Int) ^ 6 = 64 from rfl, show (2 : Int) ^ (6 - 1) = 32 from rfl]; split <;> omega
  have h0 : 0 ≤ (8 + pSl 7 3 w : Int) ∧ (8 + pSl 7 3 w : Int) ≤ 31 := by omega
  have h1 : 0 ≤ (8 + pSl 7 3 w : Int) ∧ (8 + pSl 7 3 w : Int) ≤ 31 := by omega
  have h3 : -2048 ≤ (sxt 6 (pSl 2 5 w + pSl 12 1 w * 32) : Int) ∧ (sxt 6 (pSl 2 5 w + pSl 12 1 w * 32) : Int) ≤ 2047 ∧ (sxt 6 (pSl 2 5 w + pSl 12 1 w * 32) : Int) % 1 = 0 := by unfold sxt; simp only [show (2 : Int) ^ 6 = 64 from rfl, show (2 : Int) ^ (6 - 1) = 32 from rfl]; split <;> omega
  have e : pStr 59 (8 + pSl 7 3 w, 0, 0, sxt 6 (pSl 2 5 w + pSl 12 1 w * 32)) = (8 + pSl 7 3 w, 8 + pSl 7 3 w, 0, sxt 6 (pSl 2 5 w + pSl 12 1 w * 32)) := by simp [pStr]
  rw [e]
  refine ⟨(pPut_23 (8 + pSl 7 3 w) (8 + pSl 7 3 w) (0) (sxt 6 (pSl 2 5 w + pSl 12 1 w * 32)) h0 h1 h3).1, (pPut_23 (8 + pSl 7 3 w) (8 + pSl 7 3 w) (0) (sxt 6 (pSl 2 5 w + pSl 12 1 w * 32)) h0 h1 h3).2, ?_⟩
  intro e he
  have : e = 0 ∨ e = 1 ∨ e = 2 ∨ e = 3 := by omega
  rcases this with rfl | rfl | rfl | rfl
  · show -2147483640 ≤ 8 + pSl 7 3 w ∧ 8 + pSl 7 3 w ≤ 2147483647; omega
  · show -2147483640 ≤ 8 + pSl 7 3 w ∧ 8 + pSl 7 3 w ≤ 2147483647; omega
  · show -2147483640 ≤ 0 ∧ 0 ≤ 2147483647; omega
  · show -2147483640 ≤ sxt 6 (pSl 2 5 w + pSl 12 1 w * 32) ∧ sxt 6 (pSl 2 5 w + pSl 12 1 w * 32) ≤ 2147483647; omega
theorem st_60 (w : Int) (h : pTk 60 w = true) : pTk 28 (pPut 28 (pStr 60 (pPt 60 w))) = true ∧ pPt 28 (pPut 28 (pStr 60 (pPt 60 w))) = pStr 60 (pPt 60 w) ∧ ∀ e, e < 4 → -2147483640 ≤ p4g (pStr 60 (pPt 60 w)) e ∧ p4g (pStr 60 (pPt 60 w)) e ≤ 2147483647 := by
  obtain ⟨t1, t2⟩ := pTk_60 w
  rw [t2 h]
  have h := t1.mp h
  have b2_3 : 0 ≤ pSl 2 3 w ∧ pSl 2 3 w < 8 := pSl_lo 2 3 w
  have b7_3 : 0 ≤ pSl 7 3 w ∧ pSl 7 3 w < 8 := pSl_lo 7 3 w
  have h0 : 0 ≤ (8 + pSl 7 3 w : Int) ∧ (8 + pSl 7 3 w : Int) ≤ 31 := by omega
  have h1 : 0 ≤ (8 + pSl 7 3 w : Int) ∧ (8 + pSl 7 3 w : Int) ≤ 31 := by omega
  have h2 : 0 ≤ (8 + pSl 2 3 w : Int) ∧ (8 + pSl 2 3 w : Int) ≤ 31 := by omega
  have e : pStr 60 (8 + pSl 7 3 w, 0, 8 + pSl 2 3 w, 0) = (8 + pSl 7 3 w, 8 + pSl 7 3 w, 8 + pSl 2 3 w, 0) := by simp [pStr]
  rw [e]
  refine ⟨(pPut_28 (8 + pSl 7 3 w) (8 + pSl 7 3 w) (8 + pSl 2 3 w) (0) h0 h1 h2).1, (pPut_28 (8 + pSl 7 3 w) (8 + pSl 7 3 w) (8 + pSl 2 3 w) (0) h0 h1 h2).2, ?_⟩
  intro e he
  have : e = 0 ∨ e = 1 ∨ e = 2 ∨ e = 3 := by omega
  rcases this with rfl | rfl | rfl | rfl
  · show -2147483640 ≤ 8 + pSl 7 3 w ∧ 8 + pSl 7 3 w ≤ 2147483647; omega
  · show -2147483640 ≤ 8 + pSl 7 3 w ∧ 8 + pSl 7 3 w ≤ 2147483647; omega
  · show -2147483640 ≤ 8 + pSl 2 3 w ∧ 8 + pSl 2 3 w ≤ 2147483647; omega
  · show -2147483640 ≤ 0 ∧ 0 ≤ 2147483647; omega
theorem st_61 (w : Int) (h : pTk 61 w = true) : pTk 32 (pPut 32 (pStr 61 (pPt 61 w))) = true ∧ pPt 32 (pPut 32 (pStr 61 (pPt 61 w))) = pStr 61 (pPt 61 w) ∧ ∀ e, e < 4 → -2147483640 ≤ p4g (pStr 61 (pPt 61 w)) e ∧ p4g (pStr 61 (pPt 61 w)) e ≤ 2147483647 := by
  obtain ⟨t1, t2⟩ := pTk_61 w
  rw [t2 h]
  have h := t1.mp h
  have b2_3 : 0 ≤ pSl 2 3 w ∧ pSl 2 3 w < 8 := pSl_lo 2 3 w
  have b7_3 : 0 ≤ pSl 7 3 w ∧ pSl 7 3 w < 8 := pSl_lo 7 3 w
  have h0 : 0 ≤ (8 + pSl 7 3 w : Int) ∧ (8 + pSl 7 3 w : Int) ≤ 31 := by omega
  have h1 : 0 ≤ (8 + pSl 7 3 w : Int) ∧ (8 + pSl 7 3 w : Int) ≤ 31 := by omega
  have h2 : 0 ≤ (8 + pSl 2 3 w : Int) ∧ (8 + pSl 2 3 w : Int) ≤ 31 := by omega
  have e : pStr 61 (8 + pSl 7 3 w, 0, 8 + pSl 2 3 w, 0) = (8 + pSl 7 3 w, 8 + pSl 7 3 w, 8 + pSl 2 3 w, 0) := by simp [pStr]
  rw [e]
  refine ⟨(pPut_32 (8 + pSl 7 3 w) (8 + pSl 7 3 w) (8 + pSl 2 3 w) (0) h0 h1 h2).1, (pPut_32 (8 + pSl 7 3 w) (8 + pSl 7 3 w) (8 + pSl 2 3 w) (0) h0 h1 h2).2, ?_⟩
  intro e he
  have : e = 0 ∨ e = 1 ∨ e = 2 ∨ e = 3 := by omega
  rcases this with rfl | rfl | rfl | rfl
  · show -2147483640 ≤ 8 + pSl 7 3 w ∧ 8 + pSl 7 3 w ≤ 2147483647; omega
  · show -2147483640 ≤ 8 + pSl 7 3 w ∧ 8 + pSl 7 3 w ≤ 2147483647; omega
  · show -2147483640 ≤ 8 + pSl 2 3 w ∧ 8 + pSl 2 3 w ≤ 2147483647; omega
  · show -2147483640 ≤ 0 ∧ 0 ≤ 2147483647; omega
theorem st_62 (w : Int) (h : pTk 62 w = true) : pTk 35 (pPut 35 (pStr 62 (pPt 62 w))) = true ∧ pPt 35 (pPut 35 (pStr 62 (pPt 62 w))) = pStr 62 (pPt 62 w) ∧ ∀ e, e < 4 → -2147483640 ≤ p4g (pStr 62 (pPt 62 w)) e ∧ p4g (pStr 62 (pPt 62 w)) e ≤ 2147483647 := by
  obtain ⟨t1, t2⟩ := pTk_62 w
  rw [t2 h]
  have h := t1.mp h
  have b2_3 : 0 ≤ pSl 2 3 w ∧ pSl 2 3 w < 8 := pSl_lo 2 3 w
  have b7_3 : 0 ≤ pSl 7 3 w ∧ pSl 7 3 w < 8 := pSl_lo 7 3 w
  have h0 : 0 ≤ (8 + pSl 7 3 w : Int) ∧ (8 + pSl 7 3 w : Int) ≤ 31 := by omega
  have h1 : 0 ≤ (8 + pSl 7 3 w : Int) ∧ (8 + pSl 7 3 w : Int) ≤ 31 := by omega
  have h2 : 0 ≤ (8 + pSl 2 3 w : Int) ∧ (8 + pSl 2 3 w : Int) ≤ 31 := by omega
  have e : pStr 62 (8 + pSl 7 3 w, 0, 8 + pSl 2 3 w, 0) = (8 + pSl 7 3 w, 8 + pSl 7 3 w, 8 + pSl 2 3 w, 0) := by simp [pStr]
  rw [e]
  refine ⟨(pPut_35 (8 + pSl 7 3 w) (8 + pSl 7 3 w) (8 + pSl 2 3 w) (0) h0 h1 h2).1, (pPut_35 (8 + pSl 7 3 w) (8 + pSl 7 3 w) (8 + pSl 2 3 w) (0) h0 h1 h2).2, ?_⟩
  intro e he
  have : e = 0 ∨ e = 1 ∨ e = 2 ∨ e = 3 := by omega
  rcases this with rfl | rfl | rfl | rfl
  · show -2147483640 ≤ 8 + pSl 7 3 w ∧ 8 + pSl 7 3 w ≤ 2147483647; omega
  · show -2147483640 ≤ 8 + pSl 7 3 w ∧ 8 + pSl 7 3 w ≤ 2147483647; omega
  · show -2147483640 ≤ 8 + pSl 2 3 w ∧ 8 + pSl 2 3 w ≤ 2147483647; omega
  · show -2147483640 ≤ 0 ∧ 0 ≤ 2147483647; omega
theorem st_63 (w : Int) (h : pTk 63 w = true) : pTk 36 (pPut 36 (pStr 63 (pPt 63 w))) = true ∧ pPt 36 (pPut 36 (pStr 63 (pPt 63 w))) = pStr 63 (pPt 63 w) ∧ ∀ e, e < 4 → -2147483640 ≤ p4g (pStr 63 (pPt 63 w)) e ∧ p4g (pStr 63 (pPt 63 w)) e ≤ 2147483647 := by
  obtain ⟨t1, t2⟩ := pTk_63 w
  rw [t2 h]
  have h := t1.mp h
  have b2_3 : 0 ≤ pSl 2 3 w ∧ pSl 2 3 w < 8 := pSl_lo 2 3 w
  have b7_3 : 0 ≤ pSl 7 3 w ∧ pSl 7 3 w < 8 := pSl_lo 7 3 w
  have h0 : 0 ≤ (8 + pSl 7 3 w : Int) ∧ (8 + pSl 7 3 w : Int) ≤ 31 := by omega
  have h1 : 0 ≤ (8 + pSl 7 3 w : Int) ∧ (8 + pSl 7 3 w : Int) ≤ 31 := by omega
  have h2 : 0 ≤ (8 + pSl 2 3 w : Int) ∧ (8 + pSl 2 3 w : Int) ≤ 31 := by omega
  have e : pStr 63 (8 + pSl 7 3 w, 0, 8 + pSl 2 3 w, 0) = (8 + pSl 7 3 w, 8 + pSl 7 3 w, 8 + pSl 2 3 w, 0) := by simp [pStr]
  rw [e]
  refine ⟨(pPut_36 (8 + pSl 7 3 w) (8 + pSl 7 3 w) (8 + pSl 2 3 w) (0) h0 h1 h2).1, (pPut_36 (8 + pSl 7 3 w) (8 + pSl 7 3 w) (8 + pSl 2 3 w) (0) h0 h1 h2).2, ?_⟩
  intro e he
  have : e = 0 ∨ e = 1 ∨ e = 2 ∨ e = 3 := by omega
  rcases this with rfl | rfl | rfl | rfl
  · show -2147483640 ≤ 8 + pSl 7 3 w ∧ 8 + pSl 7 3 w ≤ 2147483647; omega
  · show -2147483640 ≤ 8 + pSl 7 3 w ∧ 8 + pSl 7 3 w ≤ 2147483647; omega
  · show -2147483640 ≤ 8 + pSl 2 3 w ∧ 8 + pSl 2 3 w ≤ 2147483647; omega
  · show -2147483640 ≤ 0 ∧ 0 ≤ 2147483647; omega
theorem st_64 (w : Int) (h : pTk 64 w = true) : pTk 2 (pPut 2 (pStr 64 (pPt 64 w))) = true ∧ pPt 2 (pPut 2 (pStr 64 (pPt 64 w))) = pStr 64 (pPt 64 w) ∧ ∀ e, e < 4 → -2147483640 ≤ p4g (pStr 64 (pPt 64 w)) e ∧ p4g (pStr 64 (pPt 64 w)) e ≤ 2147483647 := by
  obtain ⟨t1, t2⟩ := pTk_64 w
  rw [t2 h]
  have h := t1.mp h
  have b11_1 : 0 ≤ pSl 11 1 w ∧ pSl 11 1 w < 2 := pSl_lo 11 1 w
  have b12_1 : 0 ≤ pSl 12 1 w ∧ pSl 12 1 w < 2 := pSl_lo 12 1 w
  have b2_1 : 0 ≤ pSl 2 1 w ∧ pSl 2 1 w < 2 := pSl_lo 2 1 w
  have b3_3 : 0 ≤ pSl 3 3 w ∧ pSl 3 3 w < 8 := pSl_lo 3 3 w
  have b6_1 : 0 ≤ pSl 6 1 w ∧ pSl 6 1 w < 2 := pSl_lo 6 1 w
  have b7_1 : 0 ≤ pSl 7 1 w ∧ pSl 7 1 w < 2 := pSl_lo 7 1 w
  have b8_1 : 0 ≤ pSl 8 1 w ∧ pSl 8 1 w < 2 := pSl_lo 8 1 w
  have b9_2 : 0 ≤ pSl 9 2 w ∧ pSl 9 2 w < 4 := pSl_lo 9 2 w
  have bi : -2048 ≤ sxt 12 (pSl 2 1 w * 32 + pSl 3 3 w * 2 + pSl 6 1 w * 128 + pSl 7 1 w * 64 + pSl 8 1 w * 1024 + pSl 9 2 w * 256 + pSl 11 1 w * 16 + pSl 12 1 w * 2048) ∧ sxt 12 (pSl 2 1 w * 32 + pSl 3 3 w * 2 + pSl 6 1 w * 128 + pSl 7 1 w * 64 + pSl 8 1 w * 1024 + pSl 9 2 w * 256 + pSl 11 1 w * 16 + pSl 12 1 w * 2048) < 2048 := by unfold sxt; simp only [show (2 : Int) ^ 12 = 4096 from rfl, show (2 : Int) ^ (12 - 1) = 2048 from rfl]; split <;> omega
  have h0 : 0 ≤ (0 : Int) ∧ (0 : Int) ≤ 31 := by omega
  have h3 : -1048576 ≤ (sxt 12 (pSl 2 1 w * 32 + pSl 3 3 w * 2 + pSl 6 1 w * 128 + pSl 7 1 w * 64 + pSl 8 1 w * 1024 + pSl 9 2 w * 256 + pSl 11 1 w * 16 + pSl 12 1 w * 2048) : Int) ∧ (sxt 12 (pSl 2 1 w * 32 + pSl 3 3 w * 2 + pSl 6 1 w * 128 + pSl 7 1 w * 64 + pSl 8 1 w * 1024 + pSl 9 2 w * 256 + pSl 11 1 w * 16 + pSl 12 1 w * 2048) : Int) ≤ 1048574 ∧ (sxt 12 (pSl 2 1 w * 32 + pSl 3 3 w * 2 + pSl 6 1 w * 128 + pSl 7 1 w * 64 + pSl 8 1 w * 1024 + pSl 9 2 w * 256 + pSl 11 1 w * 16 + pSl 12 1 w * 2048) : Int) % 2 = 0 := by unfold sxt; simp only [show (2 : Int) ^ 12 = 4096 from rfl, show (2 : Int) ^ (12 - 1) = 2048 from rfl]; split <;> omega
  have e : pStr 64 (0, 0, 0, sxt 12 (pSl 2 1 w * 32 + pSl 3 3 w * 2 + pSl 6 1 w * 128 + pSl 7 1 w * 64 + pSl 8 1 w * 1024 + pSl 9 2 w * 256 + pSl 11 1 w * 16 + pSl 12 1 w * 2048)) = (0, 0, 0, sxt 12 (pSl 2 1 w * 32 + pSl 3 3 w * 2 + pSl 6 1 w * 128 + pSl 7 1 w * 64 + pSl 8 1 w * 1024 + pSl 9 2 w * 256 + pSl 11 1 w * 16 + pSl 12 1 w * 2048)) := by simp [pStr]
  rw [e]
  refine ⟨(pPut_2 (0) (0) (0) (sxt 12 (pSl 2 1 w * 32 + pSl 3 3 w * 2 + pSl 6 1 w * 128 + pSl 7 1 w * 64 + pSl 8 1 w * 1024 + pSl 9 2 w * 256 + pSl 11 1 w * 16 + pSl 12 1 w * 2048)) h0 h3).1, (pPut_2 (0) (0) (0) (sxt 12 (pSl 2 1 w * 32 + pSl 3 3 w * 2 + pSl 6 1 w * 128 + pSl 7 1 w * 64 + pSl 8 1 w * 1024 + pSl 9 2 w * 256 + pSl 11 1 w * 16 + pSl 12 1 w * 2048)) h0 h3).2, ?_⟩
  intro e he
  have : e = 0 ∨ e = 1 ∨ e = 2 ∨ e = 3 := by omega
  rcases this with rfl | rfl | rfl | rfl
  · show -2147483640 ≤ 0 ∧ 0 ≤ 2147483647; omega
  · show -2147483640 ≤ 0 ∧ 0 ≤ 2147483647; omega
  · show -2147483640 ≤ 0 ∧ 0 ≤ 2147483647; omega
  · show -2147483640 ≤ sxt 12 (pSl 2 1 w * 32 + pSl 3 3 w * 2 + pSl 6 1 w * 128 + pSl 7 1 w * 64 + pSl 8 1 w * 1024 + pSl 9 2 w * 256 + pSl 11 1 w * 16 + pSl 12 1 w * 2048) ∧ sxt 12 (pSl 2 1 w * 32 + pSl 3 3 w * 2 + pSl 6 1 w * 128 + pSl 7 1 w * 64 + pSl 8 1 w * 1024 + pSl 9 2 w * 256 + pSl 11 1 w * 16 + pSl 12 1 w * 2048) ≤ 2147483647; omega
theorem st_65 (w : Int) (h : pTk 65 w = true) : pTk 4 (pPut 4 (pStr 65 (pPt 65 w))) = true ∧ pPt 4 (pPut 4 (pStr 65 (pPt 65 w))) = pStr 65 (pPt 65 w) ∧ ∀ e, e < 4 → -2147483640 ≤ p4g (pStr 65 (pPt 65 w)) e ∧ p4g (pStr 65 (pPt 65 w)) e ≤ 2147483647 := by
  obtain ⟨t1, t2⟩ := pTk_65 w
  rw [t2 h]
  have h := t1.mp h
  have b10_2 : 0 ≤ pSl 10 2 w ∧ pSl 10 2 w < 4 := pSl_lo 10 2 w
  have b12_1 : 0 ≤ pSl 12 1 w ∧ pSl 12 1 w < 2 := pSl_lo 12 1 w
  have b2_1 : 0 ≤ pSl 2 1 w ∧ pSl 2 1 w < 2 := pSl_lo 2 1 w
  have b3_2 : 0 ≤ pSl 3 2 w ∧ pSl 3 2 w < 4 := pSl_lo 3 2 w
  have b5_2 : 0 ≤ pSl 5 2 w ∧ pSl 5 2 w < 4 := pSl_lo 5 2 w
  have b7_3 : 0 ≤ pSl 7 3 w ∧ pSl 7 3 w < 8 := pSl_lo 7 3 w
  have bi : -256 ≤ sxt 9 (pSl 2 1 w * 32 + pSl 3 2 w * 2 + pSl 5 2 w * 64 + pSl 10 2 w * 8 + pSl 12 1 w * 256) ∧ sxt 9 (pSl 2 1 w * 32 + pSl 3 2 w * 2 + pSl 5 2 w * 64 + pSl 10 2 w * 8 + pSl 12 1 w * 256) < 256 := by unfold sxt; simp only [show (2 : Int) ^ 9 = 512 from rfl, show (2 : Int) ^ (9 - 1) = 256 from rfl]; split <;> omega
  have h1 : 0 ≤ (8 + pSl 7 3 w : Int) ∧ (8 + pSl 7 3 w : Int) ≤ 31 := by omega
  have h2 : 0 ≤ (0 : Int) ∧ (0 : Int) ≤ 31 := by omega
  have h3 : -4096 ≤ (sxt 9 (pSl 2 1 w * 32 + pSl 3 2 w * 2 + pSl 5 2 w * 64 + pSl 10 2 w * 8 + pSl 12 1 w * 256) : Int) ∧ (sxt 9 (pSl 2 1 w * 32 + pSl 3 2 w * 2 + pSl 5 2 w * 64 + pSl 10 2 w * 8 + pSl 12 1 w * 256) : Int) ≤ 4094 ∧ (sxt 9 (pSl 2 1 w * 32 + pSl 3 2 w * 2 + pSl 5 2 w * 64 + pSl 10 2 w * 8 + pSl 12 1 w * 256) : Int) % 2 = 0 := by unfold sxt; simp only [show (2 : Int) ^ 9 = 512 from rfl, show (2 : Int) ^ (9 - 1) = 256 from rfl]; split <;> omega
  have e : pStr 65 (0, 8 + pSl 7 3 w, 0, sxt 9 (pSl 2 1 w * 32 + pSl 3 2 w * 2 + pSl 5 2 w * 64 + pSl 10 2 w * 8 + pSl 12 1 w * 256)) = (0, 8 + pSl 7 3 w, 0, sxt 9 (pSl 2 1 w * 32 + pSl 3 2 w * 2 + pSl 5 2 w * 64 + pSl 10 2 w * 8 + pSl 12 1 w * 256)) := by simp [pStr]
  rw [e]
  refine ⟨(pPut_4 (0) (8 + pSl 7 3 w) (0) (sxt 9 (pSl 2 1 w * 32 + pSl 3 2 w * 2 + pSl 5 2 w * 64 + pSl 10 2 w * 8 + pSl 12 1 w * 256)) h1 h2 h3).1, (pPut_4 (0) (8 + pSl 7 3 w) (0) (sxt 9 (pSl 2 1 w * 32 + pSl 3 2 w * 2 + pSl 5 2 w * 64 + pSl 10 2 w * 8 + pSl 12 1 w * 256)) h1 h2 h3).2, ?_⟩
  intro e he
  have : e = 0 ∨ e = 1 ∨ e = 2 ∨ e = 3 := by omega
  rcases this with rfl | rfl | rfl | rfl
  · show -2147483640 ≤ 0 ∧ 0 ≤ 2147483647; omega
  · show -2147483640 ≤ 8 + pSl 7 3 w ∧ 8 + pSl 7 3 w ≤ 2147483647; omega
  · show -2147483640 ≤ 0 ∧ 0 ≤ 2147483647; omega
  · show -2147483640 ≤ sxt 9 (pSl 2 1 w * 32 + pSl 3 2 w * 2 + pSl 5 2 w * 64 + pSl 10 2 w * 8 + pSl 12 1 w * 256) ∧ sxt 9 (pSl 2 1 w * 32 + pSl 3 2 w * 2 + pSl 5 2 w * 64 + pSl 10 2 w * 8 + pSl 12 1 w * 256) ≤ 2147483647; omega
theorem st_66 (w : Int) (h : pTk 66 w = true) : pTk 5 (pPut 5 (pStr 66 (pPt 66 w))) = true ∧ pPt 5 (pPut 5 (pStr 66 (pPt 66 w))) = pStr 66 (pPt 66 w) ∧ ∀ e, e < 4 → -2147483640 ≤ p4g (pStr 66 (pPt 66 w)) e ∧ p4g (pStr 66 (pPt 66 w)) e ≤ 2147483647 := by
  obtain ⟨t1, t2⟩ := pTk_66 w
  rw [t2 h]
  have h := t1.mp h
  have b10_2 : 0 ≤ pSl 10 2 w ∧ pSl 10 2 w < 4 := pSl_lo 10 2 w
  have b12_1 : 0 ≤ pSl 12 1 w ∧ pSl 12 1 w < 2 := pSl_lo 12 1 w
  have b2_1 : 0 ≤ pSl 2 1 w ∧ pSl 2 1 w < 2 := pSl_lo 2 1 w
  have b3_2 : 0 ≤ pSl 3 2 w ∧ pSl 3 2 w < 4 := pSl_lo 3 2 w
  have b5_2 : 0 ≤ pSl 5 2 w ∧ pSl 5 2 w < 4 := pSl_lo 5 2 w
  have b7_3 : 0 ≤ pSl 7 3 w ∧ pSl 7 3 w < 8 := pSl_lo 7 3 w
  have bi : -256 ≤ sxt 9 (pSl 2 1 w * 32 + pSl 3 2 w * 2 + pSl 5 2 w * 64 + pSl 10 2 w * 8 + pSl 12 1 w * 256) ∧ sxt 9 (pSl 2 1 w * 32 + pSl 3 2 w * 2 + pSl 5 2 w * 64 + pSl 10 2 w * 8 + pSl 12 1 w * 256) < 256 := by unfold sxt; simp only [show (2 : Int) ^ 9 = 512 from rfl, show (2 : Int) ^ (9 - 1) = 256 from rfl]; split <;> omega
  have h1 : 0 ≤ (8 + pSl 7 3 w : Int) ∧ (8 + pSl 7 3 w : Int) ≤ 31 := by omega
  have h2 : 0 ≤ (0 : Int) ∧ (0 : Int) ≤ 31 := by omega
  have h3 : -4096 ≤ (sxt 9 (pSl 2 1 w * 32 + pSl 3 2 w * 2 + pSl 5 2 w * 64 + pSl 10 2 w * 8 + pSl 12 1 w * 256) : Int) ∧ (sxt 9 (pSl 2 1 w * 32 + pSl 3 2 w * 2 + pSl 5 2 w * 64 + pSl 10 2 w * 8 + pSl 12 1 w * 256) : Int) ≤ 4094 ∧ (sxt 9 (pSl 2 1 w * 32 + pSl 3 2 w * 2 + pSl 5 2 w * 64 + pSl 10 2 w * 8 + pSl 12 1 w * 256) : Int) % 2 = 0 := by unfold sxt; simp only [show (2 : Int) ^ 9 = 512 from rfl, show (2 : Int) ^ (9 - 1) = 256 from rfl]; split <;> omega
  have e : pStr 66 (0, 8 + pSl 7 3 w, 0, sxt 9 (pSl 2 1 w * 32 + pSl 3 2 w * 2 + pSl 5 2 w * 64 + pSl 10 2 w * 8 + pSl 12 1 w * 256)) = (0, 8 + pSl 7 3 w, 0, sxt 9 (pSl 2 1 w * 32 + pSl 3 2 w * 2 + pSl 5 2 w * 64 + pSl 10 2 w * 8 + pSl 12 1 w * 256)) := by simp [pStr]
  rw [e]
  refine ⟨(pPut_5 (0) (8 + pSl 7 3 w) (0) (sxt 9 (pSl 2 1 w * 32 + pSl 3 2 w * 2 + pSl 5 2 w * 64 + pSl 10 2 w * 8 + pSl 12 1 w * 256)) h1 h2 h3).1, (pPut_5 (0) (8 + pSl 7 3 w) (0) (sxt 9 (pSl 2 1 w * 32 + pSl 3 2 w * 2 + pSl 5 2 w * 64 + pSl 10 2 w * 8 + pSl 12 1 w * 256)) h1 h2 h3).2, ?_⟩
  intro e he
  have : e = 0 ∨ e = 1 ∨ e = 2 ∨ e = 3 := by omega
  rcases this with rfl | rfl | rfl | rfl
  · show -2147483640 ≤ 0 ∧ 0 ≤ 2147483647; omega
  · show -2147483640 ≤ 8 + pSl 7 3 w ∧ 8 + pSl 7 3 w ≤ 2147483647; omega
  · show -2147483640 ≤ 0 ∧ 0 ≤ 2147483647; omega
  · show -2147483640 ≤ sxt 9 (pSl 2 1 w * 32 + pSl 3 2 w * 2 + pSl 5 2 w * 64 + pSl 10 2 w * 8 + pSl 12 1 w * 256) ∧ sxt 9 (pSl 2 1 w * 32 + pSl 3 2 w * 2 + pSl 5 2 w * 64 + pSl 10 2 w * 8 + pSl 12 1 w * 256) ≤ 2147483647; omega
theorem st_67 (w : Int) (h : pTk 67 w = true) : pTk 24 (pPut 24 (pStr 67 (pPt 67 w))) = true ∧ pPt 24 (pPut 24 (pStr 67 (pPt 67 w))) = pStr 67 (pPt 67 w) ∧ ∀ e, e < 4 → -2147483640 ≤ p4g (pStr 67 (pPt 67 w)) e ∧ p4g (pStr 67 (pPt 67 w)) e ≤ 2147483647 := by
  obtain ⟨t1, t2⟩ := pTk_67 w
  rw [t2 h]
  have h := t1.mp h
  have b2_5 : 0 ≤ pSl 2 5 w ∧ pSl 2 5 w < 32 := pSl_lo 2 5 w
  have b7_5 : 0 ≤ pSl 7 5 w ∧ pSl 7 5 w < 32 := pSl_lo 7 5 w
  have h0 : 0 ≤ (pSl 7 5 w : Int) ∧ (pSl 7 5 w : Int) ≤ 31 := by omega
  have h1 : 0 ≤ (pSl 7 5 w : Int) ∧ (pSl 7 5 w : Int) ≤ 31 := by omega
  have h3 : 0 ≤ (pSl 2 5 w : Int) ∧ (pSl 2 5 w : Int) ≤ 31 ∧ (pSl 2 5 w : Int) % 1 = 0 := by omega
  have e : pStr 67 (pSl 7 5 w, 0, 0, pSl 2 5 w) = (pSl 7 5 w, pSl 7 5 w, 0, pSl 2 5 w) := by simp [pStr]
  rw [e]
  refine ⟨(pPut_24 (pSl 7 5 w) (pSl 7 5 w) (0) (pSl 2 5 w) h0 h1 h3).1, (pPut_24 (pSl 7 5 w) (pSl 7 5 w) (0) (pSl 2 5 w) h0 h1 h3).2, ?_⟩
  intro e he
  have : e = 0 ∨ e = 1 ∨ e = 2 ∨ e = 3 := by omega
  rcases this with rfl | rfl | rfl | rfl
  · show -2147483640 ≤ pSl 7 5 w ∧ pSl 7 5 w ≤ 2147483647; omega
  · show -2147483640 ≤ pSl 7 5 w ∧ pSl 7 5 w ≤ 2147483647; omega
  · show -2147483640 ≤ 0 ∧ 0 ≤ 2147483647; omega
  · show -2147483640 ≤ pSl 2 5 w ∧ pSl 2 5 w ≤ 2147483647; omega
theorem st_68 (w : Int) (h : pTk 68 w = true) : pTk 12 (pPut 12 (pStr 68 (pPt 68 w))) = true ∧ pPt 12 (pPut 12 (pStr 68 (pPt 68 w))) = pStr 68 (pPt 68 w) ∧ ∀ e, e < 4 → -2147483640 ≤ p4g (pStr 68 (pPt 68 w)) e ∧ p4g (pStr 68 (pPt 68 w)) e ≤ 2147483647 := by
  obtain ⟨t1, t2⟩ := pTk_68 w
  rw [t2 h]
  have h := t1.mp h
  have b12_1 : 0 ≤ pSl 12 1 w ∧ pSl 12 1 w < 2 := pSl_lo 12 1 w
  have b2_2 : 0 ≤ pSl 2 2 w ∧ pSl 2 2 w < 4 := pSl_lo 2 2 w
  have b4_3 : 0 ≤ pSl 4 3 w ∧ pSl 4 3 w < 8 := pSl_lo 4 3 w
  have b7_5 : 0 ≤ pSl 7 5 w ∧ pSl 7 5 w < 32 := pSl_lo 7 5 w
  have h0 : 0 ≤ (pSl 7 5 w : Int) ∧ (pSl 7 5 w : Int) ≤ 31 := by omega
  have h1 : 0 ≤ (2 : Int) ∧ (2 : Int) ≤ 31 := by omega
  have h3 : -2048 ≤ (pSl 2 2 w * 64 + pSl 4 3 w * 4 + pSl 12 1 w * 32 : Int) ∧ (pSl 2 2 w * 64 + pSl 4 3 w * 4 + pSl 12 1 w * 32 : Int) ≤ 2047 ∧ (pSl 2 2 w * 64 + pSl 4 3 w * 4 + pSl 12 1 w * 32 : Int) % 1 = 0 := by omega
  have e : pStr 68 (pSl 7 5 w, 0, 0, pSl 2 2 w * 64 + pSl 4 3 w * 4 + pSl 12 1 w * 32) = (pSl 7 5 w, 2, 0, pSl 2 2 w * 64 + pSl 4 3 w * 4 + pSl 12 1 w * 32) := by simp [pStr]
  rw [e]
  refine ⟨(pPut_12 (pSl 7 5 w) (2) (0) (pSl 2 2 w * 64 + pSl 4 3 w * 4 + pSl 12 1 w * 32) h0 h1 h3).1, (pPut_12 (pSl 7 5 w) (2) (0) (pSl 2 2 w * 64 + pSl 4 3 w * 4 + pSl 12 1 w * 32) h0 h1 h3).2, ?_⟩
  intro e he
  have : e = 0 ∨ e = 1 ∨ e = 2 ∨ e = 3 := by omega
  rcases this with rfl | rfl | rfl | rfl
  · show -2147483640 ≤ pSl 7 5 w ∧ pSl 7 5 w ≤ 2147483647; omega
  · show -2147483640 ≤ 2 ∧ 2 ≤ 2147483647; omega
  · show -2147483640 ≤ 0 ∧ 0 ≤ 2147483647; omega
  · show -2147483640 ≤ pSl 2 2 w * 64 + pSl 4 3 w * 4 + pSl 12 1 w * 32 ∧ pSl 2 2 w * 64 + pSl 4 3 w * 4 + pSl 12 1 w * 32 ≤ 2147483647; omega
theorem st_69 (w : Int) (h : pTk 69 w = true) : pTk 3 (pPut 3 (pStr 69 (pPt 69 w))) = true ∧ pPt 3 (pPut 3 (pStr 69 (pPt 69 w))) = pStr 69 (pPt 69 w) ∧ ∀ e, e < 4 → -2147483640 ≤ p4g (pStr 69 (pPt 69 w)) e ∧ p4g (pStr 69 (pPt 69 w)) e ≤ 2147483647 := by
  obtain ⟨t1, t2⟩ := pTk_69 w
  rw [t2 h]
  have h := t1.mp h
  have b7_5 : 0 ≤ pSl 7 5 w ∧ pSl 7 5 w < 32 := pSl_lo 7 5 w
  have h0 : 0 ≤ (0 : Int) ∧ (0 : Int) ≤ 31 := by omega
  have h1 : 0 ≤ (pSl 7 5 w : Int) ∧ (pSl 7 5 w : Int) ≤ 31 := by omega
  have h3 : -2048 ≤ (0 : Int) ∧ (0 : Int) ≤ 2047 ∧ (0 : Int) % 1 = 0 := by omega
  have e : pStr 69 (0, pSl 7 5 w, 0, 0) = (0, pSl 7 5 w, 0, 0) := by simp [pStr]
  rw [e]
  refine ⟨(pPut_3 (0) (pSl 7 5 w) (0) (0) h0 h1 h3).1, (pPut_3 (0) (pSl 7 5 w) (0) (0) h0 h1 h3).2, ?_⟩
  intro e he
  have : e = 0 ∨ e = 1 ∨ e = 2 ∨ e = 3 := by omega
  rcases this with rfl | rfl | rfl | rfl
  · show -2147483640 ≤ 0 ∧ 0 ≤ 2147483647; omega
  · show -2147483640 ≤ pSl 7 5 w ∧ pSl 7 5 w ≤ 2147483647; omega
  · show -2147483640 ≤ 0 ∧ 0 ≤ 2147483647; omega
  · show -2147483640 ≤ 0 ∧ 0 ≤ 2147483647; omega
theorem st_70 (w : Int) (h : pTk 70 w = true) : pTk 27 (pPut 27 (pStr 70 (pPt 70 w))) = true ∧ pPt 27 (pPut 27 (pStr 70 (pPt 70 w))) = pStr 70 (pPt 70 w) ∧ ∀ e, e < 4 → -2147483640 ≤ p4g (pStr 70 (pPt 70 w)) e ∧ p4g (pStr 70 (pPt 70 w)) e ≤ 2147483647 := by
  obtain ⟨t1, t2⟩ := pTk_70 w
  rw [t2 h]
  have h := t1.mp h
  have b2_5 : 0 ≤ pSl 2 5 w ∧ pSl 2 5 w < 32 := pSl_lo 2 5 w
  have b7_5 : 0 ≤ pSl 7 5 w ∧ pSl 7 5 w < 32 := pSl_lo 7 5 w
  have h0 : 0 ≤ (pSl 7 5 w : Int) ∧ (pSl 7 5 w : Int) ≤ 31 := by omega
  have h1 : 0 ≤ (0 : Int) ∧ (0 : Int) ≤ 31 := by omega
  have h2 : 0 ≤ (pSl 2 5 w : Int) ∧ (pSl 2 5 w : Int) ≤ 31 := by omega
  have e : pStr 70 (pSl 7 5 w, 0, pSl 2 5 w, 0) = (pSl 7 5 w, 0, pSl 2 5 w, 0) := by simp [pStr]
  rw [e]
  refine ⟨(pPut_27 (pSl 7 5 w) (0) (pSl 2 5 w) (0) h0 h1 h2).1, (pPut_27 (pSl 7 5 w) (0) (pSl 2 5 w) (0) h0 h1 h2).2, ?_⟩
  intro e he
  have : e = 0 ∨ e = 1 ∨ e = 2 ∨ e = 3 := by omega
  rcases this with rfl | rfl | rfl | rfl
  · show -2147483640 ≤ pSl 7 5 w ∧ pSl 7 5 w ≤ 2147483647; omega
  · show -2147483640 ≤ 0 ∧ 0 ≤ 2147483647; omega
  · show -2147483640 ≤ pSl 2 5 w ∧ pSl 2 5 w ≤ 2147483647; omega
  · show -2147483640 ≤ 0 ∧ 0 ≤ 2147483647; omega
theorem st_71 (w : Int) (h : pTk 71 w = true) : pTk 47 (pPut 47 (pStr 71 (pPt 71 w))) = true ∧ pPt 47 (pPut 47 (pStr 71 (pPt 71 w))) = pStr 71 (pPt 71 w) ∧ ∀ e, e < 4 → -2147483640 ≤ p4g (pStr 71 (pPt 71 w)) e ∧ p4g (pStr 71 (pPt 71 w)) e ≤ 2147483647 := by
  obtain ⟨t1, t2⟩ := pTk_71 w
  rw [t2 h]
  have h := t1.mp h
  have e : pStr 71 (0, 0, 0, 0) = (0, 0, 0, 0) := by simp [pStr]
  rw [e]
  refine ⟨(pPut_47 (0) (0) (0) (0) ).1, (pPut_47 (0) (0) (0) (0) ).2, ?_⟩
  intro e he
  have : e = 0 ∨ e = 1 ∨ e = 2 ∨ e = 3 := by omega
  rcases this with rfl | rfl | rfl | rfl
  · show -2147483640 ≤ 0 ∧ 0 ≤ 2147483647; omega
  · show -2147483640 ≤ 0 ∧ 0 ≤ 2147483647; omega
  · show -2147483640 ≤ 0 ∧ 0 ≤ 2147483647; omega
  · show -2147483640 ≤ 0 ∧ 0 ≤ 2147483647; omega
theorem st_72 (w : Int) (h : pTk 72 w = true) : pTk 3 (pPut 3 (pStr 72 (pPt 72 w))) = true ∧ pPt 3 (pPut 3 (pStr 72 (pPt 72 w))) = pStr 72 (pPt 72 w) ∧ ∀ e, e < 4 → -2147483640 ≤ p4g (pStr 72 (pPt 72 w)) e ∧ p4g (pStr 72 (pPt 72 w)) e ≤ 2147483647 := by
  obtain ⟨t1, t2⟩ := pTk_72 w
  rw [t2 h]
  have h := t1.mp h
  have b7_5 : 0 ≤ pSl 7 5 w ∧ pSl 7 5 w < 32 := pSl_lo 7 5 w
  have h0 : 0 ≤ (1 : Int) ∧ (1 : Int) ≤ 31 := by omega
  have h1 : 0 ≤ (pSl 7 5 w : Int) ∧ (pSl 7 5 w : Int) ≤ 31 := by omega
  have h3 : -2048 ≤ (0 : Int) ∧ (0 : Int) ≤ 2047 ∧ (0 : Int) % 1 = 0 := by omega
  have e : pStr 72 (0, pSl 7 5 w, 0, 0) = (1, pSl 7 5 w, 0, 0) := by simp [pStr]
  rw [e]
  refine ⟨(pPut_3 (1) (pSl 7 5 w) (0) (0) h0 h1 h3).1, (pPut_3 (1) (pSl 7 5 w) (0) (0) h0 h1 h3).2, ?_⟩
  intro e he
  have : e = 0 ∨ e = 1 ∨ e = 2 ∨ e = 3 := by omega
  rcases this with rfl | rfl | rfl | rfl
  · show -2147483640 ≤ 1 ∧ 1 ≤ 2147483647; omega
  · show -2147483640 ≤ pSl 7 5 w ∧ pSl 7 5 w ≤ 2147483647; omega
  · show -2147483640 ≤ 0 ∧ 0 ≤ 2147483647; omega
  · show -2147483640 ≤ 0 ∧ 0 ≤ 2147483647; omega
theorem st_73 (w : Int) (h : pTk 73 w = true) : pTk 27 (pPut 27 (pStr 73 (pPt 73 w))) = true ∧ pPt 27 (pPut 27 (pStr 73 (pPt 73 w))) = pStr 73 (pPt 73 w) ∧ ∀ e, e < 4 → -2147483640 ≤ p4g (pStr 73 (pPt 73 w)) e ∧ p4g (pStr 73 (pPt 73 w)) e ≤ 2147483647 := by
  obtain ⟨t1, t2⟩ := pTk_73 w
  rw [t2 h]
  have h := t1.mp h
  have b2_5 : 0 ≤ pSl 2 5 w ∧ pSl 2 5 w < 32 := pSl_lo 2 5 w
  have b7_5 : 0 ≤ pSl 7 5 w ∧ pSl 7 5 w < 32 := pSl_lo 7 5 w
  have h0 : 0 ≤ (pSl 7 5 w : Int) ∧ (pSl 7 5 w : Int) ≤ 31 := by omega
  have h1 : 0 ≤ (pSl 7 5 w : Int) ∧ (pSl 7 5 w : Int) ≤ 31 := by omega
  have h2 : 0 ≤ (pSl 2 5 w : Int) ∧ (pSl 2 5 w : Int) ≤ 31 := by omega
  have e : pStr 73 (pSl 7 5 w, 0, pSl 2 5 w, 0) = (pSl 7 5 w, pSl 7 5 w, pSl 2 5 w, 0) := by simp [pStr]
  rw [e]
  refine ⟨(pPut_27 (pSl 7 5 w) (pSl 7 5 w) (pSl 2 5 w) (0) h0 h1 h2).1, (pPut_27 (pSl 7 5 w) (pSl 7 5 w) (pSl 2 5 w) (0) h0 h1 h2).2, ?_⟩
  intro e he
  have : e = 0 ∨ e = 1 ∨ e = 2 ∨ e = 3 := by omega
  rcases this with rfl | rfl | rfl | rfl
  · show -2147483640 ≤ pSl 7 5 w ∧ pSl 7 5 w ≤ 2147483647; omega
  · show -2147483640 ≤ pSl 7 5 w ∧ pSl 7 5 w ≤ 2147483647; omega
  · show -2147483640 ≤ pSl 2 5 w ∧ pSl 2 5 w ≤ 2147483647; omega
  · show -2147483640 ≤ 0 ∧ 0 ≤ 2147483647; omega
theorem st_74 (w : Int) (h : pTk 74 w = true) : pTk 17 (pPut 17 (pStr 74 (pPt 74 w))) = true ∧ pPt 17 (pPut 17 (pStr 74 (pPt 74 w))) = pStr 74 (pPt 74 w) ∧ ∀ e, e < 4 → -2147483640 ≤ p4g (pStr 74 (pPt 74 w)) e ∧ p4g (pStr 74 (pPt 74 w)) e ≤ 2147483647 := by
  obtain ⟨t1, t2⟩ := pTk_74 w
  rw [t2 h]
  have h := t1.mp h
  have b2_5 : 0 ≤ pSl 2 5 w ∧ pSl 2 5 w < 32 := pSl_lo 2 5 w
  have b7_2 : 0 ≤ pSl 7 2 w ∧ pSl 7 2 w < 4 := pSl_lo 7 2 w
  have b9_4 : 0 ≤ pSl 9 4 w ∧ pSl 9 4 w < 16 := pSl_lo 9 4 w
  have h1 : 0 ≤ (2 : Int) ∧ (2 : Int) ≤ 31 := by omega
  have h2 : 0 ≤ (pSl 2 5 w : Int) ∧ (pSl 2 5 w : Int) ≤ 31 := by omega
  have h3 : -2048 ≤ (pSl 7 2 w * 64 + pSl 9 4 w * 4 : Int) ∧ (pSl 7 2 w * 64 + pSl 9 4 w * 4 : Int) ≤ 2047 ∧ (pSl 7 2 w * 64 + pSl 9 4 w * 4 : Int) % 1 = 0 := by omega
  have e : pStr 74 (0, 0, pSl 2 5 w, pSl 7 2 w * 64 + pSl 9 4 w * 4) = (0, 2, pSl 2 5 w, pSl 7 2 w * 64 + pSl 9 4 w * 4) := by simp [pStr]
  rw [e]
  refine ⟨(pPut_17 (0) (2) (pSl 2 5 w) (pSl 7 2 w * 64 + pSl 9 4 w * 4) h1 h2 h3).1, (pPut_17 (0) (2) (pSl 2 5 w) (pSl 7 2 w * 64 + pSl 9 4 w * 4) h1 h2 h3).2, ?_⟩
  intro e he
  have : e = 0 ∨ e = 1 ∨ e = 2 ∨ e = 3 := by omega
  rcases this with rfl | rfl | rfl | rfl
  · show -2147483640 ≤ 0 ∧ 0 ≤ 2147483647; omega
  · show -2147483640 ≤ 2 ∧ 2 ≤ 2147483647; omega
  · show -2147483640 ≤ pSl 2 5 w ∧ pSl 2 5 w ≤ 2147483647; omega
  · show -2147483640 ≤ pSl 7 2 w * 64 + pSl 9 4 w * 4 ∧ pSl 7 2 w * 64 + pSl 9 4 w * 4 ≤ 2147483647; omega
theorem st_k (w : Int) : ∀ (k : Nat), k < 75 → 48 ≤ k → pTk k w = true → pTk (pLK k) (pPut (pLK k) (pStr k (pPt k w))) = true ∧ pPt (pLK k) (pPut (pLK k) (pStr k (pPt k w))) = pStr k (pPt k w) ∧ ∀ e, e < 4 → -2147483640 ≤ p4g (pStr k (pPt k w)) e ∧ p4g (pStr k (pPt k w)) e ≤ 2147483647
  | 48, _, _, h => st_48 w h
  | 49, _, _, h => st_49 w h
  | 50, _, _, h => st_50 w h
  | 51, _, _, h => st_51 w h
  | 52, _, _, h => st_52 w h
  | 53, _, _, h => st_53 w h
  | 54, _, _, h => st_54 w h
  | 55, _, _, h => st_55 w h
  | 56, _, _, h => st_56 w h
  | 57, _, _, h => st_57 w h
  | 58, _, _, h => st_58 w h
  | 59, _, _, h => st_59 w h
  | 60, _, _, h => st_60 w h
  | 61, _, _, h => st_61 w h
  | 62, _, _, h => st_62 w h
  | 63, _, _, h => st_63 w h
  | 64, _, _, h => st_64 w h
  | 65, _, _, h => st_65 w h
  | 66, _, _, h => st_66 w h
  | 67, _, _, h => st_67 w h
  | 68, _, _, h => st_68 w h
  | 69, _, _, h => st_69 w h
  | 70, _, _, h => st_70 w h
  | 71, _, _, h => st_71 w h
  | 72, _, _, h => st_72 w h
  | 73, _, _, h => st_73 w h
  | 74, _, _, h => st_74 w h
  | n + 75, h, _, _ => absurd h (by omega)
  | 0, _, h, _ => absurd h (by omega)
  | 1, _, h, _ => absurd h (by omega)
  | 2, _, h, _ => absurd h (by omega)
  | 3, _, h, _ => absurd h (by omega)
  | 4, _, h, _ => absurd h (by omega)
  | 5, _, h, _ => absurd h (by omega)
  | 6, _, h, _ => absurd h (by omega)
  | 7, _, h, _ => absurd h (by omega)
  | 8, _, h, _ => absurd h (by omega)
  | 9, _, h, _ => absurd h (by omega)
  | 10, _, h, _ => absurd h (by omega)
  | 11, _, h, _ => absurd h (by omega)
  | 12, _, h, _ => absurd h (by omega)
  | 13, _, h, _ => absurd h (by omega)
  | 14, _, h, _ => absurd h (by omega)
  | 15, _, h, _ => absurd h (by omega)
  | 16, _, h, _ => absurd h (by omega)
  | 17, _, h, _ => absurd h (by omega)
  | 18, _, h, _ => absurd h (by omega)
  | 19, _, h, _ => absurd h (by omega)
  | 20, _, h, _ => absurd h (by omega)
  | 21, _, h, _ => absurd h (by omega)
  | 22, _, h, _ => absurd h (by omega)
  | 23, _, h, _ => absurd h (by omega)
  | 24, _, h, _ => absurd h (by omega)
  | 25, _, h, _ => absurd h (by omega)
  | 26, _, h, _ => absurd h (by omega)
  | 27, _, h, _ => absurd h (by omega)
  | 28, _, h, _ => absurd h (by omega)
  | 29, _, h, _ => absurd h (by omega)
  | 30, _, h, _ => absurd h (by omega)
  | 31, _, h, _ => absurd h (by omega)
  | 32, _, h, _ => absurd h (by omega)
  | 33, _, h, _ => absurd h (by omega)
  | 34, _, h, _ => absurd h (by omega)
  | 35, _, h, _ => absurd h (by omega)
  | 36, _, h, _ => absurd h (by omega)
  | 37, _, h, _ => absurd h (by omega)
  | 38, _, h, _ => absurd h (by omega)
  | 39, _, h, _ => absurd h (by omega)
  | 40, _, h, _ => absurd h (by omega)
  | 41, _, h, _ => absurd h (by omega)
  | 42, _, h, _ => absurd h (by omega)
  | 43, _, h, _ => absurd h (by omega)
  | 44, _, h, _ => absurd h (by omega)
  | 45, _, h, _ => absurd h (by omega)
  | 46, _, h, _ => absurd h (by omega)
  | 47, _, h, _ => absurd h (by omega)
theorem s_stretch_k (s : jS) (x0 : Int) (p : jP4) : ∀ (k : Nat), k < 75 → 48 ≤ k → m_X43_stretch (pw4 s (x0 + 2) p) x0 (k : Int) = (m_X43_put (pw4 s (x0 + 2) (pStr k p)) x0 (pLK k : Int)).bind fun v => some (pw4 s (x0 + 2) (pStr k p), v)
  | 48, _, _ => s_stretch_48 s x0 p
  | 49, _, _ => s_stretch_49 s x0 p
  | 50, _, _ => s_stretch_50 s x0 p
  | 51, _, _ => s_stretch_51 s x0 p
  | 52, _, _ => s_stretch_52 s x0 p
  | 53, _, _ => s_stretch_53 s x0 p
  | 54, _, _ => s_stretch_54 s x0 p
  | 55, _, _ => s_stretch_55 s x0 p
  | 56, _, _ => s_stretch_56 s x0 p
  | 57, _, _ => s_stretch_57 s x0 p
  | 58, _, _ => s_stretch_58 s x0 p
  | 59, _, _ => s_stretch_59 s x0 p
  | 60, _, _ => s_stretch_60 s x0 p
  | 61, _, _ => s_stretch_61 s x0 p
  | 62, _, _ => s_stretch_62 s x0 p
  | 63, _, _ => s_stretch_63 s x0 p
  | 64, _, _ => s_stretch_64 s x0 p
  | 65, _, _ => s_stretch_65 s x0 p
  | 66, _, _ => s_stretch_66 s x0 p
  | 67, _, _ => s_stretch_67 s x0 p
  | 68, _, _ => s_stretch_68 s x0 p
  | 69, _, _ => s_stretch_69 s x0 p
  | 70, _, _ => s_stretch_70 s x0 p
  | 71, _, _ => s_stretch_71 s x0 p
  | 72, _, _ => s_stretch_72 s x0 p
  | 73, _, _ => s_stretch_73 s x0 p
  | 74, _, _ => s_stretch_74 s x0 p
  | n + 75, h, _ => absurd h (by omega)
  | 0, _, h => absurd h (by omega)
  | 1, _, h => absurd h (by omega)
  | 2, _, h => absurd h (by omega)
  | 3, _, h => absurd h (by omega)
  | 4, _, h => absurd h (by omega)
  | 5, _, h => absurd h (by omega)
  | 6, _, h => absurd h (by omega)
  | 7, _, h => absurd h (by omega)
  | 8, _, h => absurd h (by omega)
  | 9, _, h => absurd h (by omega)
  | 10, _, h => absurd h (by omega)
  | 11, _, h => absurd h (by omega)
  | 12, _, h => absurd h (by omega)
  | 13, _, h => absurd h (by omega)
  | 14, _, h => absurd h (by omega)
  | 15, _, h => absurd h (by omega)
  | 16, _, h => absurd h (by omega)
  | 17, _, h => absurd h (by omega)
  | 18, _, h => absurd h (by omega)
  | 19, _, h => absurd h (by omega)
  | 20, _, h => absurd h (by omega)
  | 21, _, h => absurd h (by omega)
  | 22, _, h => absurd h (by omega)
  | 23, _, h => absurd h (by omega)
  | 24, _, h => absurd h (by omega)
  | 25, _, h => absurd h (by omega)
  | 26, _, h => absurd h (by omega)
  | 27, _, h => absurd h (by omega)
  | 28, _, h => absurd h (by omega)
  | 29, _, h => absurd h (by omega)
  | 30, _, h => absurd h (by omega)
  | 31, _, h => absurd h (by omega)
  | 32, _, h => absurd h (by omega)
  | 33, _, h => absurd h (by omega)
  | 34, _, h => absurd h (by omega)
  | 35, _, h => absurd h (by omega)
  | 36, _, h => absurd h (by omega)
  | 37, _, h => absurd h (by omega)
  | 38, _, h => absurd h (by omega)
  | 39, _, h => absurd h (by omega)
  | 40, _, h => absurd h (by omega)
  | 41, _, h => absurd h (by omega)
  | 42, _, h => absurd h (by omega)
  | 43, _, h => absurd h (by omega)
  | 44, _, h => absurd h (by omega)
  | 45, _, h => absurd h (by omega)
  | 46, _, h => absurd h (by omega)
  | 47, _, h => absurd h (by omega)
end jStre
