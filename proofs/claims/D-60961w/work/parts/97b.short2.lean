/-! the other stretch: printed by gen_short2.py -/
set_option maxRecDepth 100000
section jShort2
theorem s38_stretch_48 (s : jS) (x0 : Int) (p : jP4) : m_X38_stretch (pw4 s (x0 + 2) p) x0 48 = (m_X38_put (pw4 s (x0 + 2) (pStr 48 p)) x0 18).bind fun v => some (pw4 s (x0 + 2) (pStr 48 p), v) := by
  rw [em_X38_stretch]; unfold dm_X38_stretch
  have e1 : jlt (pw4 s (x0 + 2) p) 1000 (x0 + 2) 4 0 = some p.1 := by rw [jlt_in (by decide) (by decide), jf_pw4, if_pos ⟨rfl, rfl, by decide, by decide⟩]; rfl
  have e2 : ∀ (q : jP4) (e v : Int), 0 ≤ e → e < 4 → jst (pw4 s (x0 + 2) q) 1000 (x0 + 2) 4 e v = some (pw4 s (x0 + 2) (p4s q e.toNat v)) := fun q e v a b => by rw [jst_in a b, pw4_put _ _ _ _ a b]
  simp [em_X38_stretch, dm_X38_stretch, eu_X38_stretch_241, du_X38_stretch_241, eu_X38_stretch_234, du_X38_stretch_234, eu_X38_stretch_216, du_X38_stretch_216, eu_X38_stretch_209, du_X38_stretch_209, eu_X38_stretch_197, du_X38_stretch_197, eu_X38_stretch_184, du_X38_stretch_184, eu_X38_stretch_177, du_X38_stretch_177, eu_X38_stretch_165, du_X38_stretch_165, eu_X38_stretch_158, du_X38_stretch_158, eu_X38_stretch_140, du_X38_stretch_140, eu_X38_stretch_133, du_X38_stretch_133, eu_X38_stretch_115, du_X38_stretch_115, eu_X38_stretch_103, du_X38_stretch_103, eu_X38_stretch_90, du_X38_stretch_90, eu_X38_stretch_85, du_X38_stretch_85, eu_X38_stretch_60, du_X38_stretch_60, eu_X38_stretch_55, du_X38_stretch_55, eu_X38_stretch_43, du_X38_stretch_43, e1, e2, e_X38_longKind, v_X38_longKind, p4s, pStr]
theorem s38_stretch_49 (s : jS) (x0 : Int) (p : jP4) : m_X38_stretch (pw4 s (x0 + 2) p) x0 49 = (m_X38_put (pw4 s (x0 + 2) (pStr 49 p)) x0 12).bind fun v => some (pw4 s (x0 + 2) (pStr 49 p), v) := by
  rw [em_X38_stretch]; unfold dm_X38_stretch
  have e1 : jlt (pw4 s (x0 + 2) p) 1000 (x0 + 2) 4 0 = some p.1 := by rw [jlt_in (by decide) (by decide), jf_pw4, if_pos ⟨rfl, rfl, by decide, by decide⟩]; rfl
  have e2 : ∀ (q : jP4) (e v : Int), 0 ≤ e → e < 4 → jst (pw4 s (x0 + 2) q) 1000 (x0 + 2) 4 e v = some (pw4 s (x0 + 2) (p4s q e.toNat v)) := fun q e v a b => by rw [jst_in a b, pw4_put _ _ _ _ a b]
  simp [em_X38_stretch, dm_X38_stretch, eu_X38_stretch_241, du_X38_stretch_241, eu_X38_stretch_234, du_X38_stretch_234, eu_X38_stretch_216, du_X38_stretch_216, eu_X38_stretch_209, du_X38_stretch_209, eu_X38_stretch_197, du_X38_stretch_197, eu_X38_stretch_184, du_X38_stretch_184, eu_X38_stretch_177, du_X38_stretch_177, eu_X38_stretch_165, du_X38_stretch_165, eu_X38_stretch_158, du_X38_stretch_158, eu_X38_stretch_140, du_X38_stretch_140, eu_X38_stretch_133, du_X38_stretch_133, eu_X38_stretch_115, du_X38_stretch_115, eu_X38_stretch_103, du_X38_stretch_103, eu_X38_stretch_90, du_X38_stretch_90, eu_X38_stretch_85, du_X38_stretch_85, eu_X38_stretch_60, du_X38_stretch_60, eu_X38_stretch_55, du_X38_stretch_55, eu_X38_stretch_43, du_X38_stretch_43, e1, e2, e_X38_longKind, v_X38_longKind, p4s, pStr]
theorem s38_stretch_50 (s : jS) (x0 : Int) (p : jP4) : m_X38_stretch (pw4 s (x0 + 2) p) x0 50 = (m_X38_put (pw4 s (x0 + 2) (pStr 50 p)) x0 17).bind fun v => some (pw4 s (x0 + 2) (pStr 50 p), v) := by
  rw [em_X38_stretch]; unfold dm_X38_stretch
  have e1 : jlt (pw4 s (x0 + 2) p) 1000 (x0 + 2) 4 0 = some p.1 := by rw [jlt_in (by decide) (by decide), jf_pw4, if_pos ⟨rfl, rfl, by decide, by decide⟩]; rfl
  have e2 : ∀ (q : jP4) (e v : Int), 0 ≤ e → e < 4 → jst (pw4 s (x0 + 2) q) 1000 (x0 + 2) 4 e v = some (pw4 s (x0 + 2) (p4s q e.toNat v)) := fun q e v a b => by rw [jst_in a b, pw4_put _ _ _ _ a b]
  simp [em_X38_stretch, dm_X38_stretch, eu_X38_stretch_241, du_X38_stretch_241, eu_X38_stretch_234, du_X38_stretch_234, eu_X38_stretch_216, du_X38_stretch_216, eu_X38_stretch_209, du_X38_stretch_209, eu_X38_stretch_197, du_X38_stretch_197, eu_X38_stretch_184, du_X38_stretch_184, eu_X38_stretch_177, du_X38_stretch_177, eu_X38_stretch_165, du_X38_stretch_165, eu_X38_stretch_158, du_X38_stretch_158, eu_X38_stretch_140, du_X38_stretch_140, eu_X38_stretch_133, du_X38_stretch_133, eu_X38_stretch_115, du_X38_stretch_115, eu_X38_stretch_103, du_X38_stretch_103, eu_X38_stretch_90, du_X38_stretch_90, eu_X38_stretch_85, du_X38_stretch_85, eu_X38_stretch_60, du_X38_stretch_60, eu_X38_stretch_55, du_X38_stretch_55, eu_X38_stretch_43, du_X38_stretch_43, e1, e2, e_X38_longKind, v_X38_longKind, p4s, pStr]
theorem s38_stretch_51 (s : jS) (x0 : Int) (p : jP4) : m_X38_stretch (pw4 s (x0 + 2) p) x0 51 = (m_X38_put (pw4 s (x0 + 2) (pStr 51 p)) x0 18).bind fun v => some (pw4 s (x0 + 2) (pStr 51 p), v) := by
  rw [em_X38_stretch]; unfold dm_X38_stretch
  have e1 : jlt (pw4 s (x0 + 2) p) 1000 (x0 + 2) 4 0 = some p.1 := by rw [jlt_in (by decide) (by decide), jf_pw4, if_pos ⟨rfl, rfl, by decide, by decide⟩]; rfl
  have e2 : ∀ (q : jP4) (e v : Int), 0 ≤ e → e < 4 → jst (pw4 s (x0 + 2) q) 1000 (x0 + 2) 4 e v = some (pw4 s (x0 + 2) (p4s q e.toNat v)) := fun q e v a b => by rw [jst_in a b, pw4_put _ _ _ _ a b]
  simp [em_X38_stretch, dm_X38_stretch, eu_X38_stretch_241, du_X38_stretch_241, eu_X38_stretch_234, du_X38_stretch_234, eu_X38_stretch_216, du_X38_stretch_216, eu_X38_stretch_209, du_X38_stretch_209, eu_X38_stretch_197, du_X38_stretch_197, eu_X38_stretch_184, du_X38_stretch_184, eu_X38_stretch_177, du_X38_stretch_177, eu_X38_stretch_165, du_X38_stretch_165, eu_X38_stretch_158, du_X38_stretch_158, eu_X38_stretch_140, du_X38_stretch_140, eu_X38_stretch_133, du_X38_stretch_133, eu_X38_stretch_115, du_X38_stretch_115, eu_X38_stretch_103, du_X38_stretch_103, eu_X38_stretch_90, du_X38_stretch_90, eu_X38_stretch_85, du_X38_stretch_85, eu_X38_stretch_60, du_X38_stretch_60, eu_X38_stretch_55, du_X38_stretch_55, eu_X38_stretch_43, du_X38_stretch_43, e1, e2, e_X38_longKind, v_X38_longKind, p4s, pStr]
theorem s38_stretch_52 (s : jS) (x0 : Int) (p : jP4) : m_X38_stretch (pw4 s (x0 + 2) p) x0 52 = (m_X38_put (pw4 s (x0 + 2) (pStr 52 p)) x0 18).bind fun v => some (pw4 s (x0 + 2) (pStr 52 p), v) := by
  rw [em_X38_stretch]; unfold dm_X38_stretch
  have e1 : jlt (pw4 s (x0 + 2) p) 1000 (x0 + 2) 4 0 = some p.1 := by rw [jlt_in (by decide) (by decide), jf_pw4, if_pos ⟨rfl, rfl, by decide, by decide⟩]; rfl
  have e2 : ∀ (q : jP4) (e v : Int), 0 ≤ e → e < 4 → jst (pw4 s (x0 + 2) q) 1000 (x0 + 2) 4 e v = some (pw4 s (x0 + 2) (p4s q e.toNat v)) := fun q e v a b => by rw [jst_in a b, pw4_put _ _ _ _ a b]
  simp [em_X38_stretch, dm_X38_stretch, eu_X38_stretch_241, du_X38_stretch_241, eu_X38_stretch_234, du_X38_stretch_234, eu_X38_stretch_216, du_X38_stretch_216, eu_X38_stretch_209, du_X38_stretch_209, eu_X38_stretch_197, du_X38_stretch_197, eu_X38_stretch_184, du_X38_stretch_184, eu_X38_stretch_177, du_X38_stretch_177, eu_X38_stretch_165, du_X38_stretch_165, eu_X38_stretch_158, du_X38_stretch_158, eu_X38_stretch_140, du_X38_stretch_140, eu_X38_stretch_133, du_X38_stretch_133, eu_X38_stretch_115, du_X38_stretch_115, eu_X38_stretch_103, du_X38_stretch_103, eu_X38_stretch_90, du_X38_stretch_90, eu_X38_stretch_85, du_X38_stretch_85, eu_X38_stretch_60, du_X38_stretch_60, eu_X38_stretch_55, du_X38_stretch_55, eu_X38_stretch_43, du_X38_stretch_43, e1, e2, e_X38_longKind, v_X38_longKind, p4s, pStr]
theorem s38_stretch_53 (s : jS) (x0 : Int) (p : jP4) : m_X38_stretch (pw4 s (x0 + 2) p) x0 53 = (m_X38_put (pw4 s (x0 + 2) (pStr 53 p)) x0 2).bind fun v => some (pw4 s (x0 + 2) (pStr 53 p), v) := by
  rw [em_X38_stretch]; unfold dm_X38_stretch
  have e1 : jlt (pw4 s (x0 + 2) p) 1000 (x0 + 2) 4 0 = some p.1 := by rw [jlt_in (by decide) (by decide), jf_pw4, if_pos ⟨rfl, rfl, by decide, by decide⟩]; rfl
  have e2 : ∀ (q : jP4) (e v : Int), 0 ≤ e → e < 4 → jst (pw4 s (x0 + 2) q) 1000 (x0 + 2) 4 e v = some (pw4 s (x0 + 2) (p4s q e.toNat v)) := fun q e v a b => by rw [jst_in a b, pw4_put _ _ _ _ a b]
  simp [em_X38_stretch, dm_X38_stretch, eu_X38_stretch_241, du_X38_stretch_241, eu_X38_stretch_234, du_X38_stretch_234, eu_X38_stretch_216, du_X38_stretch_216, eu_X38_stretch_209, du_X38_stretch_209, eu_X38_stretch_197, du_X38_stretch_197, eu_X38_stretch_184, du_X38_stretch_184, eu_X38_stretch_177, du_X38_stretch_177, eu_X38_stretch_165, du_X38_stretch_165, eu_X38_stretch_158, du_X38_stretch_158, eu_X38_stretch_140, du_X38_stretch_140, eu_X38_stretch_133, du_X38_stretch_133, eu_X38_stretch_115, du_X38_stretch_115, eu_X38_stretch_103, du_X38_stretch_103, eu_X38_stretch_90, du_X38_stretch_90, eu_X38_stretch_85, du_X38_stretch_85, eu_X38_stretch_60, du_X38_stretch_60, eu_X38_stretch_55, du_X38_stretch_55, eu_X38_stretch_43, du_X38_stretch_43, e1, e2, e_X38_longKind, v_X38_longKind, p4s, pStr]
theorem s38_stretch_54 (s : jS) (x0 : Int) (p : jP4) : m_X38_stretch (pw4 s (x0 + 2) p) x0 54 = (m_X38_put (pw4 s (x0 + 2) (pStr 54 p)) x0 18).bind fun v => some (pw4 s (x0 + 2) (pStr 54 p), v) := by
  rw [em_X38_stretch]; unfold dm_X38_stretch
  have e1 : jlt (pw4 s (x0 + 2) p) 1000 (x0 + 2) 4 0 = some p.1 := by rw [jlt_in (by decide) (by decide), jf_pw4, if_pos ⟨rfl, rfl, by decide, by decide⟩]; rfl
  have e2 : ∀ (q : jP4) (e v : Int), 0 ≤ e → e < 4 → jst (pw4 s (x0 + 2) q) 1000 (x0 + 2) 4 e v = some (pw4 s (x0 + 2) (p4s q e.toNat v)) := fun q e v a b => by rw [jst_in a b, pw4_put _ _ _ _ a b]
  simp [em_X38_stretch, dm_X38_stretch, eu_X38_stretch_241, du_X38_stretch_241, eu_X38_stretch_234, du_X38_stretch_234, eu_X38_stretch_216, du_X38_stretch_216, eu_X38_stretch_209, du_X38_stretch_209, eu_X38_stretch_197, du_X38_stretch_197, eu_X38_stretch_184, du_X38_stretch_184, eu_X38_stretch_177, du_X38_stretch_177, eu_X38_stretch_165, du_X38_stretch_165, eu_X38_stretch_158, du_X38_stretch_158, eu_X38_stretch_140, du_X38_stretch_140, eu_X38_stretch_133, du_X38_stretch_133, eu_X38_stretch_115, du_X38_stretch_115, eu_X38_stretch_103, du_X38_stretch_103, eu_X38_stretch_90, du_X38_stretch_90, eu_X38_stretch_85, du_X38_stretch_85, eu_X38_stretch_60, du_X38_stretch_60, eu_X38_stretch_55, du_X38_stretch_55, eu_X38_stretch_43, du_X38_stretch_43, e1, e2, e_X38_longKind, v_X38_longKind, p4s, pStr]
theorem s38_stretch_55 (s : jS) (x0 : Int) (p : jP4) : m_X38_stretch (pw4 s (x0 + 2) p) x0 55 = (m_X38_put (pw4 s (x0 + 2) (pStr 55 p)) x0 18).bind fun v => some (pw4 s (x0 + 2) (pStr 55 p), v) := by
  rw [em_X38_stretch]; unfold dm_X38_stretch
  have e1 : jlt (pw4 s (x0 + 2) p) 1000 (x0 + 2) 4 0 = some p.1 := by rw [jlt_in (by decide) (by decide), jf_pw4, if_pos ⟨rfl, rfl, by decide, by decide⟩]; rfl
  have e2 : ∀ (q : jP4) (e v : Int), 0 ≤ e → e < 4 → jst (pw4 s (x0 + 2) q) 1000 (x0 + 2) 4 e v = some (pw4 s (x0 + 2) (p4s q e.toNat v)) := fun q e v a b => by rw [jst_in a b, pw4_put _ _ _ _ a b]
  simp [em_X38_stretch, dm_X38_stretch, eu_X38_stretch_241, du_X38_stretch_241, eu_X38_stretch_234, du_X38_stretch_234, eu_X38_stretch_216, du_X38_stretch_216, eu_X38_stretch_209, du_X38_stretch_209, eu_X38_stretch_197, du_X38_stretch_197, eu_X38_stretch_184, du_X38_stretch_184, eu_X38_stretch_177, du_X38_stretch_177, eu_X38_stretch_165, du_X38_stretch_165, eu_X38_stretch_158, du_X38_stretch_158, eu_X38_stretch_140, du_X38_stretch_140, eu_X38_stretch_133, du_X38_stretch_133, eu_X38_stretch_115, du_X38_stretch_115, eu_X38_stretch_103, du_X38_stretch_103, eu_X38_stretch_90, du_X38_stretch_90, eu_X38_stretch_85, du_X38_stretch_85, eu_X38_stretch_60, du_X38_stretch_60, eu_X38_stretch_55, du_X38_stretch_55, eu_X38_stretch_43, du_X38_stretch_43, e1, e2, e_X38_longKind, v_X38_longKind, p4s, pStr]
theorem s38_stretch_56 (s : jS) (x0 : Int) (p : jP4) : m_X38_stretch (pw4 s (x0 + 2) p) x0 56 = (m_X38_put (pw4 s (x0 + 2) (pStr 56 p)) x0 0).bind fun v => some (pw4 s (x0 + 2) (pStr 56 p), v) := by
  rw [em_X38_stretch]; unfold dm_X38_stretch
  have e1 : jlt (pw4 s (x0 + 2) p) 1000 (x0 + 2) 4 0 = some p.1 := by rw [jlt_in (by decide) (by decide), jf_pw4, if_pos ⟨rfl, rfl, by decide, by decide⟩]; rfl
  have e2 : ∀ (q : jP4) (e v : Int), 0 ≤ e → e < 4 → jst (pw4 s (x0 + 2) q) 1000 (x0 + 2) 4 e v = some (pw4 s (x0 + 2) (p4s q e.toNat v)) := fun q e v a b => by rw [jst_in a b, pw4_put _ _ _ _ a b]
  simp [em_X38_stretch, dm_X38_stretch, eu_X38_stretch_241, du_X38_stretch_241, eu_X38_stretch_234, du_X38_stretch_234, eu_X38_stretch_216, du_X38_stretch_216, eu_X38_stretch_209, du_X38_stretch_209, eu_X38_stretch_197, du_X38_stretch_197, eu_X38_stretch_184, du_X38_stretch_184, eu_X38_stretch_177, du_X38_stretch_177, eu_X38_stretch_165, du_X38_stretch_165, eu_X38_stretch_158, du_X38_stretch_158, eu_X38_stretch_140, du_X38_stretch_140, eu_X38_stretch_133, du_X38_stretch_133, eu_X38_stretch_115, du_X38_stretch_115, eu_X38_stretch_103, du_X38_stretch_103, eu_X38_stretch_90, du_X38_stretch_90, eu_X38_stretch_85, du_X38_stretch_85, eu_X38_stretch_60, du_X38_stretch_60, eu_X38_stretch_55, du_X38_stretch_55, eu_X38_stretch_43, du_X38_stretch_43, e1, e2, e_X38_longKind, v_X38_longKind, p4s, pStr]
theorem s38_stretch_57 (s : jS) (x0 : Int) (p : jP4) : m_X38_stretch (pw4 s (x0 + 2) p) x0 57 = (m_X38_put (pw4 s (x0 + 2) (pStr 57 p)) x0 25).bind fun v => some (pw4 s (x0 + 2) (pStr 57 p), v) := by
  rw [em_X38_stretch]; unfold dm_X38_stretch
  have e1 : jlt (pw4 s (x0 + 2) p) 1000 (x0 + 2) 4 0 = some p.1 := by rw [jlt_in (by decide) (by decide), jf_pw4, if_pos ⟨rfl, rfl, by decide, by decide⟩]; rfl
  have e2 : ∀ (q : jP4) (e v : Int), 0 ≤ e → e < 4 → jst (pw4 s (x0 + 2) q) 1000 (x0 + 2) 4 e v = some (pw4 s (x0 + 2) (p4s q e.toNat v)) := fun q e v a b => by rw [jst_in a b, pw4_put _ _ _ _ a b]
  simp [em_X38_stretch, dm_X38_stretch, eu_X38_stretch_241, du_X38_stretch_241, eu_X38_stretch_234, du_X38_stretch_234, eu_X38_stretch_216, du_X38_stretch_216, eu_X38_stretch_209, du_X38_stretch_209, eu_X38_stretch_197, du_X38_stretch_197, eu_X38_stretch_184, du_X38_stretch_184, eu_X38_stretch_177, du_X38_stretch_177, eu_X38_stretch_165, du_X38_stretch_165, eu_X38_stretch_158, du_X38_stretch_158, eu_X38_stretch_140, du_X38_stretch_140, eu_X38_stretch_133, du_X38_stretch_133, eu_X38_stretch_115, du_X38_stretch_115, eu_X38_stretch_103, du_X38_stretch_103, eu_X38_stretch_90, du_X38_stretch_90, eu_X38_stretch_85, du_X38_stretch_85, eu_X38_stretch_60, du_X38_stretch_60, eu_X38_stretch_55, du_X38_stretch_55, eu_X38_stretch_43, du_X38_stretch_43, e1, e2, e_X38_longKind, v_X38_longKind, p4s, pStr]
theorem s38_stretch_58 (s : jS) (x0 : Int) (p : jP4) : m_X38_stretch (pw4 s (x0 + 2) p) x0 58 = (m_X38_put (pw4 s (x0 + 2) (pStr 58 p)) x0 26).bind fun v => some (pw4 s (x0 + 2) (pStr 58 p), v) := by
  rw [em_X38_stretch]; unfold dm_X38_stretch
  have e1 : jlt (pw4 s (x0 + 2) p) 1000 (x0 + 2) 4 0 = some p.1 := by rw [jlt_in (by decide) (by decide), jf_pw4, if_pos ⟨rfl, rfl, by decide, by decide⟩]; rfl
  have e2 : ∀ (q : jP4) (e v : Int), 0 ≤ e → e < 4 → jst (pw4 s (x0 + 2) q) 1000 (x0 + 2) 4 e v = some (pw4 s (x0 + 2) (p4s q e.toNat v)) := fun q e v a b => by rw [jst_in a b, pw4_put _ _ _ _ a b]
  simp [em_X38_stretch, dm_X38_stretch, eu_X38_stretch_241, du_X38_stretch_241, eu_X38_stretch_234, du_X38_stretch_234, eu_X38_stretch_216, du_X38_stretch_216, eu_X38_stretch_209, du_X38_stretch_209, eu_X38_stretch_197, du_X38_stretch_197, eu_X38_stretch_184, du_X38_stretch_184, eu_X38_stretch_177, du_X38_stretch_177, eu_X38_stretch_165, du_X38_stretch_165, eu_X38_stretch_158, du_X38_stretch_158, eu_X38_stretch_140, du_X38_stretch_140, eu_X38_stretch_133, du_X38_stretch_133, eu_X38_stretch_115, du_X38_stretch_115, eu_X38_stretch_103, du_X38_stretch_103, eu_X38_stretch_90, du_X38_stretch_90, eu_X38_stretch_85, du_X38_stretch_85, eu_X38_stretch_60, du_X38_stretch_60, eu_X38_stretch_55, du_X38_stretch_55, eu_X38_stretch_43, du_X38_stretch_43, e1, e2, e_X38_longKind, v_X38_longKind, p4s, pStr]
theorem s38_stretch_59 (s : jS) (x0 : Int) (p : jP4) : m_X38_stretch (pw4 s (x0 + 2) p) x0 59 = (m_X38_put (pw4 s (x0 + 2) (pStr 59 p)) x0 23).bind fun v => some (pw4 s (x0 + 2) (pStr 59 p), v) := by
  rw [em_X38_stretch]; unfold dm_X38_stretch
  have e1 : jlt (pw4 s (x0 + 2) p) 1000 (x0 + 2) 4 0 = some p.1 := by rw [jlt_in (by decide) (by decide), jf_pw4, if_pos ⟨rfl, rfl, by decide, by decide⟩]; rfl
  have e2 : ∀ (q : jP4) (e v : Int), 0 ≤ e → e < 4 → jst (pw4 s (x0 + 2) q) 1000 (x0 + 2) 4 e v = some (pw4 s (x0 + 2) (p4s q e.toNat v)) := fun q e v a b => by rw [jst_in a b, pw4_put _ _ _ _ a b]
  simp [em_X38_stretch, dm_X38_stretch, eu_X38_stretch_241, du_X38_stretch_241, eu_X38_stretch_234, du_X38_stretch_234, eu_X38_stretch_216, du_X38_stretch_216, eu_X38_stretch_209, du_X38_stretch_209, eu_X38_stretch_197, du_X38_stretch_197, eu_X38_stretch_184, du_X38_stretch_184, eu_X38_stretch_177, du_X38_stretch_177, eu_X38_stretch_165, du_X38_stretch_165, eu_X38_stretch_158, du_X38_stretch_158, eu_X38_stretch_140, du_X38_stretch_140, eu_X38_stretch_133, du_X38_stretch_133, eu_X38_stretch_115, du_X38_stretch_115, eu_X38_stretch_103, du_X38_stretch_103, eu_X38_stretch_90, du_X38_stretch_90, eu_X38_stretch_85, du_X38_stretch_85, eu_X38_stretch_60, du_X38_stretch_60, eu_X38_stretch_55, du_X38_stretch_55, eu_X38_stretch_43, du_X38_stretch_43, e1, e2, e_X38_longKind, v_X38_longKind, p4s, pStr]
theorem s38_stretch_60 (s : jS) (x0 : Int) (p : jP4) : m_X38_stretch (pw4 s (x0 + 2) p) x0 60 = (m_X38_put (pw4 s (x0 + 2) (pStr 60 p)) x0 28).bind fun v => some (pw4 s (x0 + 2) (pStr 60 p), v) := by
  rw [em_X38_stretch]; unfold dm_X38_stretch
  have e1 : jlt (pw4 s (x0 + 2) p) 1000 (x0 + 2) 4 0 = some p.1 := by rw [jlt_in (by decide) (by decide), jf_pw4, if_pos ⟨rfl, rfl, by decide, by decide⟩]; rfl
  have e2 : ∀ (q : jP4) (e v : Int), 0 ≤ e → e < 4 → jst (pw4 s (x0 + 2) q) 1000 (x0 + 2) 4 e v = some (pw4 s (x0 + 2) (p4s q e.toNat v)) := fun q e v a b => by rw [jst_in a b, pw4_put _ _ _ _ a b]
  simp [em_X38_stretch, dm_X38_stretch, eu_X38_stretch_241, du_X38_stretch_241, eu_X38_stretch_234, du_X38_stretch_234, eu_X38_stretch_216, du_X38_stretch_216, eu_X38_stretch_209, du_X38_stretch_209, eu_X38_stretch_197, du_X38_stretch_197, eu_X38_stretch_184, du_X38_stretch_184, eu_X38_stretch_177, du_X38_stretch_177, eu_X38_stretch_165, du_X38_stretch_165, eu_X38_stretch_158, du_X38_stretch_158, eu_X38_stretch_140, du_X38_stretch_140, eu_X38_stretch_133, du_X38_stretch_133, eu_X38_stretch_115, du_X38_stretch_115, eu_X38_stretch_103, du_X38_stretch_103, eu_X38_stretch_90, du_X38_stretch_90, eu_X38_stretch_85, du_X38_stretch_85, eu_X38_stretch_60, du_X38_stretch_60, eu_X38_stretch_55, du_X38_stretch_55, eu_X38_stretch_43, du_X38_stretch_43, e1, e2, e_X38_longKind, v_X38_longKind, p4s, pStr]
theorem s38_stretch_61 (s : jS) (x0 : Int) (p : jP4) : m_X38_stretch (pw4 s (x0 + 2) p) x0 61 = (m_X38_put (pw4 s (x0 + 2) (pStr 61 p)) x0 32).bind fun v => some (pw4 s (x0 + 2) (pStr 61 p), v) := by
  rw [em_X38_stretch]; unfold dm_X38_stretch
  have e1 : jlt (pw4 s (x0 + 2) p) 1000 (x0 + 2) 4 0 = some p.1 := by rw [jlt_in (by decide) (by decide), jf_pw4, if_pos ⟨rfl, rfl, by decide, by decide⟩]; rfl
  have e2 : ∀ (q : jP4) (e v : Int), 0 ≤ e → e < 4 → jst (pw4 s (x0 + 2) q) 1000 (x0 + 2) 4 e v = some (pw4 s (x0 + 2) (p4s q e.toNat v)) := fun q e v a b => by rw [jst_in a b, pw4_put _ _ _ _ a b]
  simp [em_X38_stretch, dm_X38_stretch, eu_X38_stretch_241, du_X38_stretch_241, eu_X38_stretch_234, du_X38_stretch_234, eu_X38_stretch_216, du_X38_stretch_216, eu_X38_stretch_209, du_X38_stretch_209, eu_X38_stretch_197, du_X38_stretch_197, eu_X38_stretch_184, du_X38_stretch_184, eu_X38_stretch_177, du_X38_stretch_177, eu_X38_stretch_165, du_X38_stretch_165, eu_X38_stretch_158, du_X38_stretch_158, eu_X38_stretch_140, du_X38_stretch_140, eu_X38_stretch_133, du_X38_stretch_133, eu_X38_stretch_115, du_X38_stretch_115, eu_X38_stretch_103, du_X38_stretch_103, eu_X38_stretch_90, du_X38_stretch_90, eu_X38_stretch_85, du_X38_stretch_85, eu_X38_stretch_60, du_X38_stretch_60, eu_X38_stretch_55, du_X38_stretch_55, eu_X38_stretch_43, du_X38_stretch_43, e1, e2, e_X38_longKind, v_X38_longKind, p4s, pStr]
theorem s38_stretch_62 (s : jS) (x0 : Int) (p : jP4) : m_X38_stretch (pw4 s (x0 + 2) p) x0 62 = (m_X38_put (pw4 s (x0 + 2) (pStr 62 p)) x0 35).bind fun v => some (pw4 s (x0 + 2) (pStr 62 p), v) := by
  rw [em_X38_stretch]; unfold dm_X38_stretch
  have e1 : jlt (pw4 s (x0 + 2) p) 1000 (x0 + 2) 4 0 = some p.1 := by rw [jlt_in (by decide) (by decide), jf_pw4, if_pos ⟨rfl, rfl, by decide, by decide⟩]; rfl
  have e2 : ∀ (q : jP4) (e v : Int), 0 ≤ e → e < 4 → jst (pw4 s (x0 + 2) q) 1000 (x0 + 2) 4 e v = some (pw4 s (x0 + 2) (p4s q e.toNat v)) := fun q e v a b => by rw [jst_in a b, pw4_put _ _ _ _ a b]
  simp [em_X38_stretch, dm_X38_stretch, eu_X38_stretch_241, du_X38_stretch_241, eu_X38_stretch_234, du_X38_stretch_234, eu_X38_stretch_216, du_X38_stretch_216, eu_X38_stretch_209, du_X38_stretch_209, eu_X38_stretch_197, du_X38_stretch_197, eu_X38_stretch_184, du_X38_stretch_184, eu_X38_stretch_177, du_X38_stretch_177, eu_X38_stretch_165, du_X38_stretch_165, eu_X38_stretch_158, du_X38_stretch_158, eu_X38_stretch_140, du_X38_stretch_140, eu_X38_stretch_133, du_X38_stretch_133, eu_X38_stretch_115, du_X38_stretch_115, eu_X38_stretch_103, du_X38_stretch_103, eu_X38_stretch_90, du_X38_stretch_90, eu_X38_stretch_85, du_X38_stretch_85, eu_X38_stretch_60, du_X38_stretch_60, eu_X38_stretch_55, du_X38_stretch_55, eu_X38_stretch_43, du_X38_stretch_43, e1, e2, e_X38_longKind, v_X38_longKind, p4s, pStr]
theorem s38_stretch_63 (s : jS) (x0 : Int) (p : jP4) : m_X38_stretch (pw4 s (x0 + 2) p) x0 63 = (m_X38_put (pw4 s (x0 + 2) (pStr 63 p)) x0 36).bind fun v => some (pw4 s (x0 + 2) (pStr 63 p), v) := by
  rw [em_X38_stretch]; unfold dm_X38_stretch
  have e1 : jlt (pw4 s (x0 + 2) p) 1000 (x0 + 2) 4 0 = some p.1 := by rw [jlt_in (by decide) (by decide), jf_pw4, if_pos ⟨rfl, rfl, by decide, by decide⟩]; rfl
  have e2 : ∀ (q : jP4) (e v : Int), 0 ≤ e → e < 4 → jst (pw4 s (x0 + 2) q) 1000 (x0 + 2) 4 e v = some (pw4 s (x0 + 2) (p4s q e.toNat v)) := fun q e v a b => by rw [jst_in a b, pw4_put _ _ _ _ a b]
  simp [em_X38_stretch, dm_X38_stretch, eu_X38_stretch_241, du_X38_stretch_241, eu_X38_stretch_234, du_X38_stretch_234, eu_X38_stretch_216, du_X38_stretch_216, eu_X38_stretch_209, du_X38_stretch_209, eu_X38_stretch_197, du_X38_stretch_197, eu_X38_stretch_184, du_X38_stretch_184, eu_X38_stretch_177, du_X38_stretch_177, eu_X38_stretch_165, du_X38_stretch_165, eu_X38_stretch_158, du_X38_stretch_158, eu_X38_stretch_140, du_X38_stretch_140, eu_X38_stretch_133, du_X38_stretch_133, eu_X38_stretch_115, du_X38_stretch_115, eu_X38_stretch_103, du_X38_stretch_103, eu_X38_stretch_90, du_X38_stretch_90, eu_X38_stretch_85, du_X38_stretch_85, eu_X38_stretch_60, du_X38_stretch_60, eu_X38_stretch_55, du_X38_stretch_55, eu_X38_stretch_43, du_X38_stretch_43, e1, e2, e_X38_longKind, v_X38_longKind, p4s, pStr]
theorem s38_stretch_64 (s : jS) (x0 : Int) (p : jP4) : m_X38_stretch (pw4 s (x0 + 2) p) x0 64 = (m_X38_put (pw4 s (x0 + 2) (pStr 64 p)) x0 2).bind fun v => some (pw4 s (x0 + 2) (pStr 64 p), v) := by
  rw [em_X38_stretch]; unfold dm_X38_stretch
  have e1 : jlt (pw4 s (x0 + 2) p) 1000 (x0 + 2) 4 0 = some p.1 := by rw [jlt_in (by decide) (by decide), jf_pw4, if_pos ⟨rfl, rfl, by decide, by decide⟩]; rfl
  have e2 : ∀ (q : jP4) (e v : Int), 0 ≤ e → e < 4 → jst (pw4 s (x0 + 2) q) 1000 (x0 + 2) 4 e v = some (pw4 s (x0 + 2) (p4s q e.toNat v)) := fun q e v a b => by rw [jst_in a b, pw4_put _ _ _ _ a b]
  simp [em_X38_stretch, dm_X38_stretch, eu_X38_stretch_241, du_X38_stretch_241, eu_X38_stretch_234, du_X38_stretch_234, eu_X38_stretch_216, du_X38_stretch_216, eu_X38_stretch_209, du_X38_stretch_209, eu_X38_stretch_197, du_X38_stretch_197, eu_X38_stretch_184, du_X38_stretch_184, eu_X38_stretch_177, du_X38_stretch_177, eu_X38_stretch_165, du_X38_stretch_165, eu_X38_stretch_158, du_X38_stretch_158, eu_X38_stretch_140, du_X38_stretch_140, eu_X38_stretch_133, du_X38_stretch_133, eu_X38_stretch_115, du_X38_stretch_115, eu_X38_stretch_103, du_X38_stretch_103, eu_X38_stretch_90, du_X38_stretch_90, eu_X38_stretch_85, du_X38_stretch_85, eu_X38_stretch_60, du_X38_stretch_60, eu_X38_stretch_55, du_X38_stretch_55, eu_X38_stretch_43, du_X38_stretch_43, e1, e2, e_X38_longKind, v_X38_longKind, p4s, pStr]
theorem s38_stretch_65 (s : jS) (x0 : Int) (p : jP4) : m_X38_stretch (pw4 s (x0 + 2) p) x0 65 = (m_X38_put (pw4 s (x0 + 2) (pStr 65 p)) x0 4).bind fun v => some (pw4 s (x0 + 2) (pStr 65 p), v) := by
  rw [em_X38_stretch]; unfold dm_X38_stretch
  have e1 : jlt (pw4 s (x0 + 2) p) 1000 (x0 + 2) 4 0 = some p.1 := by rw [jlt_in (by decide) (by decide), jf_pw4, if_pos ⟨rfl, rfl, by decide, by decide⟩]; rfl
  have e2 : ∀ (q : jP4) (e v : Int), 0 ≤ e → e < 4 → jst (pw4 s (x0 + 2) q) 1000 (x0 + 2) 4 e v = some (pw4 s (x0 + 2) (p4s q e.toNat v)) := fun q e v a b => by rw [jst_in a b, pw4_put _ _ _ _ a b]
  simp [em_X38_stretch, dm_X38_stretch, eu_X38_stretch_241, du_X38_stretch_241, eu_X38_stretch_234, du_X38_stretch_234, eu_X38_stretch_216, du_X38_stretch_216, eu_X38_stretch_209, du_X38_stretch_209, eu_X38_stretch_197, du_X38_stretch_197, eu_X38_stretch_184, du_X38_stretch_184, eu_X38_stretch_177, du_X38_stretch_177, eu_X38_stretch_165, du_X38_stretch_165, eu_X38_stretch_158, du_X38_stretch_158, eu_X38_stretch_140, du_X38_stretch_140, eu_X38_stretch_133, du_X38_stretch_133, eu_X38_stretch_115, du_X38_stretch_115, eu_X38_stretch_103, du_X38_stretch_103, eu_X38_stretch_90, du_X38_stretch_90, eu_X38_stretch_85, du_X38_stretch_85, eu_X38_stretch_60, du_X38_stretch_60, eu_X38_stretch_55, du_X38_stretch_55, eu_X38_stretch_43, du_X38_stretch_43, e1, e2, e_X38_longKind, v_X38_longKind, p4s, pStr]
theorem s38_stretch_66 (s : jS) (x0 : Int) (p : jP4) : m_X38_stretch (pw4 s (x0 + 2) p) x0 66 = (m_X38_put (pw4 s (x0 + 2) (pStr 66 p)) x0 5).bind fun v => some (pw4 s (x0 + 2) (pStr 66 p), v) := by
  rw [em_X38_stretch]; unfold dm_X38_stretch
  have e1 : jlt (pw4 s (x0 + 2) p) 1000 (x0 + 2) 4 0 = some p.1 := by rw [jlt_in (by decide) (by decide), jf_pw4, if_pos ⟨rfl, rfl, by decide, by decide⟩]; rfl
  have e2 : ∀ (q : jP4) (e v : Int), 0 ≤ e → e < 4 → jst (pw4 s (x0 + 2) q) 1000 (x0 + 2) 4 e v = some (pw4 s (x0 + 2) (p4s q e.toNat v)) := fun q e v a b => by rw [jst_in a b, pw4_put _ _ _ _ a b]
  simp [em_X38_stretch, dm_X38_stretch, eu_X38_stretch_241, du_X38_stretch_241, eu_X38_stretch_234, du_X38_stretch_234, eu_X38_stretch_216, du_X38_stretch_216, eu_X38_stretch_209, du_X38_stretch_209, eu_X38_stretch_197, du_X38_stretch_197, eu_X38_stretch_184, du_X38_stretch_184, eu_X38_stretch_177, du_X38_stretch_177, eu_X38_stretch_165, du_X38_stretch_165, eu_X38_stretch_158, du_X38_stretch_158, eu_X38_stretch_140, du_X38_stretch_140, eu_X38_stretch_133, du_X38_stretch_133, eu_X38_stretch_115, du_X38_stretch_115, eu_X38_stretch_103, du_X38_stretch_103, eu_X38_stretch_90, du_X38_stretch_90, eu_X38_stretch_85, du_X38_stretch_85, eu_X38_stretch_60, du_X38_stretch_60, eu_X38_stretch_55, du_X38_stretch_55, eu_X38_stretch_43, du_X38_stretch_43, e1, e2, e_X38_longKind, v_X38_longKind, p4s, pStr]
theorem s38_stretch_67 (s : jS) (x0 : Int) (p : jP4) : m_X38_stretch (pw4 s (x0 + 2) p) x0 67 = (m_X38_put (pw4 s (x0 + 2) (pStr 67 p)) x0 24).bind fun v => some (pw4 s (x0 + 2) (pStr 67 p), v) := by
  rw [em_X38_stretch]; unfold dm_X38_stretch
  have e1 : jlt (pw4 s (x0 + 2) p) 1000 (x0 + 2) 4 0 = some p.1 := by rw [jlt_in (by decide) (by decide), jf_pw4, if_pos ⟨rfl, rfl, by decide, by decide⟩]; rfl
  have e2 : ∀ (q : jP4) (e v : Int), 0 ≤ e → e < 4 → jst (pw4 s (x0 + 2) q) 1000 (x0 + 2) 4 e v = some (pw4 s (x0 + 2) (p4s q e.toNat v)) := fun q e v a b => by rw [jst_in a b, pw4_put _ _ _ _ a b]
  simp [em_X38_stretch, dm_X38_stretch, eu_X38_stretch_241, du_X38_stretch_241, eu_X38_stretch_234, du_X38_stretch_234, eu_X38_stretch_216, du_X38_stretch_216, eu_X38_stretch_209, du_X38_stretch_209, eu_X38_stretch_197, du_X38_stretch_197, eu_X38_stretch_184, du_X38_stretch_184, eu_X38_stretch_177, du_X38_stretch_177, eu_X38_stretch_165, du_X38_stretch_165, eu_X38_stretch_158, du_X38_stretch_158, eu_X38_stretch_140, du_X38_stretch_140, eu_X38_stretch_133, du_X38_stretch_133, eu_X38_stretch_115, du_X38_stretch_115, eu_X38_stretch_103, du_X38_stretch_103, eu_X38_stretch_90, du_X38_stretch_90, eu_X38_stretch_85, du_X38_stretch_85, eu_X38_stretch_60, du_X38_stretch_60, eu_X38_stretch_55, du_X38_stretch_55, eu_X38_stretch_43, du_X38_stretch_43, e1, e2, e_X38_longKind, v_X38_longKind, p4s, pStr]
theorem s38_stretch_68 (s : jS) (x0 : Int) (p : jP4) : m_X38_stretch (pw4 s (x0 + 2) p) x0 68 = (m_X38_put (pw4 s (x0 + 2) (pStr 68 p)) x0 12).bind fun v => some (pw4 s (x0 + 2) (pStr 68 p), v) := by
  rw [em_X38_stretch]; unfold dm_X38_stretch
  have e1 : jlt (pw4 s (x0 + 2) p) 1000 (x0 + 2) 4 0 = some p.1 := by rw [jlt_in (by decide) (by decide), jf_pw4, if_pos ⟨rfl, rfl, by decide, by decide⟩]; rfl
  have e2 : ∀ (q : jP4) (e v : Int), 0 ≤ e → e < 4 → jst (pw4 s (x0 + 2) q) 1000 (x0 + 2) 4 e v = some (pw4 s (x0 + 2) (p4s q e.toNat v)) := fun q e v a b => by rw [jst_in a b, pw4_put _ _ _ _ a b]
  simp [em_X38_stretch, dm_X38_stretch, eu_X38_stretch_241, du_X38_stretch_241, eu_X38_stretch_234, du_X38_stretch_234, eu_X38_stretch_216, du_X38_stretch_216, eu_X38_stretch_209, du_X38_stretch_209, eu_X38_stretch_197, du_X38_stretch_197, eu_X38_stretch_184, du_X38_stretch_184, eu_X38_stretch_177, du_X38_stretch_177, eu_X38_stretch_165, du_X38_stretch_165, eu_X38_stretch_158, du_X38_stretch_158, eu_X38_stretch_140, du_X38_stretch_140, eu_X38_stretch_133, du_X38_stretch_133, eu_X38_stretch_115, du_X38_stretch_115, eu_X38_stretch_103, du_X38_stretch_103, eu_X38_stretch_90, du_X38_stretch_90, eu_X38_stretch_85, du_X38_stretch_85, eu_X38_stretch_60, du_X38_stretch_60, eu_X38_stretch_55, du_X38_stretch_55, eu_X38_stretch_43, du_X38_stretch_43, e1, e2, e_X38_longKind, v_X38_longKind, p4s, pStr]
theorem s38_stretch_69 (s : jS) (x0 : Int) (p : jP4) : m_X38_stretch (pw4 s (x0 + 2) p) x0 69 = (m_X38_put (pw4 s (x0 + 2) (pStr 69 p)) x0 3).bind fun v => some (pw4 s (x0 + 2) (pStr 69 p), v) := by
  rw [em_X38_stretch]; unfold dm_X38_stretch
  have e1 : jlt (pw4 s (x0 + 2) p) 1000 (x0 + 2) 4 0 = some p.1 := by rw [jlt_in (by decide) (by decide), jf_pw4, if_pos ⟨rfl, rfl, by decide, by decide⟩]; rfl
  have e2 : ∀ (q : jP4) (e v : Int), 0 ≤ e → e < 4 → jst (pw4 s (x0 + 2) q) 1000 (x0 + 2) 4 e v = some (pw4 s (x0 + 2) (p4s q e.toNat v)) := fun q e v a b => by rw [jst_in a b, pw4_put _ _ _ _ a b]
  simp [em_X38_stretch, dm_X38_stretch, eu_X38_stretch_241, du_X38_stretch_241, eu_X38_stretch_234, du_X38_stretch_234, eu_X38_stretch_216, du_X38_stretch_216, eu_X38_stretch_209, du_X38_stretch_209, eu_X38_stretch_197, du_X38_stretch_197, eu_X38_stretch_184, du_X38_stretch_184, eu_X38_stretch_177, du_X38_stretch_177, eu_X38_stretch_165, du_X38_stretch_165, eu_X38_stretch_158, du_X38_stretch_158, eu_X38_stretch_140, du_X38_stretch_140, eu_X38_stretch_133, du_X38_stretch_133, eu_X38_stretch_115, du_X38_stretch_115, eu_X38_stretch_103, du_X38_stretch_103, eu_X38_stretch_90, du_X38_stretch_90, eu_X38_stretch_85, du_X38_stretch_85, eu_X38_stretch_60, du_X38_stretch_60, eu_X38_stretch_55, du_X38_stretch_55, eu_X38_stretch_43, du_X38_stretch_43, e1, e2, e_X38_longKind, v_X38_longKind, p4s, pStr]
theorem s38_stretch_70 (s : jS) (x0 : Int) (p : jP4) : m_X38_stretch (pw4 s (x0 + 2) p) x0 70 = (m_X38_put (pw4 s (x0 + 2) (pStr 70 p)) x0 27).bind fun v => some (pw4 s (x0 + 2) (pStr 70 p), v) := by
  rw [em_X38_stretch]; unfold dm_X38_stretch
  have e1 : jlt (pw4 s (x0 + 2) p) 1000 (x0 + 2) 4 0 = some p.1 := by rw [jlt_in (by decide) (by decide), jf_pw4, if_pos ⟨rfl, rfl, by decide, by decide⟩]; rfl
  have e2 : ∀ (q : jP4) (e v : Int), 0 ≤ e → e < 4 → jst (pw4 s (x0 + 2) q) 1000 (x0 + 2) 4 e v = some (pw4 s (x0 + 2) (p4s q e.toNat v)) := fun q e v a b => by rw [jst_in a b, pw4_put _ _ _ _ a b]
  simp [em_X38_stretch, dm_X38_stretch, eu_X38_stretch_241, du_X38_stretch_241, eu_X38_stretch_234, du_X38_stretch_234, eu_X38_stretch_216, du_X38_stretch_216, eu_X38_stretch_209, du_X38_stretch_209, eu_X38_stretch_197, du_X38_stretch_197, eu_X38_stretch_184, du_X38_stretch_184, eu_X38_stretch_177, du_X38_stretch_177, eu_X38_stretch_165, du_X38_stretch_165, eu_X38_stretch_158, du_X38_stretch_158, eu_X38_stretch_140, du_X38_stretch_140, eu_X38_stretch_133, du_X38_stretch_133, eu_X38_stretch_115, du_X38_stretch_115, eu_X38_stretch_103, du_X38_stretch_103, eu_X38_stretch_90, du_X38_stretch_90, eu_X38_stretch_85, du_X38_stretch_85, eu_X38_stretch_60, du_X38_stretch_60, eu_X38_stretch_55, du_X38_stretch_55, eu_X38_stretch_43, du_X38_stretch_43, e1, e2, e_X38_longKind, v_X38_longKind, p4s, pStr]
theorem s38_stretch_71 (s : jS) (x0 : Int) (p : jP4) : m_X38_stretch (pw4 s (x0 + 2) p) x0 71 = (m_X38_put (pw4 s (x0 + 2) (pStr 71 p)) x0 47).bind fun v => some (pw4 s (x0 + 2) (pStr 71 p), v) := by
  rw [em_X38_stretch]; unfold dm_X38_stretch
  have e1 : jlt (pw4 s (x0 + 2) p) 1000 (x0 + 2) 4 0 = some p.1 := by rw [jlt_in (by decide) (by decide), jf_pw4, if_pos ⟨rfl, rfl, by decide, by decide⟩]; rfl
  have e2 : ∀ (q : jP4) (e v : Int), 0 ≤ e → e < 4 → jst (pw4 s (x0 + 2) q) 1000 (x0 + 2) 4 e v = some (pw4 s (x0 + 2) (p4s q e.toNat v)) := fun q e v a b => by rw [jst_in a b, pw4_put _ _ _ _ a b]
  simp [em_X38_stretch, dm_X38_stretch, eu_X38_stretch_241, du_X38_stretch_241, eu_X38_stretch_234, du_X38_stretch_234, eu_X38_stretch_216, du_X38_stretch_216, eu_X38_stretch_209, du_X38_stretch_209, eu_X38_stretch_197, du_X38_stretch_197, eu_X38_stretch_184, du_X38_stretch_184, eu_X38_stretch_177, du_X38_stretch_177, eu_X38_stretch_165, du_X38_stretch_165, eu_X38_stretch_158, du_X38_stretch_158, eu_X38_stretch_140, du_X38_stretch_140, eu_X38_stretch_133, du_X38_stretch_133, eu_X38_stretch_115, du_X38_stretch_115, eu_X38_stretch_103, du_X38_stretch_103, eu_X38_stretch_90, du_X38_stretch_90, eu_X38_stretch_85, du_X38_stretch_85, eu_X38_stretch_60, du_X38_stretch_60, eu_X38_stretch_55, du_X38_stretch_55, eu_X38_stretch_43, du_X38_stretch_43, e1, e2, e_X38_longKind, v_X38_longKind, p4s, pStr]
theorem s38_stretch_72 (s : jS) (x0 : Int) (p : jP4) : m_X38_stretch (pw4 s (x0 + 2) p) x0 72 = (m_X38_put (pw4 s (x0 + 2) (pStr 72 p)) x0 3).bind fun v => some (pw4 s (x0 + 2) (pStr 72 p), v) := by
  rw [em_X38_stretch]; unfold dm_X38_stretch
  have e1 : jlt (pw4 s (x0 + 2) p) 1000 (x0 + 2) 4 0 = some p.1 := by rw [jlt_in (by decide) (by decide), jf_pw4, if_pos ⟨rfl, rfl, by decide, by decide⟩]; rfl
  have e2 : ∀ (q : jP4) (e v : Int), 0 ≤ e → e < 4 → jst (pw4 s (x0 + 2) q) 1000 (x0 + 2) 4 e v = some (pw4 s (x0 + 2) (p4s q e.toNat v)) := fun q e v a b => by rw [jst_in a b, pw4_put _ _ _ _ a b]
  simp [em_X38_stretch, dm_X38_stretch, eu_X38_stretch_241, du_X38_stretch_241, eu_X38_stretch_234, du_X38_stretch_234, eu_X38_stretch_216, du_X38_stretch_216, eu_X38_stretch_209, du_X38_stretch_209, eu_X38_stretch_197, du_X38_stretch_197, eu_X38_stretch_184, du_X38_stretch_184, eu_X38_stretch_177, du_X38_stretch_177, eu_X38_stretch_165, du_X38_stretch_165, eu_X38_stretch_158, du_X38_stretch_158, eu_X38_stretch_140, du_X38_stretch_140, eu_X38_stretch_133, du_X38_stretch_133, eu_X38_stretch_115, du_X38_stretch_115, eu_X38_stretch_103, du_X38_stretch_103, eu_X38_stretch_90, du_X38_stretch_90, eu_X38_stretch_85, du_X38_stretch_85, eu_X38_stretch_60, du_X38_stretch_60, eu_X38_stretch_55, du_X38_stretch_55, eu_X38_stretch_43, du_X38_stretch_43, e1, e2, e_X38_longKind, v_X38_longKind, p4s, pStr]
theorem s38_stretch_73 (s : jS) (x0 : Int) (p : jP4) : m_X38_stretch (pw4 s (x0 + 2) p) x0 73 = (m_X38_put (pw4 s (x0 + 2) (pStr 73 p)) x0 27).bind fun v => some (pw4 s (x0 + 2) (pStr 73 p), v) := by
  rw [em_X38_stretch]; unfold dm_X38_stretch
  have e1 : jlt (pw4 s (x0 + 2) p) 1000 (x0 + 2) 4 0 = some p.1 := by rw [jlt_in (by decide) (by decide), jf_pw4, if_pos ⟨rfl, rfl, by decide, by decide⟩]; rfl
  have e2 : ∀ (q : jP4) (e v : Int), 0 ≤ e → e < 4 → jst (pw4 s (x0 + 2) q) 1000 (x0 + 2) 4 e v = some (pw4 s (x0 + 2) (p4s q e.toNat v)) := fun q e v a b => by rw [jst_in a b, pw4_put _ _ _ _ a b]
  simp [em_X38_stretch, dm_X38_stretch, eu_X38_stretch_241, du_X38_stretch_241, eu_X38_stretch_234, du_X38_stretch_234, eu_X38_stretch_216, du_X38_stretch_216, eu_X38_stretch_209, du_X38_stretch_209, eu_X38_stretch_197, du_X38_stretch_197, eu_X38_stretch_184, du_X38_stretch_184, eu_X38_stretch_177, du_X38_stretch_177, eu_X38_stretch_165, du_X38_stretch_165, eu_X38_stretch_158, du_X38_stretch_158, eu_X38_stretch_140, du_X38_stretch_140, eu_X38_stretch_133, du_X38_stretch_133, eu_X38_stretch_115, du_X38_stretch_115, eu_X38_stretch_103, du_X38_stretch_103, eu_X38_stretch_90, du_X38_stretch_90, eu_X38_stretch_85, du_X38_stretch_85, eu_X38_stretch_60, du_X38_stretch_60, eu_X38_stretch_55, du_X38_stretch_55, eu_X38_stretch_43, du_X38_stretch_43, e1, e2, e_X38_longKind, v_X38_longKind, p4s, pStr]
theorem s38_stretch_74 (s : jS) (x0 : Int) (p : jP4) : m_X38_stretch (pw4 s (x0 + 2) p) x0 74 = (m_X38_put (pw4 s (x0 + 2) (pStr 74 p)) x0 17).bind fun v => some (pw4 s (x0 + 2) (pStr 74 p), v) := by
  rw [em_X38_stretch]; unfold dm_X38_stretch
  have e1 : jlt (pw4 s (x0 + 2) p) 1000 (x0 + 2) 4 0 = some p.1 := by rw [jlt_in (by decide) (by decide), jf_pw4, if_pos ⟨rfl, rfl, by decide, by decide⟩]; rfl
  have e2 : ∀ (q : jP4) (e v : Int), 0 ≤ e → e < 4 → jst (pw4 s (x0 + 2) q) 1000 (x0 + 2) 4 e v = some (pw4 s (x0 + 2) (p4s q e.toNat v)) := fun q e v a b => by rw [jst_in a b, pw4_put _ _ _ _ a b]
  simp [em_X38_stretch, dm_X38_stretch, eu_X38_stretch_241, du_X38_stretch_241, eu_X38_stretch_234, du_X38_stretch_234, eu_X38_stretch_216, du_X38_stretch_216, eu_X38_stretch_209, du_X38_stretch_209, eu_X38_stretch_197, du_X38_stretch_197, eu_X38_stretch_184, du_X38_stretch_184, eu_X38_stretch_177, du_X38_stretch_177, eu_X38_stretch_165, du_X38_stretch_165, eu_X38_stretch_158, du_X38_stretch_158, eu_X38_stretch_140, du_X38_stretch_140, eu_X38_stretch_133, du_X38_stretch_133, eu_X38_stretch_115, du_X38_stretch_115, eu_X38_stretch_103, du_X38_stretch_103, eu_X38_stretch_90, du_X38_stretch_90, eu_X38_stretch_85, du_X38_stretch_85, eu_X38_stretch_60, du_X38_stretch_60, eu_X38_stretch_55, du_X38_stretch_55, eu_X38_stretch_43, du_X38_stretch_43, e1, e2, e_X38_longKind, v_X38_longKind, p4s, pStr]
theorem s38_stretch_k (s : jS) (x0 : Int) (p : jP4) : ∀ (k : Nat), k < 75 → 48 ≤ k → m_X38_stretch (pw4 s (x0 + 2) p) x0 (k : Int) = (m_X38_put (pw4 s (x0 + 2) (pStr k p)) x0 (pLK k : Int)).bind fun v => some (pw4 s (x0 + 2) (pStr k p), v)
  | 48, _, _ => s38_stretch_48 s x0 p
  | 49, _, _ => s38_stretch_49 s x0 p
  | 50, _, _ => s38_stretch_50 s x0 p
  | 51, _, _ => s38_stretch_51 s x0 p
  | 52, _, _ => s38_stretch_52 s x0 p
  | 53, _, _ => s38_stretch_53 s x0 p
  | 54, _, _ => s38_stretch_54 s x0 p
  | 55, _, _ => s38_stretch_55 s x0 p
  | 56, _, _ => s38_stretch_56 s x0 p
  | 57, _, _ => s38_stretch_57 s x0 p
  | 58, _, _ => s38_stretch_58 s x0 p
  | 59, _, _ => s38_stretch_59 s x0 p
  | 60, _, _ => s38_stretch_60 s x0 p
  | 61, _, _ => s38_stretch_61 s x0 p
  | 62, _, _ => s38_stretch_62 s x0 p
  | 63, _, _ => s38_stretch_63 s x0 p
  | 64, _, _ => s38_stretch_64 s x0 p
  | 65, _, _ => s38_stretch_65 s x0 p
  | 66, _, _ => s38_stretch_66 s x0 p
  | 67, _, _ => s38_stretch_67 s x0 p
  | 68, _, _ => s38_stretch_68 s x0 p
  | 69, _, _ => s38_stretch_69 s x0 p
  | 70, _, _ => s38_stretch_70 s x0 p
  | 71, _, _ => s38_stretch_71 s x0 p
  | 72, _, _ => s38_stretch_72 s x0 p
  | 73, _, _ => s38_stretch_73 s x0 p
  | 74, _, _ => s38_stretch_74 s x0 p
  | n + 75, h, _ => absurd h (by omega)
  | 0, _, h => absurd h (by omega)
  | 1, _, h => absurd h (by omega)
  | 2, _, h => absurd h (by omega)
  | 3, _, h => absurd h (by omega)
  | 4, _, h => absurd h (by omega)
  | 5, _, h => absurd h (by omega)
  | 6, _, h => absurd h (by omega)
  | 7, _, h => absurd h (by omega)
  | 8, _, h => absurd h (by omega)
  | 9, _, h => absurd h (by omega)
  | 10, _, h => absurd h (by omega)
  | 11, _, h => absurd h (by omega)
  | 12, _, h => absurd h (by omega)
  | 13, _, h => absurd h (by omega)
  | 14, _, h => absurd h (by omega)
  | 15, _, h => absurd h (by omega)
  | 16, _, h => absurd h (by omega)
  | 17, _, h => absurd h (by omega)
  | 18, _, h => absurd h (by omega)
  | 19, _, h => absurd h (by omega)
  | 20, _, h => absurd h (by omega)
  | 21, _, h => absurd h (by omega)
  | 22, _, h => absurd h (by omega)
  | 23, _, h => absurd h (by omega)
  | 24, _, h => absurd h (by omega)
  | 25, _, h => absurd h (by omega)
  | 26, _, h => absurd h (by omega)
  | 27, _, h => absurd h (by omega)
  | 28, _, h => absurd h (by omega)
  | 29, _, h => absurd h (by omega)
  | 30, _, h => absurd h (by omega)
  | 31, _, h => absurd h (by omega)
  | 32, _, h => absurd h (by omega)
  | 33, _, h => absurd h (by omega)
  | 34, _, h => absurd h (by omega)
  | 35, _, h => absurd h (by omega)
  | 36, _, h => absurd h (by omega)
  | 37, _, h => absurd h (by omega)
  | 38, _, h => absurd h (by omega)
  | 39, _, h => absurd h (by omega)
  | 40, _, h => absurd h (by omega)
  | 41, _, h => absurd h (by omega)
  | 42, _, h => absurd h (by omega)
  | 43, _, h => absurd h (by omega)
  | 44, _, h => absurd h (by omega)
  | 45, _, h => absurd h (by omega)
  | 46, _, h => absurd h (by omega)
  | 47, _, h => absurd h (by omega)
theorem lk38_k (s : jS) : ∀ (k : Nat), k < 75 → 48 ≤ k → m_X38_longKind s (k : Int) = some (pLK k : Int)
  | 48, _, _ => by rw [e_X38_longKind]; rfl
  | 49, _, _ => by rw [e_X38_longKind]; rfl
  | 50, _, _ => by rw [e_X38_longKind]; rfl
  | 51, _, _ => by rw [e_X38_longKind]; rfl
  | 52, _, _ => by rw [e_X38_longKind]; rfl
  | 53, _, _ => by rw [e_X38_longKind]; rfl
  | 54, _, _ => by rw [e_X38_longKind]; rfl
  | 55, _, _ => by rw [e_X38_longKind]; rfl
  | 56, _, _ => by rw [e_X38_longKind]; rfl
  | 57, _, _ => by rw [e_X38_longKind]; rfl
  | 58, _, _ => by rw [e_X38_longKind]; rfl
  | 59, _, _ => by rw [e_X38_longKind]; rfl
  | 60, _, _ => by rw [e_X38_longKind]; rfl
  | 61, _, _ => by rw [e_X38_longKind]; rfl
  | 62, _, _ => by rw [e_X38_longKind]; rfl
  | 63, _, _ => by rw [e_X38_longKind]; rfl
  | 64, _, _ => by rw [e_X38_longKind]; rfl
  | 65, _, _ => by rw [e_X38_longKind]; rfl
  | 66, _, _ => by rw [e_X38_longKind]; rfl
  | 67, _, _ => by rw [e_X38_longKind]; rfl
  | 68, _, _ => by rw [e_X38_longKind]; rfl
  | 69, _, _ => by rw [e_X38_longKind]; rfl
  | 70, _, _ => by rw [e_X38_longKind]; rfl
  | 71, _, _ => by rw [e_X38_longKind]; rfl
  | 72, _, _ => by rw [e_X38_longKind]; rfl
  | 73, _, _ => by rw [e_X38_longKind]; rfl
  | 74, _, _ => by rw [e_X38_longKind]; rfl
  | n + 75, h, _ => absurd h (by omega)
  | 0, _, h => absurd h (by omega)
  | 1, _, h => absurd h (by omega)
  | 2, _, h => absurd h (by omega)
  | 3, _, h => absurd h (by omega)
  | 4, _, h => absurd h (by omega)
  | 5, _, h => absurd h (by omega)
  | 6, _, h => absurd h (by omega)
  | 7, _, h => absurd h (by omega)
  | 8, _, h => absurd h (by omega)
  | 9, _, h => absurd h (by omega)
  | 10, _, h => absurd h (by omega)
  | 11, _, h => absurd h (by omega)
  | 12, _, h => absurd h (by omega)
  | 13, _, h => absurd h (by omega)
  | 14, _, h => absurd h (by omega)
  | 15, _, h => absurd h (by omega)
  | 16, _, h => absurd h (by omega)
  | 17, _, h => absurd h (by omega)
  | 18, _, h => absurd h (by omega)
  | 19, _, h => absurd h (by omega)
  | 20, _, h => absurd h (by omega)
  | 21, _, h => absurd h (by omega)
  | 22, _, h => absurd h (by omega)
  | 23, _, h => absurd h (by omega)
  | 24, _, h => absurd h (by omega)
  | 25, _, h => absurd h (by omega)
  | 26, _, h => absurd h (by omega)
  | 27, _, h => absurd h (by omega)
  | 28, _, h => absurd h (by omega)
  | 29, _, h => absurd h (by omega)
  | 30, _, h => absurd h (by omega)
  | 31, _, h => absurd h (by omega)
  | 32, _, h => absurd h (by omega)
  | 33, _, h => absurd h (by omega)
  | 34, _, h => absurd h (by omega)
  | 35, _, h => absurd h (by omega)
  | 36, _, h => absurd h (by omega)
  | 37, _, h => absurd h (by omega)
  | 38, _, h => absurd h (by omega)
  | 39, _, h => absurd h (by omega)
  | 40, _, h => absurd h (by omega)
  | 41, _, h => absurd h (by omega)
  | 42, _, h => absurd h (by omega)
  | 43, _, h => absurd h (by omega)
  | 44, _, h => absurd h (by omega)
  | 45, _, h => absurd h (by omega)
  | 46, _, h => absurd h (by omega)
  | 47, _, h => absurd h (by omega)
theorem sl02_4 (w : Int) : pSl 0 2 w = w % 4 := by
  unfold pSl
  show w / 1 % 4 = w % 4
  omega
theorem short_3 (w : Int) : ∀ (k : Nat), k < 75 → 48 ≤ k → pTk k w = true → ¬ w % 4 = 3
  | 48, _, _, h => by have q := (pTk_48 w).1.mp h; have := sl02_4 w; omega
  | 49, _, _, h => by have q := (pTk_49 w).1.mp h; have := sl02_4 w; omega
  | 50, _, _, h => by have q := (pTk_50 w).1.mp h; have := sl02_4 w; omega
  | 51, _, _, h => by
    have q := (pTk_51 w).1.mp h
    unfold pSl at q
    have : w / 1 % 65536 = _ := q
    omega
  | 52, _, _, h => by have q := (pTk_52 w).1.mp h; have := sl02_4 w; omega
  | 53, _, _, h => by have q := (pTk_53 w).1.mp h; have := sl02_4 w; omega
  | 54, _, _, h => by have q := (pTk_54 w).1.mp h; have := sl02_4 w; omega
  | 55, _, _, h => by have q := (pTk_55 w).1.mp h; have := sl02_4 w; omega
  | 56, _, _, h => by have q := (pTk_56 w).1.mp h; have := sl02_4 w; omega
  | 57, _, _, h => by have q := (pTk_57 w).1.mp h; have := sl02_4 w; omega
  | 58, _, _, h => by have q := (pTk_58 w).1.mp h; have := sl02_4 w; omega
  | 59, _, _, h => by have q := (pTk_59 w).1.mp h; have := sl02_4 w; omega
  | 60, _, _, h => by have q := (pTk_60 w).1.mp h; have := sl02_4 w; omega
  | 61, _, _, h => by have q := (pTk_61 w).1.mp h; have := sl02_4 w; omega
  | 62, _, _, h => by have q := (pTk_62 w).1.mp h; have := sl02_4 w; omega
  | 63, _, _, h => by have q := (pTk_63 w).1.mp h; have := sl02_4 w; omega
  | 64, _, _, h => by have q := (pTk_64 w).1.mp h; have := sl02_4 w; omega
  | 65, _, _, h => by have q := (pTk_65 w).1.mp h; have := sl02_4 w; omega
  | 66, _, _, h => by have q := (pTk_66 w).1.mp h; have := sl02_4 w; omega
  | 67, _, _, h => by have q := (pTk_67 w).1.mp h; have := sl02_4 w; omega
  | 68, _, _, h => by have q := (pTk_68 w).1.mp h; have := sl02_4 w; omega
  | 69, _, _, h => by have q := (pTk_69 w).1.mp h; have := sl07_4 w; omega
  | 70, _, _, h => by have q := (pTk_70 w).1.mp h; have := sl02_4 w; omega
  | 71, _, _, h => by
    have q := (pTk_71 w).1.mp h
    unfold pSl at q
    have : w / 1 % 65536 = _ := q
    omega
  | 72, _, _, h => by have q := (pTk_72 w).1.mp h; have := sl07_4 w; omega
  | 73, _, _, h => by have q := (pTk_73 w).1.mp h; have := sl02_4 w; omega
  | 74, _, _, h => by have q := (pTk_74 w).1.mp h; have := sl02_4 w; omega
  | n + 75, h, _, _ => absurd h (by omega)
  | 0, _, h, _ => absurd h (by omega)
  | 1, _, h, _ => absurd h (by omega)
  | 2, _, h, _ => absurd h (by omega)
  | 3, _, h, _ => absurd h (by omega)
  | 4, _, h, _ => absurd h (by omega)
  | 5, _, h, _ => absurd h (by omega)
  | 6, _, h, _ => absurd h (by omega)
  | 7, _, h, _ => absurd h (by omega)
  | 8, _, h, _ => absurd h (by omega)
  | 9, _, h, _ => absurd h (by omega)
  | 10, _, h, _ => absurd h (by omega)
  | 11, _, h, _ => absurd h (by omega)
  | 12, _, h, _ => absurd h (by omega)
  | 13, _, h, _ => absurd h (by omega)
  | 14, _, h, _ => absurd h (by omega)
  | 15, _, h, _ => absurd h (by omega)
  | 16, _, h, _ => absurd h (by omega)
  | 17, _, h, _ => absurd h (by omega)
  | 18, _, h, _ => absurd h (by omega)
  | 19, _, h, _ => absurd h (by omega)
  | 20, _, h, _ => absurd h (by omega)
  | 21, _, h, _ => absurd h (by omega)
  | 22, _, h, _ => absurd h (by omega)
  | 23, _, h, _ => absurd h (by omega)
  | 24, _, h, _ => absurd h (by omega)
  | 25, _, h, _ => absurd h (by omega)
  | 26, _, h, _ => absurd h (by omega)
  | 27, _, h, _ => absurd h (by omega)
  | 28, _, h, _ => absurd h (by omega)
  | 29, _, h, _ => absurd h (by omega)
  | 30, _, h, _ => absurd h (by omega)
  | 31, _, h, _ => absurd h (by omega)
  | 32, _, h, _ => absurd h (by omega)
  | 33, _, h, _ => absurd h (by omega)
  | 34, _, h, _ => absurd h (by omega)
  | 35, _, h, _ => absurd h (by omega)
  | 36, _, h, _ => absurd h (by omega)
  | 37, _, h, _ => absurd h (by omega)
  | 38, _, h, _ => absurd h (by omega)
  | 39, _, h, _ => absurd h (by omega)
  | 40, _, h, _ => absurd h (by omega)
  | 41, _, h, _ => absurd h (by omega)
  | 42, _, h, _ => absurd h (by omega)
  | 43, _, h, _ => absurd h (by omega)
  | 44, _, h, _ => absurd h (by omega)
  | 45, _, h, _ => absurd h (by omega)
  | 46, _, h, _ => absurd h (by omega)
  | 47, _, h, _ => absurd h (by omega)
theorem tab_SL : ∀ k, k < 75 → 48 ≤ k → (cSd k).1 = (pLK k : Int) ∧ -3 ≤ (cSd k).2.1 ∧ (cSd k).2.1 ≤ 2 ∧ -3 ≤ (cSd k).2.2.1 ∧ (cSd k).2.2.1 ≤ 2 ∧ -3 ≤ (cSd k).2.2.2 ∧ (cSd k).2.2.2 ≤ 2 := by decide +kernel
end jShort2
