/-! the linker: the component's layout is emptied *-/
set_option maxRecDepth 100000
section jLhe
variable {s t u w : jS} {a b k m n p v l x c f i H B C S K : Int} {d e : Int → Int → Int} {g : Int → Int}
/-- powers of the outputs -/
def gAl (n : Int) : Int → Int := fun i => if 0 ≤ i ∧ i < n ∧ i < 3 then 4 else 0
theorem gAl_s (n0 : 0 ≤ n) : (fun k => if k = n then (if n = 3 then 0 else 4) else gAl n k) = fun k => if n < 3 ∨ ¬ k = n then gAl (n + 1) k else if n = 3 then 0 else 4 := by
  funext k
  unfold gAl
  by_cases c : k = n
  · rw [if_pos c]
    by_cases c3 : n < 3
    · rw [if_neg (by omega), if_pos (.inl c3), if_pos (by omega)]
    · rw [if_neg (show ¬ (n < 3 ∨ ¬ k = n) by omega)]
  · rw [if_neg c, if_pos (show n < 3 ∨ ¬ k = n from .inr c)]
    by_cases q : 0 ≤ k ∧ k < n ∧ k < 3
    · rw [if_pos q, if_pos (by omega)]
    · rw [if_neg q, if_neg (by omega)]
theorem gAl_n (n0 : 0 ≤ n) (n1 : n < 4) : (fun k => if k = n then (if n = 3 then 0 else 4) else gAl n k) = gAl (n + 1) := by
  rw [gAl_s n0]
  funext k
  by_cases q : n < 3 ∨ ¬ k = n
  · rw [if_pos q]
  · rw [if_neg q, if_pos (by omega)]; unfold gAl; rw [if_neg (by omega)]
theorem dEm_ba : dU (dEm 0 fun _ => 0) 0 3 b = dEm b (gAl 0) := by
  funext f k
  unfold dU dEm gAl
  by_cases c : f = 0 ∧ k = 3
  · rw [if_pos c, if_pos c]
  · rw [if_neg c, if_neg c, if_neg c]
    by_cases c14 : f = 14
    · rw [if_pos c14, if_pos c14, if_neg (by omega)]
    · rw [if_neg c14, if_neg c14]
theorem c_layHead (h : cBs s (C + 4275 + 1)) : ∃ u, m_X35_layOut s (C + 4275) = u_X35_layOut_60 u (C + 4275) ∧ cBu u (C + 4275 + 1) (dEm 65536 (gAl 4)) ∧ (jf u 39 (C + 4275) 29 = 0 ∧ jf u 39 (C + 4275) 31 = 0) ∧ cBW C s u 0 0 ∧ ∀ c a k, ¬ lKk c → ¬ (c = 1000 ∧ C + 4284 ≤ a ∧ a ≤ C + 4287) → ¬ (c = 39 ∧ a = C + 4275 ∧ (k = 29 ∨ k = 31)) → jf u c a k = jf s c a k := by
  rw [em_X35_layOut]; unfold dm_X35_layOut
  obtain ⟨u1, e1, h1, w1⟩ := c_lrenew h
  rw [e1, Option.bind_some]
  dsimp only
  obtain ⟨y1, E_y1⟩ : ∃ y1, y1 = jp u1 39 (C + 4275) 29 0 := ⟨_, rfl⟩
  obtain ⟨f_y1, p_y1, -⟩ := jpF E_y1
  rw [jls_e, ← E_y1]
  obtain ⟨y2, E_y2⟩ : ∃ y2, y2 = jp y1 39 (C + 4275) 31 0 := ⟨_, rfl⟩
  obtain ⟨f_y2, p_y2, -⟩ := jpF E_y2
  rw [jls_e, ← E_y2]
  have sm : jSm u1 y2 := (jSm.rfl.wr E_y1).wr E_y2
  have F2 : ∀ c a k, ¬ (c = 39 ∧ a = C + 4275 ∧ (k = 29 ∨ k = 31)) → jf y2 c a k = jf u1 c a k := fun c a k q => by rw [f_y2 _ _ _ (by omega), f_y1 _ _ _ (by omega)]
  have v0 : vLy (dEm 0 fun _ => 0) := vLy.em (by decide) fun o _ _ => by decide
  obtain ⟨u3, e3, h3, w3⟩ := c_lbase (z := 65536) (h1.fr v0 sm fun c a k q1 q2 q3 => F2 _ _ _ (by omega)) (by decide)
  rw [e3, Option.bind_some, eu_X35_layOut_30]; unfold du_X35_layOut_30
  rw [dEm_ba] at h3
  have g0 : cBW C s u3 0 0 := ((w1.bw.trans (((cBW.rfl (C := C) (s := u1)).wr E_y1 (by omega) (by omega)).wr E_y2 (by omega) (by omega))).trans w3.bw).mono (by omega) (by omega)
  have F3 : ∀ c a k, ¬ lKk c → ¬ (c = 1000 ∧ C + 4284 ≤ a ∧ a ≤ C + 4287) → ¬ (c = 39 ∧ a = C + 4275 ∧ (k = 29 ∨ k = 31)) → jf u3 c a k = jf s c a k := fun c a k q1 q2 q3 => by rw [w3.2 _ _ _ q1 (by omega), F2 _ _ _ q3, w1.2 _ _ _ q1 (by omega)]
  obtain ⟨w, ew, j1, j2, j3⟩ := loopTo (C := jc2 b_X35_layOut_30) (fun n w => cBu w (C + 4275 + 1) (dEm 65536 (gAl n)) ∧ cBW C u3 w 0 0 ∧ ∀ c a k, ¬ lKk c → ¬ (c = 1000 ∧ C + 4284 ≤ a ∧ a ≤ C + 4287) → jf w c a k = jf u3 c a k) (fun n => [C + 4275, n]) 0 4 (by decide) (s := u3) (F := fun w => u_X35_layOut_60 w (C + 4275)) ⟨h3, .rfl, fun _ _ _ _ _ => rfl⟩ (fun n w n0 n1 ⟨j1, j2, j3⟩ => by
    show ∃ w', b_X35_layOut_30 w (C + 4275) n = some (.inl (w', [C + 4275, n + 1])) ∧ _
    unfold b_X35_layOut_30
    obtain ⟨w', e', h', g'⟩ := c_lalign (o := n) (w := if n = 3 then 0 else 4) j1 ⟨n0, n1⟩ (by split <;> decide)
    rw [gAl_n n0 n1] at h'
    have e50 : u_X35_layOut_50 w (C + 4275) n (if n = 3 then 0 else 4) n (C + 4275 + 1) = some (.inl (w', [C + 4275, n + 1])) := by
      rw [eu_X35_layOut_50]; unfold du_X35_layOut_50
      rw [e', Option.bind_some, W32_in (by omega) (by omega)]
    have tail : cBu w' (C + 4275 + 1) (dEm 65536 (gAl (n + 1))) ∧ cBW C u3 w' 0 0 ∧ ∀ c a k, ¬ lKk c → ¬ (c = 1000 ∧ C + 4284 ≤ a ∧ a ≤ C + 4287) → jf w' c a k = jf u3 c a k := ⟨h', (j2.trans g'.bw).mono (by omega) (by omega), fun c a k q1 q2 => by rw [g'.2 _ _ _ q1 (by omega)]; exact j3 c a k q1 q2⟩
    rw [if_pos n1]
    by_cases c3 : n = 3
    · rw [if_pos c3] at e50 ⊢
      exact ⟨w', e50, tail⟩
    · rw [if_neg c3] at e50 ⊢
      exact ⟨w', e50, tail⟩) (fun w ⟨j1, j2, j3⟩ => by
    show b_X35_layOut_30 w (C + 4275) 4 = _
    unfold b_X35_layOut_30
    rw [if_neg (by decide)])
  refine ⟨w, ew, j1, ⟨?_, ?_⟩, (g0.trans j2).mono (by omega) (by omega), fun c a k q1 q2 q3 => by rw [j3 _ _ _ q1 q2]; exact F3 c a k q1 q2 q3⟩
  · rw [j3 _ _ _ (by omega) (by omega), w3.2 _ _ _ (by omega) (by omega), f_y2 _ _ _ (by omega)]; exact p_y1
  · rw [j3 _ _ _ (by omega) (by omega), w3.2 _ _ _ (by omega) (by omega)]; exact p_y2
end jLhe
