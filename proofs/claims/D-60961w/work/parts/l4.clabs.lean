/-! the linker: the component puts all labels *-/
set_option maxRecDepth 100000
section jLca
variable {s t u w : jS} {a b k m n p v l x c f i H B C S K : Int} {O : Int → Int → Int → Int → Int} {d d' e z y : Int → Int → Int} {G A B' : Int → Int} {T T' : Int → Prop}
/-- labels below n that have a place -/
def lTb (S : Int) (O : Int → Int → Int → Int → Int) (e d z y : Int → Int → Int) (G : Int → Int) (n : Int) (x : Int) : Prop := (0 ≤ x ∧ x < n) ∧ ∃ k a, lT S O e d z G (kyO O e (y 1 x)) k a
noncomputable def lPx (S : Int) (O : Int → Int → Int → Int → Int) (e d z y : Int → Int → Int) (G : Int → Int) (T : Int → Prop) : Int → Int → Int := dPs d T (fun x => (lQ S O e d z G (kyO O e (y 1 x))).1) fun x => (lQ S O e d z G (kyO O e (y 1 x))).2
theorem yOK.ls (h : yOK S O e d y) (g : dLs d d') : yOK S O e d' y := by
  have e2 := g 0 2 (by decide) (by decide)
  exact ⟨fun k k0 k1 => by rw [e2]; exact h.1 k k0 k1, fun l l0 l1 => h.2 l l0 (by rw [e2] at l1; exact l1)⟩
theorem cLz.ls (h : cLz C S O s e d y) (g : dLs d d') (F : ∀ c a k, ¬ lKs c → ¬ (c = 1000 ∧ C + 4284 ≤ a ∧ a ≤ C + 4287) → jf u c a k = jf s c a k) : cLz C S O u e d' y := by
  have e2 := g 0 2 (by decide) (by decide)
  obtain ⟨h1, h2, h3, h4⟩ := h
  exact ⟨by rw [e2, F _ _ _ (by omega) (by omega)]; exact h1, fun X hX h0 => by rw [F _ _ _ (by omega) (by omega)]; exact h2 X hX h0, fun i i0 i1 => by rw [F _ _ _ (by omega) (by omega)]; exact h3 i i0 i1, fun l l0 l1 => by rw [F _ _ _ (by omega) (by omega), F _ _ _ (by omega) (by omega)]; exact h4 l l0 (by rw [e2] at l1; exact l1)⟩
theorem cPz.ls (h : cPz C s d z) (g : dLs d d') (F : ∀ c a k, ¬ lKs c → ¬ (c = 1000 ∧ C + 4284 ≤ a ∧ a ≤ C + 4287) → jf u c a k = jf s c a k) : cPz C u d' z := (h.cg (fun a k a0 a1 => F _ _ _ (by omega) (by omega)) (F _ _ _ (by omega) (by omega))).dd (g _ _ (by decide) (by decide)) (g _ _ (by decide) (by decide)) (fun p => g _ _ (by decide) (by decide)) fun p => g _ _ (by decide) (by decide)
theorem c_labels (hh : LB0 C H S O s t e) (yo : yOK S O e d y) (hc : cLz C S O s e d y) (vl : vLy d) (hy : cLy s (C + 4275 + 1) d) (hz : cPz C s d z) (hR : lpR H S O t d z e G) (hG : ∀ g, 0 ≤ g → g < e 0 0 → e 3 g = 2 → jf s 1000 (C + 4275 + 22) g = G g) : ∃ u, u_X35_layOut_250 s (C + 4275) = some (u, false, 0) ∧ vLy (lPx S O e d z y G (lTb S O e d z y G (d 0 2))) ∧ cLy u (C + 4275 + 1) (lPx S O e d z y G (lTb S O e d z y G (d 0 2))) ∧ cBW C s u 0 0 ∧ ∀ c a k, ¬ lKs c → ¬ (c = 1000 ∧ C + 4284 ≤ a ∧ a ≤ C + 4287) → jf u c a k = jf s c a k := by
  have d2 := vl.2.2.1
  rw [eu_X35_layOut_250]; unfold du_X35_layOut_250
  rw [eu_X35_layOut_252]; unfold du_X35_layOut_252
  obtain ⟨u, eu, h1, h2, h3, h4⟩ := loopTo (C := jc2 b_X35_layOut_252) (fun l w => vLy (lPx S O e d z y G (lTb S O e d z y G l)) ∧ cLy w (C + 4275 + 1) (lPx S O e d z y G (lTb S O e d z y G l)) ∧ cBW C s w 0 0 ∧ ∀ c a k, ¬ lKs c → ¬ (c = 1000 ∧ C + 4284 ≤ a ∧ a ≤ C + 4287) → jf w c a k = jf s c a k) (fun l => [C + 4275, l]) 0 (d 0 2) d2.1 (s := s) (F := fun w => some (w, false, 0)) ⟨by
    unfold lPx; rw [dPs_no fun x q => by have := q.1; omega]; exact vl, by
    unfold lPx; rw [dPs_no fun x q => by have := q.1; omega]; exact hy, .rfl, fun _ _ _ _ _ => rfl⟩ (fun l w l0 l1 ⟨j1, j2, j3, j4⟩ => by
    show ∃ w', b_X35_layOut_252 w (C + 4275) l = some (.inl (w', [C + 4275, l + 1])) ∧ _
    unfold b_X35_layOut_252
    have ls : dLs d (lPx S O e d z y G (lTb S O e d z y G l)) := dPs_ls
    have e2 := ls 0 2 (by decide) (by decide)
    have hh1 := hh.bw j3 (tBW.rfl (H := H) (t := t))
    obtain ⟨hk1, ⟨hg1, -, gv⟩, -, -⟩ := id hh1
    have hX := (yo.2 l l0 l1).1
    obtain ⟨w', e', q, g', F'⟩ := c_putLab hk1 hg1 gv (yo.ls ls) (hc.ls ls j4) j1 j2 (hz.ls ls j4) (hR.ls ls) (fun g g0 g1 g2 => by rw [j4 _ _ _ (by omega) (by omega)]; exact hG g g0 g1 g2) l0 (by rw [e2]; exact l1)
    rw [j4 _ _ _ (by omega) (by omega), hc.1, if_pos l1, e', Option.bind_some, W32_in (by omega) (by omega)]
    refine ⟨w', rfl, ?_⟩
    have tail : cBW C s w' 0 0 ∧ ∀ c a k, ¬ lKs c → ¬ (c = 1000 ∧ C + 4284 ≤ a ∧ a ≤ C + 4287) → jf w' c a k = jf s c a k := ⟨(j3.trans g').mono (by omega) (by omega), fun c a k q1 q2 => (F' c a k q1 q2).trans (j4 c a k q1 q2)⟩
    rcases q with ⟨k, a, a1, a2, a3⟩ | ⟨b1, b2⟩
    · have a1' := (lT_ls ls).mp a1
      have one := lT_one hk1 gv hR hX a1' (lQ_of a1')
      have st : lPx S O e d z y G (lTb S O e d z y G (l + 1)) = dLp (lPx S O e d z y G (lTb S O e d z y G l)) l k a := by
        rw [one.1, one.2]
        exact dPs_st fun x => ⟨fun q => by
          by_cases c : x = l
          · exact .inr c
          · exact .inl ⟨by have := q.1; omega, q.2⟩, fun q => by
          rcases q with q | q
          · exact ⟨by have := q.1; omega, q.2⟩
          · rw [q]; exact ⟨by omega, k, a, a1'⟩⟩
      rw [st]
      exact ⟨a2, a3, tail⟩
    · have st : lPx S O e d z y G (lTb S O e d z y G (l + 1)) = lPx S O e d z y G (lTb S O e d z y G l) := dPs_cg fun x => ⟨fun q => by
          by_cases c : x = l
          · rw [c] at q
            obtain ⟨-, k, a, q⟩ := q
            exact absurd ((lT_ls ls).mpr q) (b1 k a)
          · exact ⟨by have := q.1; omega, q.2⟩, fun q => ⟨by have := q.1; omega, q.2⟩⟩
      rw [st]
      exact ⟨j1, b2, tail⟩) (fun w ⟨j1, j2, j3, j4⟩ => by
    show b_X35_layOut_252 w (C + 4275) (d 0 2) = _
    unfold b_X35_layOut_252
    rw [j4 _ _ _ (by omega) (by omega), hc.1, if_neg (by omega)])
  exact ⟨u, eu, h1, h2, h3, h4⟩
end jLca
