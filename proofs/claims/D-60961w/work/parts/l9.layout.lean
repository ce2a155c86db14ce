/-! the linker: laying out as a whole, both sides *-/
set_option maxRecDepth 100000
section jLwh
variable {s t u w s0 t0 : jS} {a b k m n p v l x c f i H B C S K : Int} {O : Int → Int → Int → Int → Int} {d d' e z y : Int → Int → Int} {G : Int → Int} {QQ : jS × Bool × Int → jS × Int → Prop}
theorem x_layOut (hk : lkB C H S O s t) (hg : gFc C S O s e) (hgt : gFt H S O t e) (gv : gFv S O e) (hw : wrS C H s t) (hcd : cKdl C s) (hc : cBs s (C + 4275 + 1)) (hb : jBd s 837 6663) (hF : ∀ (r : jS × Bool × Int) (q : jS × Int), q.2 = 0 → lkX C H s t 837 6663 r q.1 → QQ r q) (hQ : ∀ (r : jS × Bool × Int) (q : jS × Int), r.2 = (false, 0) → q.2 = 1 → (∃ d z y, LYD C H S O s t r.1 q.1 e d z y) → QQ r q) : jE2 (m_X35_layOut s (C + 4275)) (m_X37_layParts t H) QQ := by
  obtain ⟨u, eu, h1, ⟨h2, h3⟩, g1, F⟩ := c_layHead hc
  obtain ⟨w, ew, k1, ⟨k2, k3⟩, g2⟩ := t_empty (t := t) (H := H)
  have vl : vLy (dEm 65536 (gAl 4)) := vLy.em (by decide) fun o _ _ => by unfold gAl; split <;> decide
  have hh : LB0 C H S O u w e := LB0.bw (s := s) (t := t) ⟨hk, ⟨hg.toG, hgt, gv⟩, hw, hcd⟩ g1 g2
  have z0 : dEm 65536 (gAl 4) 0 0 = 0 := dEm_0 (by omega) (by decide)
  have z1 : dEm 65536 (gAl 4) 0 1 = 0 := dEm_0 (by omega) (by decide)
  have z2 : dEm 65536 (gAl 4) 0 2 = 0 := dEm_0 (by omega) (by decide)
  rw [eu, em_X37_layParts]; unfold dm_X37_layParts
  rw [ew, Option.bind_some]
  have st : uJ C H S O u w e 0 0 u w := ⟨dEm 65536 (gAl 4), fun _ _ => 0, fun _ _ => -1, ⟨⟨vl, ⟨h1, by rw [z1]; exact h2, fun k k0 q => by rw [z1] at q; omega, fun p p0 q => by rw [z0] at q; omega⟩, k1, fun k k0 q => by rw [z1] at q; omega, fun p p0 q => by rw [z0] at q; omega, fun k k0 q => by rw [z1] at q; omega, fun i i0 i1 _ => k3 i i0 i1⟩, ⟨⟨fun _ _ _ => .inl rfl, fun l l0 q => by rw [z2] at q; omega⟩, ⟨by rw [z2]; exact h3, fun X hX _ => by rw [F _ _ _ (by omega) (by omega) (by omega)]; exact (hg.2.1 X hX).2, fun g g0 g1 => by rw [F _ _ _ (by omega) (by omega) (by omega)]; exact (hg.2.2 g g0 g1).2.2.2.2.2, fun l l0 q => by rw [z2] at q; omega⟩, k2⟩, hh, by rw [z0, z1]; exact cBW.rfl, tBW.rfl, fun k k0 q => by rw [z1] at q; omega, fun l l0 q => by rw [z2] at q; omega⟩, by rw [z0]; rfl, ⟨fun v j v0 v1 => by omega, fun j j0 j1 => by omega⟩, fun i i0 q => by rw [z1] at q; omega, fun _ => rfl, fun _ => rfl⟩
  have hbu : jBd u 837 6663 := by
    obtain ⟨a1, a2, a3, a4, a5, -⟩ := g1.1.1
    exact ⟨by have := hb.1; omega, by have := hb.2; omega⟩
  refine lu_whole st hbu (fun r q q1 q2 => hF r q q1 ((q2.pre (g1.lf h1.2.1) g2.lf).mono (by omega) (by omega))) fun r q q1 q2 ⟨d, z, y, a1, a2, a3, a4, a5, a6, a7⟩ => hQ r q q1 q2 ⟨d, z, y, a1, a2, a3, a4, (g1.trans a5).mono (by omega) (by omega), g2.trans a6, a7⟩
end jLwh
