/-! instructions: what operands become, both sides: registers -/
set_option maxRecDepth 100000
section jRegs
variable {s t u w s1 t1 : jS} {v A H b lo k c a x y d n o j e kd mk m i : Int} {l : List Int} {L : List Nat} {NL : List (List Int)} {I : pI} {OL : List pvO} {SL : List pvS} {z : pvS} {zo : pvO} {Q Q' : jS → jS → Int → Prop} {xx : Option (jS × Bool × Int)} {yy : Option (jS × Int)}
theorem stO.pre (h : stO u w A H b lo NL I OL SL k z xx yy Q) (c1 : cFa A s u 0 0) (c2 : tF H t w) : stO s t A H b lo NL I OL SL k z xx yy Q := by
  rcases h with ⟨q, r, e1, e2, e3⟩ | ⟨u', w', v', d1, d2, d3, d4, d5, d6⟩
  · exact .inl ⟨q, r, e1, e2, e3.after c1 c2⟩
  · exact .inr ⟨u', w', v', d1, d2, d3, (c1.trans d4 : cFa A s u' (0 + 0) (0 + 0)), c2.trans d5, d6⟩
/-- the scratch cells of operands -/
def opU (A : Int) (s u : jS) : Prop := ∀ c a j, ¬ (c = 37 ∧ a = A ∧ j = 41) → ¬ (c = 1000 ∧ a = A + 26) → jf u c a j = jf s c a j
def opV (H : Int) (t w : jS) : Prop := ∀ c a j, ¬ (c = 41 ∧ a = H ∧ 59 ≤ j ∧ j ≤ 61) → ¬ (c = 1000 ∧ a = H + 169) → ¬ (c = 42 ∧ a = H + 4) → jf w c a j = jf t c a j
theorem opU.rfl : opU A s s := fun _ _ _ _ _ => Eq.refl _
theorem opV.rfl : opV H t t := fun _ _ _ _ _ _ => Eq.refl _
theorem AG.scr (h : AG s t A H b lo NL I OL SL k z) (c1 : cFa A s u 0 0) (fu : opU A s u) (c2 : tF H t w) (fv : opV H t w) : AG u w A H b lo NL I OL SL k z := by
  obtain ⟨aS, aT, aI, aB, aM, aSt, aK, aH, a0⟩ := h.1.2.2.2.1
  have R : AR u w A H b lo NL I OL SL k z := h.1.mk c1 c2 ⟨aS.cg (fun c a j _ => fu _ _ _ (by omega) (by omega)) (fun c a j _ => fv _ _ _ (by omega) (by omega) (by omega)), aT.cg (fun c a j _ => fu _ _ _ (by omega) (by omega)) (fun c a j _ => fv _ _ _ (by omega) (by omega) (by omega)) (by rw [fv _ _ _ (by omega) (by omega) (by omega)]; omega), aI.cg fun a j _ => fv _ _ _ (by omega) (by omega) (by omega), aB.cg (fun c a j _ => fu _ _ _ (by omega) (by omega)) (fun c a j _ => fv _ _ _ (by omega) (by omega) (by omega)), aM.cg (fun c a j _ => fu _ _ _ (by omega) (by omega)) (fun c a j _ => fv _ _ _ (by omega) (by omega) (by omega)), aSt.cg (fun c a j _ => fu _ _ _ (by omega) (by omega)) (fun c a j _ => fv _ _ _ (by omega) (by omega) (by omega)), aK.cg (fun c a j _ => fu _ _ _ (by omega) (by omega)) (fun c a j _ => fv _ _ _ (by omega) (by omega) (by omega)), aH.cg (fun c a j _ => fu _ _ _ (by omega) (by omega)) (fun c a j _ => fv _ _ _ (by omega) (by omega) (by omega)) (by rw [fv _ _ _ (by omega) (by omega) (by omega)]; omega), by rw [fv _ _ _ (by omega) (by omega) (by omega)]; exact a0⟩
  exact h.bk R ⟨fu _ _ _ (by omega) (by omega), fu _ _ _ (by omega) (by omega)⟩ ⟨fv _ _ _ (by omega) (by omega) (by omega), fv _ _ _ (by omega) (by omega) (by omega)⟩
/-- what an instruction needs of the twin's state -/
def kS (H : Int) (t w : jS) : Prop := jf w 41 H 26 = jf t 41 H 26 ∧ jf w 41 H 34 = jf t 41 H 34 ∧ jf w 41 H 47 = jf t 41 H 47 ∧ ∀ i, jf w 1000 (H + 153) i = jf t 1000 (H + 153) i
theorem kS.rfl : kS H t t := ⟨Eq.refl _, Eq.refl _, Eq.refl _, fun _ => Eq.refl _⟩
theorem kS.trans (h : kS H t u) (g : kS H u w) : kS H t w := ⟨g.1.trans h.1, g.2.1.trans h.2.1, g.2.2.1.trans h.2.2.1, fun i => (g.2.2.2 i).trans (h.2.2.2 i)⟩
theorem opV.ks (h : opV H t w) : kS H t w := ⟨h _ _ _ (by omega) (by omega) (by omega), h _ _ _ (by omega) (by omega) (by omega), h _ _ _ (by omega) (by omega) (by omega), fun i => h _ _ _ (by omega) (by omega) (by omega)⟩
/-- an instruction may begin -/
def inI (H : Int) (t : jS) : Prop := jf t 41 H 34 = 0 ∧ jf t 1000 (H + 153) 0 = jf t 41 H 47 ∧ jf t 41 H 26 < 1024
theorem inI.ks (h : inI H t) (g : kS H t w) : inI H w := by
  obtain ⟨h1, h2, h3⟩ := h
  obtain ⟨g1, g2, g3, g4⟩ := g
  exact ⟨by rw [g2, h1], by rw [g4, g3, h2], by rw [g1]; exact h3⟩
/-- a number within the reach of words -/
def rgJ (x : Int) : Prop := -2147483640 ≤ x ∧ x ≤ 2147483647
/-- the parts that are the same on both sides (but those of S), and the relocation that waits -/
def oPt (S : Int → Prop) (u w : jS) (A H : Int) : Prop := ∀ i, 0 ≤ i → i < 4 → ¬ S i → jf u 1000 (A + 26) i = jf w 1000 (H + 169) i ∧ rgJ (jf w 1000 (H + 169) i)
def oM (u w : jS) (A H m : Int) : Prop := jf u 37 A 41 = jf w 41 H 59 ∧ (0 ≤ jf w 41 H 59 ∧ jf w 41 H 59 ≤ 60) ∧ (0 < jf w 41 H 59 → (0 ≤ m ∧ m < 800) ∧ jf u 1000 (A + 21) m = jf w 41 H 60 ∧ jf u 1000 (A + 20) m = jf w 41 H 61 ∧ (-1 ≤ jf w 41 H 60 ∧ jf w 41 H 60 < 100) ∧ jin (jf w 41 H 61))
def oRt (u w : jS) (A H m : Int) : Prop := oPt (fun _ => False) u w A H ∧ oM u w A H m
/-- parts that are good -/
def gdT (kd : Int) (w : jS) (H : Int) (L : List Nat) : Prop := ∀ e ∈ L, fMay (cFd kd.toNat e) (jf w 1000 (H + 169) (e : Int))
theorem c_mayR {W : Int} (h : pWA s W) (k0 : 0 ≤ kd) (k1 : kd < 75) {p : Nat} (hp : p < 3) (hc : ¬ (cFd kd.toNat p).1 = 0) : m_X7_may s (jf s 1008 (W + 23) kd) p v = some (if pReg kd.toNat p v = true then 1 else 0) := by
  obtain ⟨e1, e2⟩ := h.at k0 k1
  have q := s_X7_may e2 (by omega) (show p < 4 by omega) v
  have r := freg_k (k := kd.toNat) (e := p) (by omega) hp hc v
  by_cases c : pReg kd.toNat p v = true
  · rw [if1 c]; exact q.1 (.inr (r.mpr c))
  · rw [if0 c]; exact q.2 fun e => e.elim hc fun e => c (r.mp e)
theorem AG.wa (h : AG s t A H b lo NL I OL SL k z) : pWA s (A + (-4147)) := h.cx.1.1
theorem cFa.tr0 (h : cFa A s u 0 0) (g : cFa A u w 0 0) : cFa A s w 0 0 := (h.trans g : cFa A s w (0 + 0) (0 + 0))
/-- a register, both sides -/
theorem reg2 {f : jS × Bool × Int → Option (jS × Bool × Int)} {g : jS × Int → Option (jS × Int)} (h : AG s t A H b lo NL I OL SL k z) (hR : oRt s t A H m) (hG : gdT kd t H L) (k0 : 0 ≤ kd) (k1 : kd < 75) (j0 : 0 ≤ j) (j1 : j < z.2.2.2.1) {p : Nat} (hp : p < 3) (hcl : ¬ (cFd kd.toNat p).1 = 0) (hs : (tO OL (z.2.2.1 + j)).1 = 1 ∨ (tO OL (z.2.2.1 + j)).1 = 2) (hL : p ∉ L)
    (hf : ∀ u d, f (u, true, d) = some (u, true, d)) (hg : ∀ r, g (r, 0) = some (r, 0))
    (hc : ∀ u w, AG u w A H b lo NL I OL SL k z → oRt u w A H m → gdT kd w H (p :: L) → kS H t w → jf w 41 H 59 = jf t 41 H 59 → cFa A s u 0 0 → stO u w A H b lo NL I OL SL k z (f (u, false, 0)) (g (w, 1)) Q) :
    stO s t A H b lo NL I OL SL k z ((m_X33_needAt (jp s 1000 (A + 26) p (tO OL (z.2.2.1 + j)).2.1) A (if pReg kd.toNat p (tO OL (z.2.2.1 + j)).2.1 = true then 1 else 0) 15 j).bind f) ((m_X37_takeRegister t H kd p (z.2.2.1 + j)).bind g) Q := by
  obtain ⟨o1, o2, o3, og, o5⟩ := h.1.op j0 j1
  have rb := og.2.2.2.1 hs
  rw [em_X37_takeRegister]; unfold dm_X37_takeRegister
  rw [y_rgst h j0 j1, Option.bind_some, jst_in (by omega) (by omega), Option.bind_some]
  generalize hr : (tO OL (z.2.2.1 + j)).2.1 = r at *
  obtain ⟨u1, E1⟩ : ∃ u1, u1 = jp s 1000 (A + 26) p r := ⟨_, rfl⟩
  obtain ⟨w1, G1⟩ : ∃ w1, w1 = jp t 1000 (H + 169) p r := ⟨_, rfl⟩
  obtain ⟨f1, p1, -⟩ := jpF E1
  obtain ⟨g1, r1, -⟩ := jpF G1
  rw [← E1, ← G1, jlt_in (by omega) (by omega), Option.bind_some, r1]
  have cF : cFa A s u1 0 0 := cFa.rfl.wr E1 (by omega)
  have tf : tF H t w1 := tF.rfl.wr G1 (by omega)
  have g' : AG u1 w1 A H b lo NL I OL SL k z := h.scr cF (fun c a i z1 z2 => f1 _ _ _ (by omega)) tf (fun c a i z1 z2 z3 => g1 _ _ _ (by omega))
  refine stO.pre ?_ cF tf
  rw [s_X38_isRegister _ _ _ _ _ g'.cx.2 k0 k1 (by omega) (by omega), Int.toNat_natCast, Option.bind_some]
  have fr := freg_k (k := kd.toNat) (e := p) (by omega) hp hcl r
  by_cases c : pReg kd.toNat p r = true
  rotate_left
  · rw [if0 c, if_pos rfl, Option.bind_assoc]
    simp only [Option.bind_assoc]
    refine stO.badAt (g := fun q6 => (if q6.2 = 0 then some (q6.1, Wz 0) else some (q6.1, Wz 1)).bind g) g' (by decide) j0 j1 hf fun r' => ?_
    rw [if_pos rfl, Wz_0, Option.bind_some]; exact hg _
  rw [if1 c, if_neg n10, needAtOk n10, Option.bind_some, Wz_1]
  refine hc u1 w1 g' ⟨fun i i0 i1 _ => ?_, ?_⟩ (fun e he => ?_) ⟨g1 _ _ _ (by omega), g1 _ _ _ (by omega), g1 _ _ _ (by omega), fun i => g1 _ _ _ (by omega)⟩ (g1 _ _ _ (by omega)) cF
  · by_cases ci : i = p
    · subst ci; rw [p1, r1]; exact ⟨rfl, by unfold rgJ; omega⟩
    · rw [f1 _ _ _ (by omega), g1 _ _ _ (by omega)]; exact hR.1 i i0 i1 id
  · have hM := hR.2
    unfold oM at hM ⊢
    rw [f1 _ _ _ (by omega), g1 _ _ _ (by omega), g1 _ _ _ (by omega), g1 _ _ _ (by omega), f1 _ _ _ (by omega), f1 _ _ _ (by omega)]
    exact hM
  · rcases List.mem_cons.mp he with he | he
    · subst he; rw [r1]; exact fr.mpr c
    · have : ¬ e = p := fun e' => hL (e' ▸ he)
      rw [g1 _ _ _ (by omega)]; exact hG e he
end jRegs
