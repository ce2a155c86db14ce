/-! instructions: what operands become, both sides: numbers -/
set_option maxRecDepth 100000
section jNums
variable {s t u w s1 t1 : jS} {v A H b lo k c a x y d n o j e kd mk m i pt : Int} {l : List Int} {L : List Nat} {NL : List (List Int)} {I : pI} {OL : List pvO} {SL : List pvS} {z : pvS} {zo : pvO} {Q Q' : jS → jS → Int → Prop} {xx : Option (jS × Bool × Int)} {yy : Option (jS × Int)}
theorem hi_eq (hn : jin x) : I_ushr x 12 = I_and (I_shr x 12) 1048575 ∧ 0 ≤ I_ushr x 12 ∧ I_ushr x 12 ≤ 1048575 := by
  rw [i_ushr_p (by omega) (by omega), i_shr_p hn (by omega) (by omega), I_and_1048575]
  show W32 (x % 4294967296 / 4096) = x / 4096 % 1048576 ∧ 0 ≤ W32 (x % 4294967296 / 4096) ∧ W32 (x % 4294967296 / 4096) ≤ 1048575
  rw [W32_in (by omega) (by omega)]
  omega
theorem lo_in : -2048 ≤ I_shr (I_shl x 20) 20 ∧ I_shr (I_shl x 20) 20 ≤ 2047 := by
  have := I_shl_b (x := x) (y := 20) (by omega) (by omega)
  rw [i_shr_p this (by omega) (by omega)]
  show -2048 ≤ I_shl x 20 / 1048576 ∧ I_shl x 20 / 1048576 ≤ 2047
  omega
theorem imm_hi (h0 : 0 ≤ v) (h1 : v ≤ 1048575) (k0 : 0 ≤ kd) (k1 : kd < 2) : pImm kd.toNat v = true := by
  unfold pImm v_X43_isImmediate
  rw [Int.toNat_of_nonneg k0, if_pos k1, if_pos ⟨by omega, by omega, by rw [L_rem_0 (by omega) (by decide) (by decide)]; omega⟩]
  rfl
theorem imm_lo (h0 : -2048 ≤ v) (h1 : v ≤ 2047) (k0 : kd = 3 ∨ 10 ≤ kd ∧ kd ≤ 23) : pImm kd.toNat v = true := by
  unfold pImm v_X43_isImmediate
  rw [Int.toNat_of_nonneg (by omega), if_neg (by omega), if_neg (by omega), if_neg (by omega), if_neg (by omega), if_pos (by omega), if_pos ⟨by omega, by omega, by rw [L_rem_0 (by omega) (by decide) (by decide)]; omega⟩]
  rfl
theorem cl_3 : ∀ k : Nat, k < 75 → ((cKd k).1 = 2 ∨ (cKd k).1 = 3 ∨ (cKd k).1 = 4 ∨ 5 ≤ (cKd k).1 ∧ (cKd k).1 ≤ 9 ∨ 12 ≤ (cKd k).1 → ¬ (cFd k 3).1 = 0) ∧ (k = 0 ∨ k = 1 ∨ k = 3 ∨ 10 ≤ k ∧ k ≤ 23 ∨ (cKd k).1 = 5 ∨ 7 ≤ (cKd k).1 ∧ (cKd k).1 ≤ 9 → (cFd k 3).1 = 6) ∧ (cFd k 3).2.2.length ≤ 21 := by decide +kernel
theorem L_and_00 (y : Int) : L_and 0 y = 0 := by
  have : L_and 0 y = L_and y 0 := by rw [L_and_eq]; unfold l_and; rw [Int64.and_comm]
  rw [this, L_and_0']
theorem may_0 {k : Nat} (h6 : (cFd k 3).1 = 6) : fMay (cFd k 3) 0 := by
  unfold fMay mayS
  rw [if_neg (by omega), if_neg (by omega), if_pos h6]
  refine ⟨Int.pow_pos (by decide), ?_, L_and_00 _⟩
  have : (0 : Int) < 2 ^ ((cFd k 3).2.2.length - (cFd k 3).2.1.toNat) := Int.pow_pos (by decide)
  split <;> omega
theorem may_rg {k : Nat} (h : fMay (cFd k 3) v) (hl : (cFd k 3).2.2.length ≤ 21) : rgJ v := by
  unfold rgJ
  have hp : (2 : Int) ^ ((cFd k 3).2.2.length - (cFd k 3).2.1.toNat) ≤ 2 ^ 21 := by
    have h := Nat.pow_le_pow_right (show 2 > 0 by decide) (show (cFd k 3).2.2.length - (cFd k 3).2.1.toNat ≤ 21 by omega)
    have := Int.ofNat_le.mpr h
    rw [Int.natCast_pow, Int.natCast_pow] at this
    exact this
  unfold fMay at h
  split at h
  · omega
  split at h
  · omega
  have ms : ∀ sg : Int, mayS (cFd k 3).2.2.length (fun i => (cFd k 3).2.2.getD i (-1)) (cFd k 3).2.1 v → -2147483640 ≤ v ∧ v ≤ 2147483647 := fun _ h => by
    unfold mayS at h
    obtain ⟨h1, h2, -⟩ := h
    split at h2 <;> omega
  split at h
  · exact ms 0 h
  split at h
  · exact ms 0 h.2
  · omega
theorem y_markO (h : AG s t A H b lo NL I OL SL k z) (j0 : 0 ≤ j) (j1 : j < z.2.2.2.1) : m_X37_markOf t H (z.2.2.1 + j) = some (t, (tO OL (z.2.2.1 + j)).2.2.1) := by
  obtain ⟨o1, o2, o3, o4, o5⟩ := h.1.op j0 j1
  rw [em_X37_markOf]; unfold dm_X37_markOf
  rw [y_operand h.1.2.1.1 o1 o2 (by decide) (by decide), Option.bind_some]; rfl
/-- a number taken: the third part is still to be stored by the component -/
def nQ (kd : Int) (t : jS) (A H : Int) (L : List Nat) (j : Int) (u w : jS) (d : Int) : Prop := oPt (fun i => i = 3) u w A H ∧ oM u w A H j ∧ jf w 1000 (H + 169) 3 = d ∧ (fMay (cFd kd.toNat 3) d ∧ rgJ d) ∧ gdT kd w H L ∧ kS H t w
/-- an expression that becomes a relocation -/
theorem rel2 (g : AG u w A H b lo NL I OL SL k z) (hP : oPt (fun _ => False) u w A H) (hE : vlE u w A H j) (j0 : 0 ≤ j) (j1 : j < 800) (hv : vGo (jf w 41 H 12) (jf w 41 H 52, jf w 41 H 53, jf w 41 H 54)) (v0 : 0 < v) (v1 : v ≤ 60) (hG : gdT kd w H L) (h3 : 3 ∉ L) (hk : kS H t w) (f0 : fMay (cFd kd.toNat 3) 0) : ∃ u1 w1, jp u 37 A 41 v = u1 ∧ m_X37_relocated w H v = some (w1, 1) ∧ AG u1 w1 A H b lo NL I OL SL k z ∧ cFa A u u1 0 0 ∧ tF H w w1 ∧ nQ kd t A H L j u1 w1 0 := by
  have hsy := g.1.2.2.2.1.1.2.1
  obtain ⟨v2, v3, -⟩ := hv
  dsimp only at v2 v3
  rw [em_X37_relocated]; unfold dm_X37_relocated
  simp only [jls]
  obtain ⟨u1, E1⟩ : ∃ u1, u1 = jp u 37 A 41 v := ⟨_, rfl⟩
  obtain ⟨w1, G1⟩ : ∃ w1, w1 = jp w 41 H 59 v := ⟨_, rfl⟩
  obtain ⟨f1, p1, -⟩ := jpF E1
  obtain ⟨g1, r1, -⟩ := jpF G1
  rw [← G1]
  obtain ⟨w2, G2⟩ : ∃ w2, w2 = jp w1 41 H 60 (jf w1 41 H 53) := ⟨_, rfl⟩
  obtain ⟨g2, r2, -⟩ := jpF G2
  rw [← G2]
  obtain ⟨w3, G3⟩ : ∃ w3, w3 = jp w2 41 H 61 (jf w2 41 H 52) := ⟨_, rfl⟩
  obtain ⟨g3, r3, -⟩ := jpF G3
  rw [← G3, jst_in (by omega) (by omega), Option.bind_some, Wz_1]
  obtain ⟨w4, G4⟩ : ∃ w4, w4 = jp w3 1000 (H + 169) 3 0 := ⟨_, rfl⟩
  obtain ⟨g4, r4, -⟩ := jpF G4
  rw [← G4]
  have q60 : jf w4 41 H 60 = jf w 41 H 53 := by rw [g4 _ _ _ (by omega), g3 _ _ _ (by omega), r2, g1 _ _ _ (by omega)]
  have q61 : jf w4 41 H 61 = jf w 41 H 52 := by rw [g4 _ _ _ (by omega), r3, g2 _ _ _ (by omega), g1 _ _ _ (by omega)]
  have q59 : jf w4 41 H 59 = v := by rw [g4 _ _ _ (by omega), g3 _ _ _ (by omega), g2 _ _ _ (by omega), r1]
  have qr : ∀ i, ¬ i = 3 → jf w4 1000 (H + 169) i = jf w 1000 (H + 169) i := fun i hi => by rw [g4 _ _ _ (by omega), g3 _ _ _ (by omega), g2 _ _ _ (by omega), g1 _ _ _ (by omega)]
  have qw : opV H w w4 := fun c a i z1 z2 z3 => by rw [g4 _ _ _ (by omega), g3 _ _ _ (by omega), g2 _ _ _ (by omega), g1 _ _ _ (by omega)]
  have cF : cFa A u u1 0 0 := cFa.rfl.wr E1 (by omega)
  have tf : tF H w w4 := (((tF.rfl.wr G1 (by omega)).wr G2 (by omega)).wr G3 (by omega)).wr G4 (by omega)
  refine ⟨u1, w4, E1.symm, rfl, g.scr cF (fun c a i z1 z2 => f1 _ _ _ (by omega)) tf qw, cF, tf, fun i i0 i1 i3 => ?_, ⟨by rw [p1, q59], by rw [q59]; omega, fun _ => ⟨⟨j0, j1⟩, ?_, ?_, ?_, ?_⟩⟩, r4, ⟨f0, by unfold rgJ; omega⟩, fun e he => ?_, hk.trans qw.ks⟩
  · rw [f1 _ _ _ (by omega), qr i i3]; exact hP i i0 i1 id
  · rw [f1 _ _ _ (by omega), q60]; exact hE.2.1
  · rw [f1 _ _ _ (by omega), q61]; exact hE.1
  · rw [q60]; omega
  · rw [q61]; exact v2
  · have : ¬ e = 3 := fun e' => h3 (e' ▸ he)
    rw [qr _ (by omega)]; exact hG e he
/-- what evaluating leaves for the operands -/
theorem vQ.op (h : vQ s t A H j u w) (hR : oRt s t A H m) (hG : gdT kd t H L) (hz : jf t 41 H 59 = 0) : oPt (fun _ => False) u w A H ∧ (jf u 37 A 41 = 0 ∧ jf w 41 H 59 = 0) ∧ gdT kd w H L ∧ kS H t w := by
  obtain ⟨h1, h2, -⟩ := h
  refine ⟨fun i i0 i1 i3 => ?_, ⟨?_, ?_⟩, fun e he => ?_, ?_, ?_, ?_, fun i => ?_⟩
  · rw [h1 _ _ _ (by omega) (by omega) (by omega), h2 _ _ _ (by omega) (by omega)]; exact hR.1 i i0 i1 id
  · rw [h1 _ _ _ (by omega) (by omega) (by omega), hR.2.1, hz]
  · rw [h2 _ _ _ (by omega) (by omega), hz]
  · rw [h2 _ _ _ (by omega) (by omega)]; exact hG e he
  · rw [h2 _ _ _ (by omega) (by omega)]
  · rw [h2 _ _ _ (by omega) (by omega)]
  · rw [h2 _ _ _ (by omega) (by omega)]
  · rw [h2 _ _ _ (by omega) (by omega)]
/-- a target, both sides -/
theorem tgt2 (h : AG s t A H b lo NL I OL SL k z) (hR : oRt s t A H m) (hG : gdT kd t H L) (hz : jf t 41 H 59 = 0) (h3 : 3 ∉ L) (k0 : 0 ≤ kd) (k1 : kd < 75) (hp : (cKd kd.toNat).1 = pt) (hpt : pt = 5 ∨ 7 ≤ pt ∧ pt ≤ 9) (j0 : 0 ≤ j) (j1 : j < z.2.2.2.1) (hs : (tO OL (z.2.2.1 + j)).1 = 0 ∨ (tO OL (z.2.2.1 + j)).1 = 2) : stO s t A H b lo NL I OL SL k z (m_X33_immediate s A kd pt j) (m_X37_takeTarget t H kd (z.2.2.1 + j)) fun u w d => nQ kd t A H L j u w d := by
  obtain ⟨o1, o2, o3, og, o5⟩ := h.1.op j0 j1
  have st0 := h.1.st0
  have tb : ∀ k : Nat, k < 75 → (cKd k).1 = 5 ∨ 7 ≤ (cKd k).1 ∧ (cKd k).1 ≤ 9 → k = 2 ∨ 4 ≤ k ∧ k ≤ 9 ∨ k = 53 ∨ 64 ≤ k ∧ k ≤ 66 := by decide +kernel
  have hk := tb kd.toNat (by omega) (by rw [hp]; exact hpt)
  have f0 : fMay (cFd kd.toNat 3) 0 := may_0 ((cl_3 kd.toNat (by omega)).2.1 (by rw [hp]; omega))
  rw [em_X33_immediate, em_X37_takeTarget]; unfold dm_X33_immediate dm_X37_takeTarget
  rw [h.cop j0 j1 (by decide) (by decide), Option.bind_some]
  have e33 : (if pt = 5 then u_X33_immediate_33 s A kd j else if pt < 7 then u_X33_immediate_90 s A kd pt j (opQ1 (tO OL (z.2.2.1 + j)) 2) else if 9 < pt then u_X33_immediate_90 s A kd pt j (opQ1 (tO OL (z.2.2.1 + j)) 2) else u_X33_immediate_33 s A kd j) = u_X33_immediate_33 s A kd j := by
    by_cases c : pt = 5
    · rw [if_pos c]
    · rw [if_neg c, if_neg (by omega), if_neg (by omega)]
  rw [e33, eu_X33_immediate_33]; unfold du_X33_immediate_33
  refine (placed2 h j0 j1 hs).bind (fun _ _ => rfl) (fun r => tw0 r) fun u w v g c1 c2 ⟨q, q1, q2⟩ => ?_
  dsimp only
  rw [jth_ff, if_neg n10]
  obtain ⟨d1, ⟨d2, d3⟩, d4, d5⟩ := q.op hR hG hz
  obtain ⟨-, -, hE, hv, -⟩ := q
  have key : ∀ v, 0 < v → v ≤ 60 → stO u w A H b lo NL I OL SL k z (u_X33_immediate_85 u v A) (u_X37_takeTarget_51 w v H) fun u w d => nQ kd t A H L j u w d := fun v v0 v1 => by
    rw [eu_X33_immediate_85, eu_X37_takeTarget_51]; unfold du_X33_immediate_85 du_X37_takeTarget_51
    simp only [jls]
    obtain ⟨u1, w1, e1, e2, e3, e4, e5, e6⟩ := rel2 g d1 hE j0 (by omega) hv v0 v1 d4 h3 d5 f0
    rw [e1, e2, Option.bind_some]
    dsimp only
    rw [Wz_1]
    exact (stO.ret (d := 0) e3 e6).pre e4 e5
  rw [eu_X33_immediate_61, eu_X33_immediate_78, eu_X37_takeTarget_44]; unfold du_X33_immediate_61 du_X33_immediate_78 du_X37_takeTarget_44
  by_cases c2 : kd = 2
  · rw [if_pos c2, if_pos c2]; exact key 17 (by omega) (by omega)
  rw [if_neg c2, if_neg c2]
  by_cases c10 : kd < 10
  · rw [if_pos c10, if_neg (by omega), if_neg (by omega), if_neg (by omega), if_neg (by omega)]; exact key 16 (by omega) (by omega)
  rw [if_neg c10]
  by_cases c53 : kd = 53
  · rw [if_pos c53, if_pos c53]; exact key 45 (by omega) (by omega)
  rw [if_neg c53, if_neg c53]
  by_cases c64 : kd = 64
  · rw [if_pos c64, if_pos c64]; exact key 45 (by omega) (by omega)
  rw [if_neg c64, if_neg c64]
  by_cases c65 : kd = 65
  · rw [if_pos c65]; exact key 44 (by omega) (by omega)
  · rw [if_neg c65, if_pos (by omega)]; exact key 44 (by omega) (by omega)
end jNums
