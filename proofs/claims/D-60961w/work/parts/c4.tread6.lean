/-! the twin reads a file: all of the faults -/
section jTread6
variable {s t u : jS} {X n p q f a b x y z e k m lo hi : Int} {g g' : Int → Int} {o : Int → Int → Int → Int} {L M : List (Prop × Int × Int)} {c : Prop} {S : Int} {P : jS → Prop} {F G : Int → List (Prop × Int × Int)}
theorem ckF_congr (h : ∀ k, lo ≤ k → k < hi → F k = G k) : ckF F lo hi = ckF G lo hi := by
  have key : ∀ (m : Nat) (lo : Int), (hi - lo).toNat = m → (∀ k, lo ≤ k → k < hi → F k = G k) → ckF F lo hi = ckF G lo hi := by
    intro m
    induction m with
    | zero => intro lo h _; rw [ckF_nil (by omega), ckF_nil (by omega)]
    | succ m ih => intro lo h h'; rw [ckF_cons (F := F) (lo := lo) (by omega), ckF_cons (F := G) (lo := lo) (by omega), h' lo (Int.le_refl _) (by omega), ih (lo + 1) (by omega) (fun k a b => h' k (by omega) b)]
  exact key _ lo rfl h
/-- what comes, then the rest -/
theorem nx_t {R' : Type} {Q1 : R' → Prop} {Q' : Int → Int → R' → Prop} {Y : Option (jS × Int)} {K : jS × Int → Option R'} (h : jE Y (ckR (tOK P) (tBD s X) L)) (fin : ∀ q f p, tBD s X f p q → jE (K q) (Q' f p)) (ok : Gd L → ∀ t, P t → jE (K (t, 0)) (ckR Q1 Q' M)) : jE (Y.bind K) (ckR Q1 Q' (L ++ M)) := by
  obtain ⟨q, eq, hq⟩ := h
  rw [eq, Option.bind_some]
  rcases hq with ⟨hg, q1, q2⟩ | ⟨f, p, hf, hb⟩
  · have := jk_app hg (ok hg q.1 q2)
    rw [← q1] at this; exact this
  · exact jk_bad hf (fin q f p hb)
theorem sf_t {R' : Type} {Q1 : R' → Prop} {Q' : Int → Int → R' → Prop} {Y : Option (jS × Int)} {K : jS × Int → Option R'} {D : Int → Int → jS × Int → Prop} (h : jE Y (ckR (tOK P) D L)) (fin : ∀ q f p, D f p q → jE (K q) (Q' f p)) (ok : ∀ t, P t → jE (K (t, 0)) Q1) : jE (Y.bind K) (ckR Q1 Q' L) := by
  obtain ⟨q, eq, hq⟩ := h
  rw [eq, Option.bind_some]
  rcases hq with ⟨hg, q1, q2⟩ | ⟨f, p, hf, hb⟩
  · obtain ⟨r, er, hr⟩ := ok q.1 q2
    rw [← q1] at er
    exact ⟨r, er, .inl ⟨hg, hr⟩⟩
  · obtain ⟨r, er, hr⟩ := fin q f p hb
    exact ⟨r, er, .inr ⟨f, p, hf, hr⟩⟩
/-- behind a fault nothing more is done -/
theorem z_202 (h : ¬ f = 0) : u_X40_allFaults_202 t X f = some (t, f) := by rw [eu_X40_allFaults_202]; unfold du_X40_allFaults_202; rw [if_neg h]
theorem z_136 (h : ¬ f = 0) : u_X40_allFaults_136 t X f x = some (t, f) := by
  rw [eu_X40_allFaults_136]; unfold du_X40_allFaults_136
  refine jlpW_r ?_
  show b_X40_allFaults_136 t X f x = _
  unfold b_X40_allFaults_136
  rw [if_neg h, ite_self, z_202 h]
theorem z_133 (h : ¬ f = 0) : u_X40_allFaults_133 t X f = some (t, f) := by rw [eu_X40_allFaults_133]; unfold du_X40_allFaults_133; exact z_136 h
theorem z_121 (h : ¬ f = 0) : u_X40_allFaults_121 t X f = some (t, f) := by rw [eu_X40_allFaults_121]; unfold du_X40_allFaults_121; rw [if_neg h]; exact z_133 h
theorem z_88 (h : ¬ f = 0) : u_X40_allFaults_88 t X f = some (t, f) := by rw [eu_X40_allFaults_88]; unfold du_X40_allFaults_88; rw [if_neg h]
theorem z_76 (h : ¬ f = 0) : u_X40_allFaults_76 t X f = some (t, f) := by rw [eu_X40_allFaults_76]; unfold du_X40_allFaults_76; rw [if_neg h]; exact z_88 h
theorem z_52 (h : ¬ f = 0) : u_X40_allFaults_52 t X f x = some (t, f) := by
  rw [eu_X40_allFaults_52]; unfold du_X40_allFaults_52
  refine jlpW_r ?_
  show b_X40_allFaults_52 t X f x = _
  unfold b_X40_allFaults_52
  rw [if_neg h, ite_self, z_76 h]
theorem z_49 (h : ¬ f = 0) : u_X40_allFaults_49 t X f = some (t, f) := by rw [eu_X40_allFaults_49]; unfold du_X40_allFaults_49; exact z_52 h
theorem z_37 (h : ¬ f = 0) : u_X40_allFaults_37 t X f = some (t, f) := by rw [eu_X40_allFaults_37]; unfold du_X40_allFaults_37; rw [if_neg h]; exact z_49 h
theorem tBD.st (h : ¬ f = 0) (k : fRd s t X) (e : jf t 44 X 23 = p) : tBD s X f p (t, f) := ⟨h, rfl, k, e⟩
theorem Lents_eq (h : 0 < RE g) : Lents g n = ckF (fun k => if k = 0 then ckF (fun k => [(rt g 0 k = 0, 11, rf g 0 k)]) 0 10 ++ [] else Lent g n k) 0 (RE g) := by
  unfold Lents
  rw [ckF_cons h, if_pos rfl, List.append_nil, List.append_nil]
  congr 1
  exact ckF_congr fun k k0 k1 => by rw [if_neg (by omega)]
theorem Lsyms_eq (h : 0 < nSy g) (M : List (Prop × Int × Int)) : Lsyms g ++ M = ckF (fun k => if k = 0 then ckF (fun k => [(g (fR g 8 + k) = 0, 21, fR g 8 + k)]) 0 16 ++ [] else Lsym g k) 0 (nSy g) ++ ([(rt g (ep g 8) 7 = 1 + cn (fun x => decide (yHw g (x + 1) = 0)) (nSy g - 1), 28, rf g (ep g 8) 7)] ++ M) := by
  unfold Lsyms
  rw [ckF_cons h, if_pos rfl, List.append_nil, List.append_assoc, List.append_assoc, List.append_assoc]
  congr 2
  exact ckF_congr fun k k0 k1 => by rw [if_neg (by omega)]
theorem tX.jp (h : tX s u X g n) : tX s (jp u 44 X 23 p) X g n := ⟨h.1, ⟨h.2.1.1.jp (.inr ⟨rfl, rfl, .inl rfl⟩), by (repeat (first | rw [jf_neg (by omega)] | rw [jf_pos (by omega)] | rw [ou_neg (by omega)] | rw [ou_pos (by omega)])); exact h.2.1.2.1, by (repeat (first | rw [jf_neg (by omega)] | rw [jf_pos (by omega)] | rw [ou_neg (by omega)] | rw [ou_pos (by omega)])); exact h.2.1.2.2⟩, ⟨fun k hk => by (repeat (first | rw [jf_neg (by omega)] | rw [jf_pos (by omega)] | rw [ou_neg (by omega)] | rw [ou_pos (by omega)])); exact h.2.2.1.1 k hk, fun e e0 e1 => by (repeat (first | rw [jf_neg (by omega)] | rw [jf_pos (by omega)] | rw [ou_neg (by omega)] | rw [ou_pos (by omega)])); exact h.2.2.1.2 e e0 e1⟩, h.2.2.2⟩
theorem t_all (C : tCf s X g n) : jE (m_X40_allFaults s X) (ckR (tOK fun t => tX s t X g n) (tBD s X) (Lall g n)) := by
  have hn := C.n8
  rw [em_X40_allFaults]; unfold dm_X40_allFaults Lall
  refine nx_t (t_rhead C) (fun q f p hq => by rw [hq.2.1, if_neg hq.1]; exact jS_end (tBD.st hq.1 hq.2.2.1 hq.2.2.2)) fun g1 u1 H1 => ?_
  dsimp only
  have hd := Lhead_ok g1
  have d4 : 0 < RE g := by have := hd.2.2.2.1; omega
  rw [if_pos rfl, Lents_eq d4, eu_X40_allFaults_13]; unfold du_X40_allFaults_13
  refine jk_soft (fun k => if k = 0 then ckF (fun k => [(rt g 0 k = 0, 11, rf g 0 k)]) 0 10 ++ [] else Lent g n k) (fun _ w => w = u1) (fun f p t => ¬ f = 0 ∧ fRd s t X ∧ jf t 44 X 23 = p) (fun k f => [X, f, k]) 0 (RE g) (by omega) rfl (fun k w k0 k1 _ ew => ?_) (fun k f p t k0 k1 hz => ?_) fun w ew hG => ?_
  · subst ew
    show jE (b_X40_allFaults_13 w X 0 k) _
    unfold b_X40_allFaults_13
    rw [H1.2.2, if_pos k1, if_pos rfl]
    have fin : ∀ q f p, tBD s X f p q → jE (some (.inl (q.1, [X, q.2, W32 (k + 1)])) : Option ((jS × List Int) ⊕ (jS × Int))) fun x => ∃ t, x = .inl (t, [X, f, k + 1]) ∧ (¬ f = 0 ∧ fRd s t X ∧ jf t 44 X 23 = p) := fun q f p hq => by
      have := hd.2.2.2.2.1
      rw [W32_in (by omega) (by omega), hq.2.1]
      exact jS_end ⟨q.1, rfl, hq.1, hq.2.2.1, hq.2.2.2⟩
    have ok : ∀ t, t = w → jE (some (.inl (t, [X, 0, W32 (k + 1)])) : Option ((jS × List Int) ⊕ (jS × Int))) fun x => ∃ t, x = .inl (t, [X, 0, k + 1]) ∧ t = w := fun t e => by
      have := hd.2.2.2.2.1
      rw [W32_in (by omega) (by omega)]
      exact jS_end ⟨t, rfl, e⟩
    by_cases ck : k = 0
    · subst ck
      rw [if_pos rfl]
      exact sf_t (t_ent0 C H1 hd) fin ok
    · rw [if_neg ck]
      exact sf_t (t_ent1 C H1 hd (by omega) k1) fin ok
  · show jE (b_X40_allFaults_13 t X f k) _
    unfold b_X40_allFaults_13
    rw [if_neg hz.1, ite_self, z_37 hz.1]
    exact jS_inr (jS_end ⟨_, rfl, tBD.st hz.1 hz.2.1 hz.2.2⟩)
  subst ew
  show jE (b_X40_allFaults_13 w X 0 (RE g)) _
  unfold b_X40_allFaults_13
  rw [H1.2.2, if_neg (by omega), eu_X40_allFaults_37]; unfold du_X40_allFaults_37
  refine jS_inr (jE_mono (?_ : jE _ (ckR (tOK fun t => tX s t X g n) (tBD s X) _)) fun r hr => ⟨r, rfl, hr⟩)
  have hE : En g n := En_of (by rw [Lents_eq d4, ckF_gd]; exact hG)
  rw [if_pos rfl]
  refine nx_t (t_rnames C H1 hd hE) (fun q f p hq => by rw [hq.2.1, z_49 hq.1]; exact jS_end (tBD.st hq.1 hq.2.2.1 hq.2.2.2)) fun g3 u3 ⟨H3, N3⟩ => ?_
  dsimp only
  have hN : Nm g := by
    unfold Lnames at g3
    rw [Gd_cons, Gd_app, Gd_app] at g3
    exact Nm_of g3.2.2.1
  rw [eu_X40_allFaults_49]; unfold du_X40_allFaults_49
  unfold Lrules
  rw [List.append_assoc, eu_X40_allFaults_52]; unfold du_X40_allFaults_52
  refine jk_soft (Lrule g) (fun _ w => w = u3) (fun f p t => ¬ f = 0 ∧ fRd s t X ∧ jf t 44 X 23 = p) (fun k f => [X, f, k]) 1 (RE g) hd.2.2.2.1 rfl (fun k w k0 k1 _ ew => ?_) (fun k f p t k0 k1 hz => ?_) fun w ew hG => ?_
  · subst ew
    show jE (b_X40_allFaults_52 w X 0 k) _
    unfold b_X40_allFaults_52
    have := hd.2.2.2.2.1
    rw [H3.2.2, if_pos k1, if_pos rfl]
    exact sf_t (t_rule1 C H3 hd hN N3 k0 k1) (fun q f p hq => by rw [W32_in (by omega) (by omega), hq.2.1]; exact jS_end ⟨q.1, rfl, hq.1, hq.2.2.1, hq.2.2.2⟩) (fun t e => by rw [W32_in (by omega) (by omega)]; exact jS_end ⟨t, rfl, e⟩)
  · show jE (b_X40_allFaults_52 t X f k) _
    unfold b_X40_allFaults_52
    rw [if_neg hz.1, ite_self, z_76 hz.1]
    exact jS_inr (jS_end ⟨_, rfl, tBD.st hz.1 hz.2.1 hz.2.2⟩)
  subst ew
  show jE (b_X40_allFaults_52 w X 0 (RE g)) _
  unfold b_X40_allFaults_52
  rw [H3.2.2, if_neg (by omega), eu_X40_allFaults_76]; unfold du_X40_allFaults_76
  refine jS_inr (jE_mono (?_ : jE _ (ckR (tOK fun t => tX s t X g n) (tBD s X) _)) fun r hr => ⟨r, rfl, hr⟩)
  have hR : ∀ e, 1 ≤ e → e < RE g → rt g e 1 = srO (pt g e) := fun e e0 e1 => by
    have := hG e e0 e1
    unfold Lrule at this
    exact (Gd_cons.mp this).1
  rw [if_pos rfl, ← List.append_assoc]
  refine nx_t (t_sizes C H3 hd hN hE hR N3) (fun q f p hq => by rw [hq.2.1, z_88 hq.1]; exact jS_end (tBD.st hq.1 hq.2.2.1 hq.2.2.2)) fun g5 u5 e5 => ?_
  subst e5
  dsimp only
  have g5' := Gd_cons.mp g5
  have hP : Pr g n := ⟨hd, hE, hN, ⟨hR, g5'.1⟩, Sz_of g5'.2, C.2.1, hn⟩
  have T : tX s u5 X g n := ⟨C, H3, N3, hP⟩
  have hl := nSy_lo hP
  rw [eu_X40_allFaults_88]; unfold du_X40_allFaults_88
  rw [if_pos rfl, Lsyms_eq (by omega), eu_X40_allFaults_97]; unfold du_X40_allFaults_97
  refine jk_soft (fun k => if k = 0 then ckF (fun k => [(g (fR g 8 + k) = 0, 21, fR g 8 + k)]) 0 16 ++ [] else Lsym g k) (fun _ w => w = u5) (fun f p t => ¬ f = 0 ∧ tX s t X g n ∧ jf t 44 X 23 = p) (fun k f => [X, f, k]) 0 (nSy g) (by omega) rfl (fun k w k0 k1 hG ew => ?_) (fun k f p t k0 k1 hz => ?_) fun w ew hG => ?_
  · subst ew
    show jE (b_X40_allFaults_97 w X 0 k) _
    unfold b_X40_allFaults_97
    rw [T.si, Option.bind_some, if_pos k1, if_pos rfl]
    have fin : ∀ q f p, tB1 w X f p q → jE (some (.inl (q.1, [X, q.2, W32 (k + 1)])) : Option ((jS × List Int) ⊕ (jS × Int))) fun x => ∃ t, x = .inl (t, [X, f, k + 1]) ∧ (¬ f = 0 ∧ tX s t X g n ∧ jf t 44 X 23 = p) := fun q f p hq => by
      rw [W32_in (by omega) (by omega), hq.2.1]
      exact jS_end ⟨q.1, rfl, hq.1, by rw [hq.2.2]; exact T.jp, by rw [hq.2.2]; exact jf_pos ⟨rfl, rfl, rfl⟩⟩
    have ok : ∀ t, t = w → jE (some (.inl (t, [X, 0, W32 (k + 1)])) : Option ((jS × List Int) ⊕ (jS × Int))) fun x => ∃ t, x = .inl (t, [X, 0, k + 1]) ∧ t = w := fun t e => by
      rw [W32_in (by omega) (by omega)]
      exact jS_end ⟨t, rfl, e⟩
    by_cases ck : k = 0
    · subst ck
      rw [if_pos rfl]
      exact sf_t (t_sym0 T) fin ok
    · rw [if_neg ck]
      exact sf_t (t_sym1 T (by omega) k1 fun i i0 i1 => by have := hG i (by omega) i1; rwa [if_neg (by omega)] at this) fin ok
  · show jE (b_X40_allFaults_97 t X f k) _
    unfold b_X40_allFaults_97
    rw [hz.2.1.si, Option.bind_some, if_neg hz.1, ite_self, z_121 hz.1]
    exact jS_inr (jS_end ⟨_, rfl, tBD.st hz.1 hz.2.1.2.1.1 hz.2.2⟩)
  subst ew
  show jE (b_X40_allFaults_97 w X 0 (nSy g)) _
  unfold b_X40_allFaults_97
  rw [T.si, Option.bind_some, if_neg (by omega), eu_X40_allFaults_121]; unfold du_X40_allFaults_121
  refine jS_inr (jE_mono (?_ : jE _ (ckR (tOK fun t => tX s t X g n) (tBD s X) _)) fun r hr => ⟨r, rfl, hr⟩)
  rw [if_pos rfl]
  refine nx_t (t_info T) (fun q f p hq => by rw [hq.2.1, z_133 hq.1]; exact jS_end (tBD.st hq.1 hq.2.2.1 hq.2.2.2)) fun _ u7 e7 => ?_
  subst e7
  dsimp only
  rw [eu_X40_allFaults_133]; unfold du_X40_allFaults_133
  unfold Lmvs
  rw [List.append_nil, eu_X40_allFaults_136]; unfold du_X40_allFaults_136
  refine jk_soft (fun S => ckF (Lmv g S.toNat) 0 (sR g (5 + S.toNat) / 12)) (fun _ w => w = u7) (fun f p t => ¬ f = 0 ∧ fRd s t X ∧ jf t 44 X 23 = p) (fun k f => [X, f, k]) 0 3 (by omega) rfl (fun S w S0 S1 _ ew => ?_) (fun k f p t k0 k1 hz => ?_) fun w ew hG => ?_
  · subst ew
    show jE (b_X40_allFaults_136 w X 0 S) _
    unfold b_X40_allFaults_136
    obtain ⟨p1, p2, p3, p4, p5⟩ := hP.part (k := 5 + S.toNat) (by omega)
    have e5 : (5 + S).toNat = 5 + S.toNat := by omega
    rw [if_pos S1, if_pos rfl, W32_in (z := 5 + S) (by omega) (by omega), T.by (by omega) (by omega), Option.bind_some, e5, jdv_in (by decide), Option.bind_some, L_div_n (by omega) (by omega) (by omega) (by omega)]
    simp only [jlet]
    rw [l2i_p, W32_in (by omega) (by omega), eu_X40_allFaults_161]; unfold du_X40_allFaults_161
    rw [← List.append_nil (ckF (Lmv g S.toNat) 0 (sR g (5 + S.toNat) / 12))]
    have e196 : ∀ t f, u_X40_allFaults_196 t X f S = some (.inl (t, [X, f, S + 1])) := fun t f => by
      rw [eu_X40_allFaults_196]; unfold du_X40_allFaults_196
      rw [W32_in (by omega) (by omega)]
    refine jk_soft (Lmv g S.toNat) (fun _ t => t = w) (fun f p t => ¬ f = 0 ∧ fRd s t X ∧ jf t 44 X 23 = p) (fun k f => [X, f, S, sR g (5 + S.toNat) / 12, k]) 0 (sR g (5 + S.toNat) / 12) (by omega) rfl (fun k t k0 k1 _ et => ?_) (fun k f p t k0 k1 hz => ?_) fun t et _ => ?_
    · subst et
      show jE (b_X40_allFaults_161 t X 0 S _ k) _
      unfold b_X40_allFaults_161
      rw [if_pos k1, if_pos rfl, W32_in (z := 5 + S) (by omega) (by omega), T.fr (by omega) (by omega) (by omega), Option.bind_some, e5, W32_in (z := 12 * k) (by omega) (by omega), W32_in (z := fR g (5 + S.toNat) + 12 * k) (by omega) (by omega)]
      exact sf_t (t_mv1 T S0 S1 k0 k1) (fun q f p hq => by rw [W32_in (by omega) (by omega), hq.2.1]; exact jS_end ⟨q.1, rfl, hq.1, hq.2.2.1, hq.2.2.2⟩) (fun t e => by rw [W32_in (by omega) (by omega)]; exact jS_end ⟨t, rfl, e⟩)
    · show jE (b_X40_allFaults_161 t X f S _ k) _
      unfold b_X40_allFaults_161
      rw [if_neg hz.1, ite_self, e196]
      exact jS_inr (jS_end ⟨_, rfl, t, rfl, hz⟩)
    · subst et
      show jE (b_X40_allFaults_161 t X 0 S _ (sR g (5 + S.toNat) / 12)) _
      unfold b_X40_allFaults_161
      rw [if_neg (by omega), e196]
      exact jS_inr (jS_end ⟨_, rfl, ck_end ⟨t, rfl, rfl⟩⟩)
  · show jE (b_X40_allFaults_136 t X f k) _
    unfold b_X40_allFaults_136
    rw [if_neg hz.1, ite_self, z_202 hz.1]
    exact jS_inr (jS_end ⟨_, rfl, tBD.st hz.1 hz.2.1 hz.2.2⟩)
  subst ew
  show jE (b_X40_allFaults_136 w X 0 3) _
  unfold b_X40_allFaults_136
  rw [if_neg (by omega), eu_X40_allFaults_202]; unfold du_X40_allFaults_202
  refine jS_inr (jE_mono (?_ : jE _ (ckR (tOK fun t => tX s t X g n) (tBD s X) _)) fun r hr => ⟨r, rfl, hr⟩)
  rw [if_pos rfl]
  exact sf_t (t_starts T) (fun q f p hq => jS_end hq) fun t e => jS_end ⟨rfl, by subst e; exact T⟩
end jTread6
