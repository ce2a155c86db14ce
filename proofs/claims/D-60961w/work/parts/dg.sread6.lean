/-! the twin reads a file of an image: all of it -/
section jSread6
variable {s t u w : jS} {X n p f a b x y e k v z : Int} {g g' : Int → Int} {L : List (Prop × Int × Int)} {c : Prop} {F F' : Int → Int} {i : Int → Int → Int → Int}
theorem z_89 (h : ¬ f = 0) : u_X42_read_89 t X f = some (t, f) := by rw [eu_X42_read_89]; unfold du_X42_read_89; rw [if_neg h]
theorem z_76r (h : ¬ f = 0) : u_X42_read_76 t X f = some (t, f) := by rw [eu_X42_read_76]; unfold du_X42_read_76; rw [if_neg h]; exact z_89 h
theorem z_63 (h : ¬ f = 0) : u_X42_read_63 t X f = some (t, f) := by rw [eu_X42_read_63]; unfold du_X42_read_63; rw [if_neg h]; exact z_76r h
theorem z_51 (h : ¬ f = 0) : u_X42_read_51 t X f = some (t, f) := by rw [eu_X42_read_51]; unfold du_X42_read_51; rw [if_neg h]; exact z_63 h
theorem z_27 (h : ¬ f = 0) : u_X42_read_27 t X f x = some (t, f) := by
  rw [eu_X42_read_27]; unfold du_X42_read_27
  refine jlpW_r ?_
  show b_X42_read_27 t X f x = _
  unfold b_X42_read_27
  rw [if_neg h, z_51 h]
/-- rows set anew -/
theorem s_rows0 : ∃ t, (∀ k, 0 ≤ k → k < 4 → jf t 1000 (X + 10) k = -1) ∧ jSm u t ∧ (∀ c a k, ¬ (c = 1000 ∧ a = X + 10) → jf t c a k = jf u c a k) ∧ u_X42_read_7 u X f 0 = u_X42_read_27 t X f 0 := by
  refine ⟨jfil u 1000 (X + 10) 0 4 (fun _ => -1), fun k k0 k1 => by rw [jfl_pos (by omega)], jSm.rfl, fun c a k h => by rw [jfl_neg (by omega)], ?_⟩
  rw [eu_X42_read_7]; unfold du_X42_read_7
  refine jloop_fill (C := jc3 b_X42_read_7) (fun k => [X, f, k]) u 1000 (X + 10) 0 4 (fun _ => -1) (by omega) (fun k k0 k1 => ?_) ?_
  · show b_X42_read_7 _ X f k = _
    unfold b_X42_read_7
    rw [if_pos k1, jst_in k0 k1, Option.bind_some, W32_in (by omega) (by omega), Int.zero_add]
  · show b_X42_read_7 _ X f 4 = _
    unfold b_X42_read_7
    rw [if_neg (by omega), eu_X42_read_25]; rfl
/-- what a reading changes, all told -/
def sRe (s t : jS) (X : Int) : Prop := jSm s t ∧ ∀ c a k, ¬ (c = 1000 ∧ a = X + 10) → ¬ (c = 46 ∧ a = X ∧ (k = 10 ∨ k = 11 ∨ k = 12 ∨ k = 15)) → ¬ ((c = 1002 ∧ a = X + 1 ∧ 3 ≤ k) ∨ (c = 1000 ∧ X + 2 ≤ a ∧ a ≤ X + 4 ∧ 3 ≤ k) ∨ (c = 1000 ∧ a = X + 5 ∧ 12288 ≤ k) ∨ (c = 1002 ∧ a = X + 6 ∧ 2048 ≤ k) ∨ (c = 1000 ∧ (a = X + 7 ∨ a = X + 8) ∧ 1 ≤ k)) → jf t c a k = jf s c a k
def sRO (s : jS) (X : Int) (g : Int → Int) (q : jS × Int) : Prop := q.2 = 0 ∧ sRe s q.1 X ∧ jf q.1 46 X 10 = -1 ∧ tIm q.1 X 1 (iR g)
theorem s_read (C : sC s X g n) : jE (m_X42_read s X) (ckR (sRO s X g) (sBD s X) (JAll g n)) := by
  have hn := C.n8
  rw [em_X42_read]; unfold dm_X42_read JAll
  refine nx_s (s_head C) (fun q f p hq => ?_) fun G1 u1 H1 => ?_
  · obtain ⟨t, t1, t2, t3, t4⟩ := s_rows0 (u := q.1) (X := X) (f := q.2)
    rw [t4, hq.2.1, z_27 hq.1]
    exact jS_end ⟨hq.1, rfl, hq.2.2.1.trans ⟨t2, fun c a k p _ => t3 c a k p⟩, by show jf t 46 X 10 = p; rw [t3 _ _ _ (by omega)]; exact hq.2.2.2⟩
  dsimp only
  obtain ⟨t, t1, t2, t3, t4⟩ := s_rows0 (u := u1) (X := X) (f := 0)
  have hd := JHead_ok G1
  have d4 := hd.2.2.2.1
  have H : sH s t X g := ⟨H1.1.trans ⟨t2, fun c a k p _ => t3 c a k p⟩, by rw [t3 _ _ _ (by omega)]; exact H1.2.1, by rw [t3 _ _ _ (by omega)]; exact H1.2.2⟩
  have W : sW t X g 0 := fun x x0 x1 => t1 x x0 x1
  rw [t4, eu_X42_read_27]; unfold du_X42_read_27
  unfold JRows
  rw [List.append_nil]
  refine jk_soft (JRow g n) (fun e w => sH s w X g ∧ sW w X g e) (fun f p t => ¬ f = 0 ∧ sRd s t X ∧ jf t 46 X 10 = p) (fun k f => [X, f, k]) 0 (JE g) (by omega) ⟨H, W⟩ (fun e w e0 e1 hG ⟨H, W⟩ => ?_) (fun k f p t k0 k1 hz => ?_) fun w ⟨H, W⟩ hG => ?_
  · show jE (b_X42_read_27 w X 0 e) _
    unfold b_X42_read_27
    have := hd.2.2.2.2.1
    rw [if_pos rfl, H.2.2, if_pos e1]
    exact sf_t (s_row C H W hd e0 e1 hG) (fun q f p hq => by rw [W32_in (by omega) (by omega), hq.2.1]; exact jS_end ⟨q.1, rfl, hq.1, hq.2.2.1, hq.2.2.2⟩) (fun t e => by rw [W32_in (by omega) (by omega)]; exact jS_end ⟨t, rfl, e⟩)
  · show jE (b_X42_read_27 t X f k) _
    unfold b_X42_read_27
    rw [if_neg hz.1, z_51 hz.1]
    exact jS_inr (jS_end ⟨_, rfl, sBD.st hz.1 hz.2.1 hz.2.2⟩)
  show jE (b_X42_read_27 w X 0 (JE g)) _
  unfold b_X42_read_27
  rw [if_pos rfl, H.2.2, if_neg (by omega), eu_X42_read_51]; unfold du_X42_read_51
  refine jS_inr (jE_mono (?_ : jE _ (ckR (sRO s X g) (sBD s X) _)) fun r hr => ⟨r, rfl, hr⟩)
  have hr : Jr g n := Jr_of (by unfold JRows; rw [List.append_nil]; exact ckF_gd.mpr hG)
  have T : sX s w X g n := ⟨C, H, W, hd, hr⟩
  rw [if_pos rfl, JNote_eq, show JSegs g ++ ((¬ jw' g 3 = -1, 24, 44) :: (JNa g ++ ((J27 g ++ [(isMk (iR g) (W32 (r4 g 24)), 28, 24)]) ++ J29 g))) = (JSegs g ++ ((¬ jw' g 3 = -1, 24, 44) :: JNa g)) ++ ((J27 g ++ [(isMk (iR g) (W32 (r4 g 24)), 28, 24)]) ++ J29 g) by simp only [List.append_assoc, List.cons_append]]
  refine nx_s (s_image T) (fun q f p hq => by rw [hq.2.1, z_63 hq.1]; exact jS_end (sBD.st hq.1 hq.2.2.1 hq.2.2.2)) fun G2 u2 e2 => ?_
  subst e2
  dsimp only
  rw [Gd_app, Gd_cons] at G2
  obtain ⟨SG, hz⟩ := s_G T G2.1 G2.2.1 G2.2.2
  rw [eu_X42_read_63]; unfold du_X42_read_63
  rw [if_pos rfl]
  refine nx_s (s_marks T SG hz) (fun q f p hq => by rw [hq.2.1, z_76r hq.1]; exact jS_end (sBD.st hq.1 hq.2.2.1 hq.2.2.2)) fun G3 u3 e3 => ?_
  subst e3
  dsimp only
  rw [eu_X42_read_76]; unfold du_X42_read_76
  rw [if_pos rfl, ← List.append_nil (J29 g)]
  refine nx_s (s_last T SG hz) (fun q f p hq => by rw [hq.2.1, z_89 hq.1]; exact jS_end (sBD.st hq.1 hq.2.2.1 hq.2.2.2)) fun G4 u4 T4 => jk_end ?_
  dsimp only
  rw [eu_X42_read_89]; unfold du_X42_read_89
  rw [if_pos rfl]
  simp only [jls]
  have h52 := hd.1
  have T5 : sX s (jp u4 46 X 10 (-1)) X g n := ⟨T4.1, ⟨T4.2.1.1.jp (.inr ⟨rfl, rfl, .inl rfl⟩), by (repeat (first | rw [jf_neg (by omega)] | rw [jf_pos (by omega)] | rw [ou_neg (by omega)] | rw [ou_pos (by omega)])); exact T4.2.1.2.1, by (repeat (first | rw [jf_neg (by omega)] | rw [jf_pos (by omega)] | rw [ou_neg (by omega)] | rw [ou_pos (by omega)])); exact T4.2.1.2.2⟩, fun x x0 x1 => by (repeat (first | rw [jf_neg (by omega)] | rw [jf_pos (by omega)] | rw [ou_neg (by omega)] | rw [ou_pos (by omega)])); exact T4.2.2.1 x x0 x1, T4.2.2.2⟩
  have p5 : jf (jp u4 46 X 10 (-1)) 46 X 10 = -1 := jf_pos ⟨rfl, rfl, rfl⟩
  generalize jp u4 46 X 10 (-1) = t5 at T5 p5 ⊢
  rw [s_r4 T5.C (by omega) (by omega), Option.bind_some, l2i_p, jst_in (by omega) (by omega), Option.bind_some, jst_in (by omega) (by omega), Option.bind_some]
  have k6 : sRw t5 (jp (jp t5 1000 (X + 7) 1 (W32 (r4 g 24))) 1000 (X + 8) 1 1) X := (sRw.rfl.jp (by omega)).jp (by omega)
  have T6 := T5.ys.wr k6
  refine s_copy T6 SG hz (fun t7 k7 i7 => ⟨rfl, ⟨T5.2.1.1.1.trans (k6.1.trans k7.1), fun c a k q1 q2 q3 => ?_⟩, ?_, i7⟩) (by (repeat (first | rw [jf_neg (by omega)] | rw [jf_pos (by omega)] | rw [ou_neg (by omega)] | rw [ou_pos (by omega)]))) (by (repeat (first | rw [jf_neg (by omega)] | rw [jf_pos (by omega)] | rw [ou_neg (by omega)] | rw [ou_pos (by omega)])))
  · rw [k7.2 _ _ _ q3, k6.2 _ _ _ q3]; exact T5.2.1.1.2 c a k q1 q2
  · show jf t7 46 X 10 = -1
    rw [k7.2 _ _ _ (by omega), k6.2 _ _ _ (by omega)]; exact p5
end jSread6
