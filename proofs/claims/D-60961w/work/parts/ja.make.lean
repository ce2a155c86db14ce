/-! the object comes to be written: starts, names, symbols, relocations *-/
set_option maxRecDepth 100000
section jMake
variable {s t u w s0 t0 : jS} {v A H b lo k c a x y n j m i O X z T P Q : Int} {o o' : Int → Int → Int → Int} {d : Int → Int} {l : List Int} {NL : List (List Int)} {I : pI} {OL : List pvO} {SL : List pvS}
theorem jGw.ex0 (h : jGw s u P Q fun _ => False) : jEx s u := by
  refine ⟨h.1.1, fun a a0 a1 => ⟨h.K a1, h.N a1, fun k _ => h.F a1 (fun z => z) k⟩⟩
theorem jFx.gwR (h : jFx s u O n) : jGw s u 0 0 fun z => O ≤ z ∧ z < O + n := by
  obtain ⟨⟨⟨m1, m2, m3, m4, m5, m6, m7⟩, h2⟩, -⟩ := h
  exact ⟨⟨by omega, by omega, by omega, m5, m6, m7⟩, fun a _ => ⟨by rw [m1], by rw [m2]⟩, fun c a k _ z => h2 c a k (by omega)⟩
theorem cMk.gw0 (h : cMk s O o d) (g : jGw s u P Q fun _ => False) (hO : O + 1858 ≤ jn s) : cMk u O o d := by
  obtain ⟨h1, h2, h3, h4, h5⟩ := h
  exact ⟨h1.ext g.ex0, h2.keep (fun a _ _ => g.N (by omega)) (fun c a k _ _ => g.2.2 _ _ _ (by omega) id) h3.2.2.1, h3, h4.keep fun c a k _ _ => g.2.2 _ _ _ (by omega) id, h5⟩
theorem mk_start (hc : cMk s O o d) (ht : tMk t X o d) (hx : jin x) : ∃ r q o', m_X13_start s O x = some r ∧ m_X40_start t X x = some q ∧ cMk r.1 O o' d ∧ tMk q.1 X o' d ∧ jFx s r.1 O 1858 ∧ tMf t q.1 X := by
  obtain ⟨o1, a1, r, a2, a3, a4⟩ := c_mstart hc hx
  obtain ⟨o2, b1, q, b2, b3, b4⟩ := t_mstart ht hx
  have e : o2 = o1 := by
    rcases a1 with ⟨a, rfl⟩ | ⟨a, rfl⟩ <;> rcases b1 with ⟨b, rfl⟩ | ⟨b, rfl⟩
    · rfl
    · exact absurd a b
    · exact absurd b a
    · rfl
  subst e
  exact ⟨r, q, o2, a2, b2, a4, b4, a3, .of b3 (tb_start q b2)⟩
theorem mk_symbol {how ty : Int} (hc : cMk s O o d) (ht : tMk t X o d) (hv : jin v) (hz : jin z) : ∃ r q o', m_X13_symbol s O a v z how ty = some r ∧ m_X40_symbol t X a v z how ty = some q ∧ cMk r.1 O o' dNew ∧ tMk q.1 X o' dNew ∧ jFx s r.1 O 1858 ∧ tMf t q.1 X := by
  obtain ⟨o1, a1, r, a2, a3, a4⟩ := c_msymbol (a := a) (how := how) (ty := ty) hc hv hz
  obtain ⟨o2, b1, q, b2, b3, b4⟩ := t_msymbol (a := a) (how := how) (ty := ty) ht hv hz
  have e : o2 = o1 := by
    rcases a1 with ⟨a, rfl⟩ | ⟨a, rfl⟩ <;> rcases b1 with ⟨b, rfl⟩ | ⟨b, rfl⟩
    · rfl
    · exact absurd a b
    · exact absurd b a
    · rfl
  subst e
  exact ⟨r, q, o2, a2, b2, a4, b4, a3, .of b3 (tb_symbol q b2)⟩
theorem mk_reloc {at' : Int} (hc : cMk s O o d) (ht : tMk t X o d) (hx : jin at') (ha : jin a) : ∃ r q o', m_X13_relocation s O x at' k y a = some r ∧ m_X40_relocation t X x at' k y a = some q ∧ cMk r.1 O o' d ∧ tMk q.1 X o' d ∧ jFx s r.1 O 1858 ∧ tMf t q.1 X := by
  obtain ⟨o1, a1, r, a2, a3, a4⟩ := c_mreloc (x := x) (k := k) (y := y) hc hx ha
  obtain ⟨o2, b1, q, b2, b3, b4⟩ := t_mreloc (x := x) (k := k) (y := y) ht hx ha
  have e : o2 = o1 := by
    rcases a1 with ⟨a, rfl⟩ | ⟨a, rfl⟩ <;> rcases b1 with ⟨b, rfl⟩ | ⟨b, rfl⟩
    · rfl
    · exact absurd a b
    · exact absurd b a
    · rfl
  subst e
  exact ⟨r, q, o2, a2, b2, a4, b4, a3, .of b3 (tb_reloc q b2)⟩
/-- a letter comes to the draft *-/
noncomputable def dL (d : Int → Int) (c : Int) : Int → Int := @ite _ (d 5 < 16 ∧ 33 ≤ c ∧ c ≤ 126) (Classical.propDecidable _) (dPut d c) d
theorem c_let (h : cMk s O o d) : ∃ r, m_X13_letter s O c = some r ∧ cMk r.1 O o (dL d c) ∧ jFx s r.1 O 1858 := by
  obtain ⟨d', a1, r, a2, a3, a4⟩ := c_mletter (c := c) h
  refine ⟨r, a2, ?_, a3⟩
  unfold dL
  rcases a1 with ⟨q1, q2, q3, q4⟩ | ⟨q1, q2⟩
  · rw [if_pos ⟨q1, q2, q3⟩, ← q4]; exact a4
  · rw [if_neg q1, ← q2]; exact a4
theorem t_let (h : tMk t X o d) : ∃ r, m_X40_letter t X c = some r ∧ tMk r.1 X o (dL d c) ∧ tMf t r.1 X := by
  obtain ⟨d', a1, r, a2, a3, a4⟩ := t_mletter (c := c) h
  refine ⟨r, a2, ?_, .of a3 (tb_letter r a2)⟩
  unfold dL
  rcases a1 with ⟨q1, q2, q3, q4⟩ | ⟨q1, q2⟩
  · rw [if_pos ⟨q1, q2, q3⟩, ← q4]; exact a4
  · rw [if_neg q1, ← q2]; exact a4
theorem drop_c {i : Nat} (hi : i < l.length) : (l.drop i).foldl dL d = (l.drop (i + 1)).foldl dL (dL d (l.getD i 0)) := by
  rw [List.drop_eq_getElem_cons hi, List.foldl_cons, List.getD_eq_getElem?_getD, List.getElem?_eq_getElem hi]; rfl
/-- a name's letters, the component *-/
theorem c_nm1 (hA : A = O + 3872) (hL : l.length ≤ 1000) (hch : ∀ c ∈ l, 0 ≤ c) : ∀ (m : Nat) (s : jS) (d : Int → Int) (i : Nat), i + m = l.length → cMk s O o d → (∀ u, jGw s u 0 0 (fun z => O ≤ z ∧ z < O + 1858) → jrd u 38 x 0 = some v ∧ ∀ j, 0 ≤ j → m_X11_name u (A + (-3890)) v j = some (nmQ l j)) → ∃ u, u_X33_name_9 s A x (i : Int) = some (u, 0) ∧ cMk u O o ((l.drop i).foldl dL d) ∧ jFx s u O 1858
  | 0, s, d, i, hi, hM, hN => by
    obtain ⟨n1, n2⟩ := hN s jGw.rfl
    refine ⟨s, ?_, ?_, jFx.rfl⟩
    · rw [eu_X33_name_9]; unfold du_X33_name_9
      refine jlpW_r (r := some (s, 0)) ?_
      show b_X33_name_9 s A x i = _
      unfold b_X33_name_9
      have e : nmQ l i = -1 := by unfold nmQ; rw [if_neg (by omega)]
      rw [n1, Option.bind_some, n2 _ (by omega), Option.bind_some, e, if_pos rfl]
    · rw [List.drop_eq_nil_of_le (by omega)]; exact hM
  | m + 1, s, d, i, hi, hM, hN => by
    obtain ⟨n1, n2⟩ := hN s jGw.rfl
    have il : i < l.length := by omega
    have e : nmQ l i = l.getD i 0 := by unfold nmQ; rw [if_pos (by omega)]; rfl
    have cm : ¬ l.getD i 0 = -1 := by
      have := hch (l.getD i 0) (by rw [List.getD_eq_getElem?_getD, List.getElem?_eq_getElem il]; exact List.getElem_mem _)
      omega
    obtain ⟨r, e1, e2, e3⟩ := c_let (c := l.getD i 0) hM
    have st : jc3 b_X33_name_9 [A, x, (i : Int)] s = some (.inl (r.1, [A, x, ((i + 1 : Nat) : Int)])) := by
      show b_X33_name_9 s A x i = _
      unfold b_X33_name_9
      rw [n1, Option.bind_some, n2 _ (by omega), Option.bind_some, e, if_neg cm, Option.bind_some, n2 _ (by omega), Option.bind_some, e, show A + -3872 = O by omega, e1, Option.bind_some, W32_in (by omega) (by omega)]; rfl
    obtain ⟨u, i1, i2, i3⟩ := c_nm1 hA hL hch m r.1 _ (i + 1) (by omega) e2 fun u g => hN u ((e3.gwR.trans g fun _ _ z => z.elim id id : jGw s u (0 + 0) (0 + 0) _))
    refine ⟨u, ?_, by rw [drop_c il]; exact i2, e3.trans i3⟩
    rw [eu_X33_name_9] at i1 ⊢; unfold du_X33_name_9 at i1 ⊢
    rw [jlpW_l st]; exact i1
/-- letters of a string, the component *-/
theorem c_nm2 (hA : A = O + 3872) (hL : (l.length : Int) ≤ 1000) : ∀ (m : Nat) (s : jS) (d : Int → Int) (i : Nat), i + m = l.length → cMk s O o d → pSg s x l → (∀ z, jF s x 0 = z → z < O ∨ O + 1858 ≤ z) → (x < O ∨ O + 1858 ≤ x) → ∃ u, u_X33_name_82 s A x (i : Int) = some (u, 0) ∧ cMk u O o ((l.drop i).foldl dL d) ∧ jFx s u O 1858
  | 0, s, d, i, hi, hM, hx, hz, hx2 => by
    refine ⟨s, ?_, ?_, jFx.rfl⟩
    · rw [eu_X33_name_82]; unfold du_X33_name_82
      refine jlpW_r (r := some (s, 0)) ?_
      show b_X33_name_82 s A x i = _
      unfold b_X33_name_82
      rw [s_len hx (by omega), Option.bind_some, if_neg (by omega)]
    · rw [List.drop_eq_nil_of_le (by omega)]; exact hM
  | m + 1, s, d, i, hi, hM, hx, hz, hx2 => by
    have il : i < l.length := by omega
    obtain ⟨r, e1, e2, e3⟩ := c_let (c := l.getD i 0) hM
    have st : jc3 b_X33_name_82 [A, x, (i : Int)] s = some (.inl (r.1, [A, x, ((i + 1 : Nat) : Int)])) := by
      show b_X33_name_82 s A x i = _
      unfold b_X33_name_82
      rw [s_len hx (by omega), Option.bind_some, if_pos (by omega), s_charAt hx (by omega) (by omega), Option.bind_some, Int.toNat_natCast, show A + -3872 = O by omega, e1, Option.bind_some, W32_in (by omega) (by omega)]; rfl
    have hx' := hx.keep e3.gwR (fun z => by omega) (fun z => by have := hz _ rfl; omega)
    obtain ⟨u, i1, i2, i3⟩ := c_nm2 hA hL m r.1 _ (i + 1) (by omega) e2 hx'.1 (by rw [hx'.2]; exact hz) hx2
    refine ⟨u, ?_, by rw [drop_c il]; exact i2, e3.trans i3⟩
    rw [eu_X33_name_82] at i1 ⊢; unfold du_X33_name_82 at i1 ⊢
    rw [jlpW_l st]; exact i1
/-- a symbol's letters *-/
def syL (NL : List (List Int)) (f : Int) : List Int := if f < 0 then 36 :: decL (-1 - f) else tNa NL f
theorem dec2 : ∀ n : Nat, n < 100 → decL (n : Int) = if 9 < n then [48 + (n : Int) / 10, 48 + (n : Int) % 10] else [48 + (n : Int)] := by decide
end jMake
