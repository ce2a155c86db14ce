/-! what a maker keeps: the twin's tables; the component's types of a place *-/
set_option maxRecDepth 100000
section jTabs
variable {s t u w : jS} {a c k v x y z X O n : Int} {α β R : Type} {Q : α → Prop} {P : β → Prop}
/-- if it ends, then so *-/
def jP (x : Option α) (Q : α → Prop) : Prop := ∀ q, x = some q → Q q
theorem jP.some {q : α} (h : Q q) : jP (some q) Q := fun p e => by cases e; exact h
theorem jP.none : jP (none : Option α) Q := fun p e => by cases e
theorem jP.bind {x : Option β} {f : β → Option α} (h : ∀ b, x = Option.some b → jP (f b) Q) : jP (x.bind f) Q := fun q e => by
  cases hx : x with
  | none => rw [hx] at e; cases e
  | some b => rw [hx] at e; exact h b hx q e
theorem jP.ite {p : Prop} [Decidable p] {x y : Option α} (h : jP x Q) (g : jP y Q) : jP (if p then x else y) Q := by split <;> assumption
theorem jP.stq {f : jS → Option α} {cc aa n i v : Int} (h : jP (f (jp s cc aa i v)) Q) : jP ((jst s cc aa n i v).bind f) Q := by
  unfold jst
  split
  · exact h
  · exact .none
theorem jP.inrq {S : Type} {x : Option R} {Q : S ⊕ R → Prop} (h : jP x fun r => Q (.inr r)) : jP (jinr x) Q := by
  unfold jinr
  exact .bind fun b hb => .some (h b hb)
def lpQ {R : Type} (I : List Int → jS → Prop) (Q : R → Prop) : (jS × List Int) ⊕ R → Prop
  | .inl p => I p.2 p.1
  | .inr r => Q r
theorem jP.loopW {C : List Int → jS → Option ((jS × List Int) ⊕ R)} {I : List Int → jS → Prop} {Q : R → Prop} (hb : ∀ vs σ, I vs σ → jP (C vs σ) (lpQ I Q)) {vs : List Int} {σ : jS} (hI : I vs σ) : jP (jlpW C vs σ) Q := fun r hr => by
  have := jloop_ind (body := fun s : jS × List Int => C s.2 s.1) (P := fun s r => I s.2 s.1 → Q r) (fun s s' r h ih hi => ih (hb s.2 s.1 hi (.inl s') h)) (fun s r h hi => hb s.2 s.1 hi (.inr r) h) (s := (σ, vs)) (r := r) hr
  exact this hI
theorem jP.c2 {f : jS → Int → Int → Option α} {vs : List Int} (h : ∀ x0 x1, vs = [x0, x1] → jP (f s x0 x1) Q) : jP (jc2 f vs s) Q := by
  unfold jc2
  split
  · exact h _ _ rfl
  · exact .none
theorem jP.c8 {f : jS → Int → Int → Int → Int → Int → Int → Int → Int → Option α} {vs : List Int} (h : ∀ x0 x1 x2 x3 x4 x5 x6 x7, vs = [x0, x1, x2, x3, x4, x5, x6, x7] → jP (f s x0 x1 x2 x3 x4 x5 x6 x7) Q) : jP (jc8 f vs s) Q := by
  unfold jc8
  split
  · exact h _ _ _ _ _ _ _ _ rfl
  · exact .none
theorem jP.c9 {f : jS → Int → Int → Int → Int → Int → Int → Int → Int → Int → Option α} {vs : List Int} (h : ∀ x0 x1 x2 x3 x4 x5 x6 x7 x8, vs = [x0, x1, x2, x3, x4, x5, x6, x7, x8] → jP (f s x0 x1 x2 x3 x4 x5 x6 x7 x8) Q) : jP (jc9 f vs s) Q := by
  unfold jc9
  split
  · exact h _ _ _ _ _ _ _ _ _ rfl
  · exact .none
/-- the tables are kept *-/
def tbK (s t : jS) (X : Int) : Prop := ∀ k, jf t 1000 (X + 22) k = jf s 1000 (X + 22) k ∧ jf t 1000 (X + 23) k = jf s 1000 (X + 23) k
theorem tbK.rfl : tbK s s X := fun _ => ⟨Eq.refl _, Eq.refl _⟩
theorem tbK.trans (h : tbK s t X) (g : tbK t u X) : tbK s u X := fun k => ⟨(g k).1.trans (h k).1, (g k).2.trans (h k).2⟩
theorem tbK.jp (h : tbK s t X) (ha : ¬ (a = X + 22 ∨ a = X + 23)) : tbK s (jp t c a k v) X := fun j => by rw [jf_neg (by omega), jf_neg (by omega)]; exact h j
theorem pTi.tb (h : pTi s X) (g : tbK s t X) : pTi t X := h.keep fun a k e => by
  rcases e with rfl | rfl
  · exact (g k).1
  · exact (g k).2
theorem tb_letter : jP (m_X40_letter s X x) fun q => tbK s q.1 X := by
  rw [em_X40_letter]; unfold dm_X40_letter
  refine .ite (.some .rfl) (.ite (.some .rfl) (.ite (.some .rfl) (.stq ?_)))
  exact .some ((tbK.rfl.jp (by omega)).jp (by omega))
theorem tb_start : jP (m_X40_start s X x) fun q => tbK s q.1 X := by
  rw [em_X40_start]; unfold dm_X40_start
  have e49 : ∀ v, jP (u_X40_start_49 s X x v) fun q => tbK s q.1 X := fun v => by
    rw [eu_X40_start_49]; unfold du_X40_start_49
    refine .stq (.bind fun b _ => .stq (.some ?_))
    exact (tbK.rfl.jp (by omega)).jp (by omega)
  refine .bind fun v1 _ => .ite (.some .rfl) (.ite (.some .rfl) (.bind fun v2 _ => .ite (.ite (.some .rfl) (.ite (.bind fun v3 _ => .ite (e49 _) (.some .rfl)) (e49 _))) (.some .rfl)))
theorem tb_reloc {x0 x1 x2 x3 x4 : Int} : jP (m_X40_relocation s X x0 x1 x2 x3 x4) fun q => tbK s q.1 X := by
  rw [em_X40_relocation]; unfold dm_X40_relocation
  have e85 : ∀ v, jP (u_X40_relocation_85 s X x0 x1 x2 x3 x4 v) fun q => tbK s q.1 X := fun v => by
    rw [eu_X40_relocation_85]; unfold du_X40_relocation_85
    refine .ite (.some .rfl) (.stq (.stq (.stq (.stq (.stq (.bind fun b _ => .stq (.some ?_)))))))
    exact (((((tbK.rfl.jp (by omega)).jp (by omega)).jp (by omega)).jp (by omega)).jp (by omega)).jp (by omega)
  have e67 : ∀ v y z, jP (u_X40_relocation_67 s X x0 x1 x2 x3 x4 v y z) fun q => tbK s q.1 X := fun v y z => by
    rw [eu_X40_relocation_67]; unfold du_X40_relocation_67
    exact .ite (.ite (.bind fun b _ => .ite (.some .rfl) (e85 _)) (e85 _)) (.some .rfl)
  exact .bind fun v1 _ => .ite (.some .rfl) (.ite (.some .rfl) (.ite (.some .rfl) (.bind fun v2 _ => .ite (.some .rfl) (.ite (.some .rfl) (.bind fun v3 _ => .ite (.bind fun v4 _ => .ite (e67 _ _ _) (e67 _ _ _)) (.some .rfl))))))
theorem tb_symbol {x1 x2 x3 x4 x5 : Int} : jP (m_X40_symbol s X x1 x2 x3 x4 x5) fun q => tbK s q.1 X := by
  rw [em_X40_symbol]; unfold dm_X40_symbol
  have e154 : ∀ u, tbK s u X → ∀ x1 x2 x3 x4 x5 x7, jP (u_X40_symbol_154 u X x1 x2 x3 x4 x5 x7) fun q => tbK s q.1 X := fun u hu x1 x2 x3 x4 x5 x7 => by
    rw [eu_X40_symbol_154]; unfold du_X40_symbol_154
    refine .bind fun v _ => .ite (.some hu) (.stq (.stq (.stq (.stq (.stq (.bind fun b _ => .stq (.some ?_)))))))
    exact (((((hu.jp (by omega)).jp (by omega)).jp (by omega)).jp (by omega)).jp (by omega)).jp (by omega)
  have e110 : ∀ u, tbK s u X → ∀ x1 x2 x3 x4 x5 x7, jP (u_X40_symbol_110 u X x1 x2 x3 x4 x5 x7) fun q => tbK s q.1 X := fun u hu x1 x2 x3 x4 x5 x7 => by
    rw [eu_X40_symbol_110]; unfold du_X40_symbol_110
    rw [eu_X40_symbol_113]; unfold du_X40_symbol_113
    refine .loopW (I := fun vs σ => vs.head? = some X ∧ tbK s σ X) (fun vs σ ⟨h1, h2⟩ => .c8 fun y0 y1 y2 y3 y4 y5 y7 y8 e => ?_) ⟨rfl, hu⟩
    subst e
    have e0 : y0 = X := Option.some.inj h1
    subst e0
    have e148 : jP (u_X40_symbol_148 σ y0 y1 y2 y3 y4 y5 y7 y8) (lpQ (fun vs σ => vs.head? = some y0 ∧ tbK s σ y0) fun r : jS × Int => tbK s r.1 y0) := by
      rw [eu_X40_symbol_148]; unfold du_X40_symbol_148
      exact .some ⟨rfl, h2⟩
    unfold b_X40_symbol_113
    refine .ite (.ite e148 (.bind fun v1 _ => .ite e148 (.bind fun v2 _ => .ite e148 (.inrq (.some h2))))) (.inrq ?_)
    exact e154 σ h2 _ _ _ _ _ _
  have e77 : ∀ u, tbK s u X → ∀ x1 x2 x3 x4 x5 x6 x7, jP (u_X40_symbol_77 u X x1 x2 x3 x4 x5 x6 x7 0) fun q => tbK s q.1 X := fun u hu x1 x2 x3 x4 x5 x6 x7 => by
    rw [eu_X40_symbol_77]; unfold du_X40_symbol_77
    refine .loopW (I := fun vs σ => vs.head? = some X ∧ tbK s σ X) (fun vs σ ⟨h1, h2⟩ => .c9 fun y0 y1 y2 y3 y4 y5 y6 y7 y8 e => ?_) ⟨rfl, hu⟩
    subst e
    have e0 : y0 = X := Option.some.inj h1
    subst e0
    unfold b_X40_symbol_77
    refine .ite (.bind fun v1 _ => .stq (.some ⟨rfl, h2.jp (by omega)⟩)) (.inrq ?_)
    exact e110 σ h2 _ _ _ _ _ _
  have k1 : tbK s (jp s 44 X 20 0) X := tbK.rfl.jp (by omega)
  simp only [jls]
  refine .bind fun v2 _ => .ite (.some k1) (.ite (.some k1) (.ite (.some k1) (.ite (.some k1) (.ite (.some k1) (.ite (.some k1) (.ite (.some k1) (.ite (.some k1) (.stq ?_))))))))
  exact e77 _ (k1.jp (by omega)) _ _ _ _ _ _ _
theorem tb_clear : jP (m_X40_clear s X) fun q => tbK s q.1 X := by
  rw [em_X40_clear]; unfold dm_X40_clear
  rw [eu_X40_clear_2]; unfold du_X40_clear_2
  refine .loopW (I := fun vs σ => vs.head? = some X ∧ tbK s σ X) (fun vs σ ⟨h1, h2⟩ => .c2 fun y0 y1 e => ?_) ⟨rfl, .rfl⟩
  subst e
  have e0 : y0 = X := Option.some.inj h1
  subst e0
  unfold b_X40_clear_2
  refine .ite (.stq (.stq (.some ⟨rfl, (h2.jp (by omega)).jp (by omega)⟩))) (.inrq ?_)
  rw [eu_X40_clear_27]; unfold du_X40_clear_27
  exact .stq (.stq (.stq (.some ((((h2.jp (by omega)).jp (by omega)).jp (by omega)).jp (by omega)))))
/-- the maker's rows, but the tables *-/
def tMf (t w : jS) (X : Int) : Prop := jSm t w ∧ ∀ c a k, (a < X ∨ X + 34 ≤ a ∨ c = 1000 ∧ (a = X + 22 ∨ a = X + 23)) → jf w c a k = jf t c a k
theorem tMf.rfl : tMf t t X := ⟨jSm.rfl, fun _ _ _ _ => Eq.refl _⟩
theorem tMf.trans (h : tMf t u X) (g : tMf u w X) : tMf t w X := ⟨h.1.trans g.1, fun c a k q => (g.2 c a k q).trans (h.2 c a k q)⟩
theorem tMf.of (h : jFm t w X 34) (g : tbK t w X) : tMf t w X := ⟨h.1, fun c a k q => by
  rcases q with q | q | ⟨q1, q2 | q2⟩
  · exact h.2 c a k (.inl q)
  · exact h.2 c a k (.inr q)
  · rw [q1, q2]; exact (g k).1
  · rw [q1, q2]; exact (g k).2⟩
theorem tMf.fm (h : tMf t w X) : jFm t w X 34 := ⟨h.1, fun c a k q => h.2 c a k (by omega)⟩
theorem tMf.ti (h : tMf t w X) (p : pTi t X) : pTi w X := p.keep fun a k e => h.2 _ _ _ (by omega)
end jTabs
