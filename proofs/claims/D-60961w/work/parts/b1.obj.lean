/-! objects as plain values; of the component's bundles and of the twin's rows -/
section jObj
variable {s t u : jS} {b X y z lo n : Int} {o : Int → Int → Int → Int} {w w' d : Int → Int}
theorem jin_p {v : Int} : jin v ↔ -2147483648 ≤ v ∧ v ≤ 2147483647 := Iff.rfl
/-- cells from lo on, n of them, differ; nothing that a type tells -/
def jFx (s t : jS) (lo n : Int) : Prop := jFm s t lo n ∧ jEx s t
theorem jFx.rfl : jFx s s lo n := ⟨jFm.rfl, jEx.rfl⟩
theorem jFx.trans (h : jFx s t lo n) (g : jFx t u lo n) : jFx s u lo n := ⟨h.1.trans g.1, h.2.trans g.2⟩
theorem jEx.jp {c a k v : Int} (h : jEx s t) (e : jSs c k = false) : jEx s (jp t c a k v) := h.trans ⟨Int.le_refl _, fun x _ _ => ⟨_root_.rfl, _root_.rfl, fun j hj => by
  show jf _ (jK t x) x j = jf t (jK t x) x j
  by_cases q : jK t x = c ∧ x = a ∧ j = k
  · obtain ⟨q1, q2, q3⟩ := q
    rw [q1, q3, e] at hj; cases hj
  · rw [jf_jp, if_neg q]⟩⟩
theorem jSs_a {c : Int} (h : 1000 ≤ c) (e : jSak c = false) (k : Int) : jSs c k = false := by unfold jSs; rw [if_neg (by omega)]; exact e
theorem jFx.jp {c a k v : Int} (h : jFx s t lo n) (e : jSs c k = false) (h0 : lo ≤ a) (h1 : a < lo + n) : jFx s (jp t c a k v) lo n := ⟨h.1.jp h0 h1, h.2.jp e⟩
theorem jFx.wide {lo' n' : Int} (h : jFx s t lo n) (h0 : lo' ≤ lo) (h1 : lo + n ≤ lo' + n') : jFx s t lo' n' := ⟨h.1.wide h0 h1, h.2⟩
theorem jFx.F (h : jFx s t lo n) {c a : Int} (q : a < lo ∨ lo + n ≤ a) (k : Int) : jf t c a k = jf s c a k := h.1.2 c a k q
theorem jFx.K (h : jFx s t lo n) : jK t = jK s := h.1.1.1
theorem jFx.N (h : jFx s t lo n) : jN t = jN s := h.1.1.2.1
/-- one more value -/
def ou (o : Int → Int → Int → Int) (c a k v : Int) : Int → Int → Int → Int := fun c' a' k' => if c' = c ∧ a' = a ∧ k' = k then v else o c' a' k'
theorem ou_pos {c a k v c' a' k' : Int} (h : c' = c ∧ a' = a ∧ k' = k) : ou o c a k v c' a' k' = v := by unfold ou; rw [if_pos h]
theorem ou_neg {c a k v c' a' k' : Int} (h : ¬ (c' = c ∧ a' = a ∧ k' = k)) : ou o c a k v c' a' k' = o c' a' k' := by unfold ou; rw [if_neg h]
theorem ou_row {c a k v c' a' : Int} (h : ¬ (c' = c ∧ a' = a)) : ou o c a k v c' a' = o c' a' := by funext i; rw [ou_neg (by omega)]
/-- what types tell -/
theorem T35 (h : jTt s 35 y) : 0 ≤ y ∧ jK s y = 19 ∧ jf s 19 y 0 = y + 1 ∧ 0 ≤ y + 1 ∧ jK s (y + 1) = 1001 := by
  have k := h.zz.2.2.1
  have f := h.fld (k := 0) (o := 1) (t' := 2097152) (by decide)
  exact ⟨h.zz.1, k, by rw [← jF_k (show jK s y = 19 from k)]; exact f.1, f.2.zz.1, f.2.zz.2.2.1⟩
theorem T37 (h : jTt s 37 z) : 0 ≤ z ∧ jK s z = 21 ∧ jf s 21 z 0 = z + 1 ∧ 0 ≤ z + 1 ∧ jK s (z + 1) = 1001 ∧ jN s (z + 1) = 16 := by
  have k := h.zz.2.2.1
  have f := h.fld (k := 0) (o := 1) (t' := 2097169) (by decide)
  exact ⟨h.zz.1, k, by rw [← jF_k (show jK s z = 21 from k)]; exact f.1, f.2.zz.1, f.2.zz.2.2.1, f.2.zz.2.2.2 (by decide) (by decide)⟩
theorem T36 (h : jTt s 36 y) : 0 ≤ y ∧ jK s y = 20 ∧ jf s 20 y 0 = y + 1 ∧ jTt s 37 (y + 1) := by
  have k := h.zz.2.2.1
  have f := h.fld (k := 0) (o := 1) (t' := 37) (by decide)
  exact ⟨h.zz.1, k, by rw [← jF_k (show jK s y = 20 from k)]; exact f.1, f.2⟩
theorem T38 (h : jTt s 38 y) : 0 ≤ y ∧ jK s y = 22 := ⟨h.zz.1, h.zz.2.2.1⟩
theorem T34 (h : jTt s 34 b) : (0 ≤ b ∧ jK s b = 18) ∧ (jf s 18 b 0 = b + 1 ∧ 0 ≤ b + 1 ∧ jK s (b + 1) = 1013 ∧ jN s (b + 1) = 4 ∧ ∀ x, 0 ≤ x → x < 4 → jf s 1013 (b + 1) x = (b + 1) + 4 + 2 * x ∧ jTt s 35 ((b + 1) + 4 + 2 * x)) ∧ (jf s 18 b 1 = b + 2 ∧ 0 ≤ b + 2 ∧ jK s (b + 2) = 1003 ∧ jN s (b + 2) = 1024) ∧
    (jf s 18 b 3 = b + 3 ∧ 0 ≤ b + 3 ∧ jK s (b + 3) = 1014 ∧ jN s (b + 3) = 100 ∧ ∀ x, 0 ≤ x → x < 100 → jf s 1014 (b + 3) x = (b + 3) + 10 + 3 * x ∧ jTt s 36 ((b + 3) + 10 + 3 * x)) ∧ (jf s 18 b 5 = b + 4 ∧ 0 ≤ b + 4 ∧ jK s (b + 4) = 1012 ∧ jN s (b + 4) = 300 ∧ ∀ x, 0 ≤ x → x < 300 → jf s 1012 (b + 4) x = (b + 4) + 309 + 1 * x ∧ jTt s 38 ((b + 4) + 309 + 1 * x)) := by
  have k := h.zz.2.2.1
  have f0 := h.fld (k := 0) (o := 1) (t' := 14680069) (by decide)
  have f1 := h.fld (k := 1) (o := 2) (t' := 4195329) (by decide)
  have f3 := h.fld (k := 3) (o := 3) (t' := 15728741) (by decide)
  have f5 := h.fld (k := 5) (o := 4) (t' := 13631789) (by decide)
  have hk : jK s b = 18 := k
  have K0 : jK s (b + 1) = 1013 := f0.2.zz.2.2.1
  have K3 : jK s (b + 3) = 1014 := f3.2.zz.2.2.1
  have K5 : jK s (b + 4) = 1012 := f5.2.zz.2.2.1
  rw [jF_k hk] at f0 f1 f3 f5
  refine ⟨⟨h.zz.1, hk⟩, ⟨f0.1, f0.2.zz.1, K0, f0.2.zz.2.2.2 (by decide) (by decide), fun x x0 x1 => ?_⟩, ⟨f1.1, f1.2.zz.1, f1.2.zz.2.2.1, f1.2.zz.2.2.2 (by decide) (by decide)⟩, ⟨f3.1, f3.2.zz.1, K3, f3.2.zz.2.2.2 (by decide) (by decide), fun x x0 x1 => ?_⟩, ⟨f5.1, f5.2.zz.1, K5, f5.2.zz.2.2.2 (by decide) (by decide), fun x x0 x1 => ?_⟩⟩
  · rw [← jF_k K0]; exact f0.2.elt (show jStA 14680069 = some (4, 2, 35) by decide) x0 x1
  · rw [← jF_k K3]; exact f3.2.elt (show jStA 15728741 = some (10, 3, 36) by decide) x0 x1
  · rw [← jF_k K5]; exact f5.2.elt (show jStA 13631789 = some (309, 1, 38) by decide) x0 x1
/-- 0: bytes; 1: sizes, alignments; 2: how many starts, symbols, relocations; 3: starts; 4: symbols (where, value, size, bind, type, name's size, name); 5: relocations (section, at, kind, symbol, addend) -/
def cNm (s : jS) (y : Int) (w : Int → Int) : Prop := jf s 21 y 1 = w 5 ∧ ∀ i, 0 ≤ i → i < w 5 → jf s 1001 (y + 1) i = w (6 + i)
def cSy (s : jS) (y : Int) (w : Int → Int) : Prop := jf s 20 y 1 = w 0 ∧ jf s 20 y 2 = w 1 ∧ jf s 20 y 3 = w 2 ∧ jf s 20 y 4 = w 3 ∧ jf s 20 y 5 = w 4 ∧ cNm s (y + 1) w
def cRl (s : jS) (y : Int) (w : Int → Int) : Prop := jf s 22 y 0 = w 0 ∧ jf s 22 y 1 = w 1 ∧ jf s 22 y 2 = w 2 ∧ jf s 22 y 3 = w 3 ∧ jf s 22 y 4 = w 4
def cObA (s : jS) (b : Int) (o : Int → Int → Int → Int) : Prop := ∀ x, 0 ≤ x → x < 4 → jf s 19 ((b + 1) + 4 + 2 * x) 1 = o 1 x 0 ∧ jf s 19 ((b + 1) + 4 + 2 * x) 2 = o 1 x 1
def cObB (s : jS) (b : Int) (o : Int → Int → Int → Int) : Prop := ∀ x k, 0 ≤ x → x < 3 → 0 ≤ k → k < o 1 x 0 → jf s 1001 (((b + 1) + 4 + 2 * x) + 1) k = sb (o 0 x k)
def cObN (s : jS) (b : Int) (o : Int → Int → Int → Int) : Prop := jf s 18 b 2 = o 2 0 0 ∧ jf s 18 b 4 = o 2 1 0 ∧ jf s 18 b 6 = o 2 2 0
def cObT (s : jS) (b : Int) (o : Int → Int → Int → Int) : Prop := ∀ k, 0 ≤ k → k < o 2 0 0 → jf s 1003 (b + 2) k = o 3 k 0
def cObY (s : jS) (b : Int) (o : Int → Int → Int → Int) : Prop := ∀ k, 0 ≤ k → k < o 2 1 0 → cSy s ((b + 3) + 10 + 3 * k) (o 4 k)
def cObR (s : jS) (b : Int) (o : Int → Int → Int → Int) : Prop := ∀ k, 0 ≤ k → k < o 2 2 0 → cRl s ((b + 4) + 309 + 1 * k) (o 5 k)
/-- how long the arrays of bytes are -/
def cObL (s : jS) (b : Int) : Prop := ∀ x, 0 ≤ x → x < 4 → jN s (((b + 1) + 4 + 2 * x) + 1) = if x = 3 then 0 else 2048
def cOb (s : jS) (b : Int) (o : Int → Int → Int → Int) : Prop := cObL s b ∧ cObA s b o ∧ cObB s b o ∧ cObN s b o ∧ cObT s b o ∧ cObY s b o ∧ cObR s b o
/-- kinds of relocations, how wide they are -/
def kOK (k : Int) : Prop := k = 1 ∨ k = 16 ∨ k = 17 ∨ k = 19 ∨ (23 ≤ k ∧ k ≤ 28) ∨ (33 ≤ k ∧ k ≤ 35) ∨ (37 ≤ k ∧ k ≤ 39) ∨ (43 ≤ k ∧ k ≤ 45) ∨ k = 51
def kW (k a : Int) : Int := if k = 43 then a else if k = 51 then 0 else if k = 33 ∨ k = 37 then 1 else if k = 34 ∨ k = 38 ∨ k = 44 ∨ k = 45 then 2 else if k = 19 then 8 else 4
/-- alignments -/
def pPw (v : Int) : Prop := v = 1 ∨ v = 2 ∨ v = 4 ∨ v = 8 ∨ v = 16 ∨ v = 32 ∨ v = 64
/-- what may be of a symbol by where it is -/
def wOK (w : Int → Int) : Prop := if w 0 = -1 then w 1 = 0 ∧ w 2 = 0 ∧ w 3 ≠ 0 else if w 0 = 4 then 0 ≤ w 2 else if w 0 = 5 then pPw (w 1) ∧ 1 ≤ w 2 ∧ w 2 ≤ 4096 ∧ w 3 = 1 else 0 ≤ w 1 ∧ 0 ≤ w 2
def vNm (w : Int → Int) : Prop := 0 ≤ w 5 ∧ w 5 ≤ 16 ∧ ∀ i, 0 ≤ i → i < w 5 → 33 ≤ w (6 + i) ∧ w (6 + i) ≤ 126
def vSy (w : Int → Int) : Prop := -1 ≤ w 0 ∧ w 0 ≤ 5 ∧ jin (w 1) ∧ jin (w 2) ∧ 0 ≤ w 3 ∧ w 3 ≤ 2 ∧ 0 ≤ w 4 ∧ w 4 ≤ 2 ∧ 1 ≤ w 5 ∧ vNm w ∧ wOK w
def vRl (n : Int) (w : Int → Int) : Prop := 0 ≤ w 0 ∧ w 0 ≤ 2 ∧ 0 ≤ w 1 ∧ w 1 ≤ 2147483647 ∧ kOK (w 2) ∧ -1 ≤ w 3 ∧ w 3 < n ∧ jin (w 4) ∧ (w 2 = 43 → 0 ≤ w 4 ∧ w 4 ≤ 62)
def vObA (o : Int → Int → Int → Int) : Prop := ∀ x, 0 ≤ x → x < 4 → 0 ≤ o 1 x 0 ∧ o 1 x 0 ≤ (if x = 3 then 4096 else 2048) ∧ pPw (o 1 x 1)
def vObB (o : Int → Int → Int → Int) : Prop := ∀ x k, 0 ≤ x → x < 3 → 0 ≤ k → k < o 1 x 0 → 0 ≤ o 0 x k ∧ o 0 x k < 256
def vObN (o : Int → Int → Int → Int) : Prop := 0 ≤ o 2 0 0 ∧ o 2 0 0 ≤ 1024 ∧ 0 ≤ o 2 1 0 ∧ o 2 1 0 ≤ 100 ∧ 0 ≤ o 2 2 0 ∧ o 2 2 0 ≤ 300
def vObT (o : Int → Int → Int → Int) : Prop := ∀ k, 0 ≤ k → k < o 2 0 0 → 0 ≤ o 3 k 0 ∧ o 3 k 0 ≤ 2046 ∧ o 3 k 0 % 2 = 0 ∧ ∀ j, 0 ≤ j → j < k → o 3 j 0 < o 3 k 0
def vOb (o : Int → Int → Int → Int) : Prop := vObA o ∧ vObB o ∧ vObN o ∧ vObT o ∧ (∀ k, 0 ≤ k → k < o 2 1 0 → vSy (o 4 k)) ∧ ∀ k, 0 ≤ k → k < o 2 2 0 → vRl (o 2 1 0) (o 5 k)
/-- the twin's rows, from 0 of the made one, from 1 of the read one -/
def tNm (t : jS) (X x : Int) (w : Int → Int) : Prop := jf t 1000 (X + 11) x = w 5 ∧ ∀ i, 0 ≤ i → i < w 5 → jf t 1000 (X + 12) (16 * x + i) = w (6 + i)
def tSy (t : jS) (X x : Int) (w : Int → Int) : Prop := jf t 1000 (X + 6) x = w 0 ∧ jf t 1000 (X + 7) x = w 1 ∧ jf t 1000 (X + 8) x = w 2 ∧ jf t 1000 (X + 9) x = w 3 ∧ jf t 1000 (X + 10) x = w 4 ∧ tNm t X x w
def tRl (t : jS) (X x : Int) (w : Int → Int) : Prop := jf t 1000 (X + 14) x = w 0 ∧ jf t 1000 (X + 15) x = w 1 ∧ jf t 1000 (X + 16) x = w 2 ∧ jf t 1000 (X + 17) x = w 3 ∧ jf t 1000 (X + 18) x = w 4
def tObA (t : jS) (X r : Int) (o : Int → Int → Int → Int) : Prop := ∀ x, 0 ≤ x → x < 4 → jf t 1000 (X + 2) (4 * r + x) = o 1 x 0 ∧ jf t 1000 (X + 3) (4 * r + x) = o 1 x 1
def tObB (t : jS) (X r : Int) (o : Int → Int → Int → Int) : Prop := ∀ x k, 0 ≤ x → x < 3 → 0 ≤ k → k < o 1 x 0 → jf t 1000 (X + 1) (6144 * r + (2048 * x + k)) = o 0 x k
def tObN (t : jS) (X r : Int) (o : Int → Int → Int → Int) : Prop := jf t 1000 (X + 5) r = o 2 0 0 ∧ jf t 1000 (X + 13) r = o 2 1 0 ∧ jf t 1000 (X + 19) r = o 2 2 0
def tObT (t : jS) (X r : Int) (o : Int → Int → Int → Int) : Prop := ∀ k, 0 ≤ k → k < o 2 0 0 → jf t 1000 (X + 4) (1024 * r + k) = o 3 k 0
def tObY (t : jS) (X r : Int) (o : Int → Int → Int → Int) : Prop := ∀ k, 0 ≤ k → k < o 2 1 0 → tSy t X (100 * r + k) (o 4 k)
def tObR (t : jS) (X r : Int) (o : Int → Int → Int → Int) : Prop := ∀ k, 0 ≤ k → k < o 2 2 0 → tRl t X (300 * r + k) (o 5 k)
def tOb (t : jS) (X r : Int) (o : Int → Int → Int → Int) : Prop := tObA t X r o ∧ tObB t X r o ∧ tObN t X r o ∧ tObT t X r o ∧ tObY t X r o ∧ tObR t X r o
theorem cNm.keep (h : cNm s y w) (e : ∀ c a k, y ≤ a → a < y + 2 → jf t c a k = jf s c a k) : cNm t y w := by
  refine ⟨?_, fun i i0 i1 => ?_⟩ <;> rw [e _ _ _ (by omega) (by omega)]
  · exact h.1
  · exact h.2 i i0 i1
theorem cSy.keep (h : cSy s y w) (e : ∀ c a k, y ≤ a → a < y + 3 → jf t c a k = jf s c a k) : cSy t y w := by
  obtain ⟨h1, h2, h3, h4, h5, h6⟩ := h
  have e' : ∀ k, jf t 20 y k = jf s 20 y k := fun k => e _ _ _ (by omega) (by omega)
  exact ⟨by rw [e']; exact h1, by rw [e']; exact h2, by rw [e']; exact h3, by rw [e']; exact h4, by rw [e']; exact h5, h6.keep fun c a k a0 a1 => e c a k (by omega) (by omega)⟩
theorem cRl.keep (h : cRl s y w) (e : ∀ k, jf t 22 y k = jf s 22 y k) : cRl t y w := by
  unfold cRl at *; simp only [e]; exact h
theorem cOb.keep (h : cOb s b o) (hN : ∀ a, b ≤ a → a < b + 613 → jN t a = jN s a) (e : ∀ c a k, b ≤ a → a < b + 613 → jf t c a k = jf s c a k) (hv : vObN o) : cOb t b o := by
  obtain ⟨k, h1, h2, ⟨h3, h4, h5⟩, h6, h7, h8⟩ := h
  obtain ⟨v1, v2, v3, v4, v5, v6⟩ := hv
  refine ⟨fun x x0 x1 => ?_, fun x x0 x1 => ?_, fun x k x0 x1 k0 k1 => ?_, ⟨?_, ?_, ?_⟩, fun k k0 k1 => ?_, fun k k0 k1 => ?_, fun k k0 k1 => ?_⟩
  · rw [hN _ (by omega) (by omega)]; exact k x x0 x1
  · rw [e _ _ _ (by omega) (by omega), e _ _ _ (by omega) (by omega)]; exact h1 x x0 x1
  · rw [e _ _ _ (by omega) (by omega)]; exact h2 x k x0 x1 k0 k1
  · rw [e _ _ _ (by omega) (by omega)]; exact h3
  · rw [e _ _ _ (by omega) (by omega)]; exact h4
  · rw [e _ _ _ (by omega) (by omega)]; exact h5
  · rw [e _ _ _ (by omega) (by omega)]; exact h6 k k0 k1
  · exact (h7 k k0 k1).keep fun c a j a0 a1 => e c a j (by omega) (by omega)
  · exact (h8 k k0 k1).keep fun j => e _ _ j (by omega) (by omega)
theorem cOb.kf (h : cOb s b o) (g : jFx s t lo n) (hd : b + 613 ≤ lo ∨ lo + n ≤ b) (hv : vObN o) : cOb t b o := h.keep (fun a _ _ => by rw [g.N]) (fun c a k a0 a1 => g.F (by omega) k) hv
/-- names -/
def sameNm (w w' : Int → Int) : Prop := w 5 = w' 5 ∧ ∀ i, 0 ≤ i → i < w 5 → w (6 + i) = w' (6 + i)
theorem c_is (h : cNm s y w) (h' : cNm s z w') (v : vNm w) (tz : jTt s 37 z) : ∃ r, m_X17_is s y z = some r ∧ (r = 0 ∨ r = 1) ∧ (r = 1 ↔ sameNm w w') := by
  obtain ⟨z0, zk, z1, z2, z3, z4⟩ := T37 tz
  obtain ⟨v0, v1, v2⟩ := v
  rw [em_X17_is]; unfold dm_X17_is
  rw [jrd_in z0 zk, Option.bind_some, h.1, h'.1]
  by_cases c : w 5 = w' 5
  · rw [if_pos c, eu_X17_is_15]; unfold du_X17_is_15
    have st : ∀ k, 0 ≤ k → k < w 5 → b_X17_is_15 s y z k = if w (6 + k) = w' (6 + k) then some (.inl [y, z, k + 1]) else jinr (some 0) := fun k k0 k1 => by
      unfold b_X17_is_15
      rw [h.1, if_pos k1, jlt_in k0 (by omega), Option.bind_some, jrd_in z0 zk, Option.bind_some, z1, show jld s 1001 (z + 1) k = some (jf s 1001 (z + 1) k) by unfold jld; rw [if_pos ⟨z2, z3, k0, by rw [z4]; omega⟩], Option.bind_some, h.2 k k0 k1, h'.2 k k0 (by omega), W32_in (by omega) (by omega), Wz_0]
    rcases jseekR (C := jc3 b_X17_is_15) (s := s) (fun k => [y, z, k]) (fun k => ¬ w (6 + k) = w' (6 + k)) (fun _ => some 0) (some 1) 0 (w 5) v0 (fun k k0 k1 hk => by
        show b_X17_is_15 s y z k = _
        rw [st k k0 k1, if_pos (Decidable.not_not.mp hk)]) (fun k k0 k1 hk => by
        show b_X17_is_15 s y z k = _
        rw [st k k0 k1, if_neg hk]) (by
        show b_X17_is_15 s y z (w 5) = _
        unfold b_X17_is_15
        rw [h.1, if_neg (by omega), Wz_1]) with ⟨k, k0, k1, k2, -, e⟩ | ⟨k2, e⟩
    · exact ⟨0, e, .inl rfl, fun q => absurd q (by decide), fun q => absurd (q.2 k k0 k1) k2⟩
    · exact ⟨1, e, .inr rfl, fun _ => ⟨c, fun i i0 i1 => Decidable.not_not.mp (k2 i i0 i1)⟩, fun _ => rfl⟩
  · rw [if_neg c, Wz_0]
    exact ⟨0, rfl, .inl rfl, fun q => absurd q (by decide), fun q => absurd q.1 c⟩
/-- whether a name is taken by one of the first n that isn't local -/
def isTk (o : Int → Int → Int → Int) (d : Int → Int) (n : Int) : Prop := ∃ k, 0 ≤ k ∧ k < n ∧ o 4 k 3 ≠ 0 ∧ sameNm (o 4 k) d
theorem c_taken (h : cOb s b o) (v : vOb o) (hd : cNm s z d) (tz : jTt s 37 z) (h0 : 0 ≤ n) (h1 : n ≤ o 2 1 0) : ∃ r, m_X14_isTaken s b z n = some r ∧ (r = 0 ∨ r = 1) ∧ (r = 1 ↔ isTk o d n) := by
  obtain ⟨-, -, -, -, -, hY, -⟩ := h
  obtain ⟨-, -, ⟨-, -, v0, v1, -, -⟩, -, vY, -⟩ := v
  rw [em_X14_isTaken]; unfold dm_X14_isTaken
  rw [eu_X14_isTaken_2]; unfold du_X14_isTaken_2
  have st : ∀ k, 0 ≤ k → k < n → (¬ (o 4 k 3 ≠ 0 ∧ sameNm (o 4 k) d) → b_X14_isTaken_2 s b z n k = some (.inl [b, z, n, k + 1])) ∧ ((o 4 k 3 ≠ 0 ∧ sameNm (o 4 k) d) → b_X14_isTaken_2 s b z n k = jinr (some 1)) := fun k k0 k1 => by
    obtain ⟨y1, y2, y3, y4, y5, y6⟩ := hY k k0 (by omega)
    obtain ⟨r, e, r0, r1⟩ := c_is y6 hd (vY k k0 (by omega)).2.2.2.2.2.2.2.2.2.1 tz
    unfold b_X14_isTaken_2
    simp only [em_X14_isTaken, dm_X14_isTaken, eu_X14_isTaken_37, du_X14_isTaken_37]
    rw [if_pos k1, jix_in k0 (by omega), Option.bind_some, y4]
    by_cases c : o 4 k 3 = 0
    · rw [if_pos c, W32_in (by omega) (by omega)]
      exact ⟨fun _ => rfl, fun q => absurd c q.1⟩
    · rw [if_neg c, Option.bind_some, e, Option.bind_some, W32_in (by omega) (by omega), Wz_1]
      by_cases c1 : r = 0
      · rw [if_pos c1]
        exact ⟨fun _ => rfl, fun q => by have := r1.mpr q.2; omega⟩
      · rw [if_neg c1]
        exact ⟨fun q => absurd ⟨c, r1.mp (by omega)⟩ q, fun _ => rfl⟩
  rcases jseekR (C := jc4 b_X14_isTaken_2) (s := s) (fun k => [b, z, n, k]) (fun k => o 4 k 3 ≠ 0 ∧ sameNm (o 4 k) d) (fun _ => some 1) (some 0) 0 n h0 (fun k k0 k1 hk => (st k k0 k1).1 hk) (fun k k0 k1 hk => (st k k0 k1).2 hk) (by
      show b_X14_isTaken_2 s b z n n = _
      unfold b_X14_isTaken_2
      rw [if_neg (by omega), Wz_0]) with ⟨k, k0, k1, k2, -, e⟩ | ⟨k2, e⟩
  · exact ⟨1, e, .inr rfl, fun _ => ⟨k, k0, k1, k2⟩, fun _ => rfl⟩
  · exact ⟨0, e, .inl rfl, fun q => absurd q (by decide), fun ⟨k, k0, k1, k3⟩ => absurd k3 (k2 k k0 k1)⟩
end jObj
