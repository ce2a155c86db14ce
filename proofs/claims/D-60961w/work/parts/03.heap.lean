/-! rules of the heap: fields, arrays, new cells -/
theorem jsum_eq {H H' : Heap} (h1 : H'.size = H.size) (h2 : ∀ q : Nat, (H'[q]?).map (fun c => c.slots.size) = (H[q]?).map (fun c => c.slots.size)) : jsum H' = jsum H := by
  unfold jsum
  congr 1
  apply List.ext_getElem?
  intro i
  have := h2 i
  simpa [List.getElem?_map] using this
theorem jsum_set {H H' : Heap} {a : Nat} {cell cell' : Cell} (h0 : H[a]? = some cell) (h1 : H'.size = H.size) (h2 : H'[a]? = some cell') (h3 : ∀ q : Nat, q ≠ a → H'[q]? = H[q]?) (h4 : cell'.slots.size = cell.slots.size) : jsum H' = jsum H := by
  refine jsum_eq h1 (fun q => ?_)
  by_cases h : q = a
  · subst h; rw [h0, h2]; simp [h4]
  · rw [h3 q h]
theorem jsum_push {H H' : Heap} {cell : Cell} (h1 : H'.size = H.size + 1) (h2 : H'[H.size]? = some cell) (h3 : ∀ q : Nat, q < H.size → H'[q]? = H[q]?) : jsum H' = jsum H + cell.slots.size := by
  have e : H' = H.push cell := by
    apply Array.ext_getElem?
    intro i
    rcases Nat.lt_trichotomy i H.size with h | h | h
    · rw [h3 i h, Array.getElem?_push, if_neg (by omega)]
    · subst h; rw [h2]; simp
    · rw [Array.getElem?_eq_none (by omega), Array.getElem?_eq_none (by simp; omega)]
  subst e
  simp [jsum]
def jput (σ : jS) (a k v : Int) : jS := (jK σ, jN σ, fun c x y => if c = jK σ a ∧ x = a ∧ y = k then v else jf σ c x y, jn σ, ju σ, jlN σ, jlU σ, jc σ)
theorem jF_put (σ : jS) (a k v x y : Int) : jF (jput σ a k v) x y = if x = a ∧ y = k then v else jF σ x y := by
  show (if jK σ x = jK σ a ∧ x = a ∧ y = k then v else jf σ (jK σ x) x y) = if x = a ∧ y = k then v else jf σ (jK σ x) x y
  by_cases h : x = a
  · subst h; simp
  · simp [h]
theorem jset_size (cell : Cell) (i : Nat) (v : Value) : (cell.setSlot i v).slots.size = cell.slots.size := by simp [Cell.setSlot]
/-- a new cell of a kind: its fields or elements as given -/
def jmk (σ : jS) (k nn : Int) (f : Int → Int) (sz : Int) : jS := (fun x => if x = jn σ then k else jK σ x, fun x => if x = jn σ then nn else jN σ x, fun c x y => if c = k ∧ x = jn σ then f y else jf σ c x y, jn σ + 1, ju σ + sz, jlN σ, jlU σ, jc σ)
theorem jF_mk (σ : jS) (k nn : Int) (f : Int → Int) (sz x y : Int) : jF (jmk σ k nn f sz) x y = if x = jn σ then f y else jF σ x y := by
  show (if (if x = jn σ then k else jK σ x) = k ∧ x = jn σ then f y else jf σ (if x = jn σ then k else jK σ x) x y) = if x = jn σ then f y else jf σ (jK σ x) x y
  by_cases h : x = jn σ
  · simp [h]
  · simp [h]
theorem jcell0.kept {G : jG} {k nn : Int} {f : Int → Int} {H H' : Heap} {a : Nat} (h : jcell0 G k nn f H a) (e : H'[a]? = H[a]?) : jcell0 G k nn f H' a := by
  obtain ⟨h1, h2, h3⟩ := h
  refine ⟨fun x y => ?_, fun x y => ?_, fun x y => ?_⟩
  · obtain ⟨r, a1, a2, a3⟩ := h1 x y
    exact ⟨r, a1, a2.kept e, a3⟩
  · obtain ⟨t, a1, a2, a3, a4, a5⟩ := h2 x y
    exact ⟨t, a1, a2, a3, by rw [e]; exact a4, a5⟩
  · obtain ⟨cell, a1, a2⟩ := h3 x y
    exact ⟨cell, by rw [e]; exact a1, a2⟩
theorem jcell0.cong {G : jG} {k nn : Int} {f g : Int → Int} {H : Heap} {a : Nat} (h : jcell0 G k nn f H a) (e : ∀ i : Nat, f i = g i) : jcell0 G k nn g H a := by
  obtain ⟨h1, h2, h3⟩ := h
  refine ⟨fun x y => ?_, fun x y => ?_, h3⟩
  · obtain ⟨r, a1, a2, a3⟩ := h1 x y
    exact ⟨r, a1, a2.to (fun i _ => by rw [e i]), fun i hi => by rw [← e i]; exact a3 i hi⟩
  · obtain ⟨t, a1, a2, a3, a4, a5⟩ := h2 x y
    exact ⟨t, a1, a2, a3, by rw [a4]; congr 2; funext i; rw [e i], fun i hi => by rw [← e i]; exact a5 i hi⟩
theorem jcell.kept {G : jG} {k nn : Int} {f : Int → Int} {H H' : Heap} {a : Nat} (h : jcell G k nn f H a) (e : H'[a]? = H[a]?) : jcell G k nn f H' a := ⟨h.1, h.2.1.kept e, fun g cell hc => h.2.2 g cell (by rw [← e]; exact hc)⟩
theorem jcell.cong {G : jG} {k nn : Int} {f g : Int → Int} {H : Heap} {a : Nat} (h : jcell G k nn f H a) (e : ∀ i : Nat, f i = g i) : jcell G k nn g H a := ⟨h.1, h.2.1.cong e, h.2.2⟩
/-- behind a store into one cell -/
theorem jRel.put {G : jG} {s : State} {σ : jS} {H H' : Heap} {a0 : Nat} {k v : Int} {cell cell' : Cell} (hR : jRel G s σ H) (h0 : H[a0]? = some cell) (e1 : H'[a0]? = some cell') (e2 : H'.size = H.size) (e3 : ∀ q : Nat, q ≠ a0 → H'[q]? = H[q]?) (e4 : cell'.slots.size = cell.slots.size) (hgb : gb G ≤ a0)
    (hc : jcell G (jK σ a0) (jN σ a0) (fun y => if y = k then v else jF σ a0 y) H' a0) : jRel G s (jput σ a0 k v) H' := by
  obtain ⟨r1, r2, r3, r4, r5, r6, r7⟩ := hR
  have hsum := jsum_set h0 e2 e1 e3 e4
  refine ⟨by rw [e2]; exact r1, by rw [hsum]; exact r2, fun b => ?_, by rw [e2]; exact r4, by rw [e2]; exact r5, ⟨by rw [hsum]; exact r6.1, r6.2.1, r6.2.2.kept rfl (fun q hq => e3 q (by omega))⟩, r7⟩
  rw [show jF (jput σ a0 k v) b = fun y => if (b : Int) = a0 ∧ y = k then v else jF σ b y from funext fun y => jF_put σ a0 k v b y]
  show jcell G (jK σ b) (jN σ b) (fun y => if (b : Int) = a0 ∧ y = k then v else jF σ b y) H' b
  by_cases h : b = a0
  · subst h
    exact hc.cong (fun i => by simp)
  · exact ((r3 b).kept (e3 b h)).cong (fun i => by rw [if_neg (fun q => h (by omega))])
/-- behind a new cell -/
theorem jRel.mk {G : jG} {s : State} {σ : jS} {H H' : Heap} {k nn : Int} {f : Int → Int} {cell : Cell} (hR : jRel G s σ H) (e1 : H'[H.size]? = some cell) (e2 : H'.size = H.size + 1) (e3 : ∀ q : Nat, q < H.size → H'[q]? = H[q]?) (hn : H.size + 1 ≤ gN G) (hu : jsum H + cell.slots.size ≤ gU G)
    (hc : jcell G k nn f H' H.size) : jRel G s (jmk σ k nn f cell.slots.size) H' := by
  obtain ⟨r1, r2, r3, r4, r5, r6, r7⟩ := hR
  have hsum := jsum_push e2 e1 e3
  refine ⟨?_, ?_, fun b => ?_, by omega, ⟨by omega, r5.2⟩, ⟨by omega, r6.2.1, r6.2.2.kept rfl (fun q hq => e3 q (by omega))⟩, r7⟩
  · show ((H'.size : Nat) : Int) = jn σ + 1
    rw [e2, ← r1]; omega
  · show ((jsum H' : Nat) : Int) = ju σ + _
    rw [hsum, ← r2]; omega
  · rw [show jF (jmk σ k nn f cell.slots.size) b = fun y => if (b : Int) = jn σ then f y else jF σ b y from funext fun y => jF_mk σ k nn f cell.slots.size b y]
    show jcell G (if (b : Int) = jn σ then k else jK σ b) (if (b : Int) = jn σ then nn else jN σ b) (fun y => if (b : Int) = jn σ then f y else jF σ b y) H' b
    by_cases h : (b : Int) = jn σ
    · have hb : b = H.size := by omega
      subst hb
      simp only [h, if_true]
      exact hc
    · simp only [h, if_false]
      by_cases hlt : b < H.size
      · exact (r3 b).kept (e3 b hlt)
      · have e4 : H'[b]? = H[b]? := by rw [Array.getElem?_eq_none (by omega), Array.getElem?_eq_none (by omega)]
        exact (r3 b).kept e4
section jHeap
variable {G : jG} {X : jX} {cc : ByteArray} {own nm : String} {nL d pc : Nat} {ret : Option FieldType} {ls : List (Nat × jT)} {st : List jT} {σ σ' : jS} {r : jT}
theorem jcast {a : Int} (h : 0 ≤ a) : ((a.toNat : Nat) : Int) = a := by omega
/-- getfield -/
theorem jr_getf (C : jC G X cc own nL ret d nm) {a : Int} {index : Nat} {ref : String} (ci k : Nat) {rr : vw_C} (hcl : jCl[ci]? = some rr) (hk : k < rr.2.2) (hw : Cond.fieldLink own index ref (rr.2.1 k).2.1 (rr.2.1 k).2.2.1 ∈ lw_all) (hsame : (rr.2.1 k).1 = ref) (hd : decode cc pc = .ok (.getfield index, 3))
    (h0 : 0 ≤ a) (hK : jK σ a = ci) (hci : ci < 1000) {t : Nat} (ht : jtag (jTy ci k) = t) (kk : jWP G X nL (pc + 3) ls ((t, jF σ a k) :: st) σ σ' r) : jWP G X nL pc ls ((2, a) :: st) σ σ' r := by
  obtain ⟨p, l, e, R, s, m, args, below, meth, c⟩ := X
  intro H locs la hR hL hs hl ha
  rw [jall_cons] at hs
  subst ht
  obtain ⟨r', a1, ⟨cell, q1, q2, q3, q4⟩, a3⟩ := ((hR.2.2.1 a.toNat).n (by rw [jcast h0, hK]; omega)).1 (by rw [jcast h0, hK]; omega) (by rw [jcast h0, hK]; omega)
  simp only [jcast h0, hK, Int.toNat_natCast] at a1 a3 q2 q4
  cases a1.symm.trans hcl
  obtain ⟨c1, c2, c3⟩ := jcl_all ci rr hcl
  obtain ⟨hS, hfc, kC, hkC, hkind⟩ := hR.2.2.2.2.2.2.1.1 ci _ hcl
  obtain ⟨cf, kf, fi, f, hi, hsl⟩ := hS k hk
  rw [List.map_cons, jv_r h0]
  refine W.getf C.1 C.2.1 C.2.2.2.1 (C.2.2.2.2.1 _ hw) (by rw [← hsame]; exact hi) (u_facts hfc hkC (u_lays C.2.2.2.2.1 c1 hk) hi).1 q1 (by rw [q3]; exact fun h => by cases h) (v := jv (jtag (jTy ci k), jF σ a k)) ?_ rfl rfl hd
    (kk H locs la hR hL (jall_cons.mpr ⟨a3 k hk, hs.2⟩) hl ha)
  rw [hsl, q4 k hk]
/-- getfield of a nest mate's field -/
theorem jr_getfN (C : jC G X cc own nL ret d nm) {a : Int} {index : Nat} {ref host : String} (ci k : Nat) {rr : vw_C} (hcl : jCl[ci]? = some rr) (hk : k < rr.2.2) (hw : Cond.fieldLinkNest own index ref (rr.2.1 k).2.1 (rr.2.1 k).2.2.1 host ∈ lw_tbl) (hsame : (rr.2.1 k).1 = ref) (hd : decode cc pc = .ok (.getfield index, 3))
    (h0 : 0 ≤ a) (hK : jK σ a = ci) (hci : ci < 1000) {t : Nat} (ht : jtag (jTy ci k) = t) (kk : jWP G X nL (pc + 3) ls ((t, jF σ a k) :: st) σ σ' r) : jWP G X nL pc ls ((2, a) :: st) σ σ' r := by
  obtain ⟨p, l, e, R, s, m, args, below, meth, c⟩ := X
  intro H locs la hR hL hs hl ha
  rw [jall_cons] at hs
  subst ht
  obtain ⟨r', a1, ⟨cell, q1, q2, q3, q4⟩, a3⟩ := ((hR.2.2.1 a.toNat).n (by rw [jcast h0, hK]; omega)).1 (by rw [jcast h0, hK]; omega) (by rw [jcast h0, hK]; omega)
  simp only [jcast h0, hK, Int.toNat_natCast] at a1 a3 q2 q4
  cases a1.symm.trans hcl
  obtain ⟨c1, c2, c3⟩ := jcl_all ci rr hcl
  obtain ⟨hS, hfc, kC, hkC, hkind⟩ := hR.2.2.2.2.2.2.1.1 ci _ hcl
  obtain ⟨cf, kf, fi, f, hi, hsl⟩ := hS k hk
  rw [List.map_cons, jv_r h0]
  refine va_Wgetf C.1 C.2.1 C.2.2.2.1 (va_Nw.use rfl (hR.2.2.2.2.2.2.2.2.1 _ hw rfl)) (by rw [← hsame]; exact hi) (u_facts hfc hkC (u_lays C.2.2.2.2.1 c1 hk) hi).1 q1 (by rw [q3]; exact fun h => by cases h) (v := jv (jtag (jTy ci k), jF σ a k)) ?_ rfl rfl hd
    (kk H locs la hR hL (jall_cons.mpr ⟨a3 k hk, hs.2⟩) hl ha)
  rw [hsl, q4 k hk]
/-- the value fits the field's type: narrow and fits -/
def jfit (t : FieldType) (v : Int) : Prop := narrow t (jv (jtag t, v)) = jv (jtag t, v) ∧ fits t (jv (jtag t, v)) = true
theorem jfit_int (v : Int) : jfit .int v := ⟨rfl, rfl⟩
theorem jfit_long (v : Int) : jfit .long v := ⟨rfl, rfl⟩
theorem jfit_bool {v : Int} (h : v = 0 ∨ v = 1) : jfit .boolean v := by rcases h with rfl | rfl <;> exact ⟨rfl, rfl⟩
theorem jfit_obj (C : String) (v : Int) : jfit (.object C) v := by
  unfold jfit jtag jv
  by_cases h : v < 0 <;> simp [h, narrow, fits]
theorem jfit_arr (t : FieldType) (v : Int) : jfit (.array t) v := by
  unfold jfit jtag jv
  by_cases h : v < 0 <;> simp [h, narrow, fits]
theorem japart {G : jG} {s : State} {args : Array Value} (hts : ∀ w ∈ lw_all, w.before args s = true) (hK : va_K (gD G) jCl [] s) {ci : Nat} {rr : vw_C} (hcl : jCl[ci]? = some rr) : ∀ x y, x < rr.2.2 → y < rr.2.2 → x ≠ y → (gD G).2 ci x ≠ (gD G).2 ci y := by
  obtain ⟨c1, c2, c3⟩ := jcl_all ci rr hcl
  exact va_apart (own := "") hts c1 (jTy ci) c2 c3 hK hcl
theorem jR_putf {s : State} {H H' : Heap} {a : Int} {ci k : Nat} {rr : vw_C} {cell : Cell} {v : Int} (hR : jRel G s σ H) (h0 : 0 ≤ a) (hK : jK σ a = ci) (hci : ci < 1000) (hcl : jCl[ci]? = some rr) (hk : k < rr.2.2) (q1 : H[a.toNat]? = some cell) (q2 : cell.cls = (gD G).1 ci) (q3 : cell.vm = .none) (q4 : ∀ i, i < rr.2.2 → cell.slots[(gD G).2 ci i]? = some (jv (jtag (jTy ci i), jF σ a i)))
    (a3 : ∀ i : Nat, i < rr.2.2 → jok (jtag (jTy ci i), jF σ a i)) (hv : jok (jtag (jTy ci k), v)) (hap : ∀ x y, x < rr.2.2 → y < rr.2.2 → x ≠ y → (gD G).2 ci x ≠ (gD G).2 ci y)
    (e1 : H'[a.toNat]? = some (cell.setSlot ((gD G).2 ci k) (jv (jtag (jTy ci k), v)))) (e2 : H'.size = H.size) (e3 : ∀ q : Nat, q ≠ a.toNat → H'[q]? = H[q]?) : jRel G s (jput σ a k v) H' := by
  have h := jRel.put (k := k) (v := v) hR q1 e1 e2 e3 (jset_size _ _ _) ((hR.2.2.1 a.toNat).1 (by rw [jcast h0, hK]; omega) (by rw [jcast h0, hK]; omega)) ?_
  · rw [jcast h0] at h; exact h
  · rw [jcast h0, hK]
    refine jcell.mk ?_ (by omega) ((hR.2.2.1 a.toNat).1 (by rw [jcast h0, hK]; omega) (by rw [jcast h0, hK]; omega))
    refine ⟨fun _ _ => ⟨rr, by simpa using hcl, ?_, fun i hi => ?_⟩, fun q _ => by omega, fun q _ => by omega⟩
    · refine t_OB.to (V := updV (fun i => jv (jtag (jTy ci i), jF σ a i)) k (jv (jtag (jTy ci k), v))) ⟨_, e1, q2, q3, ?_⟩ (fun i hi => ?_)
      · simpa using t_set q4 hap hk _
      · unfold updV
        by_cases hik : i = k
        · subst hik; simp
        · simp [hik, show ¬ ((i : Int) = k) by omega]
    · by_cases hik : i = k
      · subst hik; simpa using hv
      · simpa [show ¬ ((i : Int) = k) by omega] using a3 i hi
theorem jlocs {s : State} {H H' : Heap} {locs : List Loc} {a i : Nat} (hL : jLo G s locs H) (h : gb G ≤ a) (e2 : H'.size = H.size) (e4 : jsum H' = jsum H) : jLo G s (locs ++ [(⟨a, i⟩ : Loc)]) H' := by
  obtain ⟨h1, h2, h3⟩ := hL
  refine ⟨fun q hq => ?_, by omega, by omega⟩
  rcases List.mem_append.mp hq with h4 | h4
  · exact h1 q h4
  · cases List.mem_singleton.mp h4; exact h
/-- putfield -/
theorem jr_putf (C : jC G X cc own nL ret d nm) {a v : Int} {index : Nat} {ref : String} (ci k : Nat) {rr : vw_C} (hcl : jCl[ci]? = some rr) (hk : k < rr.2.2) (hw : Cond.fieldLink own index ref (rr.2.1 k).2.1 (rr.2.1 k).2.2.1 ∈ lw_all) (hsame : (rr.2.1 k).1 = ref) (hfin : (rr.2.1 k).2.2.2 = false) (hd : decode cc pc = .ok (.putfield index, 3))
    (h0 : 0 ≤ a) (hK : jK σ a = ci) (hci : ci < 1000) (hfit : jfit (jTy ci k) v) {t : Nat} (ht : jtag (jTy ci k) = t) (kk : jWP G X nL (pc + 3) ls st (jput σ a k v) σ' r) : jWP G X nL pc ls ((t, v) :: (2, a) :: st) σ σ' r := by
  obtain ⟨p, l, e, R, s, m, args, below, meth, c⟩ := X
  intro H locs la hR hL hs hl ha
  rw [jall_cons, jall_cons] at hs
  subst ht
  have hb0 := (hR.2.2.1 a.toNat).1 (by rw [jcast h0, hK]; omega) (by rw [jcast h0, hK]; omega)
  obtain ⟨r', a1, ⟨cell, q1, q2, q3, q4⟩, a3⟩ := ((hR.2.2.1 a.toNat).n (by rw [jcast h0, hK]; omega)).1 (by rw [jcast h0, hK]; omega) (by rw [jcast h0, hK]; omega)
  simp only [jcast h0, hK, Int.toNat_natCast] at a1 a3 q2 q4
  cases a1.symm.trans hcl
  obtain ⟨c1, c2, c3⟩ := jcl_all ci rr hcl
  obtain ⟨hS, hfc, kC, hkC, hkind⟩ := hR.2.2.2.2.2.2.1.1 ci _ hcl
  obtain ⟨cf, kf, fi, f, hi, hsl⟩ := hS k hk
  have hlay := C.2.2.2.2.1 _ (c1 _ (u_in_lay hk))
  unfold u_lay at hlay
  rw [if_neg (by rw [hfin]; decide)] at hlay
  have hst := (u_facts hfc hkC (u_lays C.2.2.2.2.1 c1 hk) hi).1
  rw [List.map_cons, List.map_cons, jv_r h0]
  have h6 := u_store hfc hkC hkind hlay hi (c2 k hk) hfit.1 hfit.2
  refine W.putK C.1 C.2.1 (f := f) ⟨C.2.2.2.1, C.2.2.2.2.1 _ hw, ⟨_, _, _, by rw [← hsame]; exact hi⟩, hst⟩ (by rw [q2]; exact h6) q1 q3 (by rw [hsl]; exact k2_hasslot (q4 k hk)) rfl rfl hd fun H' e1 e2 e3 => ?_
  rw [hsl] at e1 ⊢
  have hR' := jR_putf hR h0 hK hci hcl hk q1 q2 q3 q4 a3 hs.1 (japart C.2.2.2.2.1 hR.2.2.2.2.2.2.1 hcl) e1 e2 e3
  have hsum := jsum_set q1 e2 e1 e3 (jset_size _ _ _)
  have h := kk H' _ la hR' (jlocs (a := a.toNat) (i := (gD G).2 ci k) hL hb0 e2 hsum) hs.2.2 hl ha
  rw [e2, hsum] at h
  exact h
/-- putfield of a nest mate -/
theorem jr_putfN (C : jC G X cc own nL ret d nm) {a v : Int} {index : Nat} {ref host : String} (ci k : Nat) {rr : vw_C} (hcl : jCl[ci]? = some rr) (hk : k < rr.2.2) (hw : Cond.fieldLinkNest own index ref (rr.2.1 k).2.1 (rr.2.1 k).2.2.1 host ∈ lw_tbl) (hsame : (rr.2.1 k).1 = ref) (hfin : (rr.2.1 k).2.2.2 = false) (hd : decode cc pc = .ok (.putfield index, 3))
    (h0 : 0 ≤ a) (hK : jK σ a = ci) (hci : ci < 1000) (hfit : jfit (jTy ci k) v) {t : Nat} (ht : jtag (jTy ci k) = t) (kk : jWP G X nL (pc + 3) ls st (jput σ a k v) σ' r) : jWP G X nL pc ls ((t, v) :: (2, a) :: st) σ σ' r := by
  obtain ⟨p, l, e, R, s, m, args, below, meth, c⟩ := X
  intro H locs la hR hL hs hl ha
  rw [jall_cons, jall_cons] at hs
  subst ht
  have hb0 := (hR.2.2.1 a.toNat).1 (by rw [jcast h0, hK]; omega) (by rw [jcast h0, hK]; omega)
  obtain ⟨r', a1, ⟨cell, q1, q2, q3, q4⟩, a3⟩ := ((hR.2.2.1 a.toNat).n (by rw [jcast h0, hK]; omega)).1 (by rw [jcast h0, hK]; omega) (by rw [jcast h0, hK]; omega)
  simp only [jcast h0, hK, Int.toNat_natCast] at a1 a3 q2 q4
  cases a1.symm.trans hcl
  obtain ⟨c1, c2, c3⟩ := jcl_all ci rr hcl
  obtain ⟨hS, hfc, kC, hkC, hkind⟩ := hR.2.2.2.2.2.2.1.1 ci _ hcl
  obtain ⟨cf, kf, fi, f, hi, hsl⟩ := hS k hk
  have hlay := C.2.2.2.2.1 _ (c1 _ (u_in_lay hk))
  unfold u_lay at hlay
  rw [if_neg (by rw [hfin]; decide)] at hlay
  have hst := (u_facts hfc hkC (u_lays C.2.2.2.2.1 c1 hk) hi).1
  rw [List.map_cons, List.map_cons, jv_r h0]
  have h6 := u_store hfc hkC hkind hlay hi (c2 k hk) hfit.1 hfit.2
  refine va_WputK C.1 C.2.1 (f := f) C.2.2.2.1 (va_Nw.use rfl (hR.2.2.2.2.2.2.2.2.1 _ hw rfl)) (by rw [← hsame]; exact hi) hst (by rw [q2]; exact h6) q1 q3 (by rw [hsl]; exact k2_hasslot (q4 k hk)) rfl rfl hd fun H' e1 e2 e3 => ?_
  rw [hsl] at e1 ⊢
  have hR' := jR_putf hR h0 hK hci hcl hk q1 q2 q3 q4 a3 hs.1 (japart C.2.2.2.2.1 hR.2.2.2.2.2.2.1 hcl) e1 e2 e3
  have hsum := jsum_set q1 e2 e1 e3 (jset_size _ _ _)
  have h := kk H' _ la hR' (jlocs (a := a.toNat) (i := (gD G).2 ci k) hL hb0 e2 hsum) hs.2.2 hl ha
  rw [e2, hsum] at h
  exact h
/-- putfield of a final field in a constructor -/
theorem jr_putfF (C : jC G X cc own nL ret d "<init>") {a v : Int} {index : Nat} {ref : String} (ci k : Nat) {rr : vw_C} (hcl : jCl[ci]? = some rr) (hk : k < rr.2.2) (hw : Cond.fieldLink own index ref (rr.2.1 k).2.1 (rr.2.1 k).2.2.1 ∈ lw_all) (hsame : (rr.2.1 k).1 = ref) (hfin : (rr.2.1 k).2.2.2 = true) (hdecl : (rr.2.1 k).1 = own) (hd : decode cc pc = .ok (.putfield index, 3))
    (h0 : 0 ≤ a) (hK : jK σ a = ci) (hci : ci < 1000) (hfit : jfit (jTy ci k) v) {t : Nat} (ht : jtag (jTy ci k) = t) (kk : jWP G X nL (pc + 3) ls st (jput σ a k v) σ' r) : jWP G X nL pc ls ((t, v) :: (2, a) :: st) σ σ' r := by
  obtain ⟨p, l, e, R, s, m, args, below, meth, c⟩ := X
  intro H locs la hR hL hs hl ha
  rw [jall_cons, jall_cons] at hs
  subst ht
  have hb0 := (hR.2.2.1 a.toNat).1 (by rw [jcast h0, hK]; omega) (by rw [jcast h0, hK]; omega)
  obtain ⟨r', a1, ⟨cell, q1, q2, q3, q4⟩, a3⟩ := ((hR.2.2.1 a.toNat).n (by rw [jcast h0, hK]; omega)).1 (by rw [jcast h0, hK]; omega) (by rw [jcast h0, hK]; omega)
  simp only [jcast h0, hK, Int.toNat_natCast] at a1 a3 q2 q4
  cases a1.symm.trans hcl
  obtain ⟨c1, c2, c3⟩ := jcl_all ci rr hcl
  obtain ⟨hS, hfc, kC, hkC, hkind⟩ := hR.2.2.2.2.2.2.1.1 ci _ hcl
  obtain ⟨cf, kf, fi, f, hi, hsl⟩ := hS k hk
  have hlay := C.2.2.2.2.1 _ (c1 _ (u_in_lay hk))
  unfold u_lay at hlay
  rw [if_pos hfin] at hlay
  have hst := (u_facts hfc hkC (u_lays C.2.2.2.2.1 c1 hk) hi).1
  rw [List.map_cons, List.map_cons, jv_r h0]
  have hcf : m.cls = cf := by
    obtain ⟨_, _, c', _, _, _, -, -, hf', -, -, -, hown2, -⟩ := Cond.laysFinal_spec hlay
    have e1 : c' = cf := by have := hi.symm.trans hf'; simp at this; exact this.1.symm
    rw [hdecl] at hown2
    rw [← e1]; exact Option.some.inj (C.2.2.2.1.symm.trans hown2)
  have h6 := u_fits hfc hkC hkind (Or.inr hlay) hi (c2 k hk) hfit.1 hfit.2
  refine W.putFinK C.1 C.2.1 C.2.2.2.1 (C.2.2.2.2.1 _ hw) (by rw [← hsame]; exact hi) hst hcf C.2.2.2.2.2.2.2.2.2.2.2 (by rw [q2]; exact h6) q1 q3 (by rw [hsl]; exact k2_hasslot (q4 k hk)) rfl rfl hd fun H' e1 e2 e3 => ?_
  rw [hsl] at e1 ⊢
  have hR' := jR_putf hR h0 hK hci hcl hk q1 q2 q3 q4 a3 hs.1 (japart C.2.2.2.2.1 hR.2.2.2.2.2.2.1 hcl) e1 e2 e3
  have hsum := jsum_set q1 e2 e1 e3 (jset_size _ _ _)
  have h := kk H' _ la hR' (jlocs (a := a.toNat) (i := (gD G).2 ci k) hL hb0 e2 hsum) hs.2.2 hl ha
  rw [e2, hsum] at h
  exact h
end jHeap
