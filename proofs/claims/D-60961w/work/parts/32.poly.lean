/-! fields of objects of one of several kinds (inherited fields; text that may be an old cell) -/
noncomputable section
def jrp (σ : jS) : List (Int × Int) → Int → Option Int
  | [], _ => none
  | (c, k) :: r, a => if 0 ≤ a ∧ jK σ a = c then some (jf σ c a k) else jrp σ r a
def jwp (σ : jS) : List (Int × Int) → Int → Int → Option jS
  | [], _, _ => none
  | (c, k) :: r, a, v => if 0 ≤ a ∧ jK σ a = c then some (jp σ c a k v) else jwp σ r a v
theorem jrp_b {α : Type} {σ : jS} {a : Int} {f : Int → Option α} {q : α} : ∀ {L : List (Int × Int)}, (jrp σ L a).bind f = some q → ∃ e ∈ L, 0 ≤ a ∧ jK σ a = e.1 ∧ f (jF σ a e.2) = some q
  | [], h => by cases h
  | (c, k) :: r, h => by
    unfold jrp at h; split at h
    · rename_i g; rw [jf_F g.2] at h; exact ⟨(c, k), List.mem_cons_self, g.1, g.2, h⟩
    · obtain ⟨e, he, h'⟩ := jrp_b h; exact ⟨e, List.mem_cons_of_mem _ he, h'⟩
theorem jwp_b {α : Type} {σ : jS} {a v : Int} {f : jS → Option α} {q : α} : ∀ {L : List (Int × Int)}, (jwp σ L a v).bind f = some q → ∃ e ∈ L, 0 ≤ a ∧ jK σ a = e.1 ∧ f (jput σ a e.2 v) = some q
  | [], h => by cases h
  | (c, k) :: r, h => by
    unfold jwp at h; split at h
    · rename_i g; rw [jp_put g.2] at h; exact ⟨(c, k), List.mem_cons_self, g.1, g.2, h⟩
    · obtain ⟨e, he, h'⟩ := jwp_b h; exact ⟨e, List.mem_cons_of_mem _ he, h'⟩
/-- a small number for a field of type byte -/
def jbb (v : Int) : Option Int := if -128 ≤ v ∧ v ≤ 127 then some v else none
theorem jfit_byte {v : Int} (h : -128 ≤ v ∧ v ≤ 127) : jfit .byte v := by
  have : ∀ n : Nat, n < 256 → jfit .byte ((n : Int) - 128) := by
    have : ∀ n : Fin 256, jfit .byte ((n.1 : Int) - 128) := by unfold jfit; decide +kernel
    exact fun n hn => this ⟨n, hn⟩
  have := this (v + 128).toNat (by omega)
  rwa [show (((v + 128).toNat : Nat) : Int) - 128 = v by omega] at this
section jPoly
variable {G : jG} {X : jX} {cc : ByteArray} {own nm : String} {nL d pc : Nat} {ret : Option FieldType} {ls : List (Nat × jT)} {st : List jT} {σ σ' : jS} {r : jT}
theorem jcellE {s : State} {H : Heap} {a : Int} {ci : Nat} (hR : jRel G s σ H) (h0 : 0 ≤ a) (hK : jK σ a = ci ∨ jK σ a = 3000 + (ci : Int)) (hci : ci < 1000) : jcell0 G ci (jN σ a) (jF σ a) H a.toNat := by
  have hc := hR.2.2.1 a.toNat
  rw [jcast h0] at hc
  rcases hK with hK | hK
  · rw [hK] at hc; exact hc.n (by omega)
  · rw [hK] at hc
    have := hc.r (by omega)
    rwa [show (3000 + (ci : Int) - 3000) = ci by omega] at this
theorem jr_getfE (C : jC G X cc own nL ret d nm) {a : Int} {index : Nat} {ref : String} (ci k : Nat) {rr : vw_C} (hcl : jCl[ci]? = some rr) (hk : k < rr.2.2) (hw : Cond.fieldLink own index ref (rr.2.1 k).2.1 (rr.2.1 k).2.2.1 ∈ lw_all) (hsame : (rr.2.1 k).1 = ref) (hd : decode cc pc = .ok (.getfield index, 3))
    (h0 : 0 ≤ a) (hK : jK σ a = ci ∨ jK σ a = 3000 + (ci : Int)) (hci : ci < 1000) {t : Nat} (ht : jtag (jTy ci k) = t) (kk : jWP G X nL (pc + 3) ls ((t, jF σ a k) :: st) σ σ' r) : jWP G X nL pc ls ((2, a) :: st) σ σ' r := by
  obtain ⟨p, l, e, R, s, m, args, below, meth, c⟩ := X
  intro H locs la hR hL hs hl ha
  rw [jall_cons] at hs
  subst ht
  obtain ⟨r', a1, ⟨cell, q1, q2, q3, q4⟩, a3⟩ := (jcellE hR h0 hK hci).1 (by omega) (by omega)
  simp only [Int.toNat_natCast] at a1 a3 q2 q4
  cases a1.symm.trans hcl
  obtain ⟨c1, c2, c3⟩ := jcl_all ci rr hcl
  obtain ⟨hS, hfc, kC, hkC, hkind⟩ := hR.2.2.2.2.2.2.1.1 ci _ hcl
  obtain ⟨cf, kf, fi, f, hi, hsl⟩ := hS k hk
  rw [List.map_cons, jv_r h0]
  refine W.getf C.1 C.2.1 C.2.2.2.1 (C.2.2.2.2.1 _ hw) (by rw [← hsame]; exact hi) (u_facts hfc hkC (u_lays C.2.2.2.2.1 c1 hk) hi).1 q1 (by rw [q3]; exact fun h => by cases h) (v := jv (jtag (jTy ci k), jF σ a k)) ?_ rfl rfl hd
    (kk H locs la hR hL (jall_cons.mpr ⟨a3 k hk, hs.2⟩) hl ha)
  rw [hsl, q4 k hk]
end jPoly
def jsGA (L : List (Int × Int)) (t : Nat) : jStp := fun _ _ kn _ _ st σ => match st with
  | (ta, a) :: s => if jrt ta then (jrp σ L a).bind fun v => kn ((t, v) :: s) σ else none
  | _ => none
/-- writes, with a check of the value ahead of it -/
def jsPA (f : Int → Option Int) (L : List (Int × Int)) (t : Nat) : jStp := fun _ _ kn _ _ st σ => match st with
  | (tv, v) :: (ta, a) :: s => if jtc tv t && jrt ta then (f v).bind fun w => (jwp σ L a w).bind fun σ1 => kn s σ1 else none
  | _ => none
def jsPB (L : List (Int × Int)) (t : Nat) : jStp := fun _ _ kn _ _ st σ => match st with
  | (tv, v) :: (ta, a) :: s => if jtc tv t && jrt ta then (jwp σ L a v).bind fun σ1 => kn s σ1 else none
  | _ => none
/-- an entry of a list of kinds and places -/
def jflA (own : String) (i t : Nat) (q : Int × Int) : Prop := ∃ ci k : Nat, q.2 = (k : Int) ∧ (((q.1 = (ci : Int) ∨ q.1 = 3000 + (ci : Int)) ∧ jfl own i ci k t) ∨ (q.1 = (ci : Int) ∧ jflN own i ci k t))
def jfwA (own : String) (i t : Nat) (nm : String) (ty : Bool) (q : Int × Int) : Prop := ∃ ci k : Nat, q.1 = (ci : Int) ∧ q.2 = (k : Int) ∧ (ty = true → jSs ci k = false) ∧ (jfw own i ci k t ∨ jfwN own i ci k t ∨ (jff own i ci k t ∧ nm = "<init>"))
variable {G : jG} {l : Launch} {own nm : String} {d i : Nat} {wr ty : Bool} {Hs : jHs} {L : List (Int × Int)} {t : Nat}
theorem jsGA_st {R : Type} {mk : jS → jT → Option R} {kn : List jT → jS → Option R} {kj : Nat → List jT → jS → Option R} {pc : Nat} {st : List jT} {σ : jS} {x : R} {P : Prop} (ht : t < 16) (hs : ∀ v ∈ st, jtk ty σ v) (h : jsGA L t R mk kn kj pc st σ = some x)
    (hP : ∀ ta a s e, st = (ta, a) :: s → jrt ta = true → e ∈ L → 0 ≤ a → jK σ a = e.1 → (∀ v ∈ (t, jF σ a e.2) :: s, jtk ty σ v) → kn ((t, jF σ a e.2) :: s) σ = some x → P) : P := by
  unfold jsGA at h
  split at h
  · rename_i ta a s
    split at h
    · rename_i g
      obtain ⟨e, he, h0, hK, hh⟩ := jrp_b h
      exact hP ta a s e rfl g he h0 hK (jst_k ht (jst_c hs).2) hh
    · cases h
  · cases h
theorem jsGA_ok (hf : ∀ q ∈ L, jflA own i t q) (ht : t < 16) : jKOk G l own d nm wr ty Hs (16 * i, jsGA L t) := by
  refine ⟨?_, ?_⟩
  · intro I n hI X cc nL ret pc lr st σ σ' r R mk kn kj x C hH hXl hd hs h hkn hmk hkj
    obtain ⟨rfl, rfl⟩ := jk_getfield hI
    refine jsGA_st (mk := mk) (kn := kn) (kj := kj) (pc := pc) ht hs h fun ta a s e est hr he h0 hK hk hh => ?_
    subst est
    have k1 := hkn _ _ (fun _ => rfl) (fun _ => jEx.rfl) hk hh
    rw [jgs_c, jgm_lt ht] at k1
    rw [jgs_c, jgm_rt hr]
    obtain ⟨ci, k, e2, ⟨e1, hf'⟩ | ⟨e1, hf'⟩⟩ := hf e he
    · obtain ⟨rr, ref, f1, f2, f3, f4, f5, f6⟩ := hf'
      rw [e2] at k1
      exact jr_getfE C ci k f1 f2 f3 f4 hd h0 (by rw [hK]; exact e1) f5 f6 k1
    · obtain ⟨rr, ref, host, f1, f2, f3, f4, f5, f6⟩ := hf'
      rw [e2] at k1
      exact jr_getfN C ci k f1 f2 f3 f4 hd h0 (by rw [hK]; exact e1) f5 f6 k1
  · intro hty R mk kn kj pc st σ x P hs h hkn hmk hkj
    refine jsGA_st (mk := mk) (kn := kn) (kj := kj) (pc := pc) ht hs h fun ta a s e est hr he h0 hK hk hh => ?_
    exact hkn _ _ jEx.rfl (fun _ => rfl) hk hh
theorem jsPA_st {f : Int → Option Int} {R : Type} {mk : jS → jT → Option R} {kn : List jT → jS → Option R} {kj : Nat → List jT → jS → Option R} {pc : Nat} {st : List jT} {σ : jS} {x : R} {P : Prop} (ht : t < 16) (hff : ∀ v w, f v = some w → w = v) (h : jsPA f L t R mk kn kj pc st σ = some x)
    (hP : ∀ tv v ta a s e, st = (tv, v) :: (ta, a) :: s → jgm (tv, v) = (t, v) → jrt ta = true → f v = some v → e ∈ L → 0 ≤ a → jK σ a = e.1 → kn s (jput σ a e.2 v) = some x → P) : P := by
  unfold jsPA at h
  split at h
  · rename_i tv v ta a s
    split at h
    · rename_i g
      have g := Bool.and_eq_true_iff.mp g
      obtain ⟨w, hw, h1⟩ := jb_b h
      have := hff v w hw; subst this
      obtain ⟨e, he, h0, hK, hh⟩ := jwp_b h1
      exact hP tv w ta a s e rfl (by rw [(jtc_b (z := w) g.1).1]; exact jgm_lt ht) g.2 hw he h0 hK hh
    · cases h
  · cases h
theorem jsPA_ok {f : Int → Option Int} (hff : ∀ v w, f v = some w → w = v) (hfit : ∀ q ∈ L, ∀ v, f v = some v → jfit (jTy q.1.toNat q.2.toNat) v) (hf : ∀ q ∈ L, jfwA own i t nm ty q) (ht : t < 16) : jKOk G l own d nm true ty Hs (16 * i + 1, jsPA f L t) := by
  refine ⟨?_, ?_⟩
  · intro I n hI X cc nL ret pc lr st σ σ' r R mk kn kj x C hH hXl hd hs h hkn hmk hkj
    obtain ⟨rfl, rfl⟩ := jk_putfield hI
    refine jsPA_st (mk := mk) (kn := kn) (kj := kj) (pc := pc) ht hff h fun tv v ta a s e est hg hr hfv he h0 hK hh => ?_
    obtain ⟨ci, k, e1, e2, e3, hf'⟩ := hf e he
    have hx : ty = true → jEx σ (jput σ a e.2 v) := fun hty => jEx_put (by rw [hK, e1, e2]; exact e3 hty)
    subst est
    have k1 := hkn _ _ (fun e => nomatch e) hx (jst_e (jst_c (jst_c hs).2).2 hx) hh
    rw [jgs_c, jgs_c, hg, jgm_rt hr]
    have hft := hfit e he v hfv
    rw [e1, e2] at hft
    simp only [Int.toNat_natCast] at hft
    rw [e2] at k1
    rw [e1] at hK
    rcases hf' with hf' | hf' | ⟨hf', rfl⟩
    · exact js_put C hf' hd h0 hK hft k1
    · obtain ⟨rr, ref, host, f1, f2, f3, f4, f5, f6, f7⟩ := hf'
      exact jr_putfN C ci k f1 f2 f3 f4 f7 hd h0 hK f5 hft f6 k1
    · exact js_putF C hf' hd h0 hK hft k1
  · intro hty R mk kn kj pc st σ x P hs h hkn hmk hkj
    refine jsPA_st (mk := mk) (kn := kn) (kj := kj) (pc := pc) ht hff h fun tv v ta a s e est hg hr hfv he h0 hK hh => ?_
    obtain ⟨ci, k, e1, e2, e3, hf'⟩ := hf e he
    have hx : jEx σ (jput σ a e.2 v) := jEx_put (by rw [hK, e1, e2]; exact e3 hty)
    subst est
    exact hkn _ _ hx (fun e => nomatch e) (jst_e (jst_c (jst_c hs).2).2 fun _ => hx) hh
theorem jsPB_A : jsPB L t = jsPA some L t := rfl
theorem jsPB_ok (hfit : ∀ q ∈ L, ∀ v, jfit (jTy q.1.toNat q.2.toNat) v) (hf : ∀ q ∈ L, jfwA own i t nm ty q) (ht : t < 16) : jKOk G l own d nm true ty Hs (16 * i + 1, jsPB L t) := by
  rw [jsPB_A]
  exact jsPA_ok (fun v w h => (Option.some.inj h).symm) (fun q hq v _ => hfit q hq v) hf ht
theorem jzb_s : ∀ v w, jzb v = some w → w = v := by intro v w h; unfold jzb at h; split at h <;> cases h; rfl
theorem jbb_s : ∀ v w, jbb v = some w → w = v := by intro v w h; unfold jbb at h; split at h <;> cases h; rfl
theorem jzb_fit {t : FieldType} (ht : t = .boolean) : ∀ v, jzb v = some v → jfit t v := by
  subst ht; intro v h; unfold jzb at h; split at h
  · rename_i g; exact jfit_bool g
  · cases h
theorem jbb_fit {t : FieldType} (ht : t = .byte) : ∀ v, jbb v = some v → jfit t v := by
  subst ht; intro v h; unfold jbb at h; split at h
  · rename_i g; exact jfit_byte g
  · cases h
end
