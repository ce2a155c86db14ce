/-! calls by a law of their own: dispatch by the receiver's kind, super's methods -/
noncomputable section
/-- a call of an instance method with n arguments does F -/
def jCall (G : jG) (l : Launch) (own : String) (d : Nat) (nm : String) (I : Instr) (n : Nat) (F : List jT → jS → jS → jT → Prop) : Prop := ∀ (X : jX) (cc : ByteArray) (nL : Nat) (ret : Option FieldType) (pc : Nat) (ls : List (Nat × jT)) (st stk As : List jT) (a : Int) (σ σ1 σ' : jS) (r v : jT), jC G X cc own nL ret d nm → X.2.1 = l → jFl l → F ((2, a) :: As) σ σ1 v → As.length = n → decode cc pc = .ok (I, 3) → As.reverse ++ (2, a) :: st = stk → jwords st ≤ 33 → (¬ v.1 = 9 → jWP G X nL (pc + 3) ls (jpush v st) σ1 σ' r) → (v.1 = 9 → 0 ≤ v.2 → jXW G X nL pc ls σ1 σ' r v.2) → jWP G X nL pc ls stk σ σ' r
/-- the same of a method without a receiver -/
def jCallS (G : jG) (l : Launch) (own : String) (d : Nat) (nm : String) (I : Instr) (n : Nat) (F : List jT → jS → jS → jT → Prop) : Prop := ∀ (X : jX) (cc : ByteArray) (nL : Nat) (ret : Option FieldType) (pc : Nat) (ls : List (Nat × jT)) (st stk As : List jT) (σ σ1 σ' : jS) (r v : jT), jC G X cc own nL ret d nm → X.2.1 = l → jFl l → F As σ σ1 v → As.length = n → decode cc pc = .ok (I, 3) → As.reverse ++ st = stk → jwords st ≤ 33 → (¬ v.1 = 9 → jWP G X nL (pc + 3) ls (jpush v st) σ1 σ' r) → (v.1 = 9 → 0 ≤ v.2 → jXW G X nL pc ls σ1 σ' r v.2) → jWP G X nL pc ls stk σ σ' r
variable {G : jG} {l : Launch} {own nm : String} {d i : Nat} {wr ty ty' : Bool} {Hs : jHs} {t rc : Nat} {ra : List Nat} {tt : Nat}
theorem jgW {key : Nat} {Ix : Instr} (hI : ∀ I m, jkey I = some (key, m) → I = Ix ∧ m = 3) {Cf : List Int → jS → Option (jS × Int)} (hC : jCall G l own d nm Ix ra.length (jFW ty' ((ra ++ [tt]).reverse) t Cf)) (hX : jXt ty' ((ra ++ [tt]).reverse) Cf) (hrt : jrt tt = true) (hty' : ty' = true ∨ ∀ t ∈ ra ++ [tt], t < 16) (htt : ty = true → ty' = true) (ht9 : ¬ t = 9) (ht : t < 16) (hrc : rc = 0 ∨ (16 ≤ rc ∧ t = 2 ∧ ty = true)) : jKOk G l own d nm true ty Hs (key, jsCW (ra ++ [tt]) t rc Cf) := by
  refine ⟨?_, jCW_2 hty' htt hX ht hrc⟩
  intro I n hI' X cc nL ret pc lr st σ σ' r R mk kn kj x C hH hXl hd hs h hkn hmk hkj
  obtain ⟨rfl, rfl⟩ := hI I n hI'
  refine jsCW_st (mk := mk) (kn := kn) (kj := kj) (pc := pc) hty' htt hX ht hrc hs h fun ws s st1 σ1 z hlen hst hwd hk hq he hp hk1 h => ?_
  obtain ⟨a, ws', rfl, hl', e1, e2⟩ := jrev_raw (s := jgs s) hrt hlen
  have k1 := hkn _ _ (fun e => nomatch e) he hk1 h
  rw [hp] at k1
  rw [hst, e2]
  refine hC X cc nL ret pc lr (jgs s) _ (jgs (jzs ra.reverse ws')) a σ σ1 σ' r (t, z) C hXl (hXl ▸ hH.1) (⟨a :: ws', z, by simpa using hlen, by rw [e1], hk, hq, rfl⟩ : jFW ty' _ t Cf _ σ σ1 (t, z)) ?_ hd rfl (by rw [jwords_g]; exact hwd) (fun _ => k1) (fun g _ => absurd g ht9)
  unfold jgs; rw [List.length_map, jzs_len (by simp [hl'])]; simp
theorem jgR {key : Nat} {Ix : Instr} (hI : ∀ I m, jkey I = some (key, m) → I = Ix ∧ m = 3) {Cf : List Int → jS → Option Int} (hC : jCall G l own d nm Ix ra.length (jFR ty' ((ra ++ [tt]).reverse) t Cf)) (hrt : jrt tt = true) (hty' : ty' = true ∨ ∀ t ∈ ra ++ [tt], t < 16) (ht9 : ¬ t = 9) (ht : t < 16) (hrc : rc = 0 ∨ (16 ≤ rc ∧ t = 2 ∧ ty = true)) : jKOk G l own d nm wr ty Hs (key, jsCR (ra ++ [tt]) t rc Cf) := by
  refine ⟨?_, jCR_2 hty' ht hrc⟩
  intro I n hI' X cc nL ret pc lr st σ σ' r R mk kn kj x C hH hXl hd hs h hkn hmk hkj
  obtain ⟨rfl, rfl⟩ := hI I n hI'
  refine jsCR_st (mk := mk) (kn := kn) (kj := kj) (pc := pc) hty' ht hrc hs h fun ws s st1 z hlen hst hwd hk hq hp hk1 h => ?_
  obtain ⟨a, ws', rfl, hl', e1, e2⟩ := jrev_raw (s := jgs s) hrt hlen
  have k1 := hkn _ _ (fun _ => rfl) (fun _ => jEx.rfl) hk1 h
  rw [hp] at k1
  rw [hst, e2]
  refine hC X cc nL ret pc lr (jgs s) _ (jgs (jzs ra.reverse ws')) a σ σ σ' r (t, z) C hXl (hXl ▸ hH.1) (⟨a :: ws', z, by simpa using hlen, by rw [e1], hk, hq, rfl, rfl⟩ : jFR ty' _ t Cf _ σ σ (t, z)) ?_ hd rfl (by rw [jwords_g]; exact hwd) (fun _ => k1) (fun g _ => absurd g ht9)
  unfold jgs; rw [List.length_map, jzs_len (by simp [hl'])]; simp
theorem jgX {key : Nat} {Ix : Instr} (hI : ∀ I m, jkey I = some (key, m) → I = Ix ∧ m = 3) {Cf : List Int → jS → Option (jS × Bool × Int)} (hC : jCall G l own d nm Ix ra.length (jFX ty' ((ra ++ [tt]).reverse) t Cf)) (hX : jXt ty' ((ra ++ [tt]).reverse) Cf) (hrt : jrt tt = true) (hty' : ty' = true ∨ ∀ t ∈ ra ++ [tt], t < 16) (htt : ty = true → ty' = true) (ht9 : ¬ t = 9) (ht : t < 16) (hrc : rc = 0 ∨ (16 ≤ rc ∧ t = 2 ∧ ty = true)) : jKOk G l own d nm true ty Hs (key, jsCX Hs (ra ++ [tt]) t rc Cf) := by
  refine ⟨?_, jCX_2 hty' htt hX ht hrc⟩
  intro I n hI' X cc nL ret pc lr st σ σ' r R mk kn kj x C hH hXl hd hs h hkn hmk hkj
  obtain ⟨rfl, rfl⟩ := hI I n hI'
  refine jsCX_st (mk := mk) (kn := kn) (kj := kj) (pc := pc) hty' htt hX ht hrc hs h fun ws s σ1 b z hlen hst hwd hk hq he h1 h2 => ?_
  obtain ⟨a, ws', rfl, hl', e1, e2⟩ := jrev_raw (s := jgs s) hrt hlen
  rw [hst, e2]
  refine hC X cc nL ret pc lr (jgs s) _ (jgs (jzs ra.reverse ws')) a σ σ1 σ' r (jrx t b z) C hXl (hXl ▸ hH.1) (⟨a :: ws', b, z, by simpa using hlen, by rw [e1], hk, hq, rfl⟩ : jFX ty' _ t Cf _ σ σ1 (jrx t b z)) ?_ hd rfl (by rw [jwords_g]; exact hwd) (fun g => ?_) (fun g g0 => ?_)
  · unfold jgs; rw [List.length_map, jzs_len (by simp [hl'])]; simp
  · cases b with
    | false =>
      obtain ⟨st1, a1, a2, a3⟩ := h1 rfl
      have k1 := hkn _ _ (fun e => nomatch e) he a2 a3
      rw [a1] at k1; exact k1
    | true => exact absurd rfl g
  · cases b with
    | false => exact absurd g ht9
    | true => exact jx_at hH.2 g0 (h2 rfl) (fun σ1 v h => hmk σ1 v (fun e => nomatch e) h) (fun q h => hkj q [(2, z)] σ1 (fun e => nomatch e) he (jst_k (by show 2 < 16; decide) (fun _ h => nomatch h)) h)
/-- what is asked for invokevirtual of x on a receiver of class ci, which selects y -/
def jUa (own : String) (ix ci : Nat) (x y : MethodName) (bytes : ByteArray) (maxL : Nat) (rt : Option FieldType) (n : Nat) : Prop := ∃ (rr : vw_C) (owner : String), jCl[ci]? = some rr ∧ ci < 1000 ∧ maxL ≤ 20 ∧ Cond.methodLink own ix x ∈ lw_all ∧ Cond.instanceMethod y ∈ lw_all ∧ Cond.selects rr.1 x y ∈ lw_all ∧ Cond.initialized y.cls ∈ lw_all ∧ Cond.code y bytes maxL rt ∈ lw_all ∧ Cond.sameMethod x.cls owner x.name x.desc ∈ lw_all ∧ jdc_ ⟨owner, x.name, x.desc⟩ ∧ (owner ≠ "java/lang/invoke/MethodHandle" ∧ owner ≠ "java/lang/invoke/VarHandle") ∧ (parseMethodDescriptor x.desc).map (fun d => d.parameters.length) = some n
theorem jCallU {ix ci n maxL d' : Nat} {x y : MethodName} {bytes : ByteArray} {rt : Option FieldType} {F F' : List jT → jS → jS → jT → Prop} (hu : jUa own ix ci x y bytes maxL rt n) (hM : jM G l d' y (ws_ y bytes maxL rt) F') (hd' : d' + 1 ≤ d) (hF : ∀ a As σ σ1 v, F ((2, a) :: As) σ σ1 v → 0 ≤ a ∧ (jK σ a = ci ∨ jK σ a = 3000 + (ci : Int)) ∧ F' ((2, a) :: As) σ σ1 v) : jCall G l own d nm (.invokevirtual ix) n F := by
  intro X cc nL ret pc ls st stk As a σ σ1 σ' r v C hXl hfl hFv hn hd hstk hWt kk kx
  obtain ⟨rr, owner, h1, h2, h3, h4, h5, h6, h7, h8, h9, h10, h11, h12⟩ := hu
  obtain ⟨g0, g1, g2⟩ := hF a As σ σ1 v hFv
  subst hn
  exact jr_callU ci C hXl (fun hok => hM hfl _ σ σ1 v hok g2) hd' h3 h4 h5 h6 h7 h8 h9 h10 h11 h12 h1 h2 g0 g1 hd hstk hWt kk kx
/-- the union of two laws -/
theorem jCall.or {I : Instr} {n : Nat} {F F1 F2 : List jT → jS → jS → jT → Prop} (h1 : jCall G l own d nm I n F1) (h2 : jCall G l own d nm I n F2) (h : ∀ a As σ σ1 v, F ((2, a) :: As) σ σ1 v → F1 ((2, a) :: As) σ σ1 v ∨ F2 ((2, a) :: As) σ σ1 v) : jCall G l own d nm I n F := by
  intro X cc nL ret pc ls st stk As a σ σ1 σ' r v C hXl hfl hFv hn hd hstk hWt kk kx
  rcases h _ _ _ _ _ hFv with g | g
  · exact h1 X cc nL ret pc ls st stk As a σ σ1 σ' r v C hXl hfl g hn hd hstk hWt kk kx
  · exact h2 X cc nL ret pc ls st stk As a σ σ1 σ' r v C hXl hfl g hn hd hstk hWt kk kx
theorem jCall.none {I : Instr} {n : Nat} {F : List jT → jS → jS → jT → Prop} (h : ∀ a As σ σ1 v, ¬ F ((2, a) :: As) σ σ1 v) : jCall G l own d nm I n F := by
  intro X cc nL ret pc ls st stk As a σ σ1 σ' r v C hXl hfl hFv
  exact absurd hFv (h _ _ _ _ _)
/-- dispatch by the kind of the receiver -/
def jdW (alts : List (Int × (List Int → jS → Option (jS × Int)))) (vs : List Int) (σ : jS) : Option (jS × Int) := match alts, vs with
  | [], _ => none
  | (c, C) :: r, a :: as => if 0 ≤ a ∧ jK σ a = c then C (a :: as) σ else jdW r (a :: as) σ
  | _, [] => none
def jdR (alts : List (Int × (List Int → jS → Option Int))) (vs : List Int) (σ : jS) : Option Int := match alts, vs with
  | [], _ => none
  | (c, C) :: r, a :: as => if 0 ≤ a ∧ jK σ a = c then C (a :: as) σ else jdR r (a :: as) σ
  | _, [] => none
def jdX (alts : List (Int × (List Int → jS → Option (jS × Bool × Int)))) (vs : List Int) (σ : jS) : Option (jS × Bool × Int) := match alts, vs with
  | [], _ => none
  | (c, C) :: r, a :: as => if 0 ≤ a ∧ jK σ a = c then C (a :: as) σ else jdX r (a :: as) σ
  | _, [] => none
theorem jdW_x {tags : List Nat} : ∀ {alts : List (Int × (List Int → jS → Option (jS × Int)))}, (∀ q ∈ alts, jXt ty' tags q.2) → jXt ty' tags (jdW alts)
  | [], _ => by intro _ vs σ q _ _ h; unfold jdW at h; cases h
  | (c, C) :: r, hx => by
    intro hty vs σ q hl hk h
    cases vs with
    | nil => unfold jdW at h; cases h
    | cons a as =>
      unfold jdW at h
      split at h
      · exact (List.forall_mem_cons.mp hx).1 hty _ σ q hl hk h
      · exact jdW_x (List.forall_mem_cons.mp hx).2 hty _ σ q hl hk h
theorem jdX_x {tags : List Nat} : ∀ {alts : List (Int × (List Int → jS → Option (jS × Bool × Int)))}, (∀ q ∈ alts, jXt ty' tags q.2) → jXt ty' tags (jdX alts)
  | [], _ => by intro _ vs σ q _ _ h; unfold jdX at h; cases h
  | (c, C) :: r, hx => by
    intro hty vs σ q hl hk h
    cases vs with
    | nil => unfold jdX at h; cases h
    | cons a as =>
      unfold jdX at h
      split at h
      · exact (List.forall_mem_cons.mp hx).1 hty _ σ q hl hk h
      · exact jdX_x (List.forall_mem_cons.mp hx).2 hty _ σ q hl hk h
/-- a law for one kind of the receiver -/
def jKa (a0 : Int) (F : List jT → jS → jS → jT → Prop) (As : List jT) (σ σ1 : jS) (v : jT) : Prop := ∃ a As', As = (2, a) :: As' ∧ 0 ≤ a ∧ jK σ a = a0 ∧ F As σ σ1 v
theorem jhead {tags : List Nat} {ws : List Int} {a : Int} {As : List jT} (hr : jrt tt = true) (h : (2, a) :: As = jgs (jzs (tt :: tags) ws)) (hl : ws.length = (tt :: tags).length) : ∃ ws', ws = a :: ws' := by
  cases ws with
  | nil => cases hl
  | cons b ws' =>
    rw [show jzs (tt :: tags) (b :: ws') = (tt, b) :: jzs tags ws' from rfl, jgs_c, jgm_rt hr] at h
    cases h
    exact ⟨ws', rfl⟩
theorem jdR_c {I : Instr} {n : Nat} {tags : List Nat} (hr : jrt tt = true) : ∀ {alts : List (Int × (List Int → jS → Option Int))}, (∀ q ∈ alts, jCall G l own d nm I n (jKa q.1 (jFR ty' (tt :: tags) t q.2))) → jCall G l own d nm I n (jFR ty' (tt :: tags) t (jdR alts))
  | [], _ => jCall.none fun a As σ σ1 v h => by
    obtain ⟨vs, z, h1, h2, h3, h4, h5, h6⟩ := h
    unfold jdR at h4; cases h4
  | (c, C) :: r, hx => by
    refine jCall.or (List.forall_mem_cons.mp hx).1 (jdR_c hr (List.forall_mem_cons.mp hx).2) fun a As σ σ1 v h => ?_
    obtain ⟨vs, z, h1, h2, h3, h4, h5, h6⟩ := h
    obtain ⟨ws', rfl⟩ := jhead hr h2 h1
    unfold jdR at h4
    split at h4
    · rename_i g; exact .inl ⟨a, As, rfl, g.1, g.2, _, z, h1, h2, h3, h4, h5, h6⟩
    · exact .inr ⟨_, z, h1, h2, h3, h4, h5, h6⟩
theorem jdW_c {I : Instr} {n : Nat} {tags : List Nat} (hr : jrt tt = true) : ∀ {alts : List (Int × (List Int → jS → Option (jS × Int)))}, (∀ q ∈ alts, jCall G l own d nm I n (jKa q.1 (jFW ty' (tt :: tags) t q.2))) → jCall G l own d nm I n (jFW ty' (tt :: tags) t (jdW alts))
  | [], _ => jCall.none fun a As σ σ1 v h => by
    obtain ⟨vs, z, h1, h2, h3, h4, h5⟩ := h
    unfold jdW at h4; cases h4
  | (c, C) :: r, hx => by
    refine jCall.or (List.forall_mem_cons.mp hx).1 (jdW_c hr (List.forall_mem_cons.mp hx).2) fun a As σ σ1 v h => ?_
    obtain ⟨vs, z, h1, h2, h3, h4, h5⟩ := h
    obtain ⟨ws', rfl⟩ := jhead hr h2 h1
    unfold jdW at h4
    split at h4
    · rename_i g; exact .inl ⟨a, As, rfl, g.1, g.2, _, z, h1, h2, h3, h4, h5⟩
    · exact .inr ⟨_, z, h1, h2, h3, h4, h5⟩
theorem jdX_c {I : Instr} {n : Nat} {tags : List Nat} (hr : jrt tt = true) : ∀ {alts : List (Int × (List Int → jS → Option (jS × Bool × Int)))}, (∀ q ∈ alts, jCall G l own d nm I n (jKa q.1 (jFX ty' (tt :: tags) t q.2))) → jCall G l own d nm I n (jFX ty' (tt :: tags) t (jdX alts))
  | [], _ => jCall.none fun a As σ σ1 v h => by
    obtain ⟨vs, b, z, h1, h2, h3, h4, h5⟩ := h
    unfold jdX at h4; cases h4
  | (c, C) :: r, hx => by
    refine jCall.or (List.forall_mem_cons.mp hx).1 (jdX_c hr (List.forall_mem_cons.mp hx).2) fun a As σ σ1 v h => ?_
    obtain ⟨vs, b, z, h1, h2, h3, h4, h5⟩ := h
    obtain ⟨ws', rfl⟩ := jhead hr h2 h1
    unfold jdX at h4
    split at h4
    · rename_i g; exact .inl ⟨a, As, rfl, g.1, g.2, _, b, z, h1, h2, h3, h4, h5⟩
    · exact .inr ⟨_, b, z, h1, h2, h3, h4, h5⟩
/-- one kind: its own method with the same tags -/
theorem jCallK {ix ci n maxL d' : Nat} {c : Int} {x y : MethodName} {bytes : ByteArray} {rt : Option FieldType} {F : List jT → jS → jS → jT → Prop} (hu : jUa own ix ci x y bytes maxL rt n) (hM : jM G l d' y (ws_ y bytes maxL rt) F) (hd' : d' + 1 ≤ d) (hc : c = (ci : Int) ∨ c = 3000 + (ci : Int)) : jCall G l own d nm (.invokevirtual ix) n (jKa c F) :=
  jCallU hu hM hd' fun a As σ σ1 v h => by
    obtain ⟨a', As', e, g0, g1, g2⟩ := h
    cases e
    exact ⟨g0, hc.imp (fun e => g1.trans e) (fun e => g1.trans e), g2⟩
end
