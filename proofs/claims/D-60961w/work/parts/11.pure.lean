noncomputable section
/-! the operations, hidden: nothing unfolds them by itself -/
noncomputable def W32 : Int → Int := Classical.choose (⟨w32, rfl⟩ : ∃ f, f = w32)
theorem W32_eq : W32 = w32 := Classical.choose_spec (⟨w32, rfl⟩ : ∃ f, f = w32)
noncomputable def W64 : Int → Int := Classical.choose (⟨w64, rfl⟩ : ∃ f, f = w64)
theorem W64_eq : W64 = w64 := Classical.choose_spec (⟨w64, rfl⟩ : ∃ f, f = w64)
noncomputable def W8 : Int → Int := Classical.choose (⟨w8, rfl⟩ : ∃ f, f = w8)
theorem W8_eq : W8 = w8 := Classical.choose_spec (⟨w8, rfl⟩ : ∃ f, f = w8)
noncomputable def W16 : Int → Int := Classical.choose (⟨w16, rfl⟩ : ∃ f, f = w16)
theorem W16_eq : W16 = w16 := Classical.choose_spec (⟨w16, rfl⟩ : ∃ f, f = w16)
noncomputable def Wc : Int → Int := Classical.choose (⟨wc, rfl⟩ : ∃ f, f = wc)
theorem Wc_eq : Wc = wc := Classical.choose_spec (⟨wc, rfl⟩ : ∃ f, f = wc)
noncomputable def L2i : Int → Int := Classical.choose (⟨l2i, rfl⟩ : ∃ f, f = l2i)
theorem L2i_eq : L2i = l2i := Classical.choose_spec (⟨l2i, rfl⟩ : ∃ f, f = l2i)
noncomputable def Wz : Int → Int := Classical.choose (⟨wz, rfl⟩ : ∃ f, f = wz)
theorem Wz_eq : Wz = wz := Classical.choose_spec (⟨wz, rfl⟩ : ∃ f, f = wz)
noncomputable def I_and : Int → Int → Int := Classical.choose (⟨i_and, rfl⟩ : ∃ f, f = i_and)
theorem I_and_eq : I_and = i_and := Classical.choose_spec (⟨i_and, rfl⟩ : ∃ f, f = i_and)
noncomputable def I_or : Int → Int → Int := Classical.choose (⟨i_or, rfl⟩ : ∃ f, f = i_or)
theorem I_or_eq : I_or = i_or := Classical.choose_spec (⟨i_or, rfl⟩ : ∃ f, f = i_or)
noncomputable def I_xor : Int → Int → Int := Classical.choose (⟨i_xor, rfl⟩ : ∃ f, f = i_xor)
theorem I_xor_eq : I_xor = i_xor := Classical.choose_spec (⟨i_xor, rfl⟩ : ∃ f, f = i_xor)
noncomputable def I_shl : Int → Int → Int := Classical.choose (⟨i_shl, rfl⟩ : ∃ f, f = i_shl)
theorem I_shl_eq : I_shl = i_shl := Classical.choose_spec (⟨i_shl, rfl⟩ : ∃ f, f = i_shl)
noncomputable def I_shr : Int → Int → Int := Classical.choose (⟨i_shr, rfl⟩ : ∃ f, f = i_shr)
theorem I_shr_eq : I_shr = i_shr := Classical.choose_spec (⟨i_shr, rfl⟩ : ∃ f, f = i_shr)
noncomputable def I_ushr : Int → Int → Int := Classical.choose (⟨i_ushr, rfl⟩ : ∃ f, f = i_ushr)
theorem I_ushr_eq : I_ushr = i_ushr := Classical.choose_spec (⟨i_ushr, rfl⟩ : ∃ f, f = i_ushr)
noncomputable def I_div : Int → Int → Int := Classical.choose (⟨i_div, rfl⟩ : ∃ f, f = i_div)
theorem I_div_eq : I_div = i_div := Classical.choose_spec (⟨i_div, rfl⟩ : ∃ f, f = i_div)
noncomputable def I_rem : Int → Int → Int := Classical.choose (⟨i_rem, rfl⟩ : ∃ f, f = i_rem)
theorem I_rem_eq : I_rem = i_rem := Classical.choose_spec (⟨i_rem, rfl⟩ : ∃ f, f = i_rem)
noncomputable def L_and : Int → Int → Int := Classical.choose (⟨l_and, rfl⟩ : ∃ f, f = l_and)
theorem L_and_eq : L_and = l_and := Classical.choose_spec (⟨l_and, rfl⟩ : ∃ f, f = l_and)
noncomputable def L_or : Int → Int → Int := Classical.choose (⟨l_or, rfl⟩ : ∃ f, f = l_or)
theorem L_or_eq : L_or = l_or := Classical.choose_spec (⟨l_or, rfl⟩ : ∃ f, f = l_or)
noncomputable def L_xor : Int → Int → Int := Classical.choose (⟨l_xor, rfl⟩ : ∃ f, f = l_xor)
theorem L_xor_eq : L_xor = l_xor := Classical.choose_spec (⟨l_xor, rfl⟩ : ∃ f, f = l_xor)
noncomputable def L_shl : Int → Int → Int := Classical.choose (⟨l_shl, rfl⟩ : ∃ f, f = l_shl)
theorem L_shl_eq : L_shl = l_shl := Classical.choose_spec (⟨l_shl, rfl⟩ : ∃ f, f = l_shl)
noncomputable def L_shr : Int → Int → Int := Classical.choose (⟨l_shr, rfl⟩ : ∃ f, f = l_shr)
theorem L_shr_eq : L_shr = l_shr := Classical.choose_spec (⟨l_shr, rfl⟩ : ∃ f, f = l_shr)
noncomputable def L_ushr : Int → Int → Int := Classical.choose (⟨l_ushr, rfl⟩ : ∃ f, f = l_ushr)
theorem L_ushr_eq : L_ushr = l_ushr := Classical.choose_spec (⟨l_ushr, rfl⟩ : ∃ f, f = l_ushr)
noncomputable def L_div : Int → Int → Int := Classical.choose (⟨l_div, rfl⟩ : ∃ f, f = l_div)
theorem L_div_eq : L_div = l_div := Classical.choose_spec (⟨l_div, rfl⟩ : ∃ f, f = l_div)
noncomputable def L_rem : Int → Int → Int := Classical.choose (⟨l_rem, rfl⟩ : ∃ f, f = l_rem)
theorem L_rem_eq : L_rem = l_rem := Classical.choose_spec (⟨l_rem, rfl⟩ : ∃ f, f = l_rem)
noncomputable def L_cmp : Int → Int → Int := Classical.choose (⟨l_cmp, rfl⟩ : ∃ f, f = l_cmp)
theorem L_cmp_eq : L_cmp = l_cmp := Classical.choose_spec (⟨l_cmp, rfl⟩ : ∃ f, f = l_cmp)
/-! the executor: rows of decoded code run over the abstract heap; its soundness, once -/
def jlet {α : Type} (v : Int) (f : Int → α) : α := f v
def jlk {α : Type _} : List (Nat × α) → Nat → Option α
  | [], _ => none
  | q :: s, i => if Nat.beq q.1 i then some q.2 else jlk s i
theorem jlk_mem {α : Type _} : ∀ {s : List (Nat × α)} {i : Nat} {v : α}, jlk s i = some v → (i, v) ∈ s
  | [], _, _, h => by cases h
  | q :: s, i, v, h => by
    unfold jlk at h; split at h
    · rename_i e; cases h; have := Nat.eq_of_beq_eq_true e; subst this; exact List.mem_cons_self
    · exact List.mem_cons_of_mem _ (jlk_mem h)
def j2 (ta tb tr : Nat) (f : Int → Int → Int) (st : List jT) : Option (List jT) := match st with
  | (a, y) :: (b, x) :: s => if Nat.beq a ta && Nat.beq b tb then some ((tr, f x y) :: s) else none
  | _ => none
def j1 (ta tr : Nat) (f : Int → Int) (st : List jT) : Option (List jT) := match st with
  | (a, x) :: s => if Nat.beq a ta then some ((tr, f x) :: s) else none
  | _ => none
def j0 (lo hi n : Int) (st : List jT) : Option (List jT) := if lo ≤ n ∧ n ≤ hi then some ((0, n) :: st) else none
theorem j2_b {ta tb tr : Nat} {f : Int → Int → Int} {st st' : List jT} (h : j2 ta tb tr f st = some st') : ∃ x y s, st = (ta, y) :: (tb, x) :: s ∧ st' = (tr, f x y) :: s := by
  unfold j2 at h; split at h
  · split at h
    · rename_i g
      rw [Bool.and_eq_true] at g
      have := Nat.eq_of_beq_eq_true g.1; have := Nat.eq_of_beq_eq_true g.2; subst_vars
      cases h; exact ⟨_, _, _, rfl, rfl⟩
    · cases h
  · cases h
theorem j1_b {ta tr : Nat} {f : Int → Int} {st st' : List jT} (h : j1 ta tr f st = some st') : ∃ x s, st = (ta, x) :: s ∧ st' = (tr, f x) :: s := by
  unfold j1 at h; split at h
  · split at h
    · rename_i g
      have := Nat.eq_of_beq_eq_true g; subst_vars
      cases h; exact ⟨_, _, rfl, rfl⟩
    · cases h
  · cases h
theorem j0_b {lo hi n : Int} {st st' : List jT} (h : j0 lo hi n st = some st') : lo ≤ n ∧ n ≤ hi ∧ st' = (0, n) :: st := by
  unfold j0 at h; split at h
  · rename_i g; cases h; exact ⟨g.1, g.2, rfl⟩
  · cases h
def jn1 (v : jT) : Bool := !(Nat.beq v.1 1)
theorem jn1_b {v : jT} (h : jn1 v = true) : ¬ v.1 = 1 := by
  intro e; unfold jn1 at h; rw [e] at h; cases h
/-- the steps on the stack alone -/
def jpu (I : Instr) : Option (Nat × (List jT → Option (List jT))) := match I with
  | .iadd => some (1, j2 0 0 0 fun x y => W32 (x + y))
  | .isub => some (1, j2 0 0 0 fun x y => W32 (x - y))
  | .imul => some (1, j2 0 0 0 fun x y => W32 (x * y))
  | .iand => some (1, j2 0 0 0 fun x y => I_and x y)
  | .ior => some (1, j2 0 0 0 fun x y => I_or x y)
  | .ixor => some (1, j2 0 0 0 fun x y => I_xor x y)
  | .ishl => some (1, j2 0 0 0 fun x y => I_shl x y)
  | .ishr => some (1, j2 0 0 0 fun x y => I_shr x y)
  | .iushr => some (1, j2 0 0 0 fun x y => I_ushr x y)
  | .ladd => some (1, j2 1 1 1 fun x y => W64 (x + y))
  | .lsub => some (1, j2 1 1 1 fun x y => W64 (x - y))
  | .lmul => some (1, j2 1 1 1 fun x y => W64 (x * y))
  | .land => some (1, j2 1 1 1 fun x y => L_and x y)
  | .lor => some (1, j2 1 1 1 fun x y => L_or x y)
  | .lxor => some (1, j2 1 1 1 fun x y => L_xor x y)
  | .lshl => some (1, j2 0 1 1 fun x y => L_shl x y)
  | .lshr => some (1, j2 0 1 1 fun x y => L_shr x y)
  | .lushr => some (1, j2 0 1 1 fun x y => L_ushr x y)
  | .lcmp => some (1, j2 1 1 0 fun x y => L_cmp x y)
  | .ineg => some (1, j1 0 0 fun x => W32 (-x))
  | .lneg => some (1, j1 1 1 fun x => W64 (-x))
  | .i2b => some (1, j1 0 0 fun x => W8 x)
  | .i2s => some (1, j1 0 0 fun x => W16 x)
  | .i2c => some (1, j1 0 0 fun x => Wc x)
  | .l2i => some (1, j1 1 0 fun x => L2i x)
  | .i2l => some (1, j1 0 1 fun x => x)
  | .iconst n => some (1, j0 (-1) 5 n)
  | .bipush n => some (2, j0 (-128) 127 n)
  | .sipush n => some (3, j0 (-32768) 32767 n)
  | .lconst n => some (1, fun st => if Nat.beq n.val 0 then some ((1, 0) :: st) else if Nat.beq n.val 1 then some ((1, 1) :: st) else none)
  | .aconst_null => some (1, fun st => some ((2, -1) :: st))
  | .pop => some (1, fun st => match st with
    | v :: s => if jn1 v then some s else none
    | _ => none)
  | .dup => some (1, fun st => match st with
    | v :: s => if jn1 v then some (v :: v :: s) else none
    | _ => none)
  | .dup_x1 => some (1, fun st => match st with
    | v :: w :: s => if jn1 v && jn1 w then some (v :: w :: v :: s) else none
    | _ => none)
  | .dup2 => some (1, fun st => match st with
    | v :: w :: s => if jn1 v && jn1 w then some (v :: w :: v :: w :: s) else none
    | _ => none)
  | _ => none
/-- a tag of a reference: raw, or of a type -/
def jrt (a : Nat) : Bool := Nat.beq a 2 || Nat.ble 16 a
/-- what is on the machine: types are forgotten -/
def jgm (v : jT) : jT := if 16 ≤ v.1 then (2, v.2) else v
def jgs (st : List jT) : List jT := st.map jgm
def jgl (ls : List (Nat × jT)) : List (Nat × jT) := ls.map fun q => (q.1, jgm q.2)
/-- the steps on the locals -/
def jLa (i : Nat) (ls : List (Nat × jT)) (st : List jT) : Option (List (Nat × jT) × List jT) := match jlk ls i with
  | some (a, z) => if jrt a then some (ls, (a, z) :: st) else none
  | none => none
def jSa (nL i : Nat) (ls : List (Nat × jT)) (st : List jT) : Option (List (Nat × jT) × List jT) := match st with
  | (a, z) :: s => if jrt a && Nat.blt i nL then some (jst1 i (a, z) ls, s) else none
  | _ => none
def jL (t i : Nat) (ls : List (Nat × jT)) (st : List jT) : Option (List (Nat × jT) × List jT) := match jlk ls i with
  | some (a, z) => if Nat.beq a t then some (ls, (t, z) :: st) else none
  | none => none
def jS1 (nL t i : Nat) (ls : List (Nat × jT)) (st : List jT) : Option (List (Nat × jT) × List jT) := match st with
  | (a, z) :: s => if Nat.beq a t && Nat.blt i nL then some (jst1 i (t, z) ls, s) else none
  | _ => none
def jS2 (nL i : Nat) (ls : List (Nat × jT)) (st : List jT) : Option (List (Nat × jT) × List jT) := match st with
  | (a, z) :: s => if Nat.beq a 1 && Nat.blt (i + 1) nL then some (jst2 i (1, z) ls, s) else none
  | _ => none
def jIn (nL i : Nat) (c : Int) (ls : List (Nat × jT)) (st : List jT) : Option (List (Nat × jT) × List jT) := match jlk ls i with
  | some (a, z) => if Nat.beq a 0 && Nat.blt i nL then some (jst1 i (0, W32 (z + c)) ls, st) else none
  | none => none
def jlo (nL : Nat) (I : Instr) : Option (Nat × (List (Nat × jT) → List jT → Option (List (Nat × jT) × List jT))) := match I with
  | .iload i => some (2, jL 0 i)
  | .iload_n i => some (1, jL 0 i.val)
  | .lload i => some (2, jL 1 i)
  | .lload_n i => some (1, jL 1 i.val)
  | .aload i => some (2, jLa i)
  | .aload_n i => some (1, jLa i.val)
  | .istore i => some (2, jS1 nL 0 i)
  | .istore_n i => some (1, jS1 nL 0 i.val)
  | .astore i => some (2, jSa nL i)
  | .astore_n i => some (1, jSa nL i.val)
  | .lstore i => some (2, jS2 nL i)
  | .lstore_n i => some (1, jS2 nL i.val)
  | .iinc i c => some (3, jIn nL i c)
  | _ => none
theorem jL_b {t i : Nat} {ls ls' : List (Nat × jT)} {st st' : List jT} (h : jL t i ls st = some (ls', st')) : ∃ (z : Int) (q : Nat), ls[q]? = some (i, ((t, z) : jT)) ∧ ls' = ls ∧ st' = (t, z) :: st := by
  unfold jL at h; split at h
  · rename_i a z e
    split at h
    · rename_i g
      have := Nat.eq_of_beq_eq_true g; subst this
      cases h
      obtain ⟨q, hq⟩ := List.mem_iff_getElem?.mp (jlk_mem e)
      exact ⟨z, q, hq, rfl, rfl⟩
    · cases h
  · cases h
theorem jS1_b {nL t i : Nat} {ls ls' : List (Nat × jT)} {st st' : List jT} (h : jS1 nL t i ls st = some (ls', st')) : ∃ z, st = (t, z) :: st' ∧ i < nL ∧ ls' = jst1 i (t, z) ls := by
  unfold jS1 at h; split at h
  · split at h
    · rename_i g
      rw [Bool.and_eq_true] at g
      have := Nat.eq_of_beq_eq_true g.1; subst this
      cases h; exact ⟨_, rfl, Nat.blt_eq.mp g.2, rfl⟩
    · cases h
  · cases h
theorem jS2_b {nL i : Nat} {ls ls' : List (Nat × jT)} {st st' : List jT} (h : jS2 nL i ls st = some (ls', st')) : ∃ z, st = (1, z) :: st' ∧ i + 1 < nL ∧ ls' = jst2 i (1, z) ls := by
  unfold jS2 at h; split at h
  · split at h
    · rename_i g
      rw [Bool.and_eq_true] at g
      have := Nat.eq_of_beq_eq_true g.1; subst this
      cases h; exact ⟨_, rfl, Nat.blt_eq.mp g.2, rfl⟩
    · cases h
  · cases h
theorem jIn_b {nL i : Nat} {c : Int} {ls ls' : List (Nat × jT)} {st st' : List jT} (h : jIn nL i c ls st = some (ls', st')) : ∃ (z : Int) (q : Nat), ls[q]? = some (i, ((0, z) : jT)) ∧ i < nL ∧ ls' = jst1 i (0, W32 (z + c)) ls ∧ st' = st := by
  unfold jIn at h; split at h
  · rename_i a z e
    split at h
    · rename_i g
      rw [Bool.and_eq_true] at g
      have := Nat.eq_of_beq_eq_true g.1; subst this
      cases h
      obtain ⟨q, hq⟩ := List.mem_iff_getElem?.mp (jlk_mem e)
      exact ⟨z, q, hq, Nat.blt_eq.mp g.2, rfl, rfl⟩
    · cases h
  · cases h
theorem j8 {n : Int} (h1 : -128 ≤ n) (h2 : n ≤ 127) : (Int8.ofInt n).toInt32 = Int32.ofInt n := by
  apply Int32.toInt_inj.mp
  rw [Int8.toInt_toInt32, Int8.toInt_ofInt_of_le (by omega) (by omega), Int32.toInt_ofInt_of_le (by omega) (by omega)]
theorem j16 {n : Int} (h1 : -32768 ≤ n) (h2 : n ≤ 32767) : (Int16.ofInt n).toInt32 = Int32.ofInt n := by
  apply Int32.toInt_inj.mp
  rw [Int16.toInt_toInt32, Int16.toInt_ofInt_of_le (by omega) (by omega), Int32.toInt_ofInt_of_le (by omega) (by omega)]
section jExec
variable {G : jG} {X : jX} {l : Launch} {cc : ByteArray} {own nm : String} {nL d pc : Nat} {ret : Option FieldType} {ls ls' : List (Nat × jT)} {st st' : List jT} {σ σ1 σ' : jS} {r : jT}
theorem jpu_ok {I : Instr} {n : Nat} {f : List jT → Option (List jT)} (C : jC G X cc own nL ret d nm) (hd : decode cc pc = .ok (I, n)) (h : jpu I = some (n, f)) (hf : f st = some st') (k : jWP G X nL (pc + n) ls st' σ σ' r) : jWP G X nL pc ls st σ σ' r := by
  cases I <;> first | (cases h; done) | skip
  case iadd =>
    cases h; obtain ⟨x, y, s, rfl, rfl⟩ := j2_b hf; try simp only [W32_eq, W64_eq, I_and_eq, I_or_eq, I_xor_eq, I_shl_eq, I_shr_eq, I_ushr_eq, L_and_eq, L_or_eq, L_xor_eq, L_shl_eq, L_shr_eq, L_ushr_eq, L_cmp_eq] at k
    exact jr_iadd C hd k
  case isub =>
    cases h; obtain ⟨x, y, s, rfl, rfl⟩ := j2_b hf; try simp only [W32_eq, W64_eq, I_and_eq, I_or_eq, I_xor_eq, I_shl_eq, I_shr_eq, I_ushr_eq, L_and_eq, L_or_eq, L_xor_eq, L_shl_eq, L_shr_eq, L_ushr_eq, L_cmp_eq] at k
    exact jr_isub C hd k
  case imul =>
    cases h; obtain ⟨x, y, s, rfl, rfl⟩ := j2_b hf; try simp only [W32_eq, W64_eq, I_and_eq, I_or_eq, I_xor_eq, I_shl_eq, I_shr_eq, I_ushr_eq, L_and_eq, L_or_eq, L_xor_eq, L_shl_eq, L_shr_eq, L_ushr_eq, L_cmp_eq] at k
    exact jr_imul C hd k
  case iand =>
    cases h; obtain ⟨x, y, s, rfl, rfl⟩ := j2_b hf; try simp only [W32_eq, W64_eq, I_and_eq, I_or_eq, I_xor_eq, I_shl_eq, I_shr_eq, I_ushr_eq, L_and_eq, L_or_eq, L_xor_eq, L_shl_eq, L_shr_eq, L_ushr_eq, L_cmp_eq] at k
    exact jr_iand C hd k
  case ior =>
    cases h; obtain ⟨x, y, s, rfl, rfl⟩ := j2_b hf; try simp only [W32_eq, W64_eq, I_and_eq, I_or_eq, I_xor_eq, I_shl_eq, I_shr_eq, I_ushr_eq, L_and_eq, L_or_eq, L_xor_eq, L_shl_eq, L_shr_eq, L_ushr_eq, L_cmp_eq] at k
    exact jr_ior C hd k
  case ixor =>
    cases h; obtain ⟨x, y, s, rfl, rfl⟩ := j2_b hf; try simp only [W32_eq, W64_eq, I_and_eq, I_or_eq, I_xor_eq, I_shl_eq, I_shr_eq, I_ushr_eq, L_and_eq, L_or_eq, L_xor_eq, L_shl_eq, L_shr_eq, L_ushr_eq, L_cmp_eq] at k
    exact jr_ixor C hd k
  case ishl =>
    cases h; obtain ⟨x, y, s, rfl, rfl⟩ := j2_b hf; try simp only [W32_eq, W64_eq, I_and_eq, I_or_eq, I_xor_eq, I_shl_eq, I_shr_eq, I_ushr_eq, L_and_eq, L_or_eq, L_xor_eq, L_shl_eq, L_shr_eq, L_ushr_eq, L_cmp_eq] at k
    exact jr_ishl C hd k
  case ishr =>
    cases h; obtain ⟨x, y, s, rfl, rfl⟩ := j2_b hf; try simp only [W32_eq, W64_eq, I_and_eq, I_or_eq, I_xor_eq, I_shl_eq, I_shr_eq, I_ushr_eq, L_and_eq, L_or_eq, L_xor_eq, L_shl_eq, L_shr_eq, L_ushr_eq, L_cmp_eq] at k
    exact jr_ishr C hd k
  case iushr =>
    cases h; obtain ⟨x, y, s, rfl, rfl⟩ := j2_b hf; try simp only [W32_eq, W64_eq, I_and_eq, I_or_eq, I_xor_eq, I_shl_eq, I_shr_eq, I_ushr_eq, L_and_eq, L_or_eq, L_xor_eq, L_shl_eq, L_shr_eq, L_ushr_eq, L_cmp_eq] at k
    exact jr_iushr C hd k
  case ladd =>
    cases h; obtain ⟨x, y, s, rfl, rfl⟩ := j2_b hf; try simp only [W32_eq, W64_eq, I_and_eq, I_or_eq, I_xor_eq, I_shl_eq, I_shr_eq, I_ushr_eq, L_and_eq, L_or_eq, L_xor_eq, L_shl_eq, L_shr_eq, L_ushr_eq, L_cmp_eq] at k
    exact jr_ladd C hd k
  case lsub =>
    cases h; obtain ⟨x, y, s, rfl, rfl⟩ := j2_b hf; try simp only [W32_eq, W64_eq, I_and_eq, I_or_eq, I_xor_eq, I_shl_eq, I_shr_eq, I_ushr_eq, L_and_eq, L_or_eq, L_xor_eq, L_shl_eq, L_shr_eq, L_ushr_eq, L_cmp_eq] at k
    exact jr_lsub C hd k
  case lmul =>
    cases h; obtain ⟨x, y, s, rfl, rfl⟩ := j2_b hf; try simp only [W32_eq, W64_eq, I_and_eq, I_or_eq, I_xor_eq, I_shl_eq, I_shr_eq, I_ushr_eq, L_and_eq, L_or_eq, L_xor_eq, L_shl_eq, L_shr_eq, L_ushr_eq, L_cmp_eq] at k
    exact jr_lmul C hd k
  case land =>
    cases h; obtain ⟨x, y, s, rfl, rfl⟩ := j2_b hf; try simp only [W32_eq, W64_eq, I_and_eq, I_or_eq, I_xor_eq, I_shl_eq, I_shr_eq, I_ushr_eq, L_and_eq, L_or_eq, L_xor_eq, L_shl_eq, L_shr_eq, L_ushr_eq, L_cmp_eq] at k
    exact jr_land C hd k
  case lor =>
    cases h; obtain ⟨x, y, s, rfl, rfl⟩ := j2_b hf; try simp only [W32_eq, W64_eq, I_and_eq, I_or_eq, I_xor_eq, I_shl_eq, I_shr_eq, I_ushr_eq, L_and_eq, L_or_eq, L_xor_eq, L_shl_eq, L_shr_eq, L_ushr_eq, L_cmp_eq] at k
    exact jr_lor C hd k
  case lxor =>
    cases h; obtain ⟨x, y, s, rfl, rfl⟩ := j2_b hf; try simp only [W32_eq, W64_eq, I_and_eq, I_or_eq, I_xor_eq, I_shl_eq, I_shr_eq, I_ushr_eq, L_and_eq, L_or_eq, L_xor_eq, L_shl_eq, L_shr_eq, L_ushr_eq, L_cmp_eq] at k
    exact jr_lxor C hd k
  case lshl =>
    cases h; obtain ⟨x, y, s, rfl, rfl⟩ := j2_b hf; try simp only [W32_eq, W64_eq, I_and_eq, I_or_eq, I_xor_eq, I_shl_eq, I_shr_eq, I_ushr_eq, L_and_eq, L_or_eq, L_xor_eq, L_shl_eq, L_shr_eq, L_ushr_eq, L_cmp_eq] at k
    exact jr_lshl C hd k
  case lshr =>
    cases h; obtain ⟨x, y, s, rfl, rfl⟩ := j2_b hf; try simp only [W32_eq, W64_eq, I_and_eq, I_or_eq, I_xor_eq, I_shl_eq, I_shr_eq, I_ushr_eq, L_and_eq, L_or_eq, L_xor_eq, L_shl_eq, L_shr_eq, L_ushr_eq, L_cmp_eq] at k
    exact jr_lshr C hd k
  case lushr =>
    cases h; obtain ⟨x, y, s, rfl, rfl⟩ := j2_b hf; try simp only [W32_eq, W64_eq, I_and_eq, I_or_eq, I_xor_eq, I_shl_eq, I_shr_eq, I_ushr_eq, L_and_eq, L_or_eq, L_xor_eq, L_shl_eq, L_shr_eq, L_ushr_eq, L_cmp_eq] at k
    exact jr_lushr C hd k
  case lcmp =>
    cases h; obtain ⟨x, y, s, rfl, rfl⟩ := j2_b hf; try simp only [W32_eq, W64_eq, I_and_eq, I_or_eq, I_xor_eq, I_shl_eq, I_shr_eq, I_ushr_eq, L_and_eq, L_or_eq, L_xor_eq, L_shl_eq, L_shr_eq, L_ushr_eq, L_cmp_eq] at k
    exact jr_lcmp C hd k
  case ineg =>
    cases h; obtain ⟨x, s, rfl, rfl⟩ := j1_b hf; try simp only [W32_eq, W64_eq, W8_eq, W16_eq, Wc_eq, L2i_eq] at k
    exact jr_ineg C hd k
  case lneg =>
    cases h; obtain ⟨x, s, rfl, rfl⟩ := j1_b hf; try simp only [W32_eq, W64_eq, W8_eq, W16_eq, Wc_eq, L2i_eq] at k
    exact jr_lneg C hd k
  case i2b =>
    cases h; obtain ⟨x, s, rfl, rfl⟩ := j1_b hf; try simp only [W32_eq, W64_eq, W8_eq, W16_eq, Wc_eq, L2i_eq] at k
    exact jr_i2b C hd k
  case i2s =>
    cases h; obtain ⟨x, s, rfl, rfl⟩ := j1_b hf; try simp only [W32_eq, W64_eq, W8_eq, W16_eq, Wc_eq, L2i_eq] at k
    exact jr_i2s C hd k
  case i2c =>
    cases h; obtain ⟨x, s, rfl, rfl⟩ := j1_b hf; try simp only [W32_eq, W64_eq, W8_eq, W16_eq, Wc_eq, L2i_eq] at k
    exact jr_i2c C hd k
  case l2i =>
    cases h; obtain ⟨x, s, rfl, rfl⟩ := j1_b hf; try simp only [W32_eq, W64_eq, W8_eq, W16_eq, Wc_eq, L2i_eq] at k
    exact jr_l2i C hd k
  case i2l =>
    cases h; obtain ⟨x, s, rfl, rfl⟩ := j1_b hf; try simp only [W32_eq, W64_eq, W8_eq, W16_eq, Wc_eq, L2i_eq] at k
    exact jr_i2l C hd k
  case iconst => cases h; obtain ⟨h1, h2, rfl⟩ := j0_b hf; exact jr_iconst C hd rfl (by unfold jin; omega) k
  case bipush => cases h; obtain ⟨h1, h2, rfl⟩ := j0_b hf; exact jr_bipush C hd (j8 h1 h2) (by unfold jin; omega) k
  case sipush => cases h; obtain ⟨h1, h2, rfl⟩ := j0_b hf; exact jr_sipush C hd (j16 h1 h2) (by unfold jin; omega) k
  case lconst z =>
    cases h
    match z, hf with
    | 0, hf => cases hf; exact jr_lconst C hd rfl (by unfold jlin; omega) k
    | 1, hf => cases hf; exact jr_lconst C hd rfl (by unfold jlin; omega) k
  case aconst_null => cases h; cases hf; exact jr_null C hd k
  case pop =>
    cases h; dsimp only at hf; split at hf
    · split at hf
      · rename_i g; cases hf; exact jr_pop C hd (jn1_b g) k
      · cases hf
    · cases hf
  case dup =>
    cases h; dsimp only at hf; split at hf
    · split at hf
      · rename_i g; cases hf; exact jr_dup C hd (jn1_b g) k
      · cases hf
    · cases hf
  case dup_x1 =>
    cases h; dsimp only at hf; split at hf
    · split at hf
      · rename_i g; cases hf; rw [Bool.and_eq_true] at g; exact jr_dup_x1 C hd (jn1_b g.1) (jn1_b g.2) k
      · cases hf
    · cases hf
  case dup2 =>
    cases h; dsimp only at hf; split at hf
    · split at hf
      · rename_i g; cases hf; rw [Bool.and_eq_true] at g; exact jr_dup2 C hd (jn1_b g.1) (jn1_b g.2) k
      · cases hf
    · cases hf
/-! types forgotten -/
theorem jmc {α : Type} {P : α → Prop} {v w : α} {s : List α} (hv : v ∈ w :: s) (h1 : P w) (h2 : v ∈ s → P v) : P v := by
  rcases List.mem_cons.mp hv with rfl | hv
  · exact h1
  · exact h2 hv
theorem jgm_lt {v : jT} (h : v.1 < 16) : jgm v = v := by unfold jgm; rw [if_neg (by omega)]
theorem jgm_rt {a : Nat} {z : Int} (h : jrt a = true) : jgm (a, z) = (2, z) := by
  unfold jrt at h
  rw [Bool.or_eq_true] at h
  unfold jgm
  rcases h with h | h
  · have := Nat.eq_of_beq_eq_true h; subst this; rfl
  · rw [if_pos (Nat.le_of_ble_eq_true h)]
theorem jgm_1 (v : jT) : ((jgm v).1 == 1) = (v.1 == 1) := by
  unfold jgm; split
  · rename_i h
    show ((2 : Nat) == 1) = _
    have : ¬ v.1 = 1 := by omega
    simp [this]
  · rfl
theorem jgm_n1 (v : jT) : jn1 (jgm v) = jn1 v := by
  have := jgm_1 v
  unfold jn1
  have e : ∀ n : Nat, Nat.beq n 1 = (n == 1) := fun n => Bool.eq_iff_iff.mpr (by rw [Nat.beq_eq]; simp)
  rw [e, e, this]
theorem jgs_c (v : jT) (st : List jT) : jgs (v :: st) = jgm v :: jgs st := rfl
theorem jgl_at {ls : List (Nat × jT)} {q i : Nat} {v : jT} (h : ls[q]? = some (i, v)) : (jgl ls)[q]? = some (i, jgm v) := by
  unfold jgl; rw [List.getElem?_map, h]; rfl
theorem jgl_st1 (i : Nat) (v : jT) (ls : List (Nat × jT)) : jgl (jst1 i v ls) = jst1 i (jgm v) (jgl ls) := by
  unfold jgl jst1
  rw [List.map_cons, List.filter_map]
  congr 2
  apply List.filter_congr
  intro q _
  simp only [Function.comp, jgm_1]
theorem jgl_st2 (i : Nat) (v : jT) (ls : List (Nat × jT)) : jgl (jst2 i v ls) = jst2 i (jgm v) (jgl ls) := by
  unfold jgl jst2
  rw [List.map_cons, List.filter_map]
  congr 2
  apply List.filter_congr
  intro q _
  simp only [Function.comp, jgm_1]
/-- a value is what its tag says -/
def jtk (ty : Bool) (σ : jS) (v : jT) : Prop := 16 ≤ v.1 → ty = true ∧ jTt σ v.1 v.2
theorem jtk_lt {ty : Bool} {σ : jS} {v : jT} (h : v.1 < 16) : jtk ty σ v := fun g => by omega
theorem jtk.ext {ty : Bool} {σ σ1 : jS} {v : jT} (h : jtk ty σ v) (he : ty = true → jEx σ σ1) : jtk ty σ1 v := fun g => ⟨(h g).1, (h g).2.ext (he (h g).1)⟩
theorem j2_g {ta tb tr : Nat} {f : Int → Int → Int} {st st' : List jT} (ha : ta < 16) (hb : tb < 16) (hr : tr < 16) (h : j2 ta tb tr f st = some st') : j2 ta tb tr f (jgs st) = some (jgs st') ∧ ∀ v ∈ st', v.1 < 16 ∨ v ∈ st := by
  obtain ⟨x, y, s, rfl, rfl⟩ := j2_b h
  refine ⟨?_, fun v hv => ?_⟩
  · rw [jgs_c, jgs_c, jgs_c, jgm_lt (v := (ta, y)) ha, jgm_lt (v := (tb, x)) hb, jgm_lt (v := (tr, f x y)) hr]
    unfold j2
    simp
  · rcases List.mem_cons.mp hv with rfl | hv
    · exact .inl hr
    · exact .inr (List.mem_cons_of_mem _ (List.mem_cons_of_mem _ hv))
theorem j1_g {ta tr : Nat} {f : Int → Int} {st st' : List jT} (ha : ta < 16) (hr : tr < 16) (h : j1 ta tr f st = some st') : j1 ta tr f (jgs st) = some (jgs st') ∧ ∀ v ∈ st', v.1 < 16 ∨ v ∈ st := by
  obtain ⟨x, s, rfl, rfl⟩ := j1_b h
  refine ⟨?_, fun v hv => ?_⟩
  · rw [jgs_c, jgs_c, jgm_lt (v := (ta, x)) ha, jgm_lt (v := (tr, f x)) hr]
    unfold j1
    simp
  · rcases List.mem_cons.mp hv with rfl | hv
    · exact .inl hr
    · exact .inr (List.mem_cons_of_mem _ hv)
theorem j0_g {lo hi n : Int} {st st' : List jT} (h : j0 lo hi n st = some st') : j0 lo hi n (jgs st) = some (jgs st') ∧ ∀ v ∈ st', v.1 < 16 ∨ v ∈ st := by
  obtain ⟨h1, h2, rfl⟩ := j0_b h
  refine ⟨?_, fun v hv => ?_⟩
  · unfold j0; rw [if_pos ⟨h1, h2⟩]; rfl
  · rcases List.mem_cons.mp hv with rfl | hv
    · exact .inl (by show 0 < 16; decide)
    · exact .inr hv
theorem jpu_g {I : Instr} {n : Nat} {f : List jT → Option (List jT)} {st st' : List jT} (h : jpu I = some (n, f)) (hf : f st = some st') : f (jgs st) = some (jgs st') ∧ ∀ v ∈ st', v.1 < 16 ∨ v ∈ st := by
  cases I <;> first | (cases h; done) | skip
  case lconst z =>
    cases h
    match z, hf with
    | 0, hf => cases hf; exact ⟨rfl, fun v hv => jmc (P := fun v => v.1 < 16 ∨ v ∈ st) hv (.inl (by decide)) .inr⟩
    | 1, hf => cases hf; exact ⟨rfl, fun v hv => jmc (P := fun v => v.1 < 16 ∨ v ∈ st) hv (.inl (by decide)) .inr⟩
  case aconst_null => cases h; cases hf; exact ⟨rfl, fun v hv => jmc (P := fun v => v.1 < 16 ∨ v ∈ st) hv (.inl (by decide)) .inr⟩
  case pop =>
    cases h; dsimp only at hf; split at hf
    · split at hf
      · rename_i w s g; cases hf
        refine ⟨?_, fun v hv => .inr (List.mem_cons_of_mem _ hv)⟩
        rw [jgs_c]; dsimp only; rw [jgm_n1, if_pos g]
      · cases hf
    · cases hf
  case dup =>
    cases h; dsimp only at hf; split at hf
    · split at hf
      · rename_i w s g; cases hf
        refine ⟨?_, fun v hv => .inr ?_⟩
        · rw [jgs_c]; dsimp only; rw [jgm_n1, if_pos g]; rfl
        · rcases List.mem_cons.mp hv with rfl | hv
          · exact List.mem_cons_self
          · exact hv
      · cases hf
    · cases hf
  case dup_x1 =>
    cases h; dsimp only at hf; split at hf
    · split at hf
      · rename_i w w' s g; cases hf
        refine ⟨?_, fun v hv => .inr ?_⟩
        · rw [jgs_c, jgs_c]; dsimp only; rw [jgm_n1, jgm_n1, if_pos g]; rfl
        · simp only [List.mem_cons] at hv ⊢
          rcases hv with h | h | h | h
          · exact .inl h
          · exact .inr (.inl h)
          · exact .inl h
          · exact .inr (.inr h)
      · cases hf
    · cases hf
  case dup2 =>
    cases h; dsimp only at hf; split at hf
    · split at hf
      · rename_i w w' s g; cases hf
        refine ⟨?_, fun v hv => .inr ?_⟩
        · rw [jgs_c, jgs_c]; dsimp only; rw [jgm_n1, jgm_n1, if_pos g]; rfl
        · simp only [List.mem_cons] at hv ⊢
          rcases hv with h | h | h | h | h
          · exact .inl h
          · exact .inr (.inl h)
          · exact .inl h
          · exact .inr (.inl h)
          · exact .inr (.inr h)
      · cases hf
    · cases hf
  all_goals (cases h; first | exact j2_g (by decide) (by decide) (by decide) hf | exact j1_g (by decide) (by decide) hf | exact j0_g hf)
theorem jLa_b {i : Nat} {ls ls' : List (Nat × jT)} {st st' : List jT} (h : jLa i ls st = some (ls', st')) : ∃ (a : Nat) (z : Int) (q : Nat), ls[q]? = some (i, ((a, z) : jT)) ∧ jrt a = true ∧ ls' = ls ∧ st' = (a, z) :: st := by
  unfold jLa at h; split at h
  · rename_i a z e
    split at h
    · rename_i g
      cases h
      obtain ⟨q, hq⟩ := List.mem_iff_getElem?.mp (jlk_mem e)
      exact ⟨a, z, q, hq, g, rfl, rfl⟩
    · cases h
  · cases h
theorem jSa_b {nL i : Nat} {ls ls' : List (Nat × jT)} {st st' : List jT} (h : jSa nL i ls st = some (ls', st')) : ∃ a z, st = (a, z) :: st' ∧ jrt a = true ∧ i < nL ∧ ls' = jst1 i (a, z) ls := by
  unfold jSa at h; split at h
  · split at h
    · rename_i a z s g
      rw [Bool.and_eq_true] at g
      cases h; exact ⟨_, _, rfl, g.1, Nat.blt_eq.mp g.2, rfl⟩
    · cases h
  · cases h
theorem jst1_mem {i : Nat} {v : jT} {ls : List (Nat × jT)} {q : Nat × jT} (h : q ∈ jst1 i v ls) : q.2 = v ∨ q ∈ ls := by
  rcases List.mem_cons.mp h with rfl | h
  · exact .inl rfl
  · exact .inr (List.mem_filter.mp h).1
theorem jst2_mem {i : Nat} {v : jT} {ls : List (Nat × jT)} {q : Nat × jT} (h : q ∈ jst2 i v ls) : q.2 = v ∨ q ∈ ls := by
  rcases List.mem_cons.mp h with rfl | h
  · exact .inl rfl
  · exact .inr (List.mem_filter.mp h).1
theorem jlo_ok {I : Instr} {n : Nat} {f : List (Nat × jT) → List jT → Option (List (Nat × jT) × List jT)} (C : jC G X cc own nL ret d nm) (hd : decode cc pc = .ok (I, n)) (h : jlo nL I = some (n, f)) (hf : f ls st = some (ls', st')) (k : jWP G X nL (pc + n) (jgl ls') (jgs st') σ σ' r) : jWP G X nL pc (jgl ls) (jgs st) σ σ' r := by
  cases I <;> first | (cases h; done) | skip
  case iload => cases h; obtain ⟨z, q, hq, rfl, rfl⟩ := jL_b hf; exact jr_iload C hd q (jgl_at hq) k
  case iload_n => cases h; obtain ⟨z, q, hq, rfl, rfl⟩ := jL_b hf; exact jr_iload_n C hd rfl q (jgl_at hq) k
  case istore => cases h; obtain ⟨z, rfl, hn, rfl⟩ := jS1_b hf; rw [jgl_st1] at k; exact jr_istore C hd hn rfl k
  case istore_n => cases h; obtain ⟨z, rfl, hn, rfl⟩ := jS1_b hf; rw [jgl_st1] at k; exact jr_istore_n C hd rfl hn rfl k
  case lload => cases h; obtain ⟨z, q, hq, rfl, rfl⟩ := jL_b hf; exact jr_lload C hd q (jgl_at hq) k
  case lload_n => cases h; obtain ⟨z, q, hq, rfl, rfl⟩ := jL_b hf; exact jr_lload_n C hd rfl q (jgl_at hq) k
  case lstore => cases h; obtain ⟨z, rfl, hn, rfl⟩ := jS2_b hf; rw [jgl_st2] at k; exact jr_lstore C hd hn rfl k
  case lstore_n => cases h; obtain ⟨z, rfl, hn, rfl⟩ := jS2_b hf; rw [jgl_st2] at k; exact jr_lstore_n C hd rfl hn rfl k
  case aload => cases h; obtain ⟨a, z, q, hq, ha, rfl, rfl⟩ := jLa_b hf; have hq := jgl_at hq; rw [jgm_rt ha] at hq; rw [jgs_c, jgm_rt ha] at k; exact jr_aload C hd q hq k
  case aload_n => cases h; obtain ⟨a, z, q, hq, ha, rfl, rfl⟩ := jLa_b hf; have hq := jgl_at hq; rw [jgm_rt ha] at hq; rw [jgs_c, jgm_rt ha] at k; exact jr_aload_n C hd rfl q hq k
  case astore => cases h; obtain ⟨a, z, rfl, ha, hn, rfl⟩ := jSa_b hf; rw [jgl_st1, jgm_rt ha] at k; rw [jgs_c, jgm_rt ha]; exact jr_astore C hd hn rfl k
  case astore_n => cases h; obtain ⟨a, z, rfl, ha, hn, rfl⟩ := jSa_b hf; rw [jgl_st1, jgm_rt ha] at k; rw [jgs_c, jgm_rt ha]; exact jr_astore_n C hd rfl hn rfl k
  case iinc => cases h; obtain ⟨z, q, hq, hn, rfl, rfl⟩ := jIn_b hf; rw [jgl_st1] at k; rw [W32_eq] at k; exact jr_iinc C hd q (jgl_at hq) hn rfl k
theorem jlo_g {I : Instr} {n : Nat} {f : List (Nat × jT) → List jT → Option (List (Nat × jT) × List jT)} (h : jlo nL I = some (n, f)) (hf : f ls st = some (ls', st')) {P : jT → Prop} (hP : ∀ v : jT, v.1 < 16 → P v) (h1 : ∀ q ∈ ls, P q.2) (h2 : ∀ v ∈ st, P v) : (∀ q ∈ ls', P q.2) ∧ ∀ v ∈ st', P v := by
  cases I <;> first | (cases h; done) | skip
  case aload => cases h; obtain ⟨a, z, q, hq, ha, rfl, rfl⟩ := jLa_b hf; exact ⟨h1, fun v hv => jmc hv (h1 _ (List.mem_of_getElem? hq)) (h2 v)⟩
  case aload_n => cases h; obtain ⟨a, z, q, hq, ha, rfl, rfl⟩ := jLa_b hf; exact ⟨h1, fun v hv => jmc hv (h1 _ (List.mem_of_getElem? hq)) (h2 v)⟩
  case astore => cases h; obtain ⟨a, z, rfl, ha, hn, rfl⟩ := jSa_b hf; exact ⟨fun q hq => (jst1_mem hq).elim (fun e => by rw [e]; exact h2 _ List.mem_cons_self) (h1 q), fun v hv => h2 v (List.mem_cons_of_mem _ hv)⟩
  case astore_n => cases h; obtain ⟨a, z, rfl, ha, hn, rfl⟩ := jSa_b hf; exact ⟨fun q hq => (jst1_mem hq).elim (fun e => by rw [e]; exact h2 _ List.mem_cons_self) (h1 q), fun v hv => h2 v (List.mem_cons_of_mem _ hv)⟩
  case iinc => cases h; obtain ⟨z, q, hq, hn, rfl, rfl⟩ := jIn_b hf; exact ⟨fun q hq => (jst1_mem hq).elim (fun e => by rw [e]; exact hP _ (by simp)) (h1 q), h2⟩
  case lstore => cases h; obtain ⟨z, rfl, hn, rfl⟩ := jS2_b hf; exact ⟨fun q hq => (jst2_mem hq).elim (fun e => by rw [e]; exact h2 _ List.mem_cons_self) (h1 q), fun v hv => h2 v (List.mem_cons_of_mem _ hv)⟩
  case lstore_n => cases h; obtain ⟨z, rfl, hn, rfl⟩ := jS2_b hf; exact ⟨fun q hq => (jst2_mem hq).elim (fun e => by rw [e]; exact h2 _ List.mem_cons_self) (h1 q), fun v hv => h2 v (List.mem_cons_of_mem _ hv)⟩
  case istore => cases h; obtain ⟨z, rfl, hn, rfl⟩ := jS1_b hf; exact ⟨fun q hq => (jst1_mem hq).elim (fun e => by rw [e]; exact h2 _ List.mem_cons_self) (h1 q), fun v hv => h2 v (List.mem_cons_of_mem _ hv)⟩
  case istore_n => cases h; obtain ⟨z, rfl, hn, rfl⟩ := jS1_b hf; exact ⟨fun q hq => (jst1_mem hq).elim (fun e => by rw [e]; exact h2 _ List.mem_cons_self) (h1 q), fun v hv => h2 v (List.mem_cons_of_mem _ hv)⟩
  all_goals (cases h; obtain ⟨z, q, hq, rfl, rfl⟩ := jL_b hf; exact ⟨h1, fun v hv => jmc hv (hP _ (by simp)) (h2 v)⟩)
end jExec
end
