/-! decoding by the byte -/
set_option maxRecDepth 100000
def jb (cc : ByteArray) (p v : Nat) : Prop := ∃ h : p < cc.size, (cc[p]'h).toNat = v
theorem jb_u1 {α : Type} {cc : ByteArray} {p v : Nat} {f : Nat → Jvm.ClassFile.Decoder α} (h : jb cc p v) : (Jvm.ClassFile.Reader.u1 >>= f) cc p = f v cc (p + 1) := by
  obtain ⟨h, rfl⟩ := h
  show (Jvm.ClassFile.Reader.u1 cc p).bind _ = _
  have : (Jvm.ClassFile.Reader.u1 : Jvm.ClassFile.Decoder Nat) cc p = .ok ((cc[p]'h).toNat, p + 1) := by
    show (if h : p < cc.size then _ else _ : Jvm.ClassFile.Decoder Nat) cc p = _
    rw [dif_pos h]; rfl
  rw [this]; rfl
theorem jb_u2 {α : Type} {cc : ByteArray} {p v w : Nat} {f : Nat → Jvm.ClassFile.Decoder α} (h : jb cc p v) (h' : jb cc (p + 1) w) : (Jvm.ClassFile.Reader.u2 >>= f) cc p = f (v * 256 + w) cc (p + 2) := by
  show ((Jvm.ClassFile.Reader.u1 >>= fun hi => Jvm.ClassFile.Reader.u1 >>= fun lo => Pure.pure (hi * 256 + lo)) >>= f) cc p = _
  rw [LawfulMonad.bind_assoc, jb_u1 h, LawfulMonad.bind_assoc, jb_u1 h', LawfulMonad.pure_bind]
theorem jb_s1 {α : Type} {cc : ByteArray} {p v : Nat} {f : Int → Jvm.ClassFile.Decoder α} (h : jb cc p v) : (Jvm.ClassFile.Reader.s1 >>= f) cc p = f (Jvm.ClassFile.Reader.signed 8 v) cc (p + 1) := by
  show ((Jvm.ClassFile.Reader.signed 8 <$> Jvm.ClassFile.Reader.u1) >>= f) cc p = _
  rw [bind_map_left, jb_u1 h]
theorem jb_s2 {α : Type} {cc : ByteArray} {p v w : Nat} {f : Int → Jvm.ClassFile.Decoder α} (h : jb cc p v) (h' : jb cc (p + 1) w) : (Jvm.ClassFile.Reader.s2 >>= f) cc p = f (Jvm.ClassFile.Reader.signed 16 (v * 256 + w)) cc (p + 2) := by
  show ((Jvm.ClassFile.Reader.signed 16 <$> Jvm.ClassFile.Reader.u2) >>= f) cc p = _
  rw [bind_map_left, jb_u2 h h']
theorem jb_i {cc : ByteArray} {p n : Nat} {I : Instr} (h : (Jvm.ClassFile.Decoder.instr p) cc p = .ok (I, p + n)) : decode cc p = .ok (I, n) := by
  show Except.bind ((Jvm.ClassFile.Decoder.instr p) cc p) _ = _
  rw [h]
  show Except.ok (I, p + n - p) = _
  rw [Nat.add_sub_cancel_left]
theorem jb_lt {cc : ByteArray} {p v : Nat} (h : jb cc p v) : v < 256 := by
  obtain ⟨h, rfl⟩ := h; exact UInt8.toNat_lt _
def jhi (o : Int) : Nat := (o % 65536).toNat / 256
def jlw (o : Int) : Nat := (o % 65536).toNat % 256
theorem jsg16 {o : Int} (h : -32768 ≤ o ∧ o ≤ 32767) : Jvm.ClassFile.Reader.signed 16 (jhi o * 256 + jlw o) = o := by
  have : jhi o * 256 + jlw o = (o % 65536).toNat := by unfold jhi jlw; omega
  rw [this]
  unfold Jvm.ClassFile.Reader.signed
  split <;> omega
theorem jsg8 {o : Int} (h : -128 ≤ o ∧ o ≤ 127) : Jvm.ClassFile.Reader.signed 8 (o % 256).toNat = o := by
  unfold Jvm.ClassFile.Reader.signed
  split <;> omega

def jcn (c : Jvm.ClassFile.Cond) : Nat := match c with
  | .eq => 0
  | .ne => 1
  | .lt => 2
  | .ge => 3
  | .gt => 4
  | .le => 5
def jan (c : ACond) : Nat := match c with
  | .eq => 0
  | .ne => 1
def jay (a : ArrayType) : Nat := match a with
  | .boolean => 4
  | .char => 5
  | .byte => 8
  | .short => 9
  | .int => 10
  | .long => 11
  | _ => 300
def jenc (I : Instr) : Option (List Nat) := match I with
  | .aaload => some [50]
  | .aastore => some [83]
  | .aconst_null => some [1]
  | .areturn => some [176]
  | .arraylength => some [190]
  | .athrow => some [191]
  | .baload => some [51]
  | .bastore => some [84]
  | .caload => some [52]
  | .castore => some [85]
  | .dup => some [89]
  | .dup_x1 => some [90]
  | .dup2 => some [92]
  | .i2b => some [145]
  | .i2c => some [146]
  | .i2l => some [133]
  | .i2s => some [147]
  | .iadd => some [96]
  | .iaload => some [46]
  | .iand => some [126]
  | .iastore => some [79]
  | .idiv => some [108]
  | .imul => some [104]
  | .ineg => some [116]
  | .ior => some [128]
  | .irem => some [112]
  | .ireturn => some [172]
  | .ishl => some [120]
  | .ishr => some [122]
  | .isub => some [100]
  | .iushr => some [124]
  | .ixor => some [130]
  | .l2i => some [136]
  | .ladd => some [97]
  | .laload => some [47]
  | .land => some [127]
  | .lastore => some [80]
  | .lcmp => some [148]
  | .ldiv => some [109]
  | .lmul => some [105]
  | .lneg => some [117]
  | .lor => some [129]
  | .lrem => some [113]
  | .lreturn => some [173]
  | .lshl => some [121]
  | .lshr => some [123]
  | .lsub => some [101]
  | .lushr => some [125]
  | .lxor => some [131]
  | .pop => some [87]
  | .pop2 => some [88]
  | .return_ => some [177]
  | .saload => some [53]
  | .sastore => some [86]
  | .iload_n n => some [26 + n.val]
  | .lload_n n => some [30 + n.val]
  | .aload_n n => some [42 + n.val]
  | .istore_n n => some [59 + n.val]
  | .lstore_n n => some [63 + n.val]
  | .astore_n n => some [75 + n.val]
  | .ldc i => some [18, i]
  | .iload i => some [21, i]
  | .lload i => some [22, i]
  | .aload i => some [25, i]
  | .istore i => some [54, i]
  | .lstore i => some [55, i]
  | .astore i => some [58, i]
  | .ldc_w i => some [19, i / 256, i % 256]
  | .ldc2_w i => some [20, i / 256, i % 256]
  | .getstatic i => some [178, i / 256, i % 256]
  | .getfield i => some [180, i / 256, i % 256]
  | .putfield i => some [181, i / 256, i % 256]
  | .invokevirtual i => some [182, i / 256, i % 256]
  | .invokespecial i => some [183, i / 256, i % 256]
  | .invokestatic i => some [184, i / 256, i % 256]
  | .new i => some [187, i / 256, i % 256]
  | .anewarray i => some [189, i / 256, i % 256]
  | .checkcast i => some [192, i / 256, i % 256]
  | .instanceof i => some [193, i / 256, i % 256]
  | .sipush o => if -32768 ≤ o ∧ o ≤ 32767 then some [17, jhi o, jlw o] else none
  | .goto o => if -32768 ≤ o ∧ o ≤ 32767 then some [167, jhi o, jlw o] else none
  | .ifnull o => if -32768 ≤ o ∧ o ≤ 32767 then some [198, jhi o, jlw o] else none
  | .ifnonnull o => if -32768 ≤ o ∧ o ≤ 32767 then some [199, jhi o, jlw o] else none
  | .ifCond c o => if -32768 ≤ o ∧ o ≤ 32767 then some [153 + jcn c, jhi o, jlw o] else none
  | .if_icmp c o => if -32768 ≤ o ∧ o ≤ 32767 then some [159 + jcn c, jhi o, jlw o] else none
  | .if_acmp c o => if -32768 ≤ o ∧ o ≤ 32767 then some [165 + jan c, jhi o, jlw o] else none
  | .bipush o => if -128 ≤ o ∧ o ≤ 127 then some [16, (o % 256).toNat] else none
  | .iinc i o => if -128 ≤ o ∧ o ≤ 127 then some [132, i, (o % 256).toNat] else none
  | .iconst i => if -1 ≤ i ∧ i ≤ 5 then some [(i + 3).toNat] else none
  | .lconst i => some [9 + i.val]
  | .newarray a => some [188, jay a]
  | _ => none
def jbs (cc : ByteArray) (p : Nat) : List Nat → Prop
  | [] => True
  | v :: s => jb cc p v ∧ jbs cc (p + 1) s
theorem jenc_ok {cc : ByteArray} {p : Nat} {I : Instr} {e : List Nat} (h : jenc I = some e) (hb : jbs cc p e) : decode cc p = .ok (I, e.length) := by
  cases I <;> first | (cases h; done) | skip
  case aaload => cases h; obtain ⟨h0, -⟩ := hb; apply jb_i; unfold Jvm.ClassFile.Decoder.instr; rw [jb_u1 h0]; rfl
  case aastore => cases h; obtain ⟨h0, -⟩ := hb; apply jb_i; unfold Jvm.ClassFile.Decoder.instr; rw [jb_u1 h0]; rfl
  case aconst_null => cases h; obtain ⟨h0, -⟩ := hb; apply jb_i; unfold Jvm.ClassFile.Decoder.instr; rw [jb_u1 h0]; rfl
  case areturn => cases h; obtain ⟨h0, -⟩ := hb; apply jb_i; unfold Jvm.ClassFile.Decoder.instr; rw [jb_u1 h0]; rfl
  case arraylength => cases h; obtain ⟨h0, -⟩ := hb; apply jb_i; unfold Jvm.ClassFile.Decoder.instr; rw [jb_u1 h0]; rfl
  case athrow => cases h; obtain ⟨h0, -⟩ := hb; apply jb_i; unfold Jvm.ClassFile.Decoder.instr; rw [jb_u1 h0]; rfl
  case baload => cases h; obtain ⟨h0, -⟩ := hb; apply jb_i; unfold Jvm.ClassFile.Decoder.instr; rw [jb_u1 h0]; rfl
  case bastore => cases h; obtain ⟨h0, -⟩ := hb; apply jb_i; unfold Jvm.ClassFile.Decoder.instr; rw [jb_u1 h0]; rfl
  case caload => cases h; obtain ⟨h0, -⟩ := hb; apply jb_i; unfold Jvm.ClassFile.Decoder.instr; rw [jb_u1 h0]; rfl
  case castore => cases h; obtain ⟨h0, -⟩ := hb; apply jb_i; unfold Jvm.ClassFile.Decoder.instr; rw [jb_u1 h0]; rfl
  case dup => cases h; obtain ⟨h0, -⟩ := hb; apply jb_i; unfold Jvm.ClassFile.Decoder.instr; rw [jb_u1 h0]; rfl
  case dup_x1 => cases h; obtain ⟨h0, -⟩ := hb; apply jb_i; unfold Jvm.ClassFile.Decoder.instr; rw [jb_u1 h0]; rfl
  case dup2 => cases h; obtain ⟨h0, -⟩ := hb; apply jb_i; unfold Jvm.ClassFile.Decoder.instr; rw [jb_u1 h0]; rfl
  case i2b => cases h; obtain ⟨h0, -⟩ := hb; apply jb_i; unfold Jvm.ClassFile.Decoder.instr; rw [jb_u1 h0]; rfl
  case i2c => cases h; obtain ⟨h0, -⟩ := hb; apply jb_i; unfold Jvm.ClassFile.Decoder.instr; rw [jb_u1 h0]; rfl
  case i2l => cases h; obtain ⟨h0, -⟩ := hb; apply jb_i; unfold Jvm.ClassFile.Decoder.instr; rw [jb_u1 h0]; rfl
  case i2s => cases h; obtain ⟨h0, -⟩ := hb; apply jb_i; unfold Jvm.ClassFile.Decoder.instr; rw [jb_u1 h0]; rfl
  case iadd => cases h; obtain ⟨h0, -⟩ := hb; apply jb_i; unfold Jvm.ClassFile.Decoder.instr; rw [jb_u1 h0]; rfl
  case iaload => cases h; obtain ⟨h0, -⟩ := hb; apply jb_i; unfold Jvm.ClassFile.Decoder.instr; rw [jb_u1 h0]; rfl
  case iand => cases h; obtain ⟨h0, -⟩ := hb; apply jb_i; unfold Jvm.ClassFile.Decoder.instr; rw [jb_u1 h0]; rfl
  case iastore => cases h; obtain ⟨h0, -⟩ := hb; apply jb_i; unfold Jvm.ClassFile.Decoder.instr; rw [jb_u1 h0]; rfl
  case idiv => cases h; obtain ⟨h0, -⟩ := hb; apply jb_i; unfold Jvm.ClassFile.Decoder.instr; rw [jb_u1 h0]; rfl
  case imul => cases h; obtain ⟨h0, -⟩ := hb; apply jb_i; unfold Jvm.ClassFile.Decoder.instr; rw [jb_u1 h0]; rfl
  case ineg => cases h; obtain ⟨h0, -⟩ := hb; apply jb_i; unfold Jvm.ClassFile.Decoder.instr; rw [jb_u1 h0]; rfl
  case ior => cases h; obtain ⟨h0, -⟩ := hb; apply jb_i; unfold Jvm.ClassFile.Decoder.instr; rw [jb_u1 h0]; rfl
  case irem => cases h; obtain ⟨h0, -⟩ := hb; apply jb_i; unfold Jvm.ClassFile.Decoder.instr; rw [jb_u1 h0]; rfl
  case ireturn => cases h; obtain ⟨h0, -⟩ := hb; apply jb_i; unfold Jvm.ClassFile.Decoder.instr; rw [jb_u1 h0]; rfl
  case ishl => cases h; obtain ⟨h0, -⟩ := hb; apply jb_i; unfold Jvm.ClassFile.Decoder.instr; rw [jb_u1 h0]; rfl
  case ishr => cases h; obtain ⟨h0, -⟩ := hb; apply jb_i; unfold Jvm.ClassFile.Decoder.instr; rw [jb_u1 h0]; rfl
  case isub => cases h; obtain ⟨h0, -⟩ := hb; apply jb_i; unfold Jvm.ClassFile.Decoder.instr; rw [jb_u1 h0]; rfl
  case iushr => cases h; obtain ⟨h0, -⟩ := hb; apply jb_i; unfold Jvm.ClassFile.Decoder.instr; rw [jb_u1 h0]; rfl
  case ixor => cases h; obtain ⟨h0, -⟩ := hb; apply jb_i; unfold Jvm.ClassFile.Decoder.instr; rw [jb_u1 h0]; rfl
  case l2i => cases h; obtain ⟨h0, -⟩ := hb; apply jb_i; unfold Jvm.ClassFile.Decoder.instr; rw [jb_u1 h0]; rfl
  case ladd => cases h; obtain ⟨h0, -⟩ := hb; apply jb_i; unfold Jvm.ClassFile.Decoder.instr; rw [jb_u1 h0]; rfl
  case laload => cases h; obtain ⟨h0, -⟩ := hb; apply jb_i; unfold Jvm.ClassFile.Decoder.instr; rw [jb_u1 h0]; rfl
  case land => cases h; obtain ⟨h0, -⟩ := hb; apply jb_i; unfold Jvm.ClassFile.Decoder.instr; rw [jb_u1 h0]; rfl
  case lastore => cases h; obtain ⟨h0, -⟩ := hb; apply jb_i; unfold Jvm.ClassFile.Decoder.instr; rw [jb_u1 h0]; rfl
  case lcmp => cases h; obtain ⟨h0, -⟩ := hb; apply jb_i; unfold Jvm.ClassFile.Decoder.instr; rw [jb_u1 h0]; rfl
  case ldiv => cases h; obtain ⟨h0, -⟩ := hb; apply jb_i; unfold Jvm.ClassFile.Decoder.instr; rw [jb_u1 h0]; rfl
  case lmul => cases h; obtain ⟨h0, -⟩ := hb; apply jb_i; unfold Jvm.ClassFile.Decoder.instr; rw [jb_u1 h0]; rfl
  case lneg => cases h; obtain ⟨h0, -⟩ := hb; apply jb_i; unfold Jvm.ClassFile.Decoder.instr; rw [jb_u1 h0]; rfl
  case lor => cases h; obtain ⟨h0, -⟩ := hb; apply jb_i; unfold Jvm.ClassFile.Decoder.instr; rw [jb_u1 h0]; rfl
  case lrem => cases h; obtain ⟨h0, -⟩ := hb; apply jb_i; unfold Jvm.ClassFile.Decoder.instr; rw [jb_u1 h0]; rfl
  case lreturn => cases h; obtain ⟨h0, -⟩ := hb; apply jb_i; unfold Jvm.ClassFile.Decoder.instr; rw [jb_u1 h0]; rfl
  case lshl => cases h; obtain ⟨h0, -⟩ := hb; apply jb_i; unfold Jvm.ClassFile.Decoder.instr; rw [jb_u1 h0]; rfl
  case lshr => cases h; obtain ⟨h0, -⟩ := hb; apply jb_i; unfold Jvm.ClassFile.Decoder.instr; rw [jb_u1 h0]; rfl
  case lsub => cases h; obtain ⟨h0, -⟩ := hb; apply jb_i; unfold Jvm.ClassFile.Decoder.instr; rw [jb_u1 h0]; rfl
  case lushr => cases h; obtain ⟨h0, -⟩ := hb; apply jb_i; unfold Jvm.ClassFile.Decoder.instr; rw [jb_u1 h0]; rfl
  case lxor => cases h; obtain ⟨h0, -⟩ := hb; apply jb_i; unfold Jvm.ClassFile.Decoder.instr; rw [jb_u1 h0]; rfl
  case pop => cases h; obtain ⟨h0, -⟩ := hb; apply jb_i; unfold Jvm.ClassFile.Decoder.instr; rw [jb_u1 h0]; rfl
  case pop2 => cases h; obtain ⟨h0, -⟩ := hb; apply jb_i; unfold Jvm.ClassFile.Decoder.instr; rw [jb_u1 h0]; rfl
  case return_ => cases h; obtain ⟨h0, -⟩ := hb; apply jb_i; unfold Jvm.ClassFile.Decoder.instr; rw [jb_u1 h0]; rfl
  case saload => cases h; obtain ⟨h0, -⟩ := hb; apply jb_i; unfold Jvm.ClassFile.Decoder.instr; rw [jb_u1 h0]; rfl
  case sastore => cases h; obtain ⟨h0, -⟩ := hb; apply jb_i; unfold Jvm.ClassFile.Decoder.instr; rw [jb_u1 h0]; rfl
  case iload_n n =>
    cases h; obtain ⟨h0, -⟩ := hb
    match n, h0 with
    | 0, h0 => apply jb_i; unfold Jvm.ClassFile.Decoder.instr; rw [jb_u1 h0]; rfl
    | 1, h0 => apply jb_i; unfold Jvm.ClassFile.Decoder.instr; rw [jb_u1 h0]; rfl
    | 2, h0 => apply jb_i; unfold Jvm.ClassFile.Decoder.instr; rw [jb_u1 h0]; rfl
    | 3, h0 => apply jb_i; unfold Jvm.ClassFile.Decoder.instr; rw [jb_u1 h0]; rfl
  case lload_n n =>
    cases h; obtain ⟨h0, -⟩ := hb
    match n, h0 with
    | 0, h0 => apply jb_i; unfold Jvm.ClassFile.Decoder.instr; rw [jb_u1 h0]; rfl
    | 1, h0 => apply jb_i; unfold Jvm.ClassFile.Decoder.instr; rw [jb_u1 h0]; rfl
    | 2, h0 => apply jb_i; unfold Jvm.ClassFile.Decoder.instr; rw [jb_u1 h0]; rfl
    | 3, h0 => apply jb_i; unfold Jvm.ClassFile.Decoder.instr; rw [jb_u1 h0]; rfl
  case aload_n n =>
    cases h; obtain ⟨h0, -⟩ := hb
    match n, h0 with
    | 0, h0 => apply jb_i; unfold Jvm.ClassFile.Decoder.instr; rw [jb_u1 h0]; rfl
    | 1, h0 => apply jb_i; unfold Jvm.ClassFile.Decoder.instr; rw [jb_u1 h0]; rfl
    | 2, h0 => apply jb_i; unfold Jvm.ClassFile.Decoder.instr; rw [jb_u1 h0]; rfl
    | 3, h0 => apply jb_i; unfold Jvm.ClassFile.Decoder.instr; rw [jb_u1 h0]; rfl
  case istore_n n =>
    cases h; obtain ⟨h0, -⟩ := hb
    match n, h0 with
    | 0, h0 => apply jb_i; unfold Jvm.ClassFile.Decoder.instr; rw [jb_u1 h0]; rfl
    | 1, h0 => apply jb_i; unfold Jvm.ClassFile.Decoder.instr; rw [jb_u1 h0]; rfl
    | 2, h0 => apply jb_i; unfold Jvm.ClassFile.Decoder.instr; rw [jb_u1 h0]; rfl
    | 3, h0 => apply jb_i; unfold Jvm.ClassFile.Decoder.instr; rw [jb_u1 h0]; rfl
  case lstore_n n =>
    cases h; obtain ⟨h0, -⟩ := hb
    match n, h0 with
    | 0, h0 => apply jb_i; unfold Jvm.ClassFile.Decoder.instr; rw [jb_u1 h0]; rfl
    | 1, h0 => apply jb_i; unfold Jvm.ClassFile.Decoder.instr; rw [jb_u1 h0]; rfl
    | 2, h0 => apply jb_i; unfold Jvm.ClassFile.Decoder.instr; rw [jb_u1 h0]; rfl
    | 3, h0 => apply jb_i; unfold Jvm.ClassFile.Decoder.instr; rw [jb_u1 h0]; rfl
  case astore_n n =>
    cases h; obtain ⟨h0, -⟩ := hb
    match n, h0 with
    | 0, h0 => apply jb_i; unfold Jvm.ClassFile.Decoder.instr; rw [jb_u1 h0]; rfl
    | 1, h0 => apply jb_i; unfold Jvm.ClassFile.Decoder.instr; rw [jb_u1 h0]; rfl
    | 2, h0 => apply jb_i; unfold Jvm.ClassFile.Decoder.instr; rw [jb_u1 h0]; rfl
    | 3, h0 => apply jb_i; unfold Jvm.ClassFile.Decoder.instr; rw [jb_u1 h0]; rfl
  case ldc i => cases h; obtain ⟨h0, h1, -⟩ := hb; apply jb_i; unfold Jvm.ClassFile.Decoder.instr; rw [jb_u1 h0]; show (Jvm.ClassFile.Reader.u1 >>= _) cc (p + 1) = _; rw [jb_u1 h1]; rfl
  case iload i => cases h; obtain ⟨h0, h1, -⟩ := hb; apply jb_i; unfold Jvm.ClassFile.Decoder.instr; rw [jb_u1 h0]; show (Jvm.ClassFile.Reader.u1 >>= _) cc (p + 1) = _; rw [jb_u1 h1]; rfl
  case lload i => cases h; obtain ⟨h0, h1, -⟩ := hb; apply jb_i; unfold Jvm.ClassFile.Decoder.instr; rw [jb_u1 h0]; show (Jvm.ClassFile.Reader.u1 >>= _) cc (p + 1) = _; rw [jb_u1 h1]; rfl
  case aload i => cases h; obtain ⟨h0, h1, -⟩ := hb; apply jb_i; unfold Jvm.ClassFile.Decoder.instr; rw [jb_u1 h0]; show (Jvm.ClassFile.Reader.u1 >>= _) cc (p + 1) = _; rw [jb_u1 h1]; rfl
  case istore i => cases h; obtain ⟨h0, h1, -⟩ := hb; apply jb_i; unfold Jvm.ClassFile.Decoder.instr; rw [jb_u1 h0]; show (Jvm.ClassFile.Reader.u1 >>= _) cc (p + 1) = _; rw [jb_u1 h1]; rfl
  case lstore i => cases h; obtain ⟨h0, h1, -⟩ := hb; apply jb_i; unfold Jvm.ClassFile.Decoder.instr; rw [jb_u1 h0]; show (Jvm.ClassFile.Reader.u1 >>= _) cc (p + 1) = _; rw [jb_u1 h1]; rfl
  case astore i => cases h; obtain ⟨h0, h1, -⟩ := hb; apply jb_i; unfold Jvm.ClassFile.Decoder.instr; rw [jb_u1 h0]; show (Jvm.ClassFile.Reader.u1 >>= _) cc (p + 1) = _; rw [jb_u1 h1]; rfl
  case ldc_w i =>
    cases h; obtain ⟨h0, h1, h2, -⟩ := hb; apply jb_i; unfold Jvm.ClassFile.Decoder.instr; rw [jb_u1 h0]
    show (Jvm.ClassFile.Reader.u2 >>= _) cc (p + 1) = _
    rw [jb_u2 h1 h2]
    have e : i / 256 * 256 + i % 256 = i := by omega
    rw [e]; rfl
  case ldc2_w i =>
    cases h; obtain ⟨h0, h1, h2, -⟩ := hb; apply jb_i; unfold Jvm.ClassFile.Decoder.instr; rw [jb_u1 h0]
    show (Jvm.ClassFile.Reader.u2 >>= _) cc (p + 1) = _
    rw [jb_u2 h1 h2]
    have e : i / 256 * 256 + i % 256 = i := by omega
    rw [e]; rfl
  case getstatic i =>
    cases h; obtain ⟨h0, h1, h2, -⟩ := hb; apply jb_i; unfold Jvm.ClassFile.Decoder.instr; rw [jb_u1 h0]
    show (Jvm.ClassFile.Reader.u2 >>= _) cc (p + 1) = _
    rw [jb_u2 h1 h2]
    have e : i / 256 * 256 + i % 256 = i := by omega
    rw [e]; rfl
  case getfield i =>
    cases h; obtain ⟨h0, h1, h2, -⟩ := hb; apply jb_i; unfold Jvm.ClassFile.Decoder.instr; rw [jb_u1 h0]
    show (Jvm.ClassFile.Reader.u2 >>= _) cc (p + 1) = _
    rw [jb_u2 h1 h2]
    have e : i / 256 * 256 + i % 256 = i := by omega
    rw [e]; rfl
  case putfield i =>
    cases h; obtain ⟨h0, h1, h2, -⟩ := hb; apply jb_i; unfold Jvm.ClassFile.Decoder.instr; rw [jb_u1 h0]
    show (Jvm.ClassFile.Reader.u2 >>= _) cc (p + 1) = _
    rw [jb_u2 h1 h2]
    have e : i / 256 * 256 + i % 256 = i := by omega
    rw [e]; rfl
  case invokevirtual i =>
    cases h; obtain ⟨h0, h1, h2, -⟩ := hb; apply jb_i; unfold Jvm.ClassFile.Decoder.instr; rw [jb_u1 h0]
    show (Jvm.ClassFile.Reader.u2 >>= _) cc (p + 1) = _
    rw [jb_u2 h1 h2]
    have e : i / 256 * 256 + i % 256 = i := by omega
    rw [e]; rfl
  case invokespecial i =>
    cases h; obtain ⟨h0, h1, h2, -⟩ := hb; apply jb_i; unfold Jvm.ClassFile.Decoder.instr; rw [jb_u1 h0]
    show (Jvm.ClassFile.Reader.u2 >>= _) cc (p + 1) = _
    rw [jb_u2 h1 h2]
    have e : i / 256 * 256 + i % 256 = i := by omega
    rw [e]; rfl
  case invokestatic i =>
    cases h; obtain ⟨h0, h1, h2, -⟩ := hb; apply jb_i; unfold Jvm.ClassFile.Decoder.instr; rw [jb_u1 h0]
    show (Jvm.ClassFile.Reader.u2 >>= _) cc (p + 1) = _
    rw [jb_u2 h1 h2]
    have e : i / 256 * 256 + i % 256 = i := by omega
    rw [e]; rfl
  case new i =>
    cases h; obtain ⟨h0, h1, h2, -⟩ := hb; apply jb_i; unfold Jvm.ClassFile.Decoder.instr; rw [jb_u1 h0]
    show (Jvm.ClassFile.Reader.u2 >>= _) cc (p + 1) = _
    rw [jb_u2 h1 h2]
    have e : i / 256 * 256 + i % 256 = i := by omega
    rw [e]; rfl
  case anewarray i =>
    cases h; obtain ⟨h0, h1, h2, -⟩ := hb; apply jb_i; unfold Jvm.ClassFile.Decoder.instr; rw [jb_u1 h0]
    show (Jvm.ClassFile.Reader.u2 >>= _) cc (p + 1) = _
    rw [jb_u2 h1 h2]
    have e : i / 256 * 256 + i % 256 = i := by omega
    rw [e]; rfl
  case checkcast i =>
    cases h; obtain ⟨h0, h1, h2, -⟩ := hb; apply jb_i; unfold Jvm.ClassFile.Decoder.instr; rw [jb_u1 h0]
    show (Jvm.ClassFile.Reader.u2 >>= _) cc (p + 1) = _
    rw [jb_u2 h1 h2]
    have e : i / 256 * 256 + i % 256 = i := by omega
    rw [e]; rfl
  case instanceof i =>
    cases h; obtain ⟨h0, h1, h2, -⟩ := hb; apply jb_i; unfold Jvm.ClassFile.Decoder.instr; rw [jb_u1 h0]
    show (Jvm.ClassFile.Reader.u2 >>= _) cc (p + 1) = _
    rw [jb_u2 h1 h2]
    have e : i / 256 * 256 + i % 256 = i := by omega
    rw [e]; rfl
  case sipush o =>
    unfold jenc at h; dsimp only at h; split at h
    · rename_i g; cases h; obtain ⟨h0, h1, h2, -⟩ := hb; apply jb_i; unfold Jvm.ClassFile.Decoder.instr; rw [jb_u1 h0]
      show (Jvm.ClassFile.Reader.s2 >>= _) cc (p + 1) = _
      rw [jb_s2 h1 h2, jsg16 g]; rfl
    · cases h
  case goto o =>
    unfold jenc at h; dsimp only at h; split at h
    · rename_i g; cases h; obtain ⟨h0, h1, h2, -⟩ := hb; apply jb_i; unfold Jvm.ClassFile.Decoder.instr; rw [jb_u1 h0]
      show (Jvm.ClassFile.Reader.s2 >>= _) cc (p + 1) = _
      rw [jb_s2 h1 h2, jsg16 g]; rfl
    · cases h
  case ifnull o =>
    unfold jenc at h; dsimp only at h; split at h
    · rename_i g; cases h; obtain ⟨h0, h1, h2, -⟩ := hb; apply jb_i; unfold Jvm.ClassFile.Decoder.instr; rw [jb_u1 h0]
      show (Jvm.ClassFile.Reader.s2 >>= _) cc (p + 1) = _
      rw [jb_s2 h1 h2, jsg16 g]; rfl
    · cases h
  case ifnonnull o =>
    unfold jenc at h; dsimp only at h; split at h
    · rename_i g; cases h; obtain ⟨h0, h1, h2, -⟩ := hb; apply jb_i; unfold Jvm.ClassFile.Decoder.instr; rw [jb_u1 h0]
      show (Jvm.ClassFile.Reader.s2 >>= _) cc (p + 1) = _
      rw [jb_s2 h1 h2, jsg16 g]; rfl
    · cases h
  case ifCond c o =>
    unfold jenc at h; dsimp only at h; split at h
    · rename_i g; cases h; obtain ⟨h0, h1, h2, -⟩ := hb
      cases c
      case eq =>
        apply jb_i; unfold Jvm.ClassFile.Decoder.instr; rw [jb_u1 h0]
        show (Jvm.ClassFile.Reader.s2 >>= _) cc (p + 1) = _
        rw [jb_s2 h1 h2, jsg16 g]; rfl
      case ne =>
        apply jb_i; unfold Jvm.ClassFile.Decoder.instr; rw [jb_u1 h0]
        show (Jvm.ClassFile.Reader.s2 >>= _) cc (p + 1) = _
        rw [jb_s2 h1 h2, jsg16 g]; rfl
      case lt =>
        apply jb_i; unfold Jvm.ClassFile.Decoder.instr; rw [jb_u1 h0]
        show (Jvm.ClassFile.Reader.s2 >>= _) cc (p + 1) = _
        rw [jb_s2 h1 h2, jsg16 g]; rfl
      case ge =>
        apply jb_i; unfold Jvm.ClassFile.Decoder.instr; rw [jb_u1 h0]
        show (Jvm.ClassFile.Reader.s2 >>= _) cc (p + 1) = _
        rw [jb_s2 h1 h2, jsg16 g]; rfl
      case gt =>
        apply jb_i; unfold Jvm.ClassFile.Decoder.instr; rw [jb_u1 h0]
        show (Jvm.ClassFile.Reader.s2 >>= _) cc (p + 1) = _
        rw [jb_s2 h1 h2, jsg16 g]; rfl
      case le =>
        apply jb_i; unfold Jvm.ClassFile.Decoder.instr; rw [jb_u1 h0]
        show (Jvm.ClassFile.Reader.s2 >>= _) cc (p + 1) = _
        rw [jb_s2 h1 h2, jsg16 g]; rfl
    · cases h
  case if_icmp c o =>
    unfold jenc at h; dsimp only at h; split at h
    · rename_i g; cases h; obtain ⟨h0, h1, h2, -⟩ := hb
      cases c
      case eq =>
        apply jb_i; unfold Jvm.ClassFile.Decoder.instr; rw [jb_u1 h0]
        show (Jvm.ClassFile.Reader.s2 >>= _) cc (p + 1) = _
        rw [jb_s2 h1 h2, jsg16 g]; rfl
      case ne =>
        apply jb_i; unfold Jvm.ClassFile.Decoder.instr; rw [jb_u1 h0]
        show (Jvm.ClassFile.Reader.s2 >>= _) cc (p + 1) = _
        rw [jb_s2 h1 h2, jsg16 g]; rfl
      case lt =>
        apply jb_i; unfold Jvm.ClassFile.Decoder.instr; rw [jb_u1 h0]
        show (Jvm.ClassFile.Reader.s2 >>= _) cc (p + 1) = _
        rw [jb_s2 h1 h2, jsg16 g]; rfl
      case ge =>
        apply jb_i; unfold Jvm.ClassFile.Decoder.instr; rw [jb_u1 h0]
        show (Jvm.ClassFile.Reader.s2 >>= _) cc (p + 1) = _
        rw [jb_s2 h1 h2, jsg16 g]; rfl
      case gt =>
        apply jb_i; unfold Jvm.ClassFile.Decoder.instr; rw [jb_u1 h0]
        show (Jvm.ClassFile.Reader.s2 >>= _) cc (p + 1) = _
        rw [jb_s2 h1 h2, jsg16 g]; rfl
      case le =>
        apply jb_i; unfold Jvm.ClassFile.Decoder.instr; rw [jb_u1 h0]
        show (Jvm.ClassFile.Reader.s2 >>= _) cc (p + 1) = _
        rw [jb_s2 h1 h2, jsg16 g]; rfl
    · cases h
  case if_acmp c o =>
    unfold jenc at h; dsimp only at h; split at h
    · rename_i g; cases h; obtain ⟨h0, h1, h2, -⟩ := hb
      cases c
      case eq =>
        apply jb_i; unfold Jvm.ClassFile.Decoder.instr; rw [jb_u1 h0]
        show (Jvm.ClassFile.Reader.s2 >>= _) cc (p + 1) = _
        rw [jb_s2 h1 h2, jsg16 g]; rfl
      case ne =>
        apply jb_i; unfold Jvm.ClassFile.Decoder.instr; rw [jb_u1 h0]
        show (Jvm.ClassFile.Reader.s2 >>= _) cc (p + 1) = _
        rw [jb_s2 h1 h2, jsg16 g]; rfl
    · cases h
  case bipush o =>
    unfold jenc at h; dsimp only at h; split at h
    · rename_i g; cases h; obtain ⟨h0, h1, -⟩ := hb; apply jb_i; unfold Jvm.ClassFile.Decoder.instr; rw [jb_u1 h0]
      show (Jvm.ClassFile.Reader.s1 >>= _) cc (p + 1) = _
      rw [jb_s1 h1, jsg8 g]; rfl
    · cases h
  case iinc i o =>
    unfold jenc at h; dsimp only at h; split at h
    · rename_i g; cases h; obtain ⟨h0, h1, h2, -⟩ := hb; apply jb_i; unfold Jvm.ClassFile.Decoder.instr; rw [jb_u1 h0]
      show (Jvm.ClassFile.Reader.u1 >>= _) cc (p + 1) = _
      rw [jb_u1 h1]
      show (Jvm.ClassFile.Reader.s1 >>= _) cc (p + 1 + 1) = _
      rw [jb_s1 h2, jsg8 g]; rfl
    · cases h
  case iconst i =>
    unfold jenc at h; dsimp only at h; split at h
    · rename_i g; cases h; obtain ⟨h0, -⟩ := hb
      have : i = -1 ∨ i = 0 ∨ i = 1 ∨ i = 2 ∨ i = 3 ∨ i = 4 ∨ i = 5 := by omega
      rcases this with rfl | rfl | rfl | rfl | rfl | rfl | rfl <;> (apply jb_i; unfold Jvm.ClassFile.Decoder.instr; rw [jb_u1 h0]; rfl)
    · cases h
  case lconst i =>
    cases h; obtain ⟨h0, -⟩ := hb
    match i, h0 with
    | 0, h0 => apply jb_i; unfold Jvm.ClassFile.Decoder.instr; rw [jb_u1 h0]; rfl
    | 1, h0 => apply jb_i; unfold Jvm.ClassFile.Decoder.instr; rw [jb_u1 h0]; rfl
  case newarray a =>
    cases h; obtain ⟨h0, h1, -⟩ := hb
    cases a
    case boolean =>
      apply jb_i; unfold Jvm.ClassFile.Decoder.instr; rw [jb_u1 h0]
      show Jvm.ClassFile.Decoder.newarray p cc (p + 1) = _
      unfold Jvm.ClassFile.Decoder.newarray
      rw [jb_u1 h1]; rfl
    case char =>
      apply jb_i; unfold Jvm.ClassFile.Decoder.instr; rw [jb_u1 h0]
      show Jvm.ClassFile.Decoder.newarray p cc (p + 1) = _
      unfold Jvm.ClassFile.Decoder.newarray
      rw [jb_u1 h1]; rfl
    case byte =>
      apply jb_i; unfold Jvm.ClassFile.Decoder.instr; rw [jb_u1 h0]
      show Jvm.ClassFile.Decoder.newarray p cc (p + 1) = _
      unfold Jvm.ClassFile.Decoder.newarray
      rw [jb_u1 h1]; rfl
    case short =>
      apply jb_i; unfold Jvm.ClassFile.Decoder.instr; rw [jb_u1 h0]
      show Jvm.ClassFile.Decoder.newarray p cc (p + 1) = _
      unfold Jvm.ClassFile.Decoder.newarray
      rw [jb_u1 h1]; rfl
    case int =>
      apply jb_i; unfold Jvm.ClassFile.Decoder.instr; rw [jb_u1 h0]
      show Jvm.ClassFile.Decoder.newarray p cc (p + 1) = _
      unfold Jvm.ClassFile.Decoder.newarray
      rw [jb_u1 h1]; rfl
    case long =>
      apply jb_i; unfold Jvm.ClassFile.Decoder.instr; rw [jb_u1 h0]
      show Jvm.ClassFile.Decoder.newarray p cc (p + 1) = _
      unfold Jvm.ClassFile.Decoder.newarray
      rw [jb_u1 h1]; rfl
    all_goals (have := jb_lt h1; exact absurd this (by decide))
def jpre : List Nat → List Nat → Bool
  | [], _ => true
  | v :: s, w :: t => Nat.beq v w && jpre s t
  | _, _ => false
def jcode (cc : ByteArray) : List jRow → Nat → List Nat → Bool
  | [], _, _ => true
  | (p, I, n, fl, t, _) :: rest, pos, bs => Nat.beq p pos && ((if Nat.ble 8 fl then (decide (decode cc p = .ok (I, 3)) && (decide (decode cc (p + 3) = .ok (.dup, 1)) && (decide (decode cc (p + 4) = .ok (.invokespecial t.toNat, 3)) && Nat.blt t.toNat 65536))) else match jenc I with
    | some e => Nat.beq e.length n && jpre e bs
    | none => decide (decode cc p = .ok (I, n))) && jcode cc rest (pos + n) (bs.drop n))
def jbytes (cc : ByteArray) : List Nat := cc.data.toList.map UInt8.toNat
theorem jpre_b {cc : ByteArray} : ∀ {e : List Nat} {p : Nat}, jpre e ((jbytes cc).drop p) = true → jbs cc p e
  | [], _, _ => trivial
  | v :: s, p, h => by
    cases hd : (jbytes cc).drop p with
    | nil => rw [hd] at h; cases h
    | cons w t =>
      rw [hd] at h
      unfold jpre at h
      rw [Bool.and_eq_true] at h
      have := jbeq h.1; subst this
      have ht : t = (jbytes cc).drop (p + 1) := by
        rw [← List.drop_drop, hd]; rfl
      rw [ht] at h
      refine ⟨?_, jpre_b h.2⟩
      have hv : (jbytes cc)[p]? = some v := by
        have := congrArg (fun l => l[0]?) hd
        simpa using this
      unfold jbytes at hv
      rw [List.getElem?_map, Option.map_eq_some_iff] at hv
      obtain ⟨u, h1, h2⟩ := hv
      have hlt : p < cc.data.toList.length := (List.getElem?_eq_some_iff.mp h1).1
      refine ⟨by show p < cc.data.size; rw [← Array.length_toList]; exact hlt, ?_⟩
      have h3 := (List.getElem?_eq_some_iff.mp h1).2
      rw [← h2, ← h3]
      rfl
theorem jcode_ok {cc : ByteArray} : ∀ {rows : List jRow} {pos : Nat}, jcode cc rows pos ((jbytes cc).drop pos) = true → ∀ q ∈ rows, jRok cc q
  | [], _, _, _, hq => by cases hq
  | (p, I, n, fl, t, c) :: rest, pos, h, q, hq => by
    unfold jcode at h
    rw [Bool.and_eq_true, Bool.and_eq_true, List.drop_drop] at h
    have := jbeq h.1; subst this
    rcases List.mem_cons.mp hq with rfl | hq
    · have h2 := h.2.1
      unfold jRok
      split at h2
      · rename_i g
        rw [if_pos (Nat.le_of_ble_eq_true g)]
        simp only [Bool.and_eq_true, decide_eq_true_iff] at h2
        exact ⟨fun i e => by have e : I = .new i := e; rw [← e]; exact h2.1, h2.2.1, h2.2.2.1, Nat.blt_eq.mp h2.2.2.2⟩
      rename_i g
      rw [if_neg (fun g' => g (Nat.ble_eq_true_of_le g'))]
      split at h2
      · rename_i e he
        rw [Bool.and_eq_true] at h2
        have := jenc_ok he (jpre_b h2.2)
        have hn := jbeq h2.1
        rw [hn] at this
        exact this
      · exact of_decide_eq_true h2
    · exact jcode_ok h.2.2 q hq
theorem jcode_all {cc : ByteArray} {rows : List jRow} (h : jcode cc rows 0 (jbytes cc) = true) : ∀ q ∈ rows, jRok cc q := jcode_ok (pos := 0) (by simpa using h)
