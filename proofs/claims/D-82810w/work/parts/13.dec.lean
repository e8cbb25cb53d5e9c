/-! an assembler: what decode reads, read off the bytes -/
def zb (c : ByteArray) (p n : Nat) : Prop := ∃ h : p < c.size, (c[p]'h).toNat = n
theorem u1a {c : ByteArray} {p n : Nat} (h : zb c p n) : (Reader.u1 : Decoder Nat) c p = .ok (n, p + 1) := by
  obtain ⟨h, e⟩ := h
  show (if h : p < c.size then (do set (p + 1); pure (c[p]'h).toNat : Decoder Nat) else throw (HasTruncated.truncated p)) c p = _
  rw [dif_pos h, ← e]
  rfl
theorem zbind {α β : Type} {r : Decoder α} {f : α → Decoder β} {c : ByteArray} {p p' : Nat} {a : α} (h : r c p = .ok (a, p')) : (r >>= f) c p = f a c p' := by
  show (r c p >>= fun q => f q.1 c q.2) = _
  rw [h]
  rfl
theorem u1b {β : Type} {f : Nat → Decoder β} {c : ByteArray} {p n : Nat} (h : zb c p n) : (Reader.u1 >>= f) c p = f n c (p + 1) := zbind (u1a h)
theorem u2a {c : ByteArray} {p a b : Nat} (h : zb c p a) (h2 : zb c (p + 1) b) : (Reader.u2 : Decoder Nat) c p = .ok (a * 256 + b, p + 2) := (u1b h).trans ((u1b h2).trans rfl)
theorem u2b {β : Type} {f : Nat → Decoder β} {c : ByteArray} {p x : Nat} (h : zb c p (x / 256)) (h2 : zb c (p + 1) (x % 256)) : (Reader.u2 >>= f) c p = f x c (p + 2) := by
  have e : x / 256 * 256 + x % 256 = x := Nat.div_add_mod' x 256
  have := zbind (f := f) (u2a h h2)
  rwa [e] at this
theorem zmap {α β : Type} {r : Decoder α} {f : α → β} {c : ByteArray} {p p' : Nat} {a : α} (h : r c p = .ok (a, p')) : (f <$> r) c p = .ok (f a, p') := by
  show (r c p >>= fun q => .ok (f q.1, q.2)) = _
  rw [h]
  rfl
theorem s1b {β : Type} {f : Int → Decoder β} {c : ByteArray} {p n : Nat} {o : Int} (h : zb c p n) (e : Reader.signed 8 n = o) : (Reader.s1 >>= f) c p = f o c (p + 1) := by
  rw [← e]
  exact zbind (zmap (u1a h))
theorem s2b {β : Type} {f : Int → Decoder β} {c : ByteArray} {p n : Nat} {o : Int} (h : zb c p (n / 256)) (h2 : zb c (p + 1) (n % 256)) (e : Reader.signed 16 n = o) : (Reader.s2 >>= f) c p = f o c (p + 2) := by
  have e1 : n / 256 * 256 + n % 256 = n := Nat.div_add_mod' n 256
  have h3 := u2a h h2
  rw [e1] at h3
  rw [← e]
  exact zbind (zmap h3)
theorem zs8 {o : Int} (h : -128 ≤ o ∧ o < 128) : Reader.signed 8 (o % 256).toNat = o := by
  unfold Reader.signed
  simp only [show (2 : Nat) ^ (8 - 1) = 128 from rfl, show ((2 ^ 8 : Nat) : Int) = 256 from rfl]
  split <;> omega
theorem zs16 {o : Int} (h : -32768 ≤ o ∧ o < 32768) : Reader.signed 16 (o % 65536).toNat = o := by
  unfold Reader.signed
  simp only [show (2 : Nat) ^ (16 - 1) = 32768 from rfl, show ((2 ^ 16 : Nat) : Int) = 65536 from rfl]
  split <;> omega
theorem zdecI {c : ByteArray} {pc p' : Nat} {i : Instr} (e : Decoder.instr pc c pc = .ok (i, p')) : decode c pc = .ok (i, p' - pc) := by
  show (Decoder.instr pc c pc >>= fun q => .ok (q.1, q.2 - pc)) = _
  rw [e]
  rfl
theorem zdec1 {c : ByteArray} {pc : Nat} {i : Instr} (e : Decoder.instr pc c pc = .ok (i, pc + 1)) : decode c pc = .ok (i, 1) := (zdecI e).trans (by rw [Nat.add_sub_cancel_left])
theorem zdec2 {c : ByteArray} {pc : Nat} {i : Instr} (e : Decoder.instr pc c pc = .ok (i, pc + 2)) : decode c pc = .ok (i, 2) := (zdecI e).trans (by rw [Nat.add_sub_cancel_left])
theorem zdec3 {c : ByteArray} {pc : Nat} {i : Instr} (e : Decoder.instr pc c pc = .ok (i, pc + 3)) : decode c pc = .ok (i, 3) := (zdecI e).trans (by rw [Nat.add_sub_cancel_left])
theorem zdm {α : Type} {a b : α} (h : a = b) : a = b := h
def zoff (op : Nat) (o : Int) : List Nat := if -32768 ≤ o ∧ o < 32768 then [op, (o % 65536).toNat / 256, (o % 65536).toNat % 256] else []
def zbs (c : ByteArray) : Nat → List Nat → Prop
  | _, [] => True
  | p, b :: r => zb c p b ∧ zbs c (p + 1) r
theorem zoffS {c : ByteArray} {pc op : Nat} {o : Int} (h0 : ¬ zoff op o = []) (h : zbs c pc (zoff op o)) : Reader.signed 16 (o % 65536).toNat = o ∧ zb c pc op ∧ zb c (pc + 1) ((o % 65536).toNat / 256) ∧ zb c (pc + 1 + 1) ((o % 65536).toNat % 256) ∧ (zoff op o).length = 3 := by
  by_cases hx : -32768 ≤ o ∧ o < 32768
  · have e : zoff op o = [op, (o % 65536).toNat / 256, (o % 65536).toNat % 256] := if_pos hx
    rw [e] at h ⊢
    exact ⟨zs16 hx, h.1, h.2.1, h.2.2.1, rfl⟩
  · exact absurd (if_neg hx) h0

def zenc : Instr → List Nat
  | .aaload => [50]
  | .aastore => [83]
  | .aconst_null => [1]
  | .aload x => [25, x]
  | .aload_n 0 => [42]
  | .aload_n 1 => [43]
  | .aload_n 2 => [44]
  | .aload_n 3 => [45]
  | .anewarray x => [189, x / 256, x % 256]
  | .areturn => [176]
  | .arraylength => [190]
  | .astore x => [58, x]
  | .astore_n 0 => [75]
  | .astore_n 1 => [76]
  | .astore_n 2 => [77]
  | .astore_n 3 => [78]
  | .athrow => [191]
  | .baload => [51]
  | .bastore => [84]
  | .bipush o => if -128 ≤ o ∧ o < 128 then [16, (o % 256).toNat] else []
  | .caload => [52]
  | .castore => [85]
  | .checkcast x => [192, x / 256, x % 256]
  | .d2f => [144]
  | .d2i => [142]
  | .d2l => [143]
  | .dadd => [99]
  | .daload => [49]
  | .dastore => [82]
  | .dconst 0 => [14]
  | .dconst 1 => [15]
  | .ddiv => [111]
  | .dload x => [24, x]
  | .dload_n 0 => [38]
  | .dload_n 1 => [39]
  | .dload_n 2 => [40]
  | .dload_n 3 => [41]
  | .dmul => [107]
  | .dneg => [119]
  | .drem => [115]
  | .dreturn => [175]
  | .dstore x => [57, x]
  | .dstore_n 0 => [71]
  | .dstore_n 1 => [72]
  | .dstore_n 2 => [73]
  | .dstore_n 3 => [74]
  | .dsub => [103]
  | .dup => [89]
  | .dup_x1 => [90]
  | .dup_x2 => [91]
  | .dup2 => [92]
  | .dup2_x1 => [93]
  | .dup2_x2 => [94]
  | .f2d => [141]
  | .f2i => [139]
  | .f2l => [140]
  | .fadd => [98]
  | .faload => [48]
  | .fastore => [81]
  | .fconst 0 => [11]
  | .fconst 1 => [12]
  | .fconst 2 => [13]
  | .fdiv => [110]
  | .fload x => [23, x]
  | .fload_n 0 => [34]
  | .fload_n 1 => [35]
  | .fload_n 2 => [36]
  | .fload_n 3 => [37]
  | .fmul => [106]
  | .fneg => [118]
  | .frem => [114]
  | .freturn => [174]
  | .fstore x => [56, x]
  | .fstore_n 0 => [67]
  | .fstore_n 1 => [68]
  | .fstore_n 2 => [69]
  | .fstore_n 3 => [70]
  | .fsub => [102]
  | .getfield x => [180, x / 256, x % 256]
  | .getstatic x => [178, x / 256, x % 256]
  | .goto o => zoff 167 o
  | .i2b => [145]
  | .i2c => [146]
  | .i2d => [135]
  | .i2f => [134]
  | .i2l => [133]
  | .i2s => [147]
  | .iadd => [96]
  | .iaload => [46]
  | .iand => [126]
  | .iastore => [79]
  | .iconst x => if -1 ≤ x ∧ x ≤ 5 then [(x + 3).toNat] else []
  | .idiv => [108]
  | .if_acmp .eq o => zoff 165 o
  | .if_acmp .ne o => zoff 166 o
  | .if_icmp .eq o => zoff 159 o
  | .if_icmp .ne o => zoff 160 o
  | .if_icmp .lt o => zoff 161 o
  | .if_icmp .ge o => zoff 162 o
  | .if_icmp .gt o => zoff 163 o
  | .if_icmp .le o => zoff 164 o
  | .ifCond .eq o => zoff 153 o
  | .ifCond .ne o => zoff 154 o
  | .ifCond .lt o => zoff 155 o
  | .ifCond .ge o => zoff 156 o
  | .ifCond .gt o => zoff 157 o
  | .ifCond .le o => zoff 158 o
  | .ifnonnull o => zoff 199 o
  | .ifnull o => zoff 198 o
  | .iinc x o => if -128 ≤ o ∧ o < 128 then [132, x, (o % 256).toNat] else []
  | .iload x => [21, x]
  | .iload_n 0 => [26]
  | .iload_n 1 => [27]
  | .iload_n 2 => [28]
  | .iload_n 3 => [29]
  | .imul => [104]
  | .ineg => [116]
  | .instanceof x => [193, x / 256, x % 256]
  | .invokespecial x => [183, x / 256, x % 256]
  | .invokestatic x => [184, x / 256, x % 256]
  | .invokevirtual x => [182, x / 256, x % 256]
  | .ior => [128]
  | .irem => [112]
  | .ireturn => [172]
  | .ishl => [120]
  | .ishr => [122]
  | .istore x => [54, x]
  | .istore_n 0 => [59]
  | .istore_n 1 => [60]
  | .istore_n 2 => [61]
  | .istore_n 3 => [62]
  | .isub => [100]
  | .iushr => [124]
  | .ixor => [130]
  | .l2d => [138]
  | .l2f => [137]
  | .l2i => [136]
  | .ladd => [97]
  | .laload => [47]
  | .land => [127]
  | .lastore => [80]
  | .lcmp => [148]
  | .lconst 0 => [9]
  | .lconst 1 => [10]
  | .ldc x => [18, x]
  | .ldc_w x => [19, x / 256, x % 256]
  | .ldc2_w x => [20, x / 256, x % 256]
  | .ldiv => [109]
  | .lload x => [22, x]
  | .lload_n 0 => [30]
  | .lload_n 1 => [31]
  | .lload_n 2 => [32]
  | .lload_n 3 => [33]
  | .lmul => [105]
  | .lneg => [117]
  | .lor => [129]
  | .lrem => [113]
  | .lreturn => [173]
  | .lshl => [121]
  | .lshr => [123]
  | .lstore x => [55, x]
  | .lstore_n 0 => [63]
  | .lstore_n 1 => [64]
  | .lstore_n 2 => [65]
  | .lstore_n 3 => [66]
  | .lsub => [101]
  | .lushr => [125]
  | .lxor => [131]
  | .monitorenter => [194]
  | .monitorexit => [195]
  | .new x => [187, x / 256, x % 256]
  | .newarray .boolean => [188, 4]
  | .newarray .char => [188, 5]
  | .newarray .float => [188, 6]
  | .newarray .double => [188, 7]
  | .newarray .byte => [188, 8]
  | .newarray .short => [188, 9]
  | .newarray .int => [188, 10]
  | .newarray .long => [188, 11]
  | .nop => [0]
  | .pop => [87]
  | .pop2 => [88]
  | .putfield x => [181, x / 256, x % 256]
  | .putstatic x => [179, x / 256, x % 256]
  | .return_ => [177]
  | .saload => [53]
  | .sastore => [86]
  | .sipush o => zoff 17 o
  | .swap => [95]
  | _ => []
theorem zenc_ok {c : ByteArray} {pc : Nat} : ∀ i : Instr, ¬ zenc i = [] → zbs c pc (zenc i) → decode c pc = .ok (i, (zenc i).length)
  | .aaload, _, h => zdec1 ((u1b h.1).trans rfl)
  | .aastore, _, h => zdec1 ((u1b h.1).trans rfl)
  | .aconst_null, _, h => zdec1 ((u1b h.1).trans rfl)
  | .aload x, _, h => zdec2 ((u1b h.1).trans ((u1b h.2.1).trans rfl))
  | .aload_n 0, _, h => zdec1 ((u1b h.1).trans rfl)
  | .aload_n 1, _, h => zdec1 ((u1b h.1).trans rfl)
  | .aload_n 2, _, h => zdec1 ((u1b h.1).trans rfl)
  | .aload_n 3, _, h => zdec1 ((u1b h.1).trans rfl)
  | .anewarray x, _, h => zdec3 ((u1b h.1).trans ((u2b h.2.1 h.2.2.1).trans (zdm rfl)))
  | .areturn, _, h => zdec1 ((u1b h.1).trans rfl)
  | .arraylength, _, h => zdec1 ((u1b h.1).trans rfl)
  | .astore x, _, h => zdec2 ((u1b h.1).trans ((u1b h.2.1).trans rfl))
  | .astore_n 0, _, h => zdec1 ((u1b h.1).trans rfl)
  | .astore_n 1, _, h => zdec1 ((u1b h.1).trans rfl)
  | .astore_n 2, _, h => zdec1 ((u1b h.1).trans rfl)
  | .astore_n 3, _, h => zdec1 ((u1b h.1).trans rfl)
  | .athrow, _, h => zdec1 ((u1b h.1).trans rfl)
  | .baload, _, h => zdec1 ((u1b h.1).trans rfl)
  | .bastore, _, h => zdec1 ((u1b h.1).trans rfl)
  | .bipush o, h0, h => by
    have hx : -128 ≤ o ∧ o < 128 := by
      by_cases hx : -128 ≤ o ∧ o < 128
      · exact hx
      · exact absurd (if_neg hx) h0
    have e : zenc (.bipush o) = [16, (o % 256).toNat] := if_pos hx
    rw [e] at h ⊢
    exact zdec2 ((u1b h.1).trans ((s1b h.2.1 (zs8 hx)).trans rfl))
  | .caload, _, h => zdec1 ((u1b h.1).trans rfl)
  | .castore, _, h => zdec1 ((u1b h.1).trans rfl)
  | .checkcast x, _, h => zdec3 ((u1b h.1).trans ((u2b h.2.1 h.2.2.1).trans (zdm rfl)))
  | .d2f, _, h => zdec1 ((u1b h.1).trans rfl)
  | .d2i, _, h => zdec1 ((u1b h.1).trans rfl)
  | .d2l, _, h => zdec1 ((u1b h.1).trans rfl)
  | .dadd, _, h => zdec1 ((u1b h.1).trans rfl)
  | .daload, _, h => zdec1 ((u1b h.1).trans rfl)
  | .dastore, _, h => zdec1 ((u1b h.1).trans rfl)
  | .dcmp _, h, _ => absurd rfl h
  | .dconst 0, _, h => zdec1 ((u1b h.1).trans rfl)
  | .dconst 1, _, h => zdec1 ((u1b h.1).trans rfl)
  | .ddiv, _, h => zdec1 ((u1b h.1).trans rfl)
  | .dload x, _, h => zdec2 ((u1b h.1).trans ((u1b h.2.1).trans rfl))
  | .dload_n 0, _, h => zdec1 ((u1b h.1).trans rfl)
  | .dload_n 1, _, h => zdec1 ((u1b h.1).trans rfl)
  | .dload_n 2, _, h => zdec1 ((u1b h.1).trans rfl)
  | .dload_n 3, _, h => zdec1 ((u1b h.1).trans rfl)
  | .dmul, _, h => zdec1 ((u1b h.1).trans rfl)
  | .dneg, _, h => zdec1 ((u1b h.1).trans rfl)
  | .drem, _, h => zdec1 ((u1b h.1).trans rfl)
  | .dreturn, _, h => zdec1 ((u1b h.1).trans rfl)
  | .dstore x, _, h => zdec2 ((u1b h.1).trans ((u1b h.2.1).trans rfl))
  | .dstore_n 0, _, h => zdec1 ((u1b h.1).trans rfl)
  | .dstore_n 1, _, h => zdec1 ((u1b h.1).trans rfl)
  | .dstore_n 2, _, h => zdec1 ((u1b h.1).trans rfl)
  | .dstore_n 3, _, h => zdec1 ((u1b h.1).trans rfl)
  | .dsub, _, h => zdec1 ((u1b h.1).trans rfl)
  | .dup, _, h => zdec1 ((u1b h.1).trans rfl)
  | .dup_x1, _, h => zdec1 ((u1b h.1).trans rfl)
  | .dup_x2, _, h => zdec1 ((u1b h.1).trans rfl)
  | .dup2, _, h => zdec1 ((u1b h.1).trans rfl)
  | .dup2_x1, _, h => zdec1 ((u1b h.1).trans rfl)
  | .dup2_x2, _, h => zdec1 ((u1b h.1).trans rfl)
  | .f2d, _, h => zdec1 ((u1b h.1).trans rfl)
  | .f2i, _, h => zdec1 ((u1b h.1).trans rfl)
  | .f2l, _, h => zdec1 ((u1b h.1).trans rfl)
  | .fadd, _, h => zdec1 ((u1b h.1).trans rfl)
  | .faload, _, h => zdec1 ((u1b h.1).trans rfl)
  | .fastore, _, h => zdec1 ((u1b h.1).trans rfl)
  | .fcmp _, h, _ => absurd rfl h
  | .fconst 0, _, h => zdec1 ((u1b h.1).trans rfl)
  | .fconst 1, _, h => zdec1 ((u1b h.1).trans rfl)
  | .fconst 2, _, h => zdec1 ((u1b h.1).trans rfl)
  | .fdiv, _, h => zdec1 ((u1b h.1).trans rfl)
  | .fload x, _, h => zdec2 ((u1b h.1).trans ((u1b h.2.1).trans rfl))
  | .fload_n 0, _, h => zdec1 ((u1b h.1).trans rfl)
  | .fload_n 1, _, h => zdec1 ((u1b h.1).trans rfl)
  | .fload_n 2, _, h => zdec1 ((u1b h.1).trans rfl)
  | .fload_n 3, _, h => zdec1 ((u1b h.1).trans rfl)
  | .fmul, _, h => zdec1 ((u1b h.1).trans rfl)
  | .fneg, _, h => zdec1 ((u1b h.1).trans rfl)
  | .frem, _, h => zdec1 ((u1b h.1).trans rfl)
  | .freturn, _, h => zdec1 ((u1b h.1).trans rfl)
  | .fstore x, _, h => zdec2 ((u1b h.1).trans ((u1b h.2.1).trans rfl))
  | .fstore_n 0, _, h => zdec1 ((u1b h.1).trans rfl)
  | .fstore_n 1, _, h => zdec1 ((u1b h.1).trans rfl)
  | .fstore_n 2, _, h => zdec1 ((u1b h.1).trans rfl)
  | .fstore_n 3, _, h => zdec1 ((u1b h.1).trans rfl)
  | .fsub, _, h => zdec1 ((u1b h.1).trans rfl)
  | .getfield x, _, h => zdec3 ((u1b h.1).trans ((u2b h.2.1 h.2.2.1).trans (zdm rfl)))
  | .getstatic x, _, h => zdec3 ((u1b h.1).trans ((u2b h.2.1 h.2.2.1).trans (zdm rfl)))
  | .goto o, h0, h => by
    obtain ⟨e, h1, h2, h3, hl⟩ := zoffS h0 h
    show decode c pc = .ok (_, (zoff 167 o).length)
    rw [hl]
    exact zdec3 ((u1b h1).trans ((s2b h2 h3 e).trans rfl))
  | .goto_w _, h, _ => absurd rfl h
  | .i2b, _, h => zdec1 ((u1b h.1).trans rfl)
  | .i2c, _, h => zdec1 ((u1b h.1).trans rfl)
  | .i2d, _, h => zdec1 ((u1b h.1).trans rfl)
  | .i2f, _, h => zdec1 ((u1b h.1).trans rfl)
  | .i2l, _, h => zdec1 ((u1b h.1).trans rfl)
  | .i2s, _, h => zdec1 ((u1b h.1).trans rfl)
  | .iadd, _, h => zdec1 ((u1b h.1).trans rfl)
  | .iaload, _, h => zdec1 ((u1b h.1).trans rfl)
  | .iand, _, h => zdec1 ((u1b h.1).trans rfl)
  | .iastore, _, h => zdec1 ((u1b h.1).trans rfl)
  | .iconst x, h0, h => by
    have hx : -1 ≤ x ∧ x ≤ 5 := by
      by_cases hx : -1 ≤ x ∧ x ≤ 5
      · exact hx
      · exact absurd (if_neg hx) h0
    have e : zenc (.iconst x) = [(x + 3).toNat] := if_pos hx
    rw [e] at h ⊢
    have : x = -1 ∨ x = 0 ∨ x = 1 ∨ x = 2 ∨ x = 3 ∨ x = 4 ∨ x = 5 := by omega
    rcases this with rfl | rfl | rfl | rfl | rfl | rfl | rfl <;> exact zdec1 ((u1b h.1).trans rfl)
  | .idiv, _, h => zdec1 ((u1b h.1).trans rfl)
  | .if_acmp .eq o, h0, h => by
    obtain ⟨e, h1, h2, h3, hl⟩ := zoffS h0 h
    show decode c pc = .ok (_, (zoff 165 o).length)
    rw [hl]
    exact zdec3 ((u1b h1).trans ((s2b h2 h3 e).trans rfl))
  | .if_acmp .ne o, h0, h => by
    obtain ⟨e, h1, h2, h3, hl⟩ := zoffS h0 h
    show decode c pc = .ok (_, (zoff 166 o).length)
    rw [hl]
    exact zdec3 ((u1b h1).trans ((s2b h2 h3 e).trans rfl))
  | .if_icmp .eq o, h0, h => by
    obtain ⟨e, h1, h2, h3, hl⟩ := zoffS h0 h
    show decode c pc = .ok (_, (zoff 159 o).length)
    rw [hl]
    exact zdec3 ((u1b h1).trans ((s2b h2 h3 e).trans rfl))
  | .if_icmp .ne o, h0, h => by
    obtain ⟨e, h1, h2, h3, hl⟩ := zoffS h0 h
    show decode c pc = .ok (_, (zoff 160 o).length)
    rw [hl]
    exact zdec3 ((u1b h1).trans ((s2b h2 h3 e).trans rfl))
  | .if_icmp .lt o, h0, h => by
    obtain ⟨e, h1, h2, h3, hl⟩ := zoffS h0 h
    show decode c pc = .ok (_, (zoff 161 o).length)
    rw [hl]
    exact zdec3 ((u1b h1).trans ((s2b h2 h3 e).trans rfl))
  | .if_icmp .ge o, h0, h => by
    obtain ⟨e, h1, h2, h3, hl⟩ := zoffS h0 h
    show decode c pc = .ok (_, (zoff 162 o).length)
    rw [hl]
    exact zdec3 ((u1b h1).trans ((s2b h2 h3 e).trans rfl))
  | .if_icmp .gt o, h0, h => by
    obtain ⟨e, h1, h2, h3, hl⟩ := zoffS h0 h
    show decode c pc = .ok (_, (zoff 163 o).length)
    rw [hl]
    exact zdec3 ((u1b h1).trans ((s2b h2 h3 e).trans rfl))
  | .if_icmp .le o, h0, h => by
    obtain ⟨e, h1, h2, h3, hl⟩ := zoffS h0 h
    show decode c pc = .ok (_, (zoff 164 o).length)
    rw [hl]
    exact zdec3 ((u1b h1).trans ((s2b h2 h3 e).trans rfl))
  | .ifCond .eq o, h0, h => by
    obtain ⟨e, h1, h2, h3, hl⟩ := zoffS h0 h
    show decode c pc = .ok (_, (zoff 153 o).length)
    rw [hl]
    exact zdec3 ((u1b h1).trans ((s2b h2 h3 e).trans rfl))
  | .ifCond .ne o, h0, h => by
    obtain ⟨e, h1, h2, h3, hl⟩ := zoffS h0 h
    show decode c pc = .ok (_, (zoff 154 o).length)
    rw [hl]
    exact zdec3 ((u1b h1).trans ((s2b h2 h3 e).trans rfl))
  | .ifCond .lt o, h0, h => by
    obtain ⟨e, h1, h2, h3, hl⟩ := zoffS h0 h
    show decode c pc = .ok (_, (zoff 155 o).length)
    rw [hl]
    exact zdec3 ((u1b h1).trans ((s2b h2 h3 e).trans rfl))
  | .ifCond .ge o, h0, h => by
    obtain ⟨e, h1, h2, h3, hl⟩ := zoffS h0 h
    show decode c pc = .ok (_, (zoff 156 o).length)
    rw [hl]
    exact zdec3 ((u1b h1).trans ((s2b h2 h3 e).trans rfl))
  | .ifCond .gt o, h0, h => by
    obtain ⟨e, h1, h2, h3, hl⟩ := zoffS h0 h
    show decode c pc = .ok (_, (zoff 157 o).length)
    rw [hl]
    exact zdec3 ((u1b h1).trans ((s2b h2 h3 e).trans rfl))
  | .ifCond .le o, h0, h => by
    obtain ⟨e, h1, h2, h3, hl⟩ := zoffS h0 h
    show decode c pc = .ok (_, (zoff 158 o).length)
    rw [hl]
    exact zdec3 ((u1b h1).trans ((s2b h2 h3 e).trans rfl))
  | .ifnonnull o, h0, h => by
    obtain ⟨e, h1, h2, h3, hl⟩ := zoffS h0 h
    show decode c pc = .ok (_, (zoff 199 o).length)
    rw [hl]
    exact zdec3 ((u1b h1).trans ((s2b h2 h3 e).trans rfl))
  | .ifnull o, h0, h => by
    obtain ⟨e, h1, h2, h3, hl⟩ := zoffS h0 h
    show decode c pc = .ok (_, (zoff 198 o).length)
    rw [hl]
    exact zdec3 ((u1b h1).trans ((s2b h2 h3 e).trans rfl))
  | .iinc x o, h0, h => by
    have hx : -128 ≤ o ∧ o < 128 := by
      by_cases hx : -128 ≤ o ∧ o < 128
      · exact hx
      · exact absurd (if_neg hx) h0
    have e : zenc (.iinc x o) = [132, x, (o % 256).toNat] := if_pos hx
    rw [e] at h ⊢
    exact zdec3 ((u1b h.1).trans ((u1b h.2.1).trans ((s1b h.2.2.1 (zs8 hx)).trans rfl)))
  | .iload x, _, h => zdec2 ((u1b h.1).trans ((u1b h.2.1).trans rfl))
  | .iload_n 0, _, h => zdec1 ((u1b h.1).trans rfl)
  | .iload_n 1, _, h => zdec1 ((u1b h.1).trans rfl)
  | .iload_n 2, _, h => zdec1 ((u1b h.1).trans rfl)
  | .iload_n 3, _, h => zdec1 ((u1b h.1).trans rfl)
  | .imul, _, h => zdec1 ((u1b h.1).trans rfl)
  | .ineg, _, h => zdec1 ((u1b h.1).trans rfl)
  | .instanceof x, _, h => zdec3 ((u1b h.1).trans ((u2b h.2.1 h.2.2.1).trans (zdm rfl)))
  | .invokedynamic _, h, _ => absurd rfl h
  | .invokeinterface _ _, h, _ => absurd rfl h
  | .invokespecial x, _, h => zdec3 ((u1b h.1).trans ((u2b h.2.1 h.2.2.1).trans (zdm rfl)))
  | .invokestatic x, _, h => zdec3 ((u1b h.1).trans ((u2b h.2.1 h.2.2.1).trans (zdm rfl)))
  | .invokevirtual x, _, h => zdec3 ((u1b h.1).trans ((u2b h.2.1 h.2.2.1).trans (zdm rfl)))
  | .ior, _, h => zdec1 ((u1b h.1).trans rfl)
  | .irem, _, h => zdec1 ((u1b h.1).trans rfl)
  | .ireturn, _, h => zdec1 ((u1b h.1).trans rfl)
  | .ishl, _, h => zdec1 ((u1b h.1).trans rfl)
  | .ishr, _, h => zdec1 ((u1b h.1).trans rfl)
  | .istore x, _, h => zdec2 ((u1b h.1).trans ((u1b h.2.1).trans rfl))
  | .istore_n 0, _, h => zdec1 ((u1b h.1).trans rfl)
  | .istore_n 1, _, h => zdec1 ((u1b h.1).trans rfl)
  | .istore_n 2, _, h => zdec1 ((u1b h.1).trans rfl)
  | .istore_n 3, _, h => zdec1 ((u1b h.1).trans rfl)
  | .isub, _, h => zdec1 ((u1b h.1).trans rfl)
  | .iushr, _, h => zdec1 ((u1b h.1).trans rfl)
  | .ixor, _, h => zdec1 ((u1b h.1).trans rfl)
  | .jsr _, h, _ => absurd rfl h
  | .jsr_w _, h, _ => absurd rfl h
  | .l2d, _, h => zdec1 ((u1b h.1).trans rfl)
  | .l2f, _, h => zdec1 ((u1b h.1).trans rfl)
  | .l2i, _, h => zdec1 ((u1b h.1).trans rfl)
  | .ladd, _, h => zdec1 ((u1b h.1).trans rfl)
  | .laload, _, h => zdec1 ((u1b h.1).trans rfl)
  | .land, _, h => zdec1 ((u1b h.1).trans rfl)
  | .lastore, _, h => zdec1 ((u1b h.1).trans rfl)
  | .lcmp, _, h => zdec1 ((u1b h.1).trans rfl)
  | .lconst 0, _, h => zdec1 ((u1b h.1).trans rfl)
  | .lconst 1, _, h => zdec1 ((u1b h.1).trans rfl)
  | .ldc x, _, h => zdec2 ((u1b h.1).trans ((u1b h.2.1).trans rfl))
  | .ldc_w x, _, h => zdec3 ((u1b h.1).trans ((u2b h.2.1 h.2.2.1).trans (zdm rfl)))
  | .ldc2_w x, _, h => zdec3 ((u1b h.1).trans ((u2b h.2.1 h.2.2.1).trans (zdm rfl)))
  | .ldiv, _, h => zdec1 ((u1b h.1).trans rfl)
  | .lload x, _, h => zdec2 ((u1b h.1).trans ((u1b h.2.1).trans rfl))
  | .lload_n 0, _, h => zdec1 ((u1b h.1).trans rfl)
  | .lload_n 1, _, h => zdec1 ((u1b h.1).trans rfl)
  | .lload_n 2, _, h => zdec1 ((u1b h.1).trans rfl)
  | .lload_n 3, _, h => zdec1 ((u1b h.1).trans rfl)
  | .lmul, _, h => zdec1 ((u1b h.1).trans rfl)
  | .lneg, _, h => zdec1 ((u1b h.1).trans rfl)
  | .lookupswitch _ _, h, _ => absurd rfl h
  | .lor, _, h => zdec1 ((u1b h.1).trans rfl)
  | .lrem, _, h => zdec1 ((u1b h.1).trans rfl)
  | .lreturn, _, h => zdec1 ((u1b h.1).trans rfl)
  | .lshl, _, h => zdec1 ((u1b h.1).trans rfl)
  | .lshr, _, h => zdec1 ((u1b h.1).trans rfl)
  | .lstore x, _, h => zdec2 ((u1b h.1).trans ((u1b h.2.1).trans rfl))
  | .lstore_n 0, _, h => zdec1 ((u1b h.1).trans rfl)
  | .lstore_n 1, _, h => zdec1 ((u1b h.1).trans rfl)
  | .lstore_n 2, _, h => zdec1 ((u1b h.1).trans rfl)
  | .lstore_n 3, _, h => zdec1 ((u1b h.1).trans rfl)
  | .lsub, _, h => zdec1 ((u1b h.1).trans rfl)
  | .lushr, _, h => zdec1 ((u1b h.1).trans rfl)
  | .lxor, _, h => zdec1 ((u1b h.1).trans rfl)
  | .monitorenter, _, h => zdec1 ((u1b h.1).trans rfl)
  | .monitorexit, _, h => zdec1 ((u1b h.1).trans rfl)
  | .multianewarray _ _, h, _ => absurd rfl h
  | .new x, _, h => zdec3 ((u1b h.1).trans ((u2b h.2.1 h.2.2.1).trans (zdm rfl)))
  | .newarray .boolean, _, h => zdec2 ((u1b h.1).trans ((u1b h.2.1).trans rfl))
  | .newarray .char, _, h => zdec2 ((u1b h.1).trans ((u1b h.2.1).trans rfl))
  | .newarray .float, _, h => zdec2 ((u1b h.1).trans ((u1b h.2.1).trans rfl))
  | .newarray .double, _, h => zdec2 ((u1b h.1).trans ((u1b h.2.1).trans rfl))
  | .newarray .byte, _, h => zdec2 ((u1b h.1).trans ((u1b h.2.1).trans rfl))
  | .newarray .short, _, h => zdec2 ((u1b h.1).trans ((u1b h.2.1).trans rfl))
  | .newarray .int, _, h => zdec2 ((u1b h.1).trans ((u1b h.2.1).trans rfl))
  | .newarray .long, _, h => zdec2 ((u1b h.1).trans ((u1b h.2.1).trans rfl))
  | .nop, _, h => zdec1 ((u1b h.1).trans rfl)
  | .pop, _, h => zdec1 ((u1b h.1).trans rfl)
  | .pop2, _, h => zdec1 ((u1b h.1).trans rfl)
  | .putfield x, _, h => zdec3 ((u1b h.1).trans ((u2b h.2.1 h.2.2.1).trans (zdm rfl)))
  | .putstatic x, _, h => zdec3 ((u1b h.1).trans ((u2b h.2.1 h.2.2.1).trans (zdm rfl)))
  | .ret _, h, _ => absurd rfl h
  | .return_, _, h => zdec1 ((u1b h.1).trans rfl)
  | .saload, _, h => zdec1 ((u1b h.1).trans rfl)
  | .sastore, _, h => zdec1 ((u1b h.1).trans rfl)
  | .sipush o, h0, h => by
    obtain ⟨e, h1, h2, h3, hl⟩ := zoffS h0 h
    show decode c pc = .ok (_, (zoff 17 o).length)
    rw [hl]
    exact zdec3 ((u1b h1).trans ((s2b h2 h3 e).trans rfl))
  | .swap, _, h => zdec1 ((u1b h.1).trans rfl)
  | .tableswitch _ _ _ _, h, _ => absurd rfl h

/-- the bytes of `l` from its head on (it lies at `pc`) are those of the instructions; each row gives place, instruction, length -/
def zasm : Nat → List UInt8 → List (Nat × Instr × Nat) → Bool
  | _, _, [] => true
  | pc, l, (p, i, n) :: r => Nat.beq p pc && match zenc i, l with
    | [a], x :: l' => Nat.beq n 1 && (Nat.beq x.toNat a && zasm (pc + 1) l' r)
    | [a, b], x :: y :: l' => Nat.beq n 2 && (Nat.beq x.toNat a && (Nat.beq y.toNat b && zasm (pc + 2) l' r))
    | [a, b, e], x :: y :: z :: l' => Nat.beq n 3 && (Nat.beq x.toNat a && (Nat.beq y.toNat b && (Nat.beq z.toNat e && zasm (pc + 3) l' r)))
    | _, _ => false
def zdec (c : ByteArray) (pc : Nat) (L : List (Nat × Instr × Nat)) : Bool := zasm pc (c.data.toList.drop pc) L
theorem zdrop {c : ByteArray} {pc : Nat} {x : UInt8} {l : List UInt8} (h : c.data.toList.drop pc = x :: l) : zb c pc x.toNat ∧ c.data.toList.drop (pc + 1) = l := by
  have hlt : pc < c.data.toList.length := by
    by_cases hh : pc < c.data.toList.length
    · exact hh
    · rw [List.drop_eq_nil_of_le (Nat.le_of_not_lt hh)] at h; cases h
  rw [List.drop_eq_getElem_cons hlt] at h
  refine ⟨⟨by exact hlt, ?_⟩, (List.cons.inj h).2⟩
  rw [← (List.cons.inj h).1]
  rfl
theorem zdec_all {c : ByteArray} : ∀ {L : List (Nat × Instr × Nat)} {p : Nat} (_ : zdec c p L = true) (q : Nat × Instr × Nat), q ∈ L → decode c q.1 = .ok (q.2.1, q.2.2)
  | [], _, _, q, e => by cases e
  | (p0, i, n) :: r, p, h, q, e => by
    have key : p0 = p ∧ zbs c p (zenc i) ∧ ¬ zenc i = [] ∧ n = (zenc i).length ∧ zdec c (p + (zenc i).length) r = true := by
      unfold zdec at h ⊢
      unfold zasm at h
      rw [Bool.and_eq_true] at h
      refine ⟨Nat.eq_of_beq_eq_true h.1, ?_⟩
      replace h := h.2
      split at h
      · rename_i a x l' e1 e2
        rw [Bool.and_eq_true, Bool.and_eq_true] at h
        obtain ⟨b1, d1⟩ := zdrop e2
        rw [e1]
        refine ⟨⟨?_, trivial⟩, fun h => by (cases h), Nat.eq_of_beq_eq_true h.1, ?_⟩
        · rw [← Nat.eq_of_beq_eq_true h.2.1]; exact b1
        · show zasm (p + 1) (c.data.toList.drop (p + 1)) r = true
          rw [d1]; exact h.2.2
      · rename_i a b x y l' e1 e2
        rw [Bool.and_eq_true, Bool.and_eq_true, Bool.and_eq_true] at h
        obtain ⟨b1, d1⟩ := zdrop e2
        obtain ⟨b2, d2⟩ := zdrop d1
        rw [e1]
        refine ⟨⟨?_, ?_, trivial⟩, fun h => by (cases h), Nat.eq_of_beq_eq_true h.1, ?_⟩
        · rw [← Nat.eq_of_beq_eq_true h.2.1]; exact b1
        · rw [← Nat.eq_of_beq_eq_true h.2.2.1]; exact b2
        · show zasm (p + 2) (c.data.toList.drop (p + 1 + 1)) r = true
          rw [d2]; exact h.2.2.2
      · rename_i a b e0 x y z l' e1 e2
        rw [Bool.and_eq_true, Bool.and_eq_true, Bool.and_eq_true, Bool.and_eq_true] at h
        obtain ⟨b1, d1⟩ := zdrop e2
        obtain ⟨b2, d2⟩ := zdrop d1
        obtain ⟨b3, d3⟩ := zdrop d2
        rw [e1]
        refine ⟨⟨?_, ?_, ?_, trivial⟩, fun h => by (cases h), Nat.eq_of_beq_eq_true h.1, ?_⟩
        · rw [← Nat.eq_of_beq_eq_true h.2.1]; exact b1
        · rw [← Nat.eq_of_beq_eq_true h.2.2.1]; exact b2
        · rw [← Nat.eq_of_beq_eq_true h.2.2.2.1]; exact b3
        · show zasm (p + 3) (c.data.toList.drop (p + 1 + 1 + 1)) r = true
          rw [d3]; exact h.2.2.2.2
      · cases h
    obtain ⟨k1, k2, k3, k4, k5⟩ := key
    cases e with
    | head => rw [k1, k4]; exact zenc_ok i k3 k2
    | tail _ e => exact zdec_all k5 q e
theorem zdec_at {c : ByteArray} {L : List (Nat × Instr × Nat)} {p : Nat} (h : zdec c p L = true) (k : Nat) {pc ln : Nat} {ins : Instr} (e : L[k]? = some (pc, ins, ln)) : decode c pc = .ok (ins, ln) :=
  zdec_all h (pc, ins, ln) (List.mem_of_getElem? e)
