/-! a fast check of the code: bytes against instructions, the byte list walked once (printed by mkfc.py) -/
theorem bu0 {cc : ByteArray} {p : Nat} (h : p < cc.size) : (Reader.u1 : Decoder Nat).runAt cc p = .ok (cc[p].toNat, p + 1) := by
  have e : (Reader.u1 : Decoder Nat).runAt cc p = ((if h : p < cc.size then (do set (p + 1); pure cc[p].toNat) else throw (HasTruncated.truncated p) : Decoder Nat).runAt cc p) := rfl
  rw [e, dif_pos h]
  rfl
/-- the byte of the code at a place -/
def byc_ (cc : ByteArray) (p k : Nat) : Prop := ∃ h : p < cc.size, cc[p].toNat = k
theorem bu1 {α : Type} {F : Nat → Decoder α} {cc : ByteArray} {p k : Nat} (h : byc_ cc p k) : ((Reader.u1 >>= F : Decoder α).runAt cc p) = (F k).runAt cc (p + 1) := by
  obtain ⟨h, e⟩ := h
  have e2 : ((Reader.u1 >>= F : Decoder α).runAt cc p) = ((Reader.u1 : Decoder Nat).runAt cc p >>= fun x => (F x.1).runAt cc x.2) := rfl
  rw [e2, bu0 h, e]
  rfl
theorem bnd {α β : Type} {r : Decoder α} {F : α → Decoder β} {cc : ByteArray} {p q : Nat} {v : α} (h : r.runAt cc p = .ok (v, q)) : ((r >>= F : Decoder β).runAt cc p) = (F v).runAt cc q := by
  have e2 : ((r >>= F : Decoder β).runAt cc p) = (r.runAt cc p >>= fun x => (F x.1).runAt cc x.2) := rfl
  rw [e2, h]
  rfl
theorem bv1 {cc : ByteArray} {p k : Nat} (h : byc_ cc p k) : (Reader.u1 : Decoder Nat).runAt cc p = .ok (k, p + 1) := by
  obtain ⟨h, e⟩ := h
  rw [bu0 h, e]
theorem bv2 {cc : ByteArray} {p a b : Nat} (h : byc_ cc p a) (h2 : byc_ cc (p + 1) b) : (Reader.u2 : Decoder Nat).runAt cc p = .ok (a * 256 + b, p + 2) := by
  show ((Reader.u1 >>= _ : Decoder Nat).runAt cc p) = _
  rw [bu1 h]
  show ((Reader.u1 >>= _ : Decoder Nat).runAt cc (p + 1)) = _
  rw [bu1 h2]
  rfl
theorem bu2 {α : Type} {F : Nat → Decoder α} {cc : ByteArray} {p a b : Nat} (h : byc_ cc p a) (h2 : byc_ cc (p + 1) b) : ((Reader.u2 >>= F : Decoder α).runAt cc p) = (F (a * 256 + b)).runAt cc (p + 2) := bnd (bv2 h h2)
theorem bs1 {α : Type} {F : Int → Decoder α} {cc : ByteArray} {p a : Nat} (h : byc_ cc p a) : ((Reader.s1 >>= F : Decoder α).runAt cc p) = (F (Reader.signed 8 a)).runAt cc (p + 1) := by
  refine bnd ?_
  have e : (Reader.s1 : Decoder Int).runAt cc p = ((Reader.u1 : Decoder Nat).runAt cc p >>= fun x => .ok (Reader.signed 8 x.1, x.2)) := rfl
  rw [e, bv1 h]
  rfl
theorem bs2 {α : Type} {F : Int → Decoder α} {cc : ByteArray} {p a b : Nat} (h : byc_ cc p a) (h2 : byc_ cc (p + 1) b) : ((Reader.s2 >>= F : Decoder α).runAt cc p) = (F (Reader.signed 16 (a * 256 + b))).runAt cc (p + 2) := by
  refine bnd ?_
  have e : (Reader.s2 : Decoder Int).runAt cc p = ((Reader.u2 : Decoder Nat).runAt cc p >>= fun x => .ok (Reader.signed 16 x.1, x.2)) := rfl
  rw [e, bv2 h h2]
  rfl
theorem dc_96 {cc : ByteArray} {pc : Nat} (h : byc_ cc pc 96) : decode cc pc = .ok (Instr.iadd, 1) := by
  show (((Reader.u1 >>= _ : Decoder Instr).runAt cc pc) >>= fun x => pure (x.1, x.2 - pc)) = _
  rw [bu1 h]
  show Except.ok (Instr.iadd, pc + 1 - pc) = _
  rw [Nat.add_sub_cancel_left]
theorem dc_100 {cc : ByteArray} {pc : Nat} (h : byc_ cc pc 100) : decode cc pc = .ok (Instr.isub, 1) := by
  show (((Reader.u1 >>= _ : Decoder Instr).runAt cc pc) >>= fun x => pure (x.1, x.2 - pc)) = _
  rw [bu1 h]
  show Except.ok (Instr.isub, pc + 1 - pc) = _
  rw [Nat.add_sub_cancel_left]
theorem dc_104 {cc : ByteArray} {pc : Nat} (h : byc_ cc pc 104) : decode cc pc = .ok (Instr.imul, 1) := by
  show (((Reader.u1 >>= _ : Decoder Instr).runAt cc pc) >>= fun x => pure (x.1, x.2 - pc)) = _
  rw [bu1 h]
  show Except.ok (Instr.imul, pc + 1 - pc) = _
  rw [Nat.add_sub_cancel_left]
theorem dc_108 {cc : ByteArray} {pc : Nat} (h : byc_ cc pc 108) : decode cc pc = .ok (Instr.idiv, 1) := by
  show (((Reader.u1 >>= _ : Decoder Instr).runAt cc pc) >>= fun x => pure (x.1, x.2 - pc)) = _
  rw [bu1 h]
  show Except.ok (Instr.idiv, pc + 1 - pc) = _
  rw [Nat.add_sub_cancel_left]
theorem dc_112 {cc : ByteArray} {pc : Nat} (h : byc_ cc pc 112) : decode cc pc = .ok (Instr.irem, 1) := by
  show (((Reader.u1 >>= _ : Decoder Instr).runAt cc pc) >>= fun x => pure (x.1, x.2 - pc)) = _
  rw [bu1 h]
  show Except.ok (Instr.irem, pc + 1 - pc) = _
  rw [Nat.add_sub_cancel_left]
theorem dc_116 {cc : ByteArray} {pc : Nat} (h : byc_ cc pc 116) : decode cc pc = .ok (Instr.ineg, 1) := by
  show (((Reader.u1 >>= _ : Decoder Instr).runAt cc pc) >>= fun x => pure (x.1, x.2 - pc)) = _
  rw [bu1 h]
  show Except.ok (Instr.ineg, pc + 1 - pc) = _
  rw [Nat.add_sub_cancel_left]
theorem dc_126 {cc : ByteArray} {pc : Nat} (h : byc_ cc pc 126) : decode cc pc = .ok (Instr.iand, 1) := by
  show (((Reader.u1 >>= _ : Decoder Instr).runAt cc pc) >>= fun x => pure (x.1, x.2 - pc)) = _
  rw [bu1 h]
  show Except.ok (Instr.iand, pc + 1 - pc) = _
  rw [Nat.add_sub_cancel_left]
theorem dc_128 {cc : ByteArray} {pc : Nat} (h : byc_ cc pc 128) : decode cc pc = .ok (Instr.ior, 1) := by
  show (((Reader.u1 >>= _ : Decoder Instr).runAt cc pc) >>= fun x => pure (x.1, x.2 - pc)) = _
  rw [bu1 h]
  show Except.ok (Instr.ior, pc + 1 - pc) = _
  rw [Nat.add_sub_cancel_left]
theorem dc_130 {cc : ByteArray} {pc : Nat} (h : byc_ cc pc 130) : decode cc pc = .ok (Instr.ixor, 1) := by
  show (((Reader.u1 >>= _ : Decoder Instr).runAt cc pc) >>= fun x => pure (x.1, x.2 - pc)) = _
  rw [bu1 h]
  show Except.ok (Instr.ixor, pc + 1 - pc) = _
  rw [Nat.add_sub_cancel_left]
theorem dc_120 {cc : ByteArray} {pc : Nat} (h : byc_ cc pc 120) : decode cc pc = .ok (Instr.ishl, 1) := by
  show (((Reader.u1 >>= _ : Decoder Instr).runAt cc pc) >>= fun x => pure (x.1, x.2 - pc)) = _
  rw [bu1 h]
  show Except.ok (Instr.ishl, pc + 1 - pc) = _
  rw [Nat.add_sub_cancel_left]
theorem dc_122 {cc : ByteArray} {pc : Nat} (h : byc_ cc pc 122) : decode cc pc = .ok (Instr.ishr, 1) := by
  show (((Reader.u1 >>= _ : Decoder Instr).runAt cc pc) >>= fun x => pure (x.1, x.2 - pc)) = _
  rw [bu1 h]
  show Except.ok (Instr.ishr, pc + 1 - pc) = _
  rw [Nat.add_sub_cancel_left]
theorem dc_124 {cc : ByteArray} {pc : Nat} (h : byc_ cc pc 124) : decode cc pc = .ok (Instr.iushr, 1) := by
  show (((Reader.u1 >>= _ : Decoder Instr).runAt cc pc) >>= fun x => pure (x.1, x.2 - pc)) = _
  rw [bu1 h]
  show Except.ok (Instr.iushr, pc + 1 - pc) = _
  rw [Nat.add_sub_cancel_left]
theorem dc_145 {cc : ByteArray} {pc : Nat} (h : byc_ cc pc 145) : decode cc pc = .ok (Instr.i2b, 1) := by
  show (((Reader.u1 >>= _ : Decoder Instr).runAt cc pc) >>= fun x => pure (x.1, x.2 - pc)) = _
  rw [bu1 h]
  show Except.ok (Instr.i2b, pc + 1 - pc) = _
  rw [Nat.add_sub_cancel_left]
theorem dc_146 {cc : ByteArray} {pc : Nat} (h : byc_ cc pc 146) : decode cc pc = .ok (Instr.i2c, 1) := by
  show (((Reader.u1 >>= _ : Decoder Instr).runAt cc pc) >>= fun x => pure (x.1, x.2 - pc)) = _
  rw [bu1 h]
  show Except.ok (Instr.i2c, pc + 1 - pc) = _
  rw [Nat.add_sub_cancel_left]
theorem dc_133 {cc : ByteArray} {pc : Nat} (h : byc_ cc pc 133) : decode cc pc = .ok (Instr.i2l, 1) := by
  show (((Reader.u1 >>= _ : Decoder Instr).runAt cc pc) >>= fun x => pure (x.1, x.2 - pc)) = _
  rw [bu1 h]
  show Except.ok (Instr.i2l, pc + 1 - pc) = _
  rw [Nat.add_sub_cancel_left]
theorem dc_136 {cc : ByteArray} {pc : Nat} (h : byc_ cc pc 136) : decode cc pc = .ok (Instr.l2i, 1) := by
  show (((Reader.u1 >>= _ : Decoder Instr).runAt cc pc) >>= fun x => pure (x.1, x.2 - pc)) = _
  rw [bu1 h]
  show Except.ok (Instr.l2i, pc + 1 - pc) = _
  rw [Nat.add_sub_cancel_left]
theorem dc_97 {cc : ByteArray} {pc : Nat} (h : byc_ cc pc 97) : decode cc pc = .ok (Instr.ladd, 1) := by
  show (((Reader.u1 >>= _ : Decoder Instr).runAt cc pc) >>= fun x => pure (x.1, x.2 - pc)) = _
  rw [bu1 h]
  show Except.ok (Instr.ladd, pc + 1 - pc) = _
  rw [Nat.add_sub_cancel_left]
theorem dc_101 {cc : ByteArray} {pc : Nat} (h : byc_ cc pc 101) : decode cc pc = .ok (Instr.lsub, 1) := by
  show (((Reader.u1 >>= _ : Decoder Instr).runAt cc pc) >>= fun x => pure (x.1, x.2 - pc)) = _
  rw [bu1 h]
  show Except.ok (Instr.lsub, pc + 1 - pc) = _
  rw [Nat.add_sub_cancel_left]
theorem dc_105 {cc : ByteArray} {pc : Nat} (h : byc_ cc pc 105) : decode cc pc = .ok (Instr.lmul, 1) := by
  show (((Reader.u1 >>= _ : Decoder Instr).runAt cc pc) >>= fun x => pure (x.1, x.2 - pc)) = _
  rw [bu1 h]
  show Except.ok (Instr.lmul, pc + 1 - pc) = _
  rw [Nat.add_sub_cancel_left]
theorem dc_148 {cc : ByteArray} {pc : Nat} (h : byc_ cc pc 148) : decode cc pc = .ok (Instr.lcmp, 1) := by
  show (((Reader.u1 >>= _ : Decoder Instr).runAt cc pc) >>= fun x => pure (x.1, x.2 - pc)) = _
  rw [bu1 h]
  show Except.ok (Instr.lcmp, pc + 1 - pc) = _
  rw [Nat.add_sub_cancel_left]
theorem dc_89 {cc : ByteArray} {pc : Nat} (h : byc_ cc pc 89) : decode cc pc = .ok (Instr.dup, 1) := by
  show (((Reader.u1 >>= _ : Decoder Instr).runAt cc pc) >>= fun x => pure (x.1, x.2 - pc)) = _
  rw [bu1 h]
  show Except.ok (Instr.dup, pc + 1 - pc) = _
  rw [Nat.add_sub_cancel_left]
theorem dc_92 {cc : ByteArray} {pc : Nat} (h : byc_ cc pc 92) : decode cc pc = .ok (Instr.dup2, 1) := by
  show (((Reader.u1 >>= _ : Decoder Instr).runAt cc pc) >>= fun x => pure (x.1, x.2 - pc)) = _
  rw [bu1 h]
  show Except.ok (Instr.dup2, pc + 1 - pc) = _
  rw [Nat.add_sub_cancel_left]
theorem dc_87 {cc : ByteArray} {pc : Nat} (h : byc_ cc pc 87) : decode cc pc = .ok (Instr.pop, 1) := by
  show (((Reader.u1 >>= _ : Decoder Instr).runAt cc pc) >>= fun x => pure (x.1, x.2 - pc)) = _
  rw [bu1 h]
  show Except.ok (Instr.pop, pc + 1 - pc) = _
  rw [Nat.add_sub_cancel_left]
theorem dc_46 {cc : ByteArray} {pc : Nat} (h : byc_ cc pc 46) : decode cc pc = .ok (Instr.iaload, 1) := by
  show (((Reader.u1 >>= _ : Decoder Instr).runAt cc pc) >>= fun x => pure (x.1, x.2 - pc)) = _
  rw [bu1 h]
  show Except.ok (Instr.iaload, pc + 1 - pc) = _
  rw [Nat.add_sub_cancel_left]
theorem dc_51 {cc : ByteArray} {pc : Nat} (h : byc_ cc pc 51) : decode cc pc = .ok (Instr.baload, 1) := by
  show (((Reader.u1 >>= _ : Decoder Instr).runAt cc pc) >>= fun x => pure (x.1, x.2 - pc)) = _
  rw [bu1 h]
  show Except.ok (Instr.baload, pc + 1 - pc) = _
  rw [Nat.add_sub_cancel_left]
theorem dc_47 {cc : ByteArray} {pc : Nat} (h : byc_ cc pc 47) : decode cc pc = .ok (Instr.laload, 1) := by
  show (((Reader.u1 >>= _ : Decoder Instr).runAt cc pc) >>= fun x => pure (x.1, x.2 - pc)) = _
  rw [bu1 h]
  show Except.ok (Instr.laload, pc + 1 - pc) = _
  rw [Nat.add_sub_cancel_left]
theorem dc_79 {cc : ByteArray} {pc : Nat} (h : byc_ cc pc 79) : decode cc pc = .ok (Instr.iastore, 1) := by
  show (((Reader.u1 >>= _ : Decoder Instr).runAt cc pc) >>= fun x => pure (x.1, x.2 - pc)) = _
  rw [bu1 h]
  show Except.ok (Instr.iastore, pc + 1 - pc) = _
  rw [Nat.add_sub_cancel_left]
theorem dc_84 {cc : ByteArray} {pc : Nat} (h : byc_ cc pc 84) : decode cc pc = .ok (Instr.bastore, 1) := by
  show (((Reader.u1 >>= _ : Decoder Instr).runAt cc pc) >>= fun x => pure (x.1, x.2 - pc)) = _
  rw [bu1 h]
  show Except.ok (Instr.bastore, pc + 1 - pc) = _
  rw [Nat.add_sub_cancel_left]
theorem dc_80 {cc : ByteArray} {pc : Nat} (h : byc_ cc pc 80) : decode cc pc = .ok (Instr.lastore, 1) := by
  show (((Reader.u1 >>= _ : Decoder Instr).runAt cc pc) >>= fun x => pure (x.1, x.2 - pc)) = _
  rw [bu1 h]
  show Except.ok (Instr.lastore, pc + 1 - pc) = _
  rw [Nat.add_sub_cancel_left]
theorem dc_190 {cc : ByteArray} {pc : Nat} (h : byc_ cc pc 190) : decode cc pc = .ok (Instr.arraylength, 1) := by
  show (((Reader.u1 >>= _ : Decoder Instr).runAt cc pc) >>= fun x => pure (x.1, x.2 - pc)) = _
  rw [bu1 h]
  show Except.ok (Instr.arraylength, pc + 1 - pc) = _
  rw [Nat.add_sub_cancel_left]
theorem dc_172 {cc : ByteArray} {pc : Nat} (h : byc_ cc pc 172) : decode cc pc = .ok (Instr.ireturn, 1) := by
  show (((Reader.u1 >>= _ : Decoder Instr).runAt cc pc) >>= fun x => pure (x.1, x.2 - pc)) = _
  rw [bu1 h]
  show Except.ok (Instr.ireturn, pc + 1 - pc) = _
  rw [Nat.add_sub_cancel_left]
theorem dc_173 {cc : ByteArray} {pc : Nat} (h : byc_ cc pc 173) : decode cc pc = .ok (Instr.lreturn, 1) := by
  show (((Reader.u1 >>= _ : Decoder Instr).runAt cc pc) >>= fun x => pure (x.1, x.2 - pc)) = _
  rw [bu1 h]
  show Except.ok (Instr.lreturn, pc + 1 - pc) = _
  rw [Nat.add_sub_cancel_left]
theorem dc_176 {cc : ByteArray} {pc : Nat} (h : byc_ cc pc 176) : decode cc pc = .ok (Instr.areturn, 1) := by
  show (((Reader.u1 >>= _ : Decoder Instr).runAt cc pc) >>= fun x => pure (x.1, x.2 - pc)) = _
  rw [bu1 h]
  show Except.ok (Instr.areturn, pc + 1 - pc) = _
  rw [Nat.add_sub_cancel_left]
theorem dc_177 {cc : ByteArray} {pc : Nat} (h : byc_ cc pc 177) : decode cc pc = .ok (Instr.return_, 1) := by
  show (((Reader.u1 >>= _ : Decoder Instr).runAt cc pc) >>= fun x => pure (x.1, x.2 - pc)) = _
  rw [bu1 h]
  show Except.ok (Instr.return_, pc + 1 - pc) = _
  rw [Nat.add_sub_cancel_left]
theorem dc_191 {cc : ByteArray} {pc : Nat} (h : byc_ cc pc 191) : decode cc pc = .ok (Instr.athrow, 1) := by
  show (((Reader.u1 >>= _ : Decoder Instr).runAt cc pc) >>= fun x => pure (x.1, x.2 - pc)) = _
  rw [bu1 h]
  show Except.ok (Instr.athrow, pc + 1 - pc) = _
  rw [Nat.add_sub_cancel_left]
theorem dc_2 {cc : ByteArray} {pc : Nat} (h : byc_ cc pc 2) : decode cc pc = .ok (Instr.iconst (-1), 1) := by
  show (((Reader.u1 >>= _ : Decoder Instr).runAt cc pc) >>= fun x => pure (x.1, x.2 - pc)) = _
  rw [bu1 h]
  show Except.ok (Instr.iconst (-1), pc + 1 - pc) = _
  rw [Nat.add_sub_cancel_left]
theorem dc_3 {cc : ByteArray} {pc : Nat} (h : byc_ cc pc 3) : decode cc pc = .ok (Instr.iconst (0), 1) := by
  show (((Reader.u1 >>= _ : Decoder Instr).runAt cc pc) >>= fun x => pure (x.1, x.2 - pc)) = _
  rw [bu1 h]
  show Except.ok (Instr.iconst (0), pc + 1 - pc) = _
  rw [Nat.add_sub_cancel_left]
theorem dc_4 {cc : ByteArray} {pc : Nat} (h : byc_ cc pc 4) : decode cc pc = .ok (Instr.iconst (1), 1) := by
  show (((Reader.u1 >>= _ : Decoder Instr).runAt cc pc) >>= fun x => pure (x.1, x.2 - pc)) = _
  rw [bu1 h]
  show Except.ok (Instr.iconst (1), pc + 1 - pc) = _
  rw [Nat.add_sub_cancel_left]
theorem dc_5 {cc : ByteArray} {pc : Nat} (h : byc_ cc pc 5) : decode cc pc = .ok (Instr.iconst (2), 1) := by
  show (((Reader.u1 >>= _ : Decoder Instr).runAt cc pc) >>= fun x => pure (x.1, x.2 - pc)) = _
  rw [bu1 h]
  show Except.ok (Instr.iconst (2), pc + 1 - pc) = _
  rw [Nat.add_sub_cancel_left]
theorem dc_6 {cc : ByteArray} {pc : Nat} (h : byc_ cc pc 6) : decode cc pc = .ok (Instr.iconst (3), 1) := by
  show (((Reader.u1 >>= _ : Decoder Instr).runAt cc pc) >>= fun x => pure (x.1, x.2 - pc)) = _
  rw [bu1 h]
  show Except.ok (Instr.iconst (3), pc + 1 - pc) = _
  rw [Nat.add_sub_cancel_left]
theorem dc_7 {cc : ByteArray} {pc : Nat} (h : byc_ cc pc 7) : decode cc pc = .ok (Instr.iconst (4), 1) := by
  show (((Reader.u1 >>= _ : Decoder Instr).runAt cc pc) >>= fun x => pure (x.1, x.2 - pc)) = _
  rw [bu1 h]
  show Except.ok (Instr.iconst (4), pc + 1 - pc) = _
  rw [Nat.add_sub_cancel_left]
theorem dc_8 {cc : ByteArray} {pc : Nat} (h : byc_ cc pc 8) : decode cc pc = .ok (Instr.iconst (5), 1) := by
  show (((Reader.u1 >>= _ : Decoder Instr).runAt cc pc) >>= fun x => pure (x.1, x.2 - pc)) = _
  rw [bu1 h]
  show Except.ok (Instr.iconst (5), pc + 1 - pc) = _
  rw [Nat.add_sub_cancel_left]
theorem dc_9 {cc : ByteArray} {pc : Nat} (h : byc_ cc pc 9) : decode cc pc = .ok (Instr.lconst 0, 1) := by
  show (((Reader.u1 >>= _ : Decoder Instr).runAt cc pc) >>= fun x => pure (x.1, x.2 - pc)) = _
  rw [bu1 h]
  show Except.ok (Instr.lconst 0, pc + 1 - pc) = _
  rw [Nat.add_sub_cancel_left]
theorem dc_10 {cc : ByteArray} {pc : Nat} (h : byc_ cc pc 10) : decode cc pc = .ok (Instr.lconst 1, 1) := by
  show (((Reader.u1 >>= _ : Decoder Instr).runAt cc pc) >>= fun x => pure (x.1, x.2 - pc)) = _
  rw [bu1 h]
  show Except.ok (Instr.lconst 1, pc + 1 - pc) = _
  rw [Nat.add_sub_cancel_left]
theorem dc_26 {cc : ByteArray} {pc : Nat} (h : byc_ cc pc 26) : decode cc pc = .ok (Instr.iload_n 0, 1) := by
  show (((Reader.u1 >>= _ : Decoder Instr).runAt cc pc) >>= fun x => pure (x.1, x.2 - pc)) = _
  rw [bu1 h]
  show Except.ok (Instr.iload_n 0, pc + 1 - pc) = _
  rw [Nat.add_sub_cancel_left]
theorem dc_27 {cc : ByteArray} {pc : Nat} (h : byc_ cc pc 27) : decode cc pc = .ok (Instr.iload_n 1, 1) := by
  show (((Reader.u1 >>= _ : Decoder Instr).runAt cc pc) >>= fun x => pure (x.1, x.2 - pc)) = _
  rw [bu1 h]
  show Except.ok (Instr.iload_n 1, pc + 1 - pc) = _
  rw [Nat.add_sub_cancel_left]
theorem dc_28 {cc : ByteArray} {pc : Nat} (h : byc_ cc pc 28) : decode cc pc = .ok (Instr.iload_n 2, 1) := by
  show (((Reader.u1 >>= _ : Decoder Instr).runAt cc pc) >>= fun x => pure (x.1, x.2 - pc)) = _
  rw [bu1 h]
  show Except.ok (Instr.iload_n 2, pc + 1 - pc) = _
  rw [Nat.add_sub_cancel_left]
theorem dc_29 {cc : ByteArray} {pc : Nat} (h : byc_ cc pc 29) : decode cc pc = .ok (Instr.iload_n 3, 1) := by
  show (((Reader.u1 >>= _ : Decoder Instr).runAt cc pc) >>= fun x => pure (x.1, x.2 - pc)) = _
  rw [bu1 h]
  show Except.ok (Instr.iload_n 3, pc + 1 - pc) = _
  rw [Nat.add_sub_cancel_left]
theorem dc_30 {cc : ByteArray} {pc : Nat} (h : byc_ cc pc 30) : decode cc pc = .ok (Instr.lload_n 0, 1) := by
  show (((Reader.u1 >>= _ : Decoder Instr).runAt cc pc) >>= fun x => pure (x.1, x.2 - pc)) = _
  rw [bu1 h]
  show Except.ok (Instr.lload_n 0, pc + 1 - pc) = _
  rw [Nat.add_sub_cancel_left]
theorem dc_31 {cc : ByteArray} {pc : Nat} (h : byc_ cc pc 31) : decode cc pc = .ok (Instr.lload_n 1, 1) := by
  show (((Reader.u1 >>= _ : Decoder Instr).runAt cc pc) >>= fun x => pure (x.1, x.2 - pc)) = _
  rw [bu1 h]
  show Except.ok (Instr.lload_n 1, pc + 1 - pc) = _
  rw [Nat.add_sub_cancel_left]
theorem dc_32 {cc : ByteArray} {pc : Nat} (h : byc_ cc pc 32) : decode cc pc = .ok (Instr.lload_n 2, 1) := by
  show (((Reader.u1 >>= _ : Decoder Instr).runAt cc pc) >>= fun x => pure (x.1, x.2 - pc)) = _
  rw [bu1 h]
  show Except.ok (Instr.lload_n 2, pc + 1 - pc) = _
  rw [Nat.add_sub_cancel_left]
theorem dc_33 {cc : ByteArray} {pc : Nat} (h : byc_ cc pc 33) : decode cc pc = .ok (Instr.lload_n 3, 1) := by
  show (((Reader.u1 >>= _ : Decoder Instr).runAt cc pc) >>= fun x => pure (x.1, x.2 - pc)) = _
  rw [bu1 h]
  show Except.ok (Instr.lload_n 3, pc + 1 - pc) = _
  rw [Nat.add_sub_cancel_left]
theorem dc_42 {cc : ByteArray} {pc : Nat} (h : byc_ cc pc 42) : decode cc pc = .ok (Instr.aload_n 0, 1) := by
  show (((Reader.u1 >>= _ : Decoder Instr).runAt cc pc) >>= fun x => pure (x.1, x.2 - pc)) = _
  rw [bu1 h]
  show Except.ok (Instr.aload_n 0, pc + 1 - pc) = _
  rw [Nat.add_sub_cancel_left]
theorem dc_43 {cc : ByteArray} {pc : Nat} (h : byc_ cc pc 43) : decode cc pc = .ok (Instr.aload_n 1, 1) := by
  show (((Reader.u1 >>= _ : Decoder Instr).runAt cc pc) >>= fun x => pure (x.1, x.2 - pc)) = _
  rw [bu1 h]
  show Except.ok (Instr.aload_n 1, pc + 1 - pc) = _
  rw [Nat.add_sub_cancel_left]
theorem dc_44 {cc : ByteArray} {pc : Nat} (h : byc_ cc pc 44) : decode cc pc = .ok (Instr.aload_n 2, 1) := by
  show (((Reader.u1 >>= _ : Decoder Instr).runAt cc pc) >>= fun x => pure (x.1, x.2 - pc)) = _
  rw [bu1 h]
  show Except.ok (Instr.aload_n 2, pc + 1 - pc) = _
  rw [Nat.add_sub_cancel_left]
theorem dc_45 {cc : ByteArray} {pc : Nat} (h : byc_ cc pc 45) : decode cc pc = .ok (Instr.aload_n 3, 1) := by
  show (((Reader.u1 >>= _ : Decoder Instr).runAt cc pc) >>= fun x => pure (x.1, x.2 - pc)) = _
  rw [bu1 h]
  show Except.ok (Instr.aload_n 3, pc + 1 - pc) = _
  rw [Nat.add_sub_cancel_left]
theorem dc_59 {cc : ByteArray} {pc : Nat} (h : byc_ cc pc 59) : decode cc pc = .ok (Instr.istore_n 0, 1) := by
  show (((Reader.u1 >>= _ : Decoder Instr).runAt cc pc) >>= fun x => pure (x.1, x.2 - pc)) = _
  rw [bu1 h]
  show Except.ok (Instr.istore_n 0, pc + 1 - pc) = _
  rw [Nat.add_sub_cancel_left]
theorem dc_60 {cc : ByteArray} {pc : Nat} (h : byc_ cc pc 60) : decode cc pc = .ok (Instr.istore_n 1, 1) := by
  show (((Reader.u1 >>= _ : Decoder Instr).runAt cc pc) >>= fun x => pure (x.1, x.2 - pc)) = _
  rw [bu1 h]
  show Except.ok (Instr.istore_n 1, pc + 1 - pc) = _
  rw [Nat.add_sub_cancel_left]
theorem dc_61 {cc : ByteArray} {pc : Nat} (h : byc_ cc pc 61) : decode cc pc = .ok (Instr.istore_n 2, 1) := by
  show (((Reader.u1 >>= _ : Decoder Instr).runAt cc pc) >>= fun x => pure (x.1, x.2 - pc)) = _
  rw [bu1 h]
  show Except.ok (Instr.istore_n 2, pc + 1 - pc) = _
  rw [Nat.add_sub_cancel_left]
theorem dc_62 {cc : ByteArray} {pc : Nat} (h : byc_ cc pc 62) : decode cc pc = .ok (Instr.istore_n 3, 1) := by
  show (((Reader.u1 >>= _ : Decoder Instr).runAt cc pc) >>= fun x => pure (x.1, x.2 - pc)) = _
  rw [bu1 h]
  show Except.ok (Instr.istore_n 3, pc + 1 - pc) = _
  rw [Nat.add_sub_cancel_left]
theorem dc_63 {cc : ByteArray} {pc : Nat} (h : byc_ cc pc 63) : decode cc pc = .ok (Instr.lstore_n 0, 1) := by
  show (((Reader.u1 >>= _ : Decoder Instr).runAt cc pc) >>= fun x => pure (x.1, x.2 - pc)) = _
  rw [bu1 h]
  show Except.ok (Instr.lstore_n 0, pc + 1 - pc) = _
  rw [Nat.add_sub_cancel_left]
theorem dc_64 {cc : ByteArray} {pc : Nat} (h : byc_ cc pc 64) : decode cc pc = .ok (Instr.lstore_n 1, 1) := by
  show (((Reader.u1 >>= _ : Decoder Instr).runAt cc pc) >>= fun x => pure (x.1, x.2 - pc)) = _
  rw [bu1 h]
  show Except.ok (Instr.lstore_n 1, pc + 1 - pc) = _
  rw [Nat.add_sub_cancel_left]
theorem dc_65 {cc : ByteArray} {pc : Nat} (h : byc_ cc pc 65) : decode cc pc = .ok (Instr.lstore_n 2, 1) := by
  show (((Reader.u1 >>= _ : Decoder Instr).runAt cc pc) >>= fun x => pure (x.1, x.2 - pc)) = _
  rw [bu1 h]
  show Except.ok (Instr.lstore_n 2, pc + 1 - pc) = _
  rw [Nat.add_sub_cancel_left]
theorem dc_66 {cc : ByteArray} {pc : Nat} (h : byc_ cc pc 66) : decode cc pc = .ok (Instr.lstore_n 3, 1) := by
  show (((Reader.u1 >>= _ : Decoder Instr).runAt cc pc) >>= fun x => pure (x.1, x.2 - pc)) = _
  rw [bu1 h]
  show Except.ok (Instr.lstore_n 3, pc + 1 - pc) = _
  rw [Nat.add_sub_cancel_left]
theorem dc_75 {cc : ByteArray} {pc : Nat} (h : byc_ cc pc 75) : decode cc pc = .ok (Instr.astore_n 0, 1) := by
  show (((Reader.u1 >>= _ : Decoder Instr).runAt cc pc) >>= fun x => pure (x.1, x.2 - pc)) = _
  rw [bu1 h]
  show Except.ok (Instr.astore_n 0, pc + 1 - pc) = _
  rw [Nat.add_sub_cancel_left]
theorem dc_76 {cc : ByteArray} {pc : Nat} (h : byc_ cc pc 76) : decode cc pc = .ok (Instr.astore_n 1, 1) := by
  show (((Reader.u1 >>= _ : Decoder Instr).runAt cc pc) >>= fun x => pure (x.1, x.2 - pc)) = _
  rw [bu1 h]
  show Except.ok (Instr.astore_n 1, pc + 1 - pc) = _
  rw [Nat.add_sub_cancel_left]
theorem dc_77 {cc : ByteArray} {pc : Nat} (h : byc_ cc pc 77) : decode cc pc = .ok (Instr.astore_n 2, 1) := by
  show (((Reader.u1 >>= _ : Decoder Instr).runAt cc pc) >>= fun x => pure (x.1, x.2 - pc)) = _
  rw [bu1 h]
  show Except.ok (Instr.astore_n 2, pc + 1 - pc) = _
  rw [Nat.add_sub_cancel_left]
theorem dc_78 {cc : ByteArray} {pc : Nat} (h : byc_ cc pc 78) : decode cc pc = .ok (Instr.astore_n 3, 1) := by
  show (((Reader.u1 >>= _ : Decoder Instr).runAt cc pc) >>= fun x => pure (x.1, x.2 - pc)) = _
  rw [bu1 h]
  show Except.ok (Instr.astore_n 3, pc + 1 - pc) = _
  rw [Nat.add_sub_cancel_left]
theorem dc_21 {cc : ByteArray} {pc a : Nat} (h : byc_ cc pc 21) (h1 : byc_ cc (pc + 1) a) : decode cc pc = .ok (Instr.iload a, 2) := by
  show (((Reader.u1 >>= _ : Decoder Instr).runAt cc pc) >>= fun x => pure (x.1, x.2 - pc)) = _
  rw [bu1 h]
  show (((Reader.u1 >>= _ : Decoder Instr).runAt cc (pc + 1)) >>= fun x => pure (x.1, x.2 - pc)) = _
  rw [bu1 h1]
  show Except.ok (Instr.iload a, pc + 2 - pc) = _
  rw [Nat.add_sub_cancel_left]
theorem dc_22 {cc : ByteArray} {pc a : Nat} (h : byc_ cc pc 22) (h1 : byc_ cc (pc + 1) a) : decode cc pc = .ok (Instr.lload a, 2) := by
  show (((Reader.u1 >>= _ : Decoder Instr).runAt cc pc) >>= fun x => pure (x.1, x.2 - pc)) = _
  rw [bu1 h]
  show (((Reader.u1 >>= _ : Decoder Instr).runAt cc (pc + 1)) >>= fun x => pure (x.1, x.2 - pc)) = _
  rw [bu1 h1]
  show Except.ok (Instr.lload a, pc + 2 - pc) = _
  rw [Nat.add_sub_cancel_left]
theorem dc_25 {cc : ByteArray} {pc a : Nat} (h : byc_ cc pc 25) (h1 : byc_ cc (pc + 1) a) : decode cc pc = .ok (Instr.aload a, 2) := by
  show (((Reader.u1 >>= _ : Decoder Instr).runAt cc pc) >>= fun x => pure (x.1, x.2 - pc)) = _
  rw [bu1 h]
  show (((Reader.u1 >>= _ : Decoder Instr).runAt cc (pc + 1)) >>= fun x => pure (x.1, x.2 - pc)) = _
  rw [bu1 h1]
  show Except.ok (Instr.aload a, pc + 2 - pc) = _
  rw [Nat.add_sub_cancel_left]
theorem dc_54 {cc : ByteArray} {pc a : Nat} (h : byc_ cc pc 54) (h1 : byc_ cc (pc + 1) a) : decode cc pc = .ok (Instr.istore a, 2) := by
  show (((Reader.u1 >>= _ : Decoder Instr).runAt cc pc) >>= fun x => pure (x.1, x.2 - pc)) = _
  rw [bu1 h]
  show (((Reader.u1 >>= _ : Decoder Instr).runAt cc (pc + 1)) >>= fun x => pure (x.1, x.2 - pc)) = _
  rw [bu1 h1]
  show Except.ok (Instr.istore a, pc + 2 - pc) = _
  rw [Nat.add_sub_cancel_left]
theorem dc_55 {cc : ByteArray} {pc a : Nat} (h : byc_ cc pc 55) (h1 : byc_ cc (pc + 1) a) : decode cc pc = .ok (Instr.lstore a, 2) := by
  show (((Reader.u1 >>= _ : Decoder Instr).runAt cc pc) >>= fun x => pure (x.1, x.2 - pc)) = _
  rw [bu1 h]
  show (((Reader.u1 >>= _ : Decoder Instr).runAt cc (pc + 1)) >>= fun x => pure (x.1, x.2 - pc)) = _
  rw [bu1 h1]
  show Except.ok (Instr.lstore a, pc + 2 - pc) = _
  rw [Nat.add_sub_cancel_left]
theorem dc_58 {cc : ByteArray} {pc a : Nat} (h : byc_ cc pc 58) (h1 : byc_ cc (pc + 1) a) : decode cc pc = .ok (Instr.astore a, 2) := by
  show (((Reader.u1 >>= _ : Decoder Instr).runAt cc pc) >>= fun x => pure (x.1, x.2 - pc)) = _
  rw [bu1 h]
  show (((Reader.u1 >>= _ : Decoder Instr).runAt cc (pc + 1)) >>= fun x => pure (x.1, x.2 - pc)) = _
  rw [bu1 h1]
  show Except.ok (Instr.astore a, pc + 2 - pc) = _
  rw [Nat.add_sub_cancel_left]
theorem dc_18 {cc : ByteArray} {pc a : Nat} (h : byc_ cc pc 18) (h1 : byc_ cc (pc + 1) a) : decode cc pc = .ok (Instr.ldc a, 2) := by
  show (((Reader.u1 >>= _ : Decoder Instr).runAt cc pc) >>= fun x => pure (x.1, x.2 - pc)) = _
  rw [bu1 h]
  show (((Reader.u1 >>= _ : Decoder Instr).runAt cc (pc + 1)) >>= fun x => pure (x.1, x.2 - pc)) = _
  rw [bu1 h1]
  show Except.ok (Instr.ldc a, pc + 2 - pc) = _
  rw [Nat.add_sub_cancel_left]
theorem dc_16 {cc : ByteArray} {pc a : Nat} (h : byc_ cc pc 16) (h1 : byc_ cc (pc + 1) a) : decode cc pc = .ok (Instr.bipush (Reader.signed 8 a), 2) := by
  show (((Reader.u1 >>= _ : Decoder Instr).runAt cc pc) >>= fun x => pure (x.1, x.2 - pc)) = _
  rw [bu1 h]
  show (((Reader.s1 >>= _ : Decoder Instr).runAt cc (pc + 1)) >>= fun x => pure (x.1, x.2 - pc)) = _
  rw [bs1 h1]
  show Except.ok (Instr.bipush (Reader.signed 8 a), pc + 2 - pc) = _
  rw [Nat.add_sub_cancel_left]
theorem dc_17 {cc : ByteArray} {pc a b : Nat} (h : byc_ cc pc 17) (h1 : byc_ cc (pc + 1) a) (h2 : byc_ cc (pc + 2) b) : decode cc pc = .ok (Instr.sipush (Reader.signed 16 (a * 256 + b)), 3) := by
  show (((Reader.u1 >>= _ : Decoder Instr).runAt cc pc) >>= fun x => pure (x.1, x.2 - pc)) = _
  rw [bu1 h]
  show (((Reader.s2 >>= _ : Decoder Instr).runAt cc (pc + 1)) >>= fun x => pure (x.1, x.2 - pc)) = _
  rw [bs2 h1 h2]
  show Except.ok (Instr.sipush (Reader.signed 16 (a * 256 + b)), pc + 3 - pc) = _
  rw [Nat.add_sub_cancel_left]
theorem dc_167 {cc : ByteArray} {pc a b : Nat} (h : byc_ cc pc 167) (h1 : byc_ cc (pc + 1) a) (h2 : byc_ cc (pc + 2) b) : decode cc pc = .ok (Instr.goto (Reader.signed 16 (a * 256 + b)), 3) := by
  show (((Reader.u1 >>= _ : Decoder Instr).runAt cc pc) >>= fun x => pure (x.1, x.2 - pc)) = _
  rw [bu1 h]
  show (((Reader.s2 >>= _ : Decoder Instr).runAt cc (pc + 1)) >>= fun x => pure (x.1, x.2 - pc)) = _
  rw [bs2 h1 h2]
  show Except.ok (Instr.goto (Reader.signed 16 (a * 256 + b)), pc + 3 - pc) = _
  rw [Nat.add_sub_cancel_left]
theorem dc_19 {cc : ByteArray} {pc a b : Nat} (h : byc_ cc pc 19) (h1 : byc_ cc (pc + 1) a) (h2 : byc_ cc (pc + 2) b) : decode cc pc = .ok (Instr.ldc_w (a * 256 + b), 3) := by
  show (((Reader.u1 >>= _ : Decoder Instr).runAt cc pc) >>= fun x => pure (x.1, x.2 - pc)) = _
  rw [bu1 h]
  show (((Reader.u2 >>= _ : Decoder Instr).runAt cc (pc + 1)) >>= fun x => pure (x.1, x.2 - pc)) = _
  rw [bu2 h1 h2]
  show Except.ok (Instr.ldc_w (a * 256 + b), pc + 3 - pc) = _
  rw [Nat.add_sub_cancel_left]
theorem dc_20 {cc : ByteArray} {pc a b : Nat} (h : byc_ cc pc 20) (h1 : byc_ cc (pc + 1) a) (h2 : byc_ cc (pc + 2) b) : decode cc pc = .ok (Instr.ldc2_w (a * 256 + b), 3) := by
  show (((Reader.u1 >>= _ : Decoder Instr).runAt cc pc) >>= fun x => pure (x.1, x.2 - pc)) = _
  rw [bu1 h]
  show (((Reader.u2 >>= _ : Decoder Instr).runAt cc (pc + 1)) >>= fun x => pure (x.1, x.2 - pc)) = _
  rw [bu2 h1 h2]
  show Except.ok (Instr.ldc2_w (a * 256 + b), pc + 3 - pc) = _
  rw [Nat.add_sub_cancel_left]
theorem dc_180 {cc : ByteArray} {pc a b : Nat} (h : byc_ cc pc 180) (h1 : byc_ cc (pc + 1) a) (h2 : byc_ cc (pc + 2) b) : decode cc pc = .ok (Instr.getfield (a * 256 + b), 3) := by
  show (((Reader.u1 >>= _ : Decoder Instr).runAt cc pc) >>= fun x => pure (x.1, x.2 - pc)) = _
  rw [bu1 h]
  show (((Reader.u2 >>= _ : Decoder Instr).runAt cc (pc + 1)) >>= fun x => pure (x.1, x.2 - pc)) = _
  rw [bu2 h1 h2]
  show Except.ok (Instr.getfield (a * 256 + b), pc + 3 - pc) = _
  rw [Nat.add_sub_cancel_left]
theorem dc_181 {cc : ByteArray} {pc a b : Nat} (h : byc_ cc pc 181) (h1 : byc_ cc (pc + 1) a) (h2 : byc_ cc (pc + 2) b) : decode cc pc = .ok (Instr.putfield (a * 256 + b), 3) := by
  show (((Reader.u1 >>= _ : Decoder Instr).runAt cc pc) >>= fun x => pure (x.1, x.2 - pc)) = _
  rw [bu1 h]
  show (((Reader.u2 >>= _ : Decoder Instr).runAt cc (pc + 1)) >>= fun x => pure (x.1, x.2 - pc)) = _
  rw [bu2 h1 h2]
  show Except.ok (Instr.putfield (a * 256 + b), pc + 3 - pc) = _
  rw [Nat.add_sub_cancel_left]
theorem dc_178 {cc : ByteArray} {pc a b : Nat} (h : byc_ cc pc 178) (h1 : byc_ cc (pc + 1) a) (h2 : byc_ cc (pc + 2) b) : decode cc pc = .ok (Instr.getstatic (a * 256 + b), 3) := by
  show (((Reader.u1 >>= _ : Decoder Instr).runAt cc pc) >>= fun x => pure (x.1, x.2 - pc)) = _
  rw [bu1 h]
  show (((Reader.u2 >>= _ : Decoder Instr).runAt cc (pc + 1)) >>= fun x => pure (x.1, x.2 - pc)) = _
  rw [bu2 h1 h2]
  show Except.ok (Instr.getstatic (a * 256 + b), pc + 3 - pc) = _
  rw [Nat.add_sub_cancel_left]
theorem dc_182 {cc : ByteArray} {pc a b : Nat} (h : byc_ cc pc 182) (h1 : byc_ cc (pc + 1) a) (h2 : byc_ cc (pc + 2) b) : decode cc pc = .ok (Instr.invokevirtual (a * 256 + b), 3) := by
  show (((Reader.u1 >>= _ : Decoder Instr).runAt cc pc) >>= fun x => pure (x.1, x.2 - pc)) = _
  rw [bu1 h]
  show (((Reader.u2 >>= _ : Decoder Instr).runAt cc (pc + 1)) >>= fun x => pure (x.1, x.2 - pc)) = _
  rw [bu2 h1 h2]
  show Except.ok (Instr.invokevirtual (a * 256 + b), pc + 3 - pc) = _
  rw [Nat.add_sub_cancel_left]
theorem dc_184 {cc : ByteArray} {pc a b : Nat} (h : byc_ cc pc 184) (h1 : byc_ cc (pc + 1) a) (h2 : byc_ cc (pc + 2) b) : decode cc pc = .ok (Instr.invokestatic (a * 256 + b), 3) := by
  show (((Reader.u1 >>= _ : Decoder Instr).runAt cc pc) >>= fun x => pure (x.1, x.2 - pc)) = _
  rw [bu1 h]
  show (((Reader.u2 >>= _ : Decoder Instr).runAt cc (pc + 1)) >>= fun x => pure (x.1, x.2 - pc)) = _
  rw [bu2 h1 h2]
  show Except.ok (Instr.invokestatic (a * 256 + b), pc + 3 - pc) = _
  rw [Nat.add_sub_cancel_left]
theorem dc_153 {cc : ByteArray} {pc a b : Nat} (h : byc_ cc pc 153) (h1 : byc_ cc (pc + 1) a) (h2 : byc_ cc (pc + 2) b) : decode cc pc = .ok (Instr.ifCond .eq (Reader.signed 16 (a * 256 + b)), 3) := by
  show (((Reader.u1 >>= _ : Decoder Instr).runAt cc pc) >>= fun x => pure (x.1, x.2 - pc)) = _
  rw [bu1 h]
  show (((Reader.s2 >>= _ : Decoder Instr).runAt cc (pc + 1)) >>= fun x => pure (x.1, x.2 - pc)) = _
  rw [bs2 h1 h2]
  show Except.ok (Instr.ifCond .eq (Reader.signed 16 (a * 256 + b)), pc + 3 - pc) = _
  rw [Nat.add_sub_cancel_left]
theorem dc_159 {cc : ByteArray} {pc a b : Nat} (h : byc_ cc pc 159) (h1 : byc_ cc (pc + 1) a) (h2 : byc_ cc (pc + 2) b) : decode cc pc = .ok (Instr.if_icmp .eq (Reader.signed 16 (a * 256 + b)), 3) := by
  show (((Reader.u1 >>= _ : Decoder Instr).runAt cc pc) >>= fun x => pure (x.1, x.2 - pc)) = _
  rw [bu1 h]
  show (((Reader.s2 >>= _ : Decoder Instr).runAt cc (pc + 1)) >>= fun x => pure (x.1, x.2 - pc)) = _
  rw [bs2 h1 h2]
  show Except.ok (Instr.if_icmp .eq (Reader.signed 16 (a * 256 + b)), pc + 3 - pc) = _
  rw [Nat.add_sub_cancel_left]
theorem dc_154 {cc : ByteArray} {pc a b : Nat} (h : byc_ cc pc 154) (h1 : byc_ cc (pc + 1) a) (h2 : byc_ cc (pc + 2) b) : decode cc pc = .ok (Instr.ifCond .ne (Reader.signed 16 (a * 256 + b)), 3) := by
  show (((Reader.u1 >>= _ : Decoder Instr).runAt cc pc) >>= fun x => pure (x.1, x.2 - pc)) = _
  rw [bu1 h]
  show (((Reader.s2 >>= _ : Decoder Instr).runAt cc (pc + 1)) >>= fun x => pure (x.1, x.2 - pc)) = _
  rw [bs2 h1 h2]
  show Except.ok (Instr.ifCond .ne (Reader.signed 16 (a * 256 + b)), pc + 3 - pc) = _
  rw [Nat.add_sub_cancel_left]
theorem dc_160 {cc : ByteArray} {pc a b : Nat} (h : byc_ cc pc 160) (h1 : byc_ cc (pc + 1) a) (h2 : byc_ cc (pc + 2) b) : decode cc pc = .ok (Instr.if_icmp .ne (Reader.signed 16 (a * 256 + b)), 3) := by
  show (((Reader.u1 >>= _ : Decoder Instr).runAt cc pc) >>= fun x => pure (x.1, x.2 - pc)) = _
  rw [bu1 h]
  show (((Reader.s2 >>= _ : Decoder Instr).runAt cc (pc + 1)) >>= fun x => pure (x.1, x.2 - pc)) = _
  rw [bs2 h1 h2]
  show Except.ok (Instr.if_icmp .ne (Reader.signed 16 (a * 256 + b)), pc + 3 - pc) = _
  rw [Nat.add_sub_cancel_left]
theorem dc_155 {cc : ByteArray} {pc a b : Nat} (h : byc_ cc pc 155) (h1 : byc_ cc (pc + 1) a) (h2 : byc_ cc (pc + 2) b) : decode cc pc = .ok (Instr.ifCond .lt (Reader.signed 16 (a * 256 + b)), 3) := by
  show (((Reader.u1 >>= _ : Decoder Instr).runAt cc pc) >>= fun x => pure (x.1, x.2 - pc)) = _
  rw [bu1 h]
  show (((Reader.s2 >>= _ : Decoder Instr).runAt cc (pc + 1)) >>= fun x => pure (x.1, x.2 - pc)) = _
  rw [bs2 h1 h2]
  show Except.ok (Instr.ifCond .lt (Reader.signed 16 (a * 256 + b)), pc + 3 - pc) = _
  rw [Nat.add_sub_cancel_left]
theorem dc_161 {cc : ByteArray} {pc a b : Nat} (h : byc_ cc pc 161) (h1 : byc_ cc (pc + 1) a) (h2 : byc_ cc (pc + 2) b) : decode cc pc = .ok (Instr.if_icmp .lt (Reader.signed 16 (a * 256 + b)), 3) := by
  show (((Reader.u1 >>= _ : Decoder Instr).runAt cc pc) >>= fun x => pure (x.1, x.2 - pc)) = _
  rw [bu1 h]
  show (((Reader.s2 >>= _ : Decoder Instr).runAt cc (pc + 1)) >>= fun x => pure (x.1, x.2 - pc)) = _
  rw [bs2 h1 h2]
  show Except.ok (Instr.if_icmp .lt (Reader.signed 16 (a * 256 + b)), pc + 3 - pc) = _
  rw [Nat.add_sub_cancel_left]
theorem dc_156 {cc : ByteArray} {pc a b : Nat} (h : byc_ cc pc 156) (h1 : byc_ cc (pc + 1) a) (h2 : byc_ cc (pc + 2) b) : decode cc pc = .ok (Instr.ifCond .ge (Reader.signed 16 (a * 256 + b)), 3) := by
  show (((Reader.u1 >>= _ : Decoder Instr).runAt cc pc) >>= fun x => pure (x.1, x.2 - pc)) = _
  rw [bu1 h]
  show (((Reader.s2 >>= _ : Decoder Instr).runAt cc (pc + 1)) >>= fun x => pure (x.1, x.2 - pc)) = _
  rw [bs2 h1 h2]
  show Except.ok (Instr.ifCond .ge (Reader.signed 16 (a * 256 + b)), pc + 3 - pc) = _
  rw [Nat.add_sub_cancel_left]
theorem dc_162 {cc : ByteArray} {pc a b : Nat} (h : byc_ cc pc 162) (h1 : byc_ cc (pc + 1) a) (h2 : byc_ cc (pc + 2) b) : decode cc pc = .ok (Instr.if_icmp .ge (Reader.signed 16 (a * 256 + b)), 3) := by
  show (((Reader.u1 >>= _ : Decoder Instr).runAt cc pc) >>= fun x => pure (x.1, x.2 - pc)) = _
  rw [bu1 h]
  show (((Reader.s2 >>= _ : Decoder Instr).runAt cc (pc + 1)) >>= fun x => pure (x.1, x.2 - pc)) = _
  rw [bs2 h1 h2]
  show Except.ok (Instr.if_icmp .ge (Reader.signed 16 (a * 256 + b)), pc + 3 - pc) = _
  rw [Nat.add_sub_cancel_left]
theorem dc_157 {cc : ByteArray} {pc a b : Nat} (h : byc_ cc pc 157) (h1 : byc_ cc (pc + 1) a) (h2 : byc_ cc (pc + 2) b) : decode cc pc = .ok (Instr.ifCond .gt (Reader.signed 16 (a * 256 + b)), 3) := by
  show (((Reader.u1 >>= _ : Decoder Instr).runAt cc pc) >>= fun x => pure (x.1, x.2 - pc)) = _
  rw [bu1 h]
  show (((Reader.s2 >>= _ : Decoder Instr).runAt cc (pc + 1)) >>= fun x => pure (x.1, x.2 - pc)) = _
  rw [bs2 h1 h2]
  show Except.ok (Instr.ifCond .gt (Reader.signed 16 (a * 256 + b)), pc + 3 - pc) = _
  rw [Nat.add_sub_cancel_left]
theorem dc_163 {cc : ByteArray} {pc a b : Nat} (h : byc_ cc pc 163) (h1 : byc_ cc (pc + 1) a) (h2 : byc_ cc (pc + 2) b) : decode cc pc = .ok (Instr.if_icmp .gt (Reader.signed 16 (a * 256 + b)), 3) := by
  show (((Reader.u1 >>= _ : Decoder Instr).runAt cc pc) >>= fun x => pure (x.1, x.2 - pc)) = _
  rw [bu1 h]
  show (((Reader.s2 >>= _ : Decoder Instr).runAt cc (pc + 1)) >>= fun x => pure (x.1, x.2 - pc)) = _
  rw [bs2 h1 h2]
  show Except.ok (Instr.if_icmp .gt (Reader.signed 16 (a * 256 + b)), pc + 3 - pc) = _
  rw [Nat.add_sub_cancel_left]
theorem dc_158 {cc : ByteArray} {pc a b : Nat} (h : byc_ cc pc 158) (h1 : byc_ cc (pc + 1) a) (h2 : byc_ cc (pc + 2) b) : decode cc pc = .ok (Instr.ifCond .le (Reader.signed 16 (a * 256 + b)), 3) := by
  show (((Reader.u1 >>= _ : Decoder Instr).runAt cc pc) >>= fun x => pure (x.1, x.2 - pc)) = _
  rw [bu1 h]
  show (((Reader.s2 >>= _ : Decoder Instr).runAt cc (pc + 1)) >>= fun x => pure (x.1, x.2 - pc)) = _
  rw [bs2 h1 h2]
  show Except.ok (Instr.ifCond .le (Reader.signed 16 (a * 256 + b)), pc + 3 - pc) = _
  rw [Nat.add_sub_cancel_left]
theorem dc_164 {cc : ByteArray} {pc a b : Nat} (h : byc_ cc pc 164) (h1 : byc_ cc (pc + 1) a) (h2 : byc_ cc (pc + 2) b) : decode cc pc = .ok (Instr.if_icmp .le (Reader.signed 16 (a * 256 + b)), 3) := by
  show (((Reader.u1 >>= _ : Decoder Instr).runAt cc pc) >>= fun x => pure (x.1, x.2 - pc)) = _
  rw [bu1 h]
  show (((Reader.s2 >>= _ : Decoder Instr).runAt cc (pc + 1)) >>= fun x => pure (x.1, x.2 - pc)) = _
  rw [bs2 h1 h2]
  show Except.ok (Instr.if_icmp .le (Reader.signed 16 (a * 256 + b)), pc + 3 - pc) = _
  rw [Nat.add_sub_cancel_left]
theorem dc_132 {cc : ByteArray} {pc a b : Nat} (h : byc_ cc pc 132) (h1 : byc_ cc (pc + 1) a) (h2 : byc_ cc (pc + 2) b) : decode cc pc = .ok (Instr.iinc a (Reader.signed 8 b), 3) := by
  show (((Reader.u1 >>= _ : Decoder Instr).runAt cc pc) >>= fun x => pure (x.1, x.2 - pc)) = _
  rw [bu1 h]
  show (((Reader.u1 >>= _ : Decoder Instr).runAt cc (pc + 1)) >>= fun x => pure (x.1, x.2 - pc)) = _
  rw [bu1 h1]
  show (((Reader.s1 >>= _ : Decoder Instr).runAt cc (pc + 2)) >>= fun x => pure (x.1, x.2 - pc)) = _
  rw [bs1 h2]
  show Except.ok (Instr.iinc a (Reader.signed 8 b), pc + 3 - pc) = _
  rw [Nat.add_sub_cancel_left]
def c1_ (b k n : Nat) : Nat := bif Nat.beq b k then n else 0
def c2_ (b k n : Nat) (c : Bool) : Nat := bif Nat.beq b k && c then n else 0
theorem c1_s {b k n : Nat} (h : c1_ b k n ≠ 0) : b = k ∧ c1_ b k n = n := by
  unfold c1_ at h ⊢
  cases e : Nat.beq b k
  · rw [e] at h; exact (h rfl).elim
  · exact ⟨Nat.eq_of_beq_eq_true e, rfl⟩
theorem c2_s {b k n : Nat} {c : Bool} (h : c2_ b k n c ≠ 0) : b = k ∧ c = true ∧ c2_ b k n c = n := by
  unfold c2_ at h ⊢
  cases e : Nat.beq b k
  · rw [e] at h; exact (h rfl).elim
  · cases c
    · rw [e] at h; exact (h rfl).elim
    · exact ⟨Nat.eq_of_beq_eq_true e, rfl, rfl⟩
def cc1_ : ClassFile.Cond → Nat → Nat := fun c k => match c with
  | .eq => k | .ne => k + 1 | .lt => k + 2 | .ge => k + 3 | .gt => k + 4 | .le => k + 5
/-- the length of the instruction, if its bytes are these -/
def ckI (i : Instr) (b0 b1 b2 : Nat) : Nat := match i with
  | .iadd => c1_ b0 96 1
  | .isub => c1_ b0 100 1
  | .imul => c1_ b0 104 1
  | .idiv => c1_ b0 108 1
  | .irem => c1_ b0 112 1
  | .ineg => c1_ b0 116 1
  | .iand => c1_ b0 126 1
  | .ior => c1_ b0 128 1
  | .ixor => c1_ b0 130 1
  | .ishl => c1_ b0 120 1
  | .ishr => c1_ b0 122 1
  | .iushr => c1_ b0 124 1
  | .i2b => c1_ b0 145 1
  | .i2c => c1_ b0 146 1
  | .i2l => c1_ b0 133 1
  | .l2i => c1_ b0 136 1
  | .ladd => c1_ b0 97 1
  | .lsub => c1_ b0 101 1
  | .lmul => c1_ b0 105 1
  | .lcmp => c1_ b0 148 1
  | .dup => c1_ b0 89 1
  | .dup2 => c1_ b0 92 1
  | .pop => c1_ b0 87 1
  | .iaload => c1_ b0 46 1
  | .baload => c1_ b0 51 1
  | .laload => c1_ b0 47 1
  | .iastore => c1_ b0 79 1
  | .bastore => c1_ b0 84 1
  | .lastore => c1_ b0 80 1
  | .arraylength => c1_ b0 190 1
  | .ireturn => c1_ b0 172 1
  | .lreturn => c1_ b0 173 1
  | .areturn => c1_ b0 176 1
  | .return_ => c1_ b0 177 1
  | .athrow => c1_ b0 191 1
  | .iconst c => c2_ b0 (c + 3).toNat 1 (decide (-1 ≤ c) && decide (c ≤ 5))
  | .lconst n => c1_ b0 (9 + n.val) 1
  | .iload_n n => c1_ b0 (26 + n.val) 1
  | .lload_n n => c1_ b0 (30 + n.val) 1
  | .aload_n n => c1_ b0 (42 + n.val) 1
  | .istore_n n => c1_ b0 (59 + n.val) 1
  | .lstore_n n => c1_ b0 (63 + n.val) 1
  | .astore_n n => c1_ b0 (75 + n.val) 1
  | .iload k => c2_ b0 21 2 (Nat.beq b1 k)
  | .lload k => c2_ b0 22 2 (Nat.beq b1 k)
  | .aload k => c2_ b0 25 2 (Nat.beq b1 k)
  | .istore k => c2_ b0 54 2 (Nat.beq b1 k)
  | .lstore k => c2_ b0 55 2 (Nat.beq b1 k)
  | .astore k => c2_ b0 58 2 (Nat.beq b1 k)
  | .ldc k => c2_ b0 18 2 (Nat.beq b1 k)
  | .bipush c => c2_ b0 16 2 (decide (Reader.signed 8 b1 = c))
  | .sipush c => c2_ b0 17 3 (decide (Reader.signed 16 (b1 * 256 + b2) = c))
  | .goto c => c2_ b0 167 3 (decide (Reader.signed 16 (b1 * 256 + b2) = c))
  | .ldc_w k => c2_ b0 19 3 (Nat.beq (b1 * 256 + b2) k)
  | .ldc2_w k => c2_ b0 20 3 (Nat.beq (b1 * 256 + b2) k)
  | .getfield k => c2_ b0 180 3 (Nat.beq (b1 * 256 + b2) k)
  | .putfield k => c2_ b0 181 3 (Nat.beq (b1 * 256 + b2) k)
  | .getstatic k => c2_ b0 178 3 (Nat.beq (b1 * 256 + b2) k)
  | .invokevirtual k => c2_ b0 182 3 (Nat.beq (b1 * 256 + b2) k)
  | .invokestatic k => c2_ b0 184 3 (Nat.beq (b1 * 256 + b2) k)
  | .ifCond d c => c2_ b0 (cc1_ d 153) 3 (decide (Reader.signed 16 (b1 * 256 + b2) = c))
  | .if_icmp d c => c2_ b0 (cc1_ d 159) 3 (decide (Reader.signed 16 (b1 * 256 + b2) = c))
  | .iinc k c => c2_ b0 132 3 (Nat.beq b1 k && decide (Reader.signed 8 b2 = c))
  | _ => 0
theorem ckI_ok {cc : ByteArray} {pc b0 b1 b2 : Nat} {i : Instr} (h : ckI i b0 b1 b2 ≠ 0) (h0 : byc_ cc pc b0) (h1 : 2 ≤ ckI i b0 b1 b2 → byc_ cc (pc + 1) b1) (h2 : 3 ≤ ckI i b0 b1 b2 → byc_ cc (pc + 2) b2) : decode cc pc = .ok (i, ckI i b0 b1 b2) := by
  unfold ckI at h h1 h2 ⊢
  split at h
  · obtain ⟨e, e2⟩ := c1_s h; subst e; rw [e2]; exact dc_96 h0
  · obtain ⟨e, e2⟩ := c1_s h; subst e; rw [e2]; exact dc_100 h0
  · obtain ⟨e, e2⟩ := c1_s h; subst e; rw [e2]; exact dc_104 h0
  · obtain ⟨e, e2⟩ := c1_s h; subst e; rw [e2]; exact dc_108 h0
  · obtain ⟨e, e2⟩ := c1_s h; subst e; rw [e2]; exact dc_112 h0
  · obtain ⟨e, e2⟩ := c1_s h; subst e; rw [e2]; exact dc_116 h0
  · obtain ⟨e, e2⟩ := c1_s h; subst e; rw [e2]; exact dc_126 h0
  · obtain ⟨e, e2⟩ := c1_s h; subst e; rw [e2]; exact dc_128 h0
  · obtain ⟨e, e2⟩ := c1_s h; subst e; rw [e2]; exact dc_130 h0
  · obtain ⟨e, e2⟩ := c1_s h; subst e; rw [e2]; exact dc_120 h0
  · obtain ⟨e, e2⟩ := c1_s h; subst e; rw [e2]; exact dc_122 h0
  · obtain ⟨e, e2⟩ := c1_s h; subst e; rw [e2]; exact dc_124 h0
  · obtain ⟨e, e2⟩ := c1_s h; subst e; rw [e2]; exact dc_145 h0
  · obtain ⟨e, e2⟩ := c1_s h; subst e; rw [e2]; exact dc_146 h0
  · obtain ⟨e, e2⟩ := c1_s h; subst e; rw [e2]; exact dc_133 h0
  · obtain ⟨e, e2⟩ := c1_s h; subst e; rw [e2]; exact dc_136 h0
  · obtain ⟨e, e2⟩ := c1_s h; subst e; rw [e2]; exact dc_97 h0
  · obtain ⟨e, e2⟩ := c1_s h; subst e; rw [e2]; exact dc_101 h0
  · obtain ⟨e, e2⟩ := c1_s h; subst e; rw [e2]; exact dc_105 h0
  · obtain ⟨e, e2⟩ := c1_s h; subst e; rw [e2]; exact dc_148 h0
  · obtain ⟨e, e2⟩ := c1_s h; subst e; rw [e2]; exact dc_89 h0
  · obtain ⟨e, e2⟩ := c1_s h; subst e; rw [e2]; exact dc_92 h0
  · obtain ⟨e, e2⟩ := c1_s h; subst e; rw [e2]; exact dc_87 h0
  · obtain ⟨e, e2⟩ := c1_s h; subst e; rw [e2]; exact dc_46 h0
  · obtain ⟨e, e2⟩ := c1_s h; subst e; rw [e2]; exact dc_51 h0
  · obtain ⟨e, e2⟩ := c1_s h; subst e; rw [e2]; exact dc_47 h0
  · obtain ⟨e, e2⟩ := c1_s h; subst e; rw [e2]; exact dc_79 h0
  · obtain ⟨e, e2⟩ := c1_s h; subst e; rw [e2]; exact dc_84 h0
  · obtain ⟨e, e2⟩ := c1_s h; subst e; rw [e2]; exact dc_80 h0
  · obtain ⟨e, e2⟩ := c1_s h; subst e; rw [e2]; exact dc_190 h0
  · obtain ⟨e, e2⟩ := c1_s h; subst e; rw [e2]; exact dc_172 h0
  · obtain ⟨e, e2⟩ := c1_s h; subst e; rw [e2]; exact dc_173 h0
  · obtain ⟨e, e2⟩ := c1_s h; subst e; rw [e2]; exact dc_176 h0
  · obtain ⟨e, e2⟩ := c1_s h; subst e; rw [e2]; exact dc_177 h0
  · obtain ⟨e, e2⟩ := c1_s h; subst e; rw [e2]; exact dc_191 h0
  · rename_i c
    obtain ⟨e, e1, e2⟩ := c2_s h
    rw [e2]
    simp only [Bool.and_eq_true, decide_eq_true_eq] at e1
    have q : c = -1 ∨ c = 0 ∨ c = 1 ∨ c = 2 ∨ c = 3 ∨ c = 4 ∨ c = 5 := by clear h h1 h2 h0 e e2; omega
    subst e
    rcases q with q | q | q | q | q | q | q <;> subst q
    · exact dc_2 h0
    · exact dc_3 h0
    · exact dc_4 h0
    · exact dc_5 h0
    · exact dc_6 h0
    · exact dc_7 h0
    · exact dc_8 h0
  · rename_i n
    obtain ⟨e, e2⟩ := c1_s h
    rw [e2]
    subst e
    clear h h1 h2 e2
    match n, h0 with
    | ⟨0, _⟩, h0 => exact dc_9 h0
    | ⟨1, _⟩, h0 => exact dc_10 h0
  · rename_i n
    obtain ⟨e, e2⟩ := c1_s h
    rw [e2]
    subst e
    clear h h1 h2 e2
    match n, h0 with
    | ⟨0, _⟩, h0 => exact dc_26 h0
    | ⟨1, _⟩, h0 => exact dc_27 h0
    | ⟨2, _⟩, h0 => exact dc_28 h0
    | ⟨3, _⟩, h0 => exact dc_29 h0
  · rename_i n
    obtain ⟨e, e2⟩ := c1_s h
    rw [e2]
    subst e
    clear h h1 h2 e2
    match n, h0 with
    | ⟨0, _⟩, h0 => exact dc_30 h0
    | ⟨1, _⟩, h0 => exact dc_31 h0
    | ⟨2, _⟩, h0 => exact dc_32 h0
    | ⟨3, _⟩, h0 => exact dc_33 h0
  · rename_i n
    obtain ⟨e, e2⟩ := c1_s h
    rw [e2]
    subst e
    clear h h1 h2 e2
    match n, h0 with
    | ⟨0, _⟩, h0 => exact dc_42 h0
    | ⟨1, _⟩, h0 => exact dc_43 h0
    | ⟨2, _⟩, h0 => exact dc_44 h0
    | ⟨3, _⟩, h0 => exact dc_45 h0
  · rename_i n
    obtain ⟨e, e2⟩ := c1_s h
    rw [e2]
    subst e
    clear h h1 h2 e2
    match n, h0 with
    | ⟨0, _⟩, h0 => exact dc_59 h0
    | ⟨1, _⟩, h0 => exact dc_60 h0
    | ⟨2, _⟩, h0 => exact dc_61 h0
    | ⟨3, _⟩, h0 => exact dc_62 h0
  · rename_i n
    obtain ⟨e, e2⟩ := c1_s h
    rw [e2]
    subst e
    clear h h1 h2 e2
    match n, h0 with
    | ⟨0, _⟩, h0 => exact dc_63 h0
    | ⟨1, _⟩, h0 => exact dc_64 h0
    | ⟨2, _⟩, h0 => exact dc_65 h0
    | ⟨3, _⟩, h0 => exact dc_66 h0
  · rename_i n
    obtain ⟨e, e2⟩ := c1_s h
    rw [e2]
    subst e
    clear h h1 h2 e2
    match n, h0 with
    | ⟨0, _⟩, h0 => exact dc_75 h0
    | ⟨1, _⟩, h0 => exact dc_76 h0
    | ⟨2, _⟩, h0 => exact dc_77 h0
    | ⟨3, _⟩, h0 => exact dc_78 h0
  · obtain ⟨e, e1, e2⟩ := c2_s h; dsimp only at h1 ⊢; rw [e2] at h1 ⊢; cases Nat.eq_of_beq_eq_true e1; subst e; exact dc_21 h0 (h1 (by decide))
  · obtain ⟨e, e1, e2⟩ := c2_s h; dsimp only at h1 ⊢; rw [e2] at h1 ⊢; cases Nat.eq_of_beq_eq_true e1; subst e; exact dc_22 h0 (h1 (by decide))
  · obtain ⟨e, e1, e2⟩ := c2_s h; dsimp only at h1 ⊢; rw [e2] at h1 ⊢; cases Nat.eq_of_beq_eq_true e1; subst e; exact dc_25 h0 (h1 (by decide))
  · obtain ⟨e, e1, e2⟩ := c2_s h; dsimp only at h1 ⊢; rw [e2] at h1 ⊢; cases Nat.eq_of_beq_eq_true e1; subst e; exact dc_54 h0 (h1 (by decide))
  · obtain ⟨e, e1, e2⟩ := c2_s h; dsimp only at h1 ⊢; rw [e2] at h1 ⊢; cases Nat.eq_of_beq_eq_true e1; subst e; exact dc_55 h0 (h1 (by decide))
  · obtain ⟨e, e1, e2⟩ := c2_s h; dsimp only at h1 ⊢; rw [e2] at h1 ⊢; cases Nat.eq_of_beq_eq_true e1; subst e; exact dc_58 h0 (h1 (by decide))
  · obtain ⟨e, e1, e2⟩ := c2_s h; dsimp only at h1 ⊢; rw [e2] at h1 ⊢; cases Nat.eq_of_beq_eq_true e1; subst e; exact dc_18 h0 (h1 (by decide))
  · obtain ⟨e, e1, e2⟩ := c2_s h; dsimp only at h1 ⊢; rw [e2] at h1 ⊢; cases of_decide_eq_true e1; subst e; exact dc_16 h0 (h1 (by decide))
  · obtain ⟨e, e1, e2⟩ := c2_s h; dsimp only at h1 h2 ⊢; rw [e2] at h1 h2 ⊢; cases of_decide_eq_true e1; subst e; exact dc_17 h0 (h1 (by decide)) (h2 (by decide))
  · obtain ⟨e, e1, e2⟩ := c2_s h; dsimp only at h1 h2 ⊢; rw [e2] at h1 h2 ⊢; cases of_decide_eq_true e1; subst e; exact dc_167 h0 (h1 (by decide)) (h2 (by decide))
  · obtain ⟨e, e1, e2⟩ := c2_s h; dsimp only at h1 h2 ⊢; rw [e2] at h1 h2 ⊢; cases Nat.eq_of_beq_eq_true e1; subst e; exact dc_19 h0 (h1 (by decide)) (h2 (by decide))
  · obtain ⟨e, e1, e2⟩ := c2_s h; dsimp only at h1 h2 ⊢; rw [e2] at h1 h2 ⊢; cases Nat.eq_of_beq_eq_true e1; subst e; exact dc_20 h0 (h1 (by decide)) (h2 (by decide))
  · obtain ⟨e, e1, e2⟩ := c2_s h; dsimp only at h1 h2 ⊢; rw [e2] at h1 h2 ⊢; cases Nat.eq_of_beq_eq_true e1; subst e; exact dc_180 h0 (h1 (by decide)) (h2 (by decide))
  · obtain ⟨e, e1, e2⟩ := c2_s h; dsimp only at h1 h2 ⊢; rw [e2] at h1 h2 ⊢; cases Nat.eq_of_beq_eq_true e1; subst e; exact dc_181 h0 (h1 (by decide)) (h2 (by decide))
  · obtain ⟨e, e1, e2⟩ := c2_s h; dsimp only at h1 h2 ⊢; rw [e2] at h1 h2 ⊢; cases Nat.eq_of_beq_eq_true e1; subst e; exact dc_178 h0 (h1 (by decide)) (h2 (by decide))
  · obtain ⟨e, e1, e2⟩ := c2_s h; dsimp only at h1 h2 ⊢; rw [e2] at h1 h2 ⊢; cases Nat.eq_of_beq_eq_true e1; subst e; exact dc_182 h0 (h1 (by decide)) (h2 (by decide))
  · obtain ⟨e, e1, e2⟩ := c2_s h; dsimp only at h1 h2 ⊢; rw [e2] at h1 h2 ⊢; cases Nat.eq_of_beq_eq_true e1; subst e; exact dc_184 h0 (h1 (by decide)) (h2 (by decide))
  · rename_i d c
    obtain ⟨e, e1, e2⟩ := c2_s h; dsimp only at h1 h2 ⊢; rw [e2] at h1 h2 ⊢; cases of_decide_eq_true e1; subst e
    cases d
    · exact dc_153 h0 (h1 (by decide)) (h2 (by decide))
    · exact dc_154 h0 (h1 (by decide)) (h2 (by decide))
    · exact dc_155 h0 (h1 (by decide)) (h2 (by decide))
    · exact dc_156 h0 (h1 (by decide)) (h2 (by decide))
    · exact dc_157 h0 (h1 (by decide)) (h2 (by decide))
    · exact dc_158 h0 (h1 (by decide)) (h2 (by decide))
  · rename_i d c
    obtain ⟨e, e1, e2⟩ := c2_s h; dsimp only at h1 h2 ⊢; rw [e2] at h1 h2 ⊢; cases of_decide_eq_true e1; subst e
    cases d
    · exact dc_159 h0 (h1 (by decide)) (h2 (by decide))
    · exact dc_160 h0 (h1 (by decide)) (h2 (by decide))
    · exact dc_161 h0 (h1 (by decide)) (h2 (by decide))
    · exact dc_162 h0 (h1 (by decide)) (h2 (by decide))
    · exact dc_163 h0 (h1 (by decide)) (h2 (by decide))
    · exact dc_164 h0 (h1 (by decide)) (h2 (by decide))
  · obtain ⟨e, e1, e2⟩ := c2_s h; dsimp only at h1 h2 ⊢; rw [e2] at h1 h2 ⊢
    rw [Bool.and_eq_true] at e1
    cases Nat.eq_of_beq_eq_true e1.1; cases of_decide_eq_true e1.2; subst e; exact dc_132 h0 (h1 (by decide)) (h2 (by decide))
  · exact (h rfl).elim
def hN_ (l : List UInt8) : Nat := match l with
  | b :: _ => b.toNat
  | [] => 0
/-- the entry's bytes stand at the head of the list -/
def wen_ (cc : ByteArray) (e : en_) (bs : List UInt8) : Bool := match bs with
  | [] => false
  | b0 :: t => ((Nat.beq (ckI e.2.1 b0.toNat (hN_ t) (hN_ t.tail)) e.2.2.1 && Nat.ble 1 e.2.2.1) && ((Nat.ble e.2.2.1 1 || !t.isEmpty) && (Nat.ble e.2.2.1 2 || !t.tail.isEmpty))) || (match decode cc e.1 with | .ok q => decide (q.1 = e.2.1) && q.2 == e.2.2.1 | _ => false)
def wkb_ (cc : ByteArray) : List en_ → List UInt8 → Nat → Bool
  | [], _, _ => true
  | e :: es, bs, pc => Nat.ble pc e.1 && (wen_ cc e (bs.drop (e.1 - pc)) && wkb_ cc es (bs.drop (e.1 - pc)) e.1)
theorem byc_of {cc : ByteArray} {p : Nat} {b : UInt8} (h : cc.data.toList[p]? = some b) : byc_ cc p b.toNat := by
  have h2 : cc.data[p]? = some b := by rw [← Array.getElem?_toList]; exact h
  obtain ⟨h3, h4⟩ := Array.getElem?_eq_some_iff.mp h2
  exact ⟨h3, by show cc.data[p].toNat = _; rw [h4]⟩
theorem wen_ok {cc : ByteArray} {e : en_} {bs : List UInt8} (hb : ∀ j, bs[j]? = cc.data.toList[e.1 + j]?) (h : wen_ cc e bs = true) : (match decode cc e.1 with | .ok q => decide (q.1 = e.2.1) && q.2 == e.2.2.1 | _ => false) = true := by
  unfold wen_ at h
  split at h
  · cases h
  · rename_i b0 t
    rcases Bool.or_eq_true .. ▸ h with h | h
    · simp only [Bool.and_eq_true, Bool.or_eq_true, Bool.not_eq_true'] at h
      obtain ⟨⟨g1, g2⟩, g3, g4⟩ := h
      have g1 := Nat.eq_of_beq_eq_true g1
      have g2 := Nat.le_of_ble_eq_true g2
      have k0 : byc_ cc e.1 b0.toNat := byc_of (by have := hb 0; exact this.symm)
      have k1 : 2 ≤ e.2.2.1 → byc_ cc (e.1 + 1) (hN_ t) := by
        intro q
        rcases g3 with g3 | g3
        · have := Nat.le_of_ble_eq_true g3; omega
        · cases t with
          | nil => cases g3
          | cons b1 t1 => exact byc_of (by have := hb 1; exact this.symm)
      have k2 : 3 ≤ e.2.2.1 → byc_ cc (e.1 + 2) (hN_ t.tail) := by
        intro q
        rcases g4 with g4 | g4
        · have := Nat.le_of_ble_eq_true g4; omega
        · cases t with
          | nil => cases g4
          | cons b1 t1 =>
            cases t1 with
            | nil => cases g4
            | cons b2 t2 => exact byc_of (by have := hb 2; exact this.symm)
      have r := ckI_ok (cc := cc) (pc := e.1) (by rw [g1]; omega) k0 (by rw [g1]; exact k1) (by rw [g1]; exact k2)
      rw [r, g1]
      simp
    · exact h
theorem wkb_ok {cc : ByteArray} : ∀ (es : List en_) (bs : List UInt8) (pc : Nat), (∀ j, bs[j]? = cc.data.toList[pc + j]?) → wkb_ cc es bs pc = true → ∀ e ∈ es, (match decode cc e.1 with | .ok q => decide (q.1 = e.2.1) && q.2 == e.2.2.1 | _ => false) = true
  | [], _, _, _, _, _, he => by cases he
  | e :: es, bs, pc, hb, h, e9, he => by
    unfold wkb_ at h
    simp only [Bool.and_eq_true] at h
    have hp := Nat.le_of_ble_eq_true h.1
    have hb2 : ∀ j, (bs.drop (e.1 - pc))[j]? = cc.data.toList[e.1 + j]? := by
      intro j
      rw [List.getElem?_drop, hb]
      congr 1
      omega
    rcases List.mem_cons.mp he with rfl | he
    · exact wen_ok hb2 h.2.1
    · exact wkb_ok es _ _ hb2 h.2.2 e9 he
/-- the walk with all checks of an instruction; entries are taken apart, so that the checker meets like terms again -/
def we2_ (cc : ByteArray) (q : Nat) (i : Instr) (len : Nat) (bs : List UInt8) : Bool := match bs with
  | [] => false
  | b0 :: t => ((Nat.beq (ckI i b0.toNat (hN_ t) (hN_ t.tail)) len && Nat.ble 1 len) && ((Nat.ble len 1 || !t.isEmpty) && (Nat.ble len 2 || !t.tail.isEmpty))) || (match decode cc q with | .ok z => decide (z.1 = i) && z.2 == len | _ => false)
def wk2_ (o : Nat) (cc : ByteArray) : List en_ → List UInt8 → Nat → Bool
  | [], _, _ => true
  | (q, i, len, a, b, tb) :: es, bs, pc => Nat.ble pc q && (we2_ cc q i len (bs.drop (q - pc)) && (oki_ o q i len a b tb && wk2_ o cc es (bs.drop (q - pc)) q))
theorem wk2_ok {o : Nat} {cc : ByteArray} : ∀ (es : List en_) (bs : List UInt8) (pc : Nat), wk2_ o cc es bs pc = true → wkb_ cc es bs pc = true ∧ ∀ e ∈ es, oki_ o e.1 e.2.1 e.2.2.1 e.2.2.2.1 e.2.2.2.2.1 e.2.2.2.2.2 = true
  | [], _, _, _ => ⟨rfl, fun _ he => by cases he⟩
  | (q, i, len, a, b, tb) :: es, bs, pc, h => by
    unfold wk2_ at h
    simp only [Bool.and_eq_true] at h
    obtain ⟨h1, h2, h3, h4⟩ := h
    obtain ⟨r1, r2⟩ := wk2_ok es _ _ h4
    refine ⟨?_, fun e he => ?_⟩
    · unfold wkb_
      simp only [Bool.and_eq_true]
      exact ⟨h1, h2, r1⟩
    · rcases List.mem_cons.mp he with rfl | he
      · exact h3
      · exact r2 e he
/-- the check of many methods: number, class -/
def okg_ (l : List (Nat × Nat)) : Bool := l.all (fun z => Nat.beq (me0 z.1).2.2.2.2.2.2 z.2 && wk2_ z.2 (me0 z.1).2.1 (pg0 z.1).1 (me0 z.1).2.1.data.toList 0)
theorem okg_ok {l : List (Nat × Nat)} (h : okg_ l = true) : ∀ n ∈ l.map (fun z => z.1), okn_ n = true := by
  intro n hn
  obtain ⟨z, hz, rfl⟩ := List.mem_map.mp hn
  have h2 := List.all_eq_true.mp h z hz
  rw [Bool.and_eq_true] at h2
  have e := Nat.eq_of_beq_eq_true h2.1
  obtain ⟨r1, r2⟩ := wk2_ok _ _ _ h2.2
  unfold okn_
  refine List.all_eq_true.mpr fun e9 he => ?_
  unfold okb_
  rw [Bool.and_eq_true]
  exact ⟨wkb_ok _ _ _ (fun j => by rw [Nat.zero_add]) r1 e9 he, by rw [e]; exact r2 e9 he⟩
theorem okb_all {o : Nat} {cc : ByteArray} {es : List en_} (h : wk2_ o cc es cc.data.toList 0 = true) : es.all (okb_ o cc) = true := by
  obtain ⟨r1, r2⟩ := wk2_ok _ _ _ h
  refine List.all_eq_true.mpr fun e he => ?_
  unfold okb_
  rw [Bool.and_eq_true]
  exact ⟨wkb_ok _ _ _ (fun j => by rw [Nat.zero_add]) r1 e he, r2 e he⟩
