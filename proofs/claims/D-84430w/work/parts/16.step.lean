theorem ak5 {r : Nat} (h : ak0 r = 5) : r = 1000 := by
  unfold ak0 at h
  split at h
  · rename_i hr
    have hd : ∀ r, r < NR0 → ak0 r ≠ 5 := by decide +kernel
    exact absurd (show ak0 r = 5 by unfold ak0; rw [if_pos hr]; exact h) (hd r hr)
  · split at h
    · assumption
    · split at h <;> omega
theorem ak6 {r : Nat} (h : ak0 r = 6) : ∃ j, j < 3 ∧ r = 1011 + j ∧ ln0 (1011 + j) = sl0.getD j 0 := by
  unfold ak0 at h
  split at h
  · rename_i hr
    have hd : ∀ r, r < NR0 → ak0 r ≠ 6 := by decide +kernel
    exact absurd (show ak0 r = 6 by unfold ak0; rw [if_pos hr]; exact h) (hd r hr)
  · split at h
    · omega
    · split at h
      · refine ⟨r - 1011, by omega, by omega, ?_⟩
        have hd : ∀ j, j < 3 → ln0 (1011 + j) = sl0.getD j 0 := by decide +kernel
        exact hd _ (by omega)
      · omega
/-! THE STEP: what the check of an instruction says, and that a closed predicate of points is met by the machine -/
set_option maxRecDepth 100000
theorem qm_max : Cond.code Lib.Math.max.name Lib.Math.max.code 2 (some .int) ∈ lw_all := lw_g (lw_at lw_m1 139 rfl) rfl
theorem qm_min : Cond.code Lib.Math.min.name Lib.Math.min.code 2 (some .int) ∈ lw_all := lw_g (lw_at lw_m1 42 rfl) rfl
theorem qm_mnl : Cond.code Lib.MathLoose.min_long.x Lib.MathLoose.min_long.code 4 (some .long) ∈ lw_all := lw_g (lw_at lw_m1 147 rfl) rfl
theorem qm_smax : Cond.static Lib.Math.max.name ∈ lw_all := lw_g (lw_at lw_m1 138 rfl) rfl
theorem qm_smin : Cond.static Lib.Math.min.name ∈ lw_all := lw_g (lw_at lw_m1 41 rfl) rfl
theorem qm_smnl : Cond.static Lib.MathLoose.min_long.x ∈ lw_all := lw_g (lw_at lw_m1 146 rfl) rfl
theorem qm_ini : Cond.initialized "java/lang/Math" ∈ lw_all := lw_g (lw_at lw_m1 14 rfl) rfl
/-- class, entry, which of Math's -/
def mm0 : List (Nat × Nat × Nat) := [(0, 24, 9002), (0, 142, 9001), (0, 289, 9003), (7, 92, 9001), (7, 38, 9002), (1, 324, 9001)]
def mn_ (a : Nat) : MethodName := if a = 9001 then Lib.Math.max.name else if a = 9002 then Lib.Math.min.name else Lib.MathLoose.min_long.x
theorem mm_ok : ∀ q ∈ mm0, Cond.methodLink (cn1 q.1) q.2.1 (mn_ q.2.2) ∈ lw_all :=
  List.forall_mem_cons.mpr ⟨lw_g (lw_at lw_m1 40 rfl) rfl, List.forall_mem_cons.mpr ⟨lw_g (lw_at lw_m1 137 rfl) rfl, List.forall_mem_cons.mpr ⟨lw_g (lw_at lw_m1 145 rfl) rfl, List.forall_mem_cons.mpr ⟨lw_g (lw_at lw_m5 68 rfl) rfl, List.forall_mem_cons.mpr ⟨lw_g (lw_at lw_m5 69 rfl) rfl, List.forall_mem_cons.mpr ⟨lw_g (lw_at lw_m6 20 rfl) rfl, fun _ h => absurd h List.not_mem_nil⟩⟩⟩⟩⟩⟩
def okK_ (o idx : Nat) (b : Int) (k : Nat) : Bool := co0.any (fun q => q.1 == o && (q.2.1 == idx && (q.2.2.1 == b && q.2.2.2.2 == k)))
theorem okK_spec {o idx k : Nat} {b : Int} (h : okK_ o idx b k = true) : ∃ q ∈ co0, q.1 = o ∧ q.2.1 = idx ∧ q.2.2.1 = b ∧ q.2.2.2.2 = k ∧ cw_ q ∈ lw_all := by
  unfold okK_ at h
  obtain ⟨q, hq, h1⟩ := List.any_eq_true.mp h
  simp only [Bool.and_eq_true, beq_iff_eq] at h1
  refine ⟨q, hq, h1.1, h1.2.1, h1.2.2.1, h1.2.2.2, lw_g ?_ (List.all_eq_true.mp co0_good q hq)⟩
  obtain ⟨i, hi⟩ := List.getElem?_of_mem hq
  have hl : ∀ (p : Nat) (l : List Nat), (gaps_ p l).length = l.length := by
    intro p l
    induction l generalizing p with
    | nil => rfl
    | cons x t ih => show (gaps_ (x + 1) t).length + 1 = t.length + 1; rw [ih]
  have hi2 : i < (gaps_ 0 (co0.map (fun q => q.2.2.2.1))).length := by
    rw [hl, List.length_map]
    exact (List.getElem?_eq_some_iff.mp hi).1
  refine sk_mem _ _ co0_ok ((gaps_ 0 (co0.map (fun q => q.2.2.2.1)))[i], cw_ q) ?_
  refine List.mem_of_getElem? (i := i) ?_
  rw [List.getElem?_zip_eq_some]
  exact ⟨List.getElem?_eq_getElem hi2, by rw [List.getElem?_map, hi]; rfl⟩
def okv9_ (ci : Nat) (z : Int × Nat) : Bool := decide (0 ≤ z.1) && (rc0 z.1.toNat == ci && ((decide (z.1.toNat < NR0) && decide (ci < 6)) || (decide (1001 ≤ z.1.toNat) && (decide (z.1.toNat ≤ 1003) && ci == 6))))
def okh9_ (k : Nat) (tb : List (Int × Nat)) : Bool := match tb with
  | q :: _ => q.1 == -1 && q.2 == k
  | _ => false
def okc_ (o idx a b : Nat) (vir : Bool) (tb : List (Int × Nat)) : Bool := ml0.any (fun q => q.1 == o && (q.2.1 == idx && q.2.2.1 == a)) && (mids0.contains a && (decide ((parseMethodDescriptor (me0 a).1.desc).map (fun d => d.parameters.length + (if vir then 1 else 0)) = some b) && (decide ((me0 a).2.2.2.2.2.1 = (if vir then 0 else 1)) && (okh9_ (pg0 a).2.2.1 tb && (decide ((me0 a).1.cls ≠ "java/lang/invoke/MethodHandle" ∧ (me0 a).1.cls ≠ "java/lang/invoke/VarHandle") && (!vir || (decide (0 < b) && tb.tail.all (okv9_ (me0 a).2.2.2.2.2.2))))))))
def ok32_ (c : Int) : Bool := decide (-2147483648 ≤ c) && decide (c < 2147483648)
def oki_ (o pc : Nat) (i : Instr) (len a : Nat) (b : Int) (tb : List (Int × Nat)) : Bool := match i with
  | .iconst c => len == 1 && ok32_ c
  | .bipush c => len == 2 && (decide (-128 ≤ c) && decide (c ≤ 127))
  | .sipush c => len == 3 && (decide (-32768 ≤ c) && decide (c ≤ 32767))
  | .ldc idx => len == 2 && (if a = 0 then okK_ o idx b 0 && ok32_ b else (List.range 3).any (fun j => a == 1001 + j && (st0_.getD j (0, 0)).1 == o && (st0_.getD j (0, 0)).2 == idx))
  | .ldc_w idx => len == 3 && (okK_ o idx b 0 && ok32_ b)
  | .ldc2_w idx => len == 3 && (okK_ o idx b 1 && (decide (-9223372036854775808 ≤ b) && decide (b < 9223372036854775808)))
  | .lconst _ => len == 1
  | .iload _ => len == 2
  | .iload_n _ => len == 1
  | .lload _ => len == 2
  | .lload_n _ => len == 1
  | .aload _ => len == 2
  | .aload_n _ => len == 1
  | .istore _ => len == 2
  | .istore_n _ => len == 1
  | .lstore _ => len == 2
  | .lstore_n _ => len == 1
  | .astore _ => len == 2
  | .astore_n _ => len == 1
  | .iinc _ c => len == 3 && ok32_ c
  | .goto off => len == 3 && decide ((pc : Int) + off = (a : Int))
  | .if_icmp _ off => len == 3 && decide ((pc : Int) + off = (a : Int))
  | .ifCond _ off => len == 3 && decide ((pc : Int) + off = (a : Int))
  | .tableswitch dflt lo hi offs => decide ((pc : Int) + dflt = (a : Int)) && okt_ pc lo hi offs.toList tb
  | .lookupswitch dflt ps => (ps.toList.zip (ps.toList.drop 1)).all (fun (a, next) => a.1 < next.1) && okl_ pc a dflt ps.toList tb
  | .getfield idx => len == 3 && (if o = 6 then (idx == 9 && (a == 2 && (b == 0 && decide (tb = [(1001, 1011), (1002, 1012), (1003, 1013)])))) || (idx == 15 && (a == 0 && (b == 1 && decide (tb = [(1001, 0), (1002, 0), (1003, 0)])))) else okf_ o idx a b tb)
  | .putfield idx => len == 3 && (okf_ o idx a b tb && okp_ o idx a)
  | .getstatic idx => len == 3 && (o == 6 && ((idx == 38 && (a == 0 && b == 1)) || (idx == 1053 && a == 1999)))
  | .invokevirtual idx => len == 3 && okc_ o idx a b.toNat true tb
  | .invokestatic idx => len == 3 && (if a = 9001 ∨ a = 9002 ∨ a = 9003 then mm0.any (fun q => q.1 == o && (q.2.1 == idx && q.2.2 == a)) else okc_ o idx a b.toNat false tb)
  | .iadd | .isub | .imul | .idiv | .irem | .ineg | .iand | .ior | .ixor | .ishl | .ishr | .iushr | .i2b | .i2c | .i2l | .l2i | .ladd | .lsub | .lmul | .lcmp | .dup | .dup2 | .pop | .iaload | .baload | .laload | .iastore | .bastore | .lastore | .arraylength | .ireturn | .lreturn | .areturn | .return_ | .athrow => len == 1
  | _ => false
def okb_ (o : Nat) (cc : ByteArray) (e : en_) : Bool := (match decode cc e.1 with | .ok q => decide (q.1 = e.2.1) && q.2 == e.2.2.1 | _ => false) && oki_ o e.1 e.2.1 e.2.2.1 e.2.2.2.1 e.2.2.2.2.1 e.2.2.2.2.2
def rko_ (k : Nat) (rt : Option FieldType) : Bool := match k, rt with
  | 0, none => true
  | 1, some .int => true
  | 2, some .boolean => true
  | 3, some .long => true
  | 4, some (.object _) => true
  | 5, some .byte => true
  | 6, some .char => true
  | _, _ => false
/-- where a method's frame stands -/
def Cx_ (p : Program) (l : Launch) (R : Room) (s : State) (m : MethodId) (args : Array Value) (meth : Method) (c : Code) (cells slots : Nat) (cc : ByteArray) (nL o : Nat) (rt : Option FieldType) (hh : List (Nat × Nat × Nat × Nat)) (D : va_G) (cA : Nat → ClassId) (ad : Nat → Nat) (ov : Value) (A : Nat → Prop) (L : Nat) (xs : Nat → Int32) : Prop :=
  (p.tables.exec = Jvm.exec ∧ c.code = cc ∧ c.maxLocals = nL) ∧ s.vm.findClass (cn1 o) = some m.cls ∧ (∀ w ∈ lw_all, w.before args s = true) ∧ (meth.sig.returnType = rt ∧ meth.locks = false ∧ c.exceptionTable.toList.map (fun h => (h.startPc, h.endPc, h.handlerPc, h.catchType)) = hh) ∧ Wo_ D cA ad ov A L xs s ∧ (∀ M : mm_, va_D A (wl_ wd0 nf0 cA NR0 ad M)) ∧ ov.category = 1 ∧ (1 ≤ R.frames ∧ 64 ≤ R.locals ∧ cells ≤ R.cells ∧ slots ≤ R.slots) ∧ L < 2147483648
/-- what the machine does at a call -/
def Ck_ (W9 : vv_) (D9 : ca_) (Qt9 : qt_) (hs : List (Nat × Nat × Nat)) (o : Nat) (cc : ByteArray) : Prop := ∀ (pc idx a b k : Nat) (vir : Bool) (tb : List (Int × Nat)) (ls : lo_) (st : List pv_) (M : mm_), decode cc pc = .ok (if vir then .invokevirtual idx else .invokestatic idx, 3) → okc_ o idx a b vir tb = true → (match tb with | q :: _ => q.2 = k | _ => False) → (vir = true → ∃ r, st[b - 1]? = some (.inr (.inr r)) ∧ (fd_ tb r).isSome = true) → cl_ D9 W9 Qt9 hs pc a b k ls st M → W9 pc ls st M
section SP
variable {p : Program} {l : Launch} {e : Env} {R : Room} {s : State} {m : MethodId} {args : Array Value} {below : List Frame} {meth : Method} {c : Code} {cells slots : Nat} {Q : State → Prop} {D : va_G} {cA : Nat → ClassId} {ad : Nat → Nat} {ov : Value} {A : Nat → Prop} {L : Nat} {xs : Nat → Int32}
variable {cc : ByteArray} {nL o : Nat} {rt : Option FieldType} {hh : List (Nat × Nat × Nat × Nat)}
theorem ok32_in {c : Int} (h : ok32_ c = true) : inI c := by
  unfold ok32_ at h
  simpa [inI] using h
set_option maxHeartbeats 4000000 in
/-- every step but calls, throws and returns -/
theorem sx_step (cx : Cx_ p l R s m args meth c cells slots cc nL o rt hh D cA ad ov A L xs) {D9 : ca_} {Qr9 : qr_} {Qt9 : qt_} {md : md_} {pc len a : Nat} {i : Instr} {b : Int} {tb : List (Int × Nat)} {ls : lo_} {st : List pv_} {M : mm_} (hdg : decode cc pc = .ok (i, len)) (hok : oki_ o pc i len a b tb = true)
    (hcall : Ck_ (Wm_ p l e R s m args below meth c cells slots Q D cA ad ov A L xs nL) D9 Qt9 md.2.2.2 o cc)
    (hret : (i = .ireturn ∨ i = .lreturn ∨ i = .areturn ∨ i = .return_ ∨ i = .athrow) → ex_ wd0 D9 (Wm_ p l e R s m args below meth c cells slots Q D cA ad ov A L xs nL) Qr9 Qt9 md pc i len a b tb ls st M → Wm_ p l e R s m args below meth c cells slots Q D cA ad ov A L xs nL pc ls st M)
    (h : ex_ wd0 D9 (Wm_ p l e R s m args below meth c cells slots Q D cA ad ov A L xs nL) Qr9 Qt9 md pc i len a b tb ls st M) : Wm_ p l e R s m args below meth c cells slots Q D cA ad ov A L xs nL pc ls st M := by
  obtain ⟨⟨hx, hb, hml⟩, hown, hts, -, hWo, hDD, hov, ⟨hRf, hRl, hRc, hRs⟩, hL⟩ := cx
  have hK := hWo.1
  have hnw := hWo.2.1
  cases i with
  | iconst k =>
    simp only [oki_, Bool.and_eq_true, beq_iff_eq, decide_eq_true_eq] at hok
    obtain ⟨rfl, hk⟩ := hok
    exact sx_iconst hx hb (ok32_in hk) hdg h
  | bipush k =>
    simp only [oki_, Bool.and_eq_true, beq_iff_eq, decide_eq_true_eq] at hok
    obtain ⟨rfl, hk⟩ := hok
    exact sx_bipush hx hb hk hdg h
  | sipush k =>
    simp only [oki_, Bool.and_eq_true, beq_iff_eq, decide_eq_true_eq] at hok
    obtain ⟨rfl, hk⟩ := hok
    exact sx_sipush hx hb hk hdg h
  | ldc idx =>
    simp only [oki_, Bool.and_eq_true, beq_iff_eq] at hok
    obtain ⟨rfl, hk⟩ := hok
    simp only [ex_] at h
    by_cases ha : a = 0
    · rw [if_pos ha] at h hk
      rw [Bool.and_eq_true] at hk
      obtain ⟨q, hq, e1, e2, e3, e4, hw⟩ := okK_spec hk.1
      have hw2 := hts _ hw
      unfold cw_ at hw2
      rw [if_pos e4, e1, e2, e3] at hw2
      exact sx_ldc hx hb hown (ok32_in hk.2) hw2 hdg h
    · rw [if_neg ha] at h hk
      obtain ⟨j, hj, h1⟩ := List.any_eq_true.mp hk
      simp only [Bool.and_eq_true, beq_iff_eq] at h1
      obtain ⟨⟨rfl, e1⟩, e2⟩ := h1
      have hj3 : j < 3 := List.mem_range.mp hj
      exact sx_ldcS hx hb hWo hj3 (by rw [e1]; exact hown) (by rw [e2]; exact hdg) h
  | ldc_w idx =>
    simp only [oki_, Bool.and_eq_true, beq_iff_eq, decide_eq_true_eq] at hok
    obtain ⟨rfl, hk, hk2⟩ := hok
    obtain ⟨q, hq, e1, e2, e3, e4, hw⟩ := okK_spec hk
    have hw2 := hts _ hw
    unfold cw_ at hw2
    rw [if_pos e4, e1, e2, e3] at hw2
    exact sx_ldcw hx hb hown (ok32_in hk2) hw2 hdg h
  | ldc2_w idx =>
    simp only [oki_, Bool.and_eq_true, beq_iff_eq, decide_eq_true_eq] at hok
    obtain ⟨rfl, hk, hk2⟩ := hok
    obtain ⟨q, hq, e1, e2, e3, e4, hw⟩ := okK_spec hk
    have hw2 := hts _ hw
    unfold cw_ at hw2
    rw [if_neg (by omega), e1, e2, e3] at hw2
    exact sx_ldc2 hx hb hown hk2 hw2 hdg h
  | lconst k =>
    simp only [oki_, beq_iff_eq] at hok
    subst hok
    exact sx_lconst hx hb hdg h
  | iload k =>
    simp only [oki_, beq_iff_eq] at hok
    subst hok
    simp only [ex_] at h
    split at h
    · rename_i x e9
      exact sx_iload hx hb hdg e9 h
    · exact h.elim
  | iload_n k =>
    simp only [oki_, beq_iff_eq] at hok
    subst hok
    simp only [ex_] at h
    split at h
    · rename_i x e9
      exact sx_iload_n hx hb hdg e9 h
    · exact h.elim
  | lload k =>
    simp only [oki_, beq_iff_eq] at hok
    subst hok
    simp only [ex_] at h
    split at h
    · rename_i x e9
      exact sx_lload hx hb hdg e9 h
    · exact h.elim
  | lload_n k =>
    simp only [oki_, beq_iff_eq] at hok
    subst hok
    simp only [ex_] at h
    split at h
    · rename_i x e9
      exact sx_lload_n hx hb hdg e9 h
    · exact h.elim
  | aload k =>
    simp only [oki_, beq_iff_eq] at hok
    subst hok
    simp only [ex_] at h
    split at h
    · rename_i x e9
      split at h
      · exact h.elim
      · rename_i hr9
        exact sx_aload hx hb hr9 hdg e9 h
    · exact h.elim
  | aload_n k =>
    simp only [oki_, beq_iff_eq] at hok
    subst hok
    simp only [ex_] at h
    split at h
    · rename_i x e9
      split at h
      · exact h.elim
      · rename_i hr9
        exact sx_aload_n hx hb hr9 hdg e9 h
    · exact h.elim
  | istore k =>
    simp only [oki_, beq_iff_eq] at hok
    subst hok
    simp only [ex_] at h
    split at h
    · split at h
      · rename_i hk
        exact sx_istore hx hb hov hdg hk h
      · exact h.elim
    · exact h.elim
  | istore_n k =>
    simp only [oki_, beq_iff_eq] at hok
    subst hok
    simp only [ex_] at h
    split at h
    · split at h
      · rename_i hk
        exact sx_istore_n hx hb hov hdg hk h
      · exact h.elim
    · exact h.elim
  | lstore k =>
    simp only [oki_, beq_iff_eq] at hok
    subst hok
    simp only [ex_] at h
    split at h
    · split at h
      · rename_i hk
        exact sx_lstore hx hb hov hdg hk h
      · exact h.elim
    · exact h.elim
  | lstore_n k =>
    simp only [oki_, beq_iff_eq] at hok
    subst hok
    simp only [ex_] at h
    split at h
    · split at h
      · rename_i hk
        exact sx_lstore_n hx hb hov hdg hk h
      · exact h.elim
    · exact h.elim
  | astore k =>
    simp only [oki_, beq_iff_eq] at hok
    subst hok
    simp only [ex_] at h
    split at h
    · split at h
      · rename_i hk
        simp only [Bool.and_eq_true, Bool.not_eq_true', beq_eq_false_iff_ne] at hk
        exact sx_astore hx hb hov hk.2 hdg hk.1 h
      · exact h.elim
    · exact h.elim
  | astore_n k =>
    simp only [oki_, beq_iff_eq] at hok
    subst hok
    simp only [ex_] at h
    split at h
    · split at h
      · rename_i hk
        simp only [Bool.and_eq_true, Bool.not_eq_true', beq_eq_false_iff_ne] at hk
        exact sx_astore_n hx hb hov hk.2 hdg hk.1 h
      · exact h.elim
    · exact h.elim
  | iinc k n =>
    simp only [oki_, Bool.and_eq_true, beq_iff_eq, decide_eq_true_eq] at hok
    obtain ⟨rfl, hk⟩ := hok
    simp only [ex_] at h
    split at h
    · rename_i x e9
      split at h
      · rename_i hk9
        exact sx_iinc hx hb hov (ok32_in hk) hdg e9 hk9 h
      · exact h.elim
    · exact h.elim
  | iadd =>
    simp only [oki_, beq_iff_eq] at hok
    subst hok
    simp only [ex_] at h
    split at h
    · exact sx_iadd hx hb hdg h
    · exact h.elim
  | isub =>
    simp only [oki_, beq_iff_eq] at hok
    subst hok
    simp only [ex_] at h
    split at h
    · exact sx_isub hx hb hdg h
    · exact h.elim
  | imul =>
    simp only [oki_, beq_iff_eq] at hok
    subst hok
    simp only [ex_] at h
    split at h
    · exact sx_imul hx hb hdg h
    · exact h.elim
  | iand =>
    simp only [oki_, beq_iff_eq] at hok
    subst hok
    simp only [ex_] at h
    split at h
    · exact sx_iand hx hb hdg h
    · exact h.elim
  | ior =>
    simp only [oki_, beq_iff_eq] at hok
    subst hok
    simp only [ex_] at h
    split at h
    · exact sx_ior hx hb hdg h
    · exact h.elim
  | ixor =>
    simp only [oki_, beq_iff_eq] at hok
    subst hok
    simp only [ex_] at h
    split at h
    · exact sx_ixor hx hb hdg h
    · exact h.elim
  | ishl =>
    simp only [oki_, beq_iff_eq] at hok
    subst hok
    simp only [ex_] at h
    split at h
    · exact sx_ishl hx hb hdg h
    · exact h.elim
  | ishr =>
    simp only [oki_, beq_iff_eq] at hok
    subst hok
    simp only [ex_] at h
    split at h
    · exact sx_ishr hx hb hdg h
    · exact h.elim
  | iushr =>
    simp only [oki_, beq_iff_eq] at hok
    subst hok
    simp only [ex_] at h
    split at h
    · exact sx_iushr hx hb hdg h
    · exact h.elim
  | ineg =>
    simp only [oki_, beq_iff_eq] at hok
    subst hok
    simp only [ex_] at h
    split at h
    · exact sx_ineg hx hb hdg h
    · exact h.elim
  | i2b =>
    simp only [oki_, beq_iff_eq] at hok
    subst hok
    simp only [ex_] at h
    split at h
    · exact sx_i2b hx hb hdg h
    · exact h.elim
  | i2c =>
    simp only [oki_, beq_iff_eq] at hok
    subst hok
    simp only [ex_] at h
    split at h
    · exact sx_i2c hx hb hdg h
    · exact h.elim
  | i2l =>
    simp only [oki_, beq_iff_eq] at hok
    subst hok
    simp only [ex_] at h
    split at h
    · exact sx_i2l hx hb hdg h
    · exact h.elim
  | l2i =>
    simp only [oki_, beq_iff_eq] at hok
    subst hok
    simp only [ex_] at h
    split at h
    · exact sx_l2i hx hb hdg h
    · exact h.elim
  | ladd =>
    simp only [oki_, beq_iff_eq] at hok
    subst hok
    simp only [ex_] at h
    split at h
    · exact sx_ladd hx hb hdg h
    · exact h.elim
  | lsub =>
    simp only [oki_, beq_iff_eq] at hok
    subst hok
    simp only [ex_] at h
    split at h
    · exact sx_lsub hx hb hdg h
    · exact h.elim
  | lmul =>
    simp only [oki_, beq_iff_eq] at hok
    subst hok
    simp only [ex_] at h
    split at h
    · exact sx_lmul hx hb hdg h
    · exact h.elim
  | lcmp =>
    simp only [oki_, beq_iff_eq] at hok
    subst hok
    simp only [ex_] at h
    split at h
    · exact sx_lcmp hx hb hdg h
    · exact h.elim
  | idiv =>
    simp only [oki_, beq_iff_eq] at hok
    subst hok
    simp only [ex_] at h
    split at h
    · exact sx_idiv hx hb h.1 hdg h.2
    · exact h.elim
  | irem =>
    simp only [oki_, beq_iff_eq] at hok
    subst hok
    simp only [ex_] at h
    split at h
    · exact sx_irem hx hb h.1 hdg h.2
    · exact h.elim
  | dup =>
    simp only [oki_, beq_iff_eq] at hok
    subst hok
    simp only [ex_] at h
    split at h
    · exact sx_dupI hx hb hdg h
    · exact sx_dupR hx hb hov hdg h
    · exact h.elim
  | dup2 =>
    simp only [oki_, beq_iff_eq] at hok
    subst hok
    simp only [ex_] at h
    split at h
    · exact sx_dup2 hx hb hov hdg h
    · exact h.elim
  | pop =>
    simp only [oki_, beq_iff_eq] at hok
    subst hok
    simp only [ex_] at h
    split at h
    · exact sx_pop hx hb hov (fun x q => by cases q) hdg h
    · exact sx_pop hx hb hov (fun x q => by cases q) hdg h
    · exact h.elim
  | goto off =>
    simp only [oki_, Bool.and_eq_true, beq_iff_eq, decide_eq_true_eq] at hok
    obtain ⟨rfl, ht⟩ := hok
    exact sx_goto hx hb ht hdg h
  | if_icmp cnd off =>
    simp only [oki_, Bool.and_eq_true, beq_iff_eq, decide_eq_true_eq] at hok
    obtain ⟨rfl, ht⟩ := hok
    simp only [ex_] at h
    split at h
    · cases cnd with
      | eq => exact sx_icmp_eq hx hb ht hdg h
      | ne => exact sx_icmp_ne hx hb ht hdg h
      | lt => exact sx_icmp_lt hx hb ht hdg h
      | ge => exact sx_icmp_ge hx hb ht hdg h
      | gt => exact sx_icmp_gt hx hb ht hdg h
      | le => exact sx_icmp_le hx hb ht hdg h
    · exact h.elim
  | ifCond cnd off =>
    simp only [oki_, Bool.and_eq_true, beq_iff_eq, decide_eq_true_eq] at hok
    obtain ⟨rfl, ht⟩ := hok
    simp only [ex_] at h
    split at h
    · cases cnd with
      | eq => exact sx_if_eq hx hb ht hdg h
      | ne => exact sx_if_ne hx hb ht hdg h
      | lt => exact sx_if_lt hx hb ht hdg h
      | ge => exact sx_if_ge hx hb ht hdg h
      | gt => exact sx_if_gt hx hb ht hdg h
      | le => exact sx_if_le hx hb ht hdg h
    · exact h.elim
  | tableswitch df lo hi offs =>
    simp only [oki_, Bool.and_eq_true, decide_eq_true_eq] at hok
    simp only [ex_] at h
    split at h
    · exact sx_table hx hb hok.1 hok.2 hdg h
    · exact h.elim
  | lookupswitch df ps =>
    simp only [oki_, Bool.and_eq_true] at hok
    simp only [ex_] at h
    split at h
    · exact sx_lookup hx hb hok.1 hok.2 hdg h
    · exact h.elim
  | getfield idx =>
    simp only [oki_, Bool.and_eq_true, beq_iff_eq] at hok
    obtain ⟨rfl, hk⟩ := hok
    simp only [ex_] at h
    split at h
    · rename_i r st2
      split at h
      · rename_i t ef
        by_cases ho : o = 6
        · rw [if_pos ho] at hk
          subst ho
          simp only [Bool.or_eq_true, Bool.and_eq_true, beq_iff_eq, decide_eq_true_eq] at hk
          rcases hk with ⟨rfl, rfl, rfl, rfl⟩ | ⟨rfl, rfl, rfl, rfl⟩
          · simp only [fd_] at ef
            repeat' split at ef
            all_goals first | cases ef | skip
            · rename_i q; have q : r = 1001 + 0 := by omega
              subst q; exact sx_getV (i := 0) hx hb hts hown hWo (by omega) hdg h
            · rename_i q; have q : r = 1001 + 1 := by omega
              subst q; exact sx_getV (i := 1) hx hb hts hown hWo (by omega) hdg h
            · rename_i q; have q : r = 1001 + 2 := by omega
              subst q; exact sx_getV (i := 2) hx hb hts hown hWo (by omega) hdg h
          · simp only [fd_] at ef
            repeat' split at ef
            all_goals first | cases ef | skip
            · rename_i q; have q : r = 1001 + 0 := by omega
              subst q; exact sx_getC (i := 0) hx hb hts hown hWo (by omega) hdg h
            · rename_i q; have q : r = 1001 + 1 := by omega
              subst q; exact sx_getC (i := 1) hx hb hts hown hWo (by omega) hdg h
            · rename_i q; have q : r = 1001 + 2 := by omega
              subst q; exact sx_getC (i := 2) hx hb hts hown hWo (by omega) hdg h
        · rw [if_neg ho] at hk
          exact sx_get hx hb hts hnw hown hK hk ef hdg h
      · exact h.elim
    · exact h.elim
  | putfield idx =>
    simp only [oki_, Bool.and_eq_true, beq_iff_eq, decide_eq_true_eq] at hok
    obtain ⟨rfl, hk, hk2⟩ := hok
    simp only [ex_] at h
    split at h
    · split at h
      · rename_i ef
        exact sx_putI hx hb hts hnw hown hK hov hDD hk hk2 ef hdg h
      · exact h.elim
    · split at h
      · rename_i ef
        split at h
        · exact sx_putR hx hb hts hnw hown hK hov hDD hk hk2 ef hdg h
        · exact h.elim
      · exact h.elim
    · exact h.elim
  | getstatic idx =>
    simp only [oki_, Bool.and_eq_true, beq_iff_eq, Bool.or_eq_true] at hok
    obtain ⟨rfl, rfl, hk⟩ := hok
    simp only [ex_] at h
    rcases hk with ⟨rfl, rfl, rfl⟩ | ⟨rfl, rfl⟩
    · exact sx_gstC hx hb hts hown hWo hdg h
    · exact sx_gstS hx hb hts hown hWo hdg h
  | iaload =>
    simp only [oki_, beq_iff_eq] at hok
    subst hok
    simp only [ex_] at h
    split at h
    · rename_i k r st2
      split at h
      · rename_i hak
        exact sx_iald hx hb hK hak h.1 hdg h.2
      · split at h
        · rename_i hak
          have hr : r = 1000 := ak5 hak
          subst hr
          exact sx_sld hx hb hWo.2.2.1.1 hWo.2.2.1.2.1 hWo.2.2.1.2.2 hL h.1 hdg h.2
        · exact h.elim
    · exact h.elim
  | baload =>
    simp only [oki_, beq_iff_eq] at hok
    subst hok
    simp only [ex_] at h
    split at h
    · rename_i k r st2
      split at h
      · rename_i hak
        exact sx_bald hx hb hK hak h.1 hdg h.2
      · split at h
        · rename_i hak
          exact sx_zald hx hb hK hak h.1 hdg h.2
        · split at h
          · rename_i hak
            obtain ⟨j, hj, rfl, hln⟩ := ak6 hak
            exact sx_tald hx hb hWo hj (by rw [← hln]; exact h.1) hdg h.2
          · exact h.elim
    · exact h.elim
  | laload =>
    simp only [oki_, beq_iff_eq] at hok
    subst hok
    simp only [ex_] at h
    split at h
    · split at h
      · rename_i hak
        exact sx_lald hx hb hK hak h.1 hdg h.2
      · exact h.elim
    · exact h.elim
  | iastore =>
    simp only [oki_, beq_iff_eq] at hok
    subst hok
    simp only [ex_] at h
    split at h
    · split at h
      · rename_i hak
        exact sx_iast hx hb hK hDD hak h.1 hdg h.2
      · exact h.elim
    · exact h.elim
  | bastore =>
    simp only [oki_, beq_iff_eq] at hok
    subst hok
    simp only [ex_] at h
    split at h
    · split at h
      · rename_i hak
        exact sx_bast hx hb hK hDD hak h.1.1 h.1.2 hdg h.2
      · split at h
        · rename_i hak
          exact sx_zast hx hb hK hDD hak h.1.1 h.1.2 hdg h.2
        · exact h.elim
    · exact h.elim
  | lastore =>
    simp only [oki_, beq_iff_eq] at hok
    subst hok
    simp only [ex_] at h
    split at h
    · split at h
      · rename_i hak
        exact sx_last hx hb hK hDD hak h.1 hdg h.2
      · exact h.elim
    · exact h.elim
  | arraylength =>
    simp only [oki_, beq_iff_eq] at hok
    subst hok
    simp only [ex_] at h
    split at h
    · rename_i r st2
      split at h
      · rename_i hak
        have hr : r = 1000 := ak5 hak
        subst hr
        exact sx_slen hx hb hWo.2.2.1.1 hWo.2.2.1.2.1 hWo.2.2.1.2.2 hL hdg h
      · split at h
        · rename_i hak
          obtain ⟨j, hj, rfl, hln⟩ := ak6 hak
          rw [show wd0.2.2.2.2 (1011 + j) = sl0.getD j 0 from hln] at h
          exact sx_tlen hx hb hWo hj hdg h
        · exact h.elim
    · exact h.elim
  | ireturn =>
    exact hret (by simp) h
  | lreturn =>
    exact hret (by simp) h
  | areturn =>
    exact hret (by simp) h
  | return_ =>
    exact hret (by simp) h
  | athrow =>
    exact hret (by simp) h
  | invokevirtual idx =>
    simp only [oki_, Bool.and_eq_true, beq_iff_eq, decide_eq_true_eq] at hok
    obtain ⟨rfl, hk⟩ := hok
    simp only [ex_] at h
    split at h
    · rename_i r er
      split at h
      · rename_i hf
        refine hcall pc idx a b.toNat _ true tb ls st M hdg hk ?_ (fun _ => ⟨r, er, hf⟩) h
        cases tb with
        | nil => cases hf
        | cons q t => rfl
      · exact h.elim
    · exact h.elim
  | invokestatic idx =>
    simp only [oki_, Bool.and_eq_true, beq_iff_eq] at hok
    obtain ⟨rfl, hk⟩ := hok
    simp only [ex_] at h
    by_cases h1 : a = 9001
    · rw [if_pos h1] at h
      rw [if_pos (Or.inl h1)] at hk
      subst h1
      split at h
      · split at h
        · rename_i hst9
          obtain ⟨q, hq, hq2⟩ := List.any_eq_true.mp hk
          simp only [Bool.and_eq_true, beq_iff_eq] at hq2
          have hlk := hts _ (mm_ok q hq)
          rw [hq2.1, hq2.2.1, hq2.2.2] at hlk
          exact sx_mmax hx hb hov hml hown hlk (hts _ qm_smax) (hts _ qm_ini) (hts _ qm_max) hRf (by omega) hRc hRs hst9 hdg h
        · exact h.elim
      · exact h.elim
    · rw [if_neg h1] at h
      by_cases h2 : a = 9002
      · rw [if_pos h2] at h
        rw [if_pos (Or.inr (Or.inl h2))] at hk
        subst h2
        split at h
        · split at h
          · rename_i hst9
            obtain ⟨q, hq, hq2⟩ := List.any_eq_true.mp hk
            simp only [Bool.and_eq_true, beq_iff_eq] at hq2
            have hlk := hts _ (mm_ok q hq)
            rw [hq2.1, hq2.2.1, hq2.2.2] at hlk
            exact sx_mmin hx hb hov hml hown hlk (hts _ qm_smin) (hts _ qm_ini) (hts _ qm_min) hRf (by omega) hRc hRs hst9 hdg h
          · exact h.elim
        · exact h.elim
      · rw [if_neg h2] at h
        by_cases h3 : a = 9003
        · rw [if_pos h3] at h
          rw [if_pos (Or.inr (Or.inr h3))] at hk
          subst h3
          split at h
          · split at h
            · rename_i hst9
              obtain ⟨q, hq, hq2⟩ := List.any_eq_true.mp hk
              simp only [Bool.and_eq_true, beq_iff_eq] at hq2
              have hlk := hts _ (mm_ok q hq)
              rw [hq2.1, hq2.2.1, hq2.2.2] at hlk
              exact sx_mminL hx hb hov hml hown hlk (hts _ qm_smnl) (hts _ qm_ini) (hts _ qm_mnl) hRf (by omega) hRc hRs hst9 hdg h
            · exact h.elim
          · exact h.elim
        · rw [if_neg h3] at h
          rw [if_neg (by omega)] at hk
          refine hcall pc idx a b.toNat _ false tb ls st M hdg hk ?_ (fun q => by cases q) h
          have hk9 := hk
          simp only [okc_, Bool.and_eq_true] at hk9
          have hk8 := hk9.2.2.2.2.1
          cases tb with
          | nil => cases hk8
          | cons q t => rfl
  | _ => exact absurd hok (by simp [oki_])
end SP
