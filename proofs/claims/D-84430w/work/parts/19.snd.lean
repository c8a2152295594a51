/-! THE SOUNDNESS THEOREM -/
section SZ
variable {p : Program} {l : Launch} {e : Env} {R : Room} {s : State} {m : MethodId} {args : Array Value} {below : List Frame} {meth : Method} {c : Code} {D : va_G} {cA : Nat → ClassId} {ad : Nat → Nat} {ov : Value} {A : Nat → Prop} {L : Nat} {xs : Nat → Int32}
variable {cc : ByteArray} {nL o : Nat} {rt : Option FieldType} {hh : List (Nat × Nat × Nat × Nat)} {Qr : qr_} {Qt : qt_}
theorem nar_byte {x : Int} (h : -128 ≤ x ∧ x ≤ 127) : narrow .byte (.int (Int32.ofInt x)) = .int (Int32.ofInt x) := by
  show Value.int ((Int32.ofInt x).toInt8.toInt32) = _
  rw [i2b_ (by unfold inI; omega)]
  congr 2
  unfold ib_
  omega
theorem nar_char {x : Int} (h : 0 ≤ x ∧ x ≤ 65535) : narrow .char (.int (Int32.ofInt x)) = .int (Int32.ofInt x) := by
  have h1 : ((Int32.ofInt x).toUInt32 % 65536).toInt32 = Int32.ofInt x := by
    rw [i2c_ (by unfold inI; omega)]
    congr 1
    unfold ic_
    omega
  first
    | (show Value.int (((Int32.ofInt x).toUInt32 % 65536).toInt32) = _; rw [h1])
    | (simp only [narrow]; rw [h1])
    | (simp [narrow, h1])
theorem Wm_wk {cells slots : Nat} {Q : State → Prop} : Wk_ (Wm_ p l e R s m args below meth c cells slots Q D cA ad ov A L xs nL) := by
  intro pc ls ls' st M hle hV H locs lsm hP hR hO hS hl hv
  exact hV H locs lsm hP hR hO hS ⟨hle.1.trans hl.1, hl.2.1, hl.2.2.1, fun k v hk => hl.2.2.2 k v (hle.2 k v hk)⟩ hv
theorem ret_go (cx : Cx_ p l R s m args meth c 0 0 cc nL o rt hh D cA ad ov A L xs) (hh1 : ∀ h ∈ hh, h.2.2.2 ≠ 0 ∧ Cond.classLink (cn1 o) h.2.2.2 RJ3 ∈ lw_all) (hh2 : hh.length ≤ 1) {md : md_} (hrk : rko_ md.2.2.1 rt = true) (hmh : md.2.2.2 = hh.map (fun h => (h.1, h.2.1, h.2.2.1))) {D9 : ca_} {pc len a : Nat} {i : Instr} {b : Int} {tb : List (Int × Nat)} {ls : lo_} {st : List pv_} {M : mm_} (hdg : decode cc pc = .ok (i, len)) (hok : oki_ o pc i len a b tb = true) (hi : i = .ireturn ∨ i = .lreturn ∨ i = .areturn ∨ i = .return_ ∨ i = .athrow)
    (h : ex_ wd0 D9 (Wm_ p l e R s m args below meth c 0 0 (Qs_ below args s D cA ad ov A L xs Qr Qt) D cA ad ov A L xs nL) Qr Qt md pc i len a b tb ls st M) : Wm_ p l e R s m args below meth c 0 0 (Qs_ below args s D cA ad ov A L xs Qr Qt) D cA ad ov A L xs nL pc ls st M := by
  have cx' := cx
  obtain ⟨⟨hx, hb, hml⟩, hown, hts, ⟨hrt, hlocks, htab⟩, hWo, hDD, hov, -, hL⟩ := cx
  rcases hi with rfl | rfl | rfl | rfl | rfl
  · simp only [oki_, beq_iff_eq] at hok
    subst hok
    simp only [ex_] at h
    split at h
    · split at h
      · rename_i e9
        rw [e9] at hrk
        have : rt = some .int := by
          unfold rko_ at hrk
          split at hrk <;> first | rfl | omega | cases hrk
        exact sx_iret hx hb hlocks (hrt.trans this) rfl hdg h
      · split at h
        · rename_i e9
          rw [e9] at hrk
          have : rt = some .boolean := by
            unfold rko_ at hrk
            split at hrk <;> first | rfl | omega | cases hrk
          exact sx_iret hx hb hlocks (hrt.trans this) (nar_bool h.1) hdg h.2
        · split at h
          · rename_i e9
            rw [e9] at hrk
            have : rt = some .byte := by
              unfold rko_ at hrk
              split at hrk <;> first | rfl | omega | cases hrk
            exact sx_iret hx hb hlocks (hrt.trans this) (nar_byte h.1) hdg h.2
          · split at h
            · rename_i e9
              rw [e9] at hrk
              have : rt = some .char := by
                unfold rko_ at hrk
                split at hrk <;> first | rfl | omega | cases hrk
              exact sx_iret hx hb hlocks (hrt.trans this) (nar_char h.1) hdg h.2
            · exact h.elim
    · exact h.elim
  · simp only [oki_, beq_iff_eq] at hok
    subst hok
    simp only [ex_] at h
    split at h
    · split at h
      · rename_i e9
        rw [e9] at hrk
        have : rt = some .long := by
          unfold rko_ at hrk
          split at hrk <;> first | rfl | omega | cases hrk
        exact sx_lret hx hb hlocks (hrt.trans this) hdg h
      · exact h.elim
    · exact h.elim
  · simp only [oki_, beq_iff_eq] at hok
    subst hok
    simp only [ex_] at h
    split at h
    · split at h
      · rename_i e9
        rw [e9.1] at hrk
        have : ∃ cn, rt = some (.object cn) := by
          unfold rko_ at hrk
          split at hrk <;> first | exact ⟨_, rfl⟩ | omega | cases hrk
        obtain ⟨cn, hcn⟩ := this
        exact sx_aret hx hb hlocks (hrt.trans hcn) e9.2 hdg h
      · exact h.elim
    · exact h.elim
  · simp only [oki_, beq_iff_eq] at hok
    subst hok
    simp only [ex_] at h
    split at h
    · rename_i e9
      rw [e9] at hrk
      have : rt = none := by
        unfold rko_ at hrk
        split at hrk <;> first | rfl | omega | cases hrk
      split at h
      · exact sx_vret hx hb hlocks (hrt.trans this) hdg h
      · exact h.elim
    · exact h.elim
  · simp only [oki_, beq_iff_eq] at hok
    subst hok
    simp only [ex_] at h
    split at h
    · rename_i r st2
      split at h
      · exact h.elim
      · rename_i hr9
        intro H locs lsm hP hR hO hS hl hv T hT X
        rw [hmh] at h
        obtain ⟨t, h1, h2⟩ := th_go cx' hh1 hh2 X (pc := pc) (lsm := lsm) (st := st2.map (cv_ ad ov)) hr9 (M := M) (by rw [hT]; exact ⟨hP, hR, hO⟩) (by rw [hT]; exact hS) hl h
        refine ⟨t, ?_, h2⟩
        rw [List.map_cons, cv_ref hr9]
        jvm_step X.here [hx, hb, hdg, athrow.wp_sem]
        exact h1
    · exact h.elim
end SZ
/-- the check of a method's code -/
def okn_ (n : Nat) : Bool := (pg0 n).1.all (okb_ (me0 n).2.2.2.2.2.2 (me0 n).2.1)
def okr_ (n : Nat) : Bool := rko_ (pg0 n).2.2.1 (me0 n).2.2.1 && (decide ((pg0 n).2.2.2 = (me0 n).2.2.2.1.map (fun h => (h.1, h.2.1, h.2.2.1))) && (decide ((me0 n).2.2.2.1.length ≤ 1) && (me0 n).2.2.2.1.all (fun h => decide (h.2.2.2 ≠ 0) && ([(0, 205), (1, 18)] : List (Nat × Nat)).contains ((me0 n).2.2.2.2.2.2, h.2.2.2))))
set_option maxRecDepth 100000 in
theorem okr0 : mids0.all okr_ = true := by decide +kernel
theorem ql_205 : Cond.classLink (cn1 0) 205 RJ3 ∈ lw_all := lw_g (lw_at lw_m1 78 rfl) rfl
theorem ql_18 : Cond.classLink (cn1 1) 18 RJ3 ∈ lw_all := lw_g (lw_at lw_m2 50 rfl) rfl
theorem lk_mem : ∀ {es : List en_} {pc : Nat} {x : Instr × Nat × Nat × Int × List (Int × Nat)}, lk_ es pc = some x → (pc, x) ∈ es
  | [], _, _, h => by cases h
  | e :: t, pc, x, h => by
    unfold lk_ at h
    split at h
    · rename_i e9
      cases h
      rw [← e9]
      exact List.mem_cons_self
    · exact List.mem_cons_of_mem _ (lk_mem h)
theorem okb_spec {o : Nat} {cc : ByteArray} {e : en_} (h : okb_ o cc e = true) : decode cc e.1 = .ok (e.2.1, e.2.2.1) ∧ oki_ o e.1 e.2.1 e.2.2.1 e.2.2.2.1 e.2.2.2.2.1 e.2.2.2.2.2 = true := by
  unfold okb_ at h
  rw [Bool.and_eq_true] at h
  refine ⟨?_, h.2⟩
  have h1 := h.1
  split at h1
  · rename_i q e9
    simp only [Bool.and_eq_true, decide_eq_true_eq, beq_iff_eq] at h1
    rw [e9, ← h1.1, ← h1.2]
  · cases h1
set_option maxHeartbeats 4000000 in
/-- WHAT THE PURE MACHINE DOES, THE MACHINE DOES: 'hall' is the check of every method's code -/
theorem snd_ (hall : ∀ n ∈ mids0, okn_ n = true) {l : Launch} {D : va_G} {cA : Nat → ClassId} {ad : Nat → Nat} {ov : Value} {A : Nat → Prop} {L : Nat} {xs : Nat → Int32} (hDD : ∀ M : mm_, va_D A (wl_ wd0 nf0 cA NR0 ad M)) (hov : ov.category = 1) (hL : L < 2147483648) :
    ∀ d n, n ∈ mids0 → ∀ (as : List pv_) (M : mm_) (Qr : qr_) (Qt : qt_), Tr_ wd0 pg0 d n as M Qr Qt → Mk_ l D cA ad ov A L xs d n as M Qr Qt := by
  intro d
  induction d with
  | zero => intro n hn as M Qr Qt h; exact h.elim
  | succ d ih =>
    intro n hn as M Qr Qt h has
    obtain ⟨w1, w2, w3, w4, w5, w6, w7⟩ := mid_ok hn
    have hr := List.all_eq_true.mp okr0 n hn
    simp only [okr_, Bool.and_eq_true, decide_eq_true_eq] at hr
    obtain ⟨r1, r2, r3, r4⟩ := hr
    obtain ⟨h0, h⟩ := h
    refine MetFree.of_bodyS (code := (me0 n).2.1) (maxLocals := (pg0 n).2.1) (ret := (me0 n).2.2.1) w5 ?_ ?_
    · intro args s m hp hnm
      obtain ⟨meth, c, h1, h2, h3, h4, h5, h6, h7, h8⟩ := wc_spec hnm (atoms_spec (ws := wc_ n :: lw_all) hp _ List.mem_cons_self)
      exact ⟨meth, c, h1, h2, h3, h4, h5, h6⟩
    · intro p e s m args below meth c s₁ B hml hP _
      obtain ⟨rfl, hWo, hPi⟩ := hP
      have hts0 := atoms_spec (ws := wc_ n :: lw_all) B.pre
      have hts : ∀ w ∈ lw_all, w.before ((as.map (cv_ ad ov)).toArray) s = true := fun w hw => hts0 w (List.mem_cons_of_mem _ hw)
      have hown : s.vm.findClass (cn1 (me0 n).2.2.2.2.2.2) = some m.cls := by rw [← w3]; exact findClass_of_methodNamed B.named
      have hh0 : s₁.heap = s.heap := by rw [B.state]; rfl
      have X₀ : Stand p l e (rm_ (d + 1)) s m ((as.map (cv_ ad ov)).toArray) below meth c s₁ [] 0 0 := Stand.of_body B
      have htab : c.exceptionTable.toList.map (fun h => (h.startPc, h.endPc, h.handlerPc, h.catchType)) = (me0 n).2.2.2.1 := by
        obtain ⟨meth', c', g1, g2, -, -, -, -, g7, -⟩ := wc_spec B.named (hts0 _ List.mem_cons_self)
        cases B.method.symm.trans g1
        cases X₀.code.symm.trans g2
        exact g7
      have cx : Cx_ p l (rm_ (d + 1)) s m ((as.map (cv_ ad ov)).toArray) meth c 0 0 (me0 n).2.1 (pg0 n).2.1 (me0 n).2.2.2.2.2.2 (me0 n).2.2.1 (me0 n).2.2.2.1 D cA ad ov A L xs :=
        ⟨⟨B.exec, B.bytes, hml⟩, hown, hts, ⟨B.returns, B.notSynchronized, htab⟩, hWo, hDD, hov, ⟨by show 1 ≤ d + 1; omega, by show 64 ≤ 64 * (d + 1); omega, Nat.le_refl _, Nat.le_refl _⟩, hL⟩
      have hh1 : ∀ h ∈ (me0 n).2.2.2.1, h.2.2.2 ≠ 0 ∧ Cond.classLink (cn1 (me0 n).2.2.2.2.2.2) h.2.2.2 RJ3 ∈ lw_all := by
        intro q hq
        have h1 := List.all_eq_true.mp r4 q hq
        simp only [Bool.and_eq_true, decide_eq_true_eq] at h1
        refine ⟨h1.1, ?_⟩
        have h2 : ((me0 n).2.2.2.2.2.2, q.2.2.2) ∈ ([(0, 205), (1, 18)] : List (Nat × Nat)) := by simpa using h1.2
        rcases List.mem_cons.mp h2 with z | z
        · rw [show (me0 n).2.2.2.2.2.2 = 0 from congrArg Prod.fst z, show q.2.2.2 = 205 from congrArg Prod.snd z]; exact ql_205
        · rcases List.mem_cons.mp z with z | z
          · rw [show (me0 n).2.2.2.2.2.2 = 1 from congrArg Prod.fst z, show q.2.2.2 = 18 from congrArg Prod.snd z]; exact ql_18
          · exact absurd z List.not_mem_nil
      have hck := List.all_eq_true.mp (hall n hn)
      have hcl : Cl_ wd0 (Tr_ wd0 pg0 d) (Wm_ p l e (rm_ (d + 1)) s m ((as.map (cv_ ad ov)).toArray) below meth c 0 0 (Qs_ below ((as.map (cv_ ad ov)).toArray) s D cA ad ov A L xs Qr Qt) D cA ad ov A L xs (pg0 n).2.1) Qr Qt (pg0 n) := by
        intro pc ls st M9 hst
        unfold st_ at hst
        split at hst
        · rename_i x ex9
          obtain ⟨g1, g2⟩ := okb_spec (hck _ (lk_mem ex9))
          refine sx_step cx g1 g2 ?_ (fun hi hex => ret_go cx hh1 r3 r1 r2 g1 g2 hi hex) hst
          rw [r2]
          exact call_go cx (Nat.le_refl _) (Nat.le_refl _) ih (fun X9 hr9 hPi9 hS9 hl9 ht9 => th_go cx hh1 r3 X9 hr9 hPi9 hS9 hl9 ht9)
        · exact hst.elim
      have hwk : Wk_ (Wm_ p l e (rm_ (d + 1)) s m ((as.map (cv_ ad ov)).toArray) below meth c 0 0 (Qs_ below ((as.map (cv_ ad ov)).toArray) s D cA ad ov A L xs Qr Qt) D cA ad ov A L xs (pg0 n).2.1) := Wm_wk
      have hV := h _ hcl hwk s₁.heap [] _ (by rw [hh0]; exact hPi.1) hPi.2.1 hPi.2.2 (by rw [hh0]; exact va_S.rf) (lh_entry hov h0 has) (fun v hv => absurd hv List.not_mem_nil) s₁ rfl X₀
      rw [List.map_nil, ← lg_entry_eq] at hV
      obtain ⟨t, a1, o, b1, b2, b3⟩ := hV
      exact ⟨t, o, a1, b1, b2, b3⟩
