/-! Strings, statics; what a contract says of the world; returns -/
set_option maxRecDepth 100000
def st0_ : List (Nat × Nat) := [(2, 71), (2, 64), (4, 384)]
def stx0 : List String := [" signal route process var timer start state input save when none next stop join output set reset create decide else end to via with delay env if prio int bool pid true false null self sender parent offspring now active waiting not and or chart inst alt opt ", "()[],;:*+/%=<>-", "signal route process var timer start state input save when none next stop join output set reset create decide else end to via with delay env if prio int bool pid true false null self sender parent offspring now active waiting not and or chart inst alt opt "]
theorem qs_val : Cond.fieldLink "java/lang/String" 9 "java/lang/String" "value" "[B" ∈ lw_all := lw_g (lw_at lw_m13 112 rfl) rfl
theorem qs_cod : Cond.fieldLink "java/lang/String" 15 "java/lang/String" "coder" "B" ∈ lw_all := lw_g (lw_at lw_m13 113 rfl) rfl
theorem qs_com : Cond.fieldLink "java/lang/String" 38 "java/lang/String" "COMPACT_STRINGS" "Z" ∈ lw_all := lw_g (lw_at lw_m5 51 rfl) rfl
theorem qs_sio : Cond.fieldLink "java/lang/String" 1053 "jdk/internal/util/Preconditions" "SIOOBE_FORMATTER" "Ljava/util/function/BiFunction;" ∈ lw_all := lw_g (lw_at lw_m5 91 rfl) rfl
/-- what stays all through a run: classes, nest mates' links, the script, three Strings, two statics -/
def Wo_ (D : va_G) (cA : Nat → ClassId) (ad : Nat → Nat) (ov : Value) (A : Nat → Prop) (L : Nat) (xs : Nat → Int32) (U : State) : Prop :=
  va_K D vwCl (tys_ cA) U ∧ (∀ w ∈ nw0, va_Nw w U) ∧ (va_X (ad 1000) L xs U U.heap ∧ ad 1000 < U.heap.size ∧ ¬ A (ad 1000)) ∧ vk_S 3 sl0 sb0 (fun i => ad (1001 + i)) (fun i => ad (1011 + i)) A U U.heap ∧
  (∀ i : Nat, i < 3 → vk_R (cn1 (st0_.getD i (0, 0)).1) (st0_.getD i (0, 0)).2 (stx0.getD i "") (ad (1001 + i)) U) ∧ va_Z "java/lang/String" "COMPACT_STRINGS" "Z" (.int 1) A U U.heap ∧ va_Z "jdk/internal/util/Preconditions" "SIOOBE_FORMATTER" "Ljava/util/function/BiFunction;" ov A U U.heap
theorem nw0_form {w : Cond} (h : w ∈ nw0) : ∃ a i b n d h, w = .fieldLinkNest a i b n d h := by
  obtain ⟨q, hq, rfl⟩ := List.mem_map.mp h
  have h1 := (List.mem_filter.mp hq).2
  rw [beq_iff_eq] at h1
  unfold fw_
  rw [if_neg (by omega)]
  exact ⟨_, _, _, _, _, _, rfl⟩
theorem Wo_move {D : va_G} {cA : Nat → ClassId} {ad : Nat → Nat} {ov : Value} {A : Nat → Prop} {L : Nat} {xs : Nat → Int32} {s U : State} {H : Heap} {locs : List Loc} (h : Wo_ D cA ad ov A L xs s) (hS : va_S A s.heap H locs) (hU : U.heap = H) (hW : s.WarmedH U.vm) : Wo_ D cA ad ov A L xs U := by
  obtain ⟨h1, h2, ⟨h3, h4, h5⟩, h6, h7, h8, h9⟩ := h
  have hk : ∀ a : Nat, a < s.heap.size → ¬ A a → U.heap[a]? = s.heap[a]? := by rw [hU]; exact hS.2.1
  refine ⟨va_K.moved hW.alike h1, fun w hw => ?_, ⟨va_X.moved hW.alike (h3.kept (hk _ h4 h5)), by rw [hU]; have := hS.1; omega, h5⟩, vk_S.moved hW.alike (h6.kept hk), fun i hi => vk_R.warm hW (h7 i hi), va_Z.moved hW.alike (h8.kept hk), va_Z.moved hW.alike (h9.kept hk)⟩
  obtain ⟨a, i, b, n, d, q, rfl⟩ := nw0_form hw
  exact va_Nw.warmF hW (h2 _ hw)
section SS
variable {p : Program} {l : Launch} {e : Env} {R : Room} {s : State} {m : MethodId} {args : Array Value} {below : List Frame} {meth : Method} {c : Code} {cells slots : Nat} {Q : State → Prop} {D : va_G} {cA : Nat → ClassId} {ad : Nat → Nat} {ov : Value} {A : Nat → Prop} {L : Nat} {xs : Nat → Int32} {nL : Nat}
variable {cc : ByteArray} {pc : Nat} {ls : lo_} {st : List pv_} {M : mm_} {H : Heap} {locs : List Loc} {lsm : Array Slot} {rest : List Value}
theorem sx_getV (hx : p.tables.exec = Jvm.exec) (hb : c.code = cc) (hts : ∀ w ∈ lw_all, w.before args s = true) (hown : s.vm.findClass "java/lang/String" = some m.cls) (hWo : Wo_ D cA ad ov A L xs s) {i : Nat} (hi : i < 3) (hdg : decode cc pc = .ok (.getfield 9, 3)) (h : Wm_ p l e R s m args below meth c cells slots Q D cA ad ov A L xs nL (pc + 3) ls (.inr (.inr (1011 + i)) :: st) M) : Wm_ p l e R s m args below meth c cells slots Q D cA ad ov A L xs nL pc ls (.inr (.inr (1001 + i)) :: st) M := by
  intro H locs lsm hP hR hO hS hl hv
  obtain ⟨h0, hv⟩ := List.forall_mem_cons.mp hv
  rw [List.map_cons, cv_ref (by omega)]
  have h4 := h H locs lsm hP hR hO hS hl (List.forall_mem_cons.mpr ⟨trivial, hv⟩)
  rw [List.map_cons, cv_ref (by omega)] at h4
  exact vk_getf hx hb (hWo.2.2.2.1.1 i hi).2.2.1 hS hown (hts _ qs_val) (fun _ q => q) hdg h4
theorem sx_getC (hx : p.tables.exec = Jvm.exec) (hb : c.code = cc) (hts : ∀ w ∈ lw_all, w.before args s = true) (hown : s.vm.findClass "java/lang/String" = some m.cls) (hWo : Wo_ D cA ad ov A L xs s) {i : Nat} (hi : i < 3) (hdg : decode cc pc = .ok (.getfield 15, 3)) (h : Wm_ p l e R s m args below meth c cells slots Q D cA ad ov A L xs nL (pc + 3) ls (.inl (M (1001 + i) 1) :: st) M) : Wm_ p l e R s m args below meth c cells slots Q D cA ad ov A L xs nL pc ls (.inr (.inr (1001 + i)) :: st) M := by
  intro H locs lsm hP hR hO hS hl hv
  obtain ⟨h0, hv⟩ := List.forall_mem_cons.mp hv
  rw [List.map_cons, cv_ref (by omega)]
  have e1 := (hO.2.2 i hi).1
  have h4 := h H locs lsm hP hR hO hS hl (List.forall_mem_cons.mpr ⟨show inI (M (1001 + i) 1) from by (rw [e1]; exact inI_0), hv⟩)
  rw [e1] at h4
  exact vk_getf hx hb (hWo.2.2.2.1.1 i hi).2.1 hS hown (hts _ qs_cod) (fun _ q => q) hdg h4
theorem sx_tald (hx : p.tables.exec = Jvm.exec) (hb : c.code = cc) (hWo : Wo_ D cA ad ov A L xs s) {i : Nat} {k : Int} (hi : i < 3) (hki : 0 ≤ k ∧ k < (sl0.getD i 0 : Int)) (hdg : decode cc pc = .ok (.baload, 1)) (h : Wm_ p l e R s m args below meth c cells slots Q D cA ad ov A L xs nL (pc + 1) ls (.inl (M (1011 + i) k) :: st) M) : Wm_ p l e R s m args below meth c cells slots Q D cA ad ov A L xs nL pc ls (.inl k :: .inr (.inr (1011 + i)) :: st) M := by
  intro H locs lsm hP hR hO hS hl hv
  obtain ⟨h0, hv⟩ := List.forall_mem_cons.mp hv
  obtain ⟨h00, hv⟩ := List.forall_mem_cons.mp hv
  have hk1 : inI k := h0
  have e1 := (hO.2.2 i hi).2 k.toNat (by omega)
  rw [Int.toNat_of_nonneg hki.1] at e1
  rw [List.map_cons, List.map_cons, cv_ref (by omega)]
  have hin : vp_in (Int32.ofInt k) (sl0.getD i 0) := oI_in hk1 hki
  refine va_tb hx hb (hWo.2.2.2.1.1 i hi).2.2.2 hS hin (v := .int (Int32.ofInt (M (1011 + i) k))) ?_ hdg (h H locs lsm hP hR hO hS hl (List.forall_mem_cons.mpr ⟨show inI (M (1011 + i) k) from by (rw [e1]; exact toInt_in _), hv⟩))
  rw [oI_clamp hk1, e1, Int32.ofInt_toInt]
theorem sx_tlen (hx : p.tables.exec = Jvm.exec) (hb : c.code = cc) (hWo : Wo_ D cA ad ov A L xs s) {i : Nat} (hi : i < 3) (hdg : decode cc pc = .ok (.arraylength, 1)) (h : Wm_ p l e R s m args below meth c cells slots Q D cA ad ov A L xs nL (pc + 1) ls (.inl (sl0.getD i 0 : Int) :: st) M) : Wm_ p l e R s m args below meth c cells slots Q D cA ad ov A L xs nL pc ls (.inr (.inr (1011 + i)) :: st) M := by
  intro H locs lsm hP hR hO hS hl hv
  obtain ⟨h00, hv⟩ := List.forall_mem_cons.mp hv
  rw [List.map_cons, cv_ref (by omega)]
  have hsm : ∀ i : Nat, i < 3 → sl0.getD i 0 < 1000 := by decide
  have := hsm i hi
  exact va_tlen hx hb (hWo.2.2.2.1.1 i hi).2.2.2 hS (v := Int32.ofInt (sl0.getD i 0 : Int)) (Int32.ofInt_eq_ofNat).symm hdg (h H locs lsm hP hR hO hS hl (List.forall_mem_cons.mpr ⟨show inI (sl0.getD i 0 : Int) from by (unfold inI; omega), hv⟩))
theorem sx_ldcS (hx : p.tables.exec = Jvm.exec) (hb : c.code = cc) (hWo : Wo_ D cA ad ov A L xs s) {i : Nat} (hi : i < 3) (hown : s.vm.findClass (cn1 (st0_.getD i (0, 0)).1) = some m.cls) (hdg : decode cc pc = .ok (.ldc (st0_.getD i (0, 0)).2, 2)) (h : Wm_ p l e R s m args below meth c cells slots Q D cA ad ov A L xs nL (pc + 2) ls (.inr (.inr (1001 + i)) :: st) M) : Wm_ p l e R s m args below meth c cells slots Q D cA ad ov A L xs nL pc ls st M := by
  intro H locs lsm hP hR hO hS hl hv
  have h4 := h H locs lsm hP hR hO hS hl (List.forall_mem_cons.mpr ⟨trivial, hv⟩)
  rw [List.map_cons, cv_ref (by omega)] at h4
  exact va_ldcS hx hb hown (hWo.2.2.2.2.1 i hi) hdg h4
theorem sx_gstC (hx : p.tables.exec = Jvm.exec) (hb : c.code = cc) (hts : ∀ w ∈ lw_all, w.before args s = true) (hown : s.vm.findClass "java/lang/String" = some m.cls) (hWo : Wo_ D cA ad ov A L xs s) (hdg : decode cc pc = .ok (.getstatic 38, 3)) (h : Wm_ p l e R s m args below meth c cells slots Q D cA ad ov A L xs nL (pc + 3) ls (.inl 1 :: st) M) : Wm_ p l e R s m args below meth c cells slots Q D cA ad ov A L xs nL pc ls st M := by
  intro H locs lsm hP hR hO hS hl hv
  exact va_gets hx hb hWo.2.2.2.2.2.1 hS hown (hts _ qs_com) (fun _ q => q) hdg (h H locs lsm hP hR hO hS hl (List.forall_mem_cons.mpr ⟨show inI 1 from by (unfold inI; omega), hv⟩))
theorem sx_gstS (hx : p.tables.exec = Jvm.exec) (hb : c.code = cc) (hts : ∀ w ∈ lw_all, w.before args s = true) (hown : s.vm.findClass "java/lang/String" = some m.cls) (hWo : Wo_ D cA ad ov A L xs s) (hdg : decode cc pc = .ok (.getstatic 1053, 3)) (h : Wm_ p l e R s m args below meth c cells slots Q D cA ad ov A L xs nL (pc + 3) ls (.inr (.inr 1999) :: st) M) : Wm_ p l e R s m args below meth c cells slots Q D cA ad ov A L xs nL pc ls st M := by
  intro H locs lsm hP hR hO hS hl hv
  exact va_gets hx hb hWo.2.2.2.2.2.2 hS hown (hts _ qs_sio) (fun _ q => q) hdg (h H locs lsm hP hR hO hS hl (List.forall_mem_cons.mpr ⟨trivial, hv⟩))
/-- the picture of a memory -/
def Pi_ (D : va_G) (cA : Nat → ClassId) (ad : Nat → Nat) (L : Nat) (xs : Nat → Int32) (M : mm_) (H : Heap) : Prop := va_P D vwCl (wl_ wd0 nf0 cA NR0 ad M) H ∧ Rg_ wd0 nf0 NR0 M ∧ Ro_ L xs M
/-- how a method ends: a return with a value, or a throw -/
def Oc_ (ad : Nat → Nat) (ov : Value) (Qr : qr_) (Qt : qt_) (M : mm_) (o : Outcome) : Prop := (∃ vs : List pv_, o = .returned (vs.map (cv_ ad ov)).head? ∧ vs.length ≤ 1 ∧ (∀ v ∈ vs, okv_ v) ∧ Qr vs M) ∨ ∃ r, r ≠ 1999 ∧ o = .threw (ad r) ∧ Qt r M
def Qf_ (D : va_G) (cA : Nat → ClassId) (ad : Nat → Nat) (ov : Value) (A : Nat → Prop) (L : Nat) (xs : Nat → Int32) (Qr : qr_) (Qt : qt_) : Array Value → State → Outcome → State → Prop := fun _ st o t =>
  (∃ M : mm_, Pi_ D cA ad L xs M t.heap ∧ va_F A st t ∧ Oc_ ad ov Qr Qt M o) ∧ ∃ Lc : List Loc, (st.WarmedH t.vm ∧ st.sameButNew ({ t with vm := st.vm } : State) Lc 0 0) ∧ ∀ q ∈ Lc, A q.base
def Qs_ (below : List Frame) (args : Array Value) (s : State) (D : va_G) (cA : Nat → ClassId) (ad : Nat → Nat) (ov : Value) (A : Nat → Prop) (L : Nat) (xs : Nat → Int32) (Qr : qr_) (Qt : qt_) : State → Prop := fun t => ∃ o, t.status = .running ∧ Ended t below o ∧ Qf_ D cA ad ov A L xs Qr Qt args s o t
theorem W.post {Q1 Q2 : State → Prop} {g : JFrame} (hQ : ∀ t, Q1 t → Q2 t) (h : W p l e R s m args below meth c H locs cells slots Q1 g) : W p l e R s m args below meth c H locs cells slots Q2 g := by
  intro T hT X
  obtain ⟨t, a, b⟩ := h T hT X
  exact ⟨t, a, hQ t b⟩
theorem MQ_Qs {Qr : qr_} {Qt : qt_} {Qc : Array Value → State → Outcome → State → Prop} {A : Nat → Prop} (hq : ∀ o t, Qc args s o t → ∃ M : mm_, Pi_ D cA ad L xs M t.heap ∧ va_F A s t ∧ Oc_ ad ov Qr Qt M o) (t : State) (h : MQ below Qc args s 0 0 A t) : Qs_ below args s D cA ad ov A L xs Qr Qt t := by
  obtain ⟨o, h1, h2, h3, Lc, h4, h5⟩ := h
  exact ⟨o, h1, h2, hq o t h3, Lc, h4.2, h5⟩
theorem Pi_of {M : mm_} (hP : va_P D vwCl (wl_ wd0 nf0 cA NR0 ad M) H) (hR : Rg_ wd0 nf0 NR0 M) (hO : Ro_ L xs M) : Pi_ D cA ad L xs M H := ⟨hP, hR, hO⟩
variable {Qr : qr_} {Qt : qt_}
theorem sx_iret (hx : p.tables.exec = Jvm.exec) (hb : c.code = cc) (hlocks : meth.locks = false) {ty : FieldType} (hr : meth.sig.returnType = some ty) {x : Int} (hn : narrow ty (.int (Int32.ofInt x)) = .int (Int32.ofInt x)) (hdg : decode cc pc = .ok (.ireturn, 1)) (h : Qr [.inl x] M) : Wm_ p l e R s m args below meth c 0 0 (Qs_ below args s D cA ad ov A L xs Qr Qt) D cA ad ov A L xs nL pc ls [.inl x] M := by
  intro H locs lsm hP hR hO hS hl hv
  refine W.post (MQ_Qs (fun o t q => q)) (W.zret (Qc := fun _ st o t => ∃ M : mm_, Pi_ D cA ad L xs M t.heap ∧ va_F A st t ∧ Oc_ ad ov Qr Qt M o) (free := A) (hlocks := hlocks) hx hb hr hn (fun t ht hW => ⟨M, by rw [ht]; exact Pi_of hP hR hO, hS.F ht, Or.inl ⟨[.inl x], rfl, by simp, hv, h⟩⟩) hS.2.2 hdg)
theorem sx_lret (hx : p.tables.exec = Jvm.exec) (hb : c.code = cc) (hlocks : meth.locks = false) (hr : meth.sig.returnType = some .long) {x : Int} (hdg : decode cc pc = .ok (.lreturn, 1)) (h : Qr [.inr (.inl x)] M) : Wm_ p l e R s m args below meth c 0 0 (Qs_ below args s D cA ad ov A L xs Qr Qt) D cA ad ov A L xs nL pc ls [.inr (.inl x)] M := by
  intro H locs lsm hP hR hO hS hl hv
  refine W.post (MQ_Qs (fun o t q => q)) (W.lret (Qc := fun _ st o t => ∃ M : mm_, Pi_ D cA ad L xs M t.heap ∧ va_F A st t ∧ Oc_ ad ov Qr Qt M o) (free := A) (hlocks := hlocks) hx hb hr (fun t ht hW => ⟨M, by rw [ht]; exact Pi_of hP hR hO, hS.F ht, Or.inl ⟨[.inr (.inl x)], rfl, by simp, hv, h⟩⟩) hS.2.2 hdg)
theorem sx_vret (hx : p.tables.exec = Jvm.exec) (hb : c.code = cc) (hlocks : meth.locks = false) (hr : meth.sig.returnType = none) (hdg : decode cc pc = .ok (.return_, 1)) (h : Qr [] M) : Wm_ p l e R s m args below meth c 0 0 (Qs_ below args s D cA ad ov A L xs Qr Qt) D cA ad ov A L xs nL pc ls [] M := by
  intro H locs lsm hP hR hO hS hl hv
  refine W.post (MQ_Qs (fun o t q => q)) (W.vret (Qc := fun _ st o t => ∃ M : mm_, Pi_ D cA ad L xs M t.heap ∧ va_F A st t ∧ Oc_ ad ov Qr Qt M o) (free := A) (hlocks := hlocks) hx hb hr (fun t ht hW => ⟨M, by rw [ht]; exact Pi_of hP hR hO, hS.F ht, Or.inl ⟨[], rfl, by simp, (fun v hv9 => absurd hv9 List.not_mem_nil), h⟩⟩) hS.2.2 hdg)
theorem sx_aret (hx : p.tables.exec = Jvm.exec) (hb : c.code = cc) (hlocks : meth.locks = false) {cn : String} (hr : meth.sig.returnType = some (.object cn)) {r : Nat} (hr9 : r ≠ 1999) (hdg : decode cc pc = .ok (.areturn, 1)) (h : Qr [.inr (.inr r)] M) : Wm_ p l e R s m args below meth c 0 0 (Qs_ below args s D cA ad ov A L xs Qr Qt) D cA ad ov A L xs nL pc ls [.inr (.inr r)] M := by
  intro H locs lsm hP hR hO hS hl hv
  rw [List.map_cons, cv_ref hr9]
  refine W.post (MQ_Qs (fun o t q => q)) (W.aret (Qc := fun _ st o t => ∃ M : mm_, Pi_ D cA ad L xs M t.heap ∧ va_F A st t ∧ Oc_ ad ov Qr Qt M o) (free := A) (hlocks := hlocks) hx hb hr (Or.inl ⟨cn, rfl⟩) (Or.inr ⟨_, rfl⟩) (fun t ht hW => ⟨M, by rw [ht]; exact Pi_of hP hR hO, hS.F ht, Or.inl ⟨[.inr (.inr r)], by rw [List.map_cons, cv_ref hr9]; rfl, by simp, hv, h⟩⟩) hS.2.2 hdg)
end SS
