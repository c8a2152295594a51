/-! SOUNDNESS: what the pure machine does, the machine does -/
def rm_ (d : Nat) : Room := { frames := d, cells := 0, slots := 0, locals := 64 * d }
/-- the machine's contract of method n with d calls in one another at the most -/
def Mk_ (l : Launch) (D : va_G) (cA : Nat → ClassId) (ad : Nat → Nat) (ov : Value) (A : Nat → Prop) (L : Nat) (xs : Nat → Int32) (d n : Nat) (as : List pv_) (M : mm_) (Qr : qr_) (Qt : qt_) : Prop :=
  (∀ v ∈ as, okv_ v) → MetFree l (me0 n).1 (headSpec (wc_ n :: lw_all) (rm_ d)) (fun av U => av = (as.map (cv_ ad ov)).toArray ∧ Wo_ D cA ad ov A L xs U ∧ Pi_ D cA ad L xs M U.heap) (fun _ _ _ _ _ => True) (Qf_ D cA ad ov A L xs Qr Qt)
theorem el_len {ad : Nat → Nat} {ov : Value} (hov : ov.category = 1) : ∀ as : List pv_, (lg_sl (as.map (cv_ ad ov))).length = (el_ as).length
  | [] => rfl
  | .inl x :: t => by
    show (lg_sl (t.map (cv_ ad ov))).length + 1 = (el_ t).length + 1
    rw [el_len hov t]
  | .inr (.inl x) :: t => by
    show (lg_sl (t.map (cv_ ad ov))).length + 1 + 1 = (el_ t).length + 1 + 1
    rw [el_len hov t]
  | .inr (.inr r) :: t => by
    have h1 : lg_sl ((Sum.inr (Sum.inr r) :: t : List pv_).map (cv_ ad ov)) = .val (cv_ ad ov (.inr (.inr r))) :: lg_sl (t.map (cv_ ad ov)) := by
      unfold lg_sl
      rw [List.map_cons, List.flatMap_cons, if_neg (by rw [cv_cat1 hov]; omega)]
      rfl
    rw [h1]
    show (lg_sl (t.map (cv_ ad ov))).length + 1 = (el_ t).length + 1
    rw [el_len hov t]
theorem el_at {ad : Nat → Nat} {ov : Value} (hov : ov.category = 1) : ∀ (as : List pv_) (k : Nat) (v : pv_), (el_ as)[k]? = some (some v) → v ∈ as ∧ (lg_sl (as.map (cv_ ad ov)))[k]? = some (.val (cv_ ad ov v))
  | [], k, v, h => by simp [el_] at h
  | .inl x :: t, k, v, h => by
    have h1 : lg_sl ((Sum.inl x :: t : List pv_).map (cv_ ad ov)) = .val (cv_ ad ov (.inl x)) :: lg_sl (t.map (cv_ ad ov)) := rfl
    rw [h1]
    have h2 : el_ (Sum.inl x :: t : List pv_) = some (.inl x) :: el_ t := rfl
    rw [h2] at h
    cases k with
    | zero =>
      rw [List.getElem?_cons_zero] at h ⊢
      cases h
      exact ⟨List.mem_cons_self, rfl⟩
    | succ k =>
      rw [List.getElem?_cons_succ] at h ⊢
      obtain ⟨q1, q2⟩ := el_at hov t k v h
      exact ⟨List.mem_cons_of_mem _ q1, q2⟩
  | .inr (.inl x) :: t, k, v, h => by
    have h1 : lg_sl ((Sum.inr (Sum.inl x) :: t : List pv_).map (cv_ ad ov)) = .val (cv_ ad ov (.inr (.inl x))) :: .second :: lg_sl (t.map (cv_ ad ov)) := rfl
    rw [h1]
    have h2 : el_ (Sum.inr (Sum.inl x) :: t : List pv_) = some (.inr (.inl x)) :: none :: el_ t := rfl
    rw [h2] at h
    cases k with
    | zero =>
      rw [List.getElem?_cons_zero] at h ⊢
      cases h
      exact ⟨List.mem_cons_self, rfl⟩
    | succ k =>
      rw [List.getElem?_cons_succ] at h ⊢
      cases k with
      | zero => rw [List.getElem?_cons_zero] at h; cases h
      | succ k =>
        rw [List.getElem?_cons_succ] at h ⊢
        obtain ⟨q1, q2⟩ := el_at hov t k v h
        exact ⟨List.mem_cons_of_mem _ q1, q2⟩
  | .inr (.inr r) :: t, k, v, h => by
    have h1 : lg_sl ((Sum.inr (Sum.inr r) :: t : List pv_).map (cv_ ad ov)) = .val (cv_ ad ov (.inr (.inr r))) :: lg_sl (t.map (cv_ ad ov)) := by
      unfold lg_sl
      rw [List.map_cons, List.flatMap_cons, if_neg (by rw [cv_cat1 hov]; omega)]
      rfl
    rw [h1]
    have h2 : el_ (Sum.inr (Sum.inr r) :: t : List pv_) = some (.inr (.inr r)) :: el_ t := rfl
    rw [h2] at h
    cases k with
    | zero =>
      rw [List.getElem?_cons_zero] at h ⊢
      cases h
      exact ⟨List.mem_cons_self, rfl⟩
    | succ k =>
      rw [List.getElem?_cons_succ] at h ⊢
      obtain ⟨q1, q2⟩ := el_at hov t k v h
      exact ⟨List.mem_cons_of_mem _ q1, q2⟩
theorem lh_entry {ad : Nat → Nat} {ov : Value} (hov : ov.category = 1) {as : List pv_} {n : Nat} (hn : (el_ as).length ≤ n) (hv : ∀ v ∈ as, okv_ v) : lh_ ad ov n (ent_ as n) ((lg_sl (as.map (cv_ ad ov)) ++ List.replicate (n - (lg_sl (as.map (cv_ ad ov))).length) Slot.unset).toArray) := by
  have hle : (lg_sl (as.map (cv_ ad ov))).length ≤ n := by rw [el_len hov]; exact hn
  have h := lv_entry (as.map (cv_ ad ov)) hle
  refine ⟨by unfold ent_; simp; omega, h.1, h.2.1, fun k v hk => ?_⟩
  unfold ent_ at hk
  rw [List.getElem?_append] at hk
  split at hk
  · rename_i hlt
    obtain ⟨q1, q2⟩ := el_at hov as k v hk
    refine ⟨hv v q1, ?_⟩
    rw [List.getElem?_toArray, List.getElem?_append_left (by rw [el_len hov]; exact hlt)]
    exact q2
  · rw [List.getElem?_replicate] at hk
    split at hk <;> cases hk
section SN
variable {p : Program} {l : Launch} {e : Env} {R : Room} {s : State} {m : MethodId} {args : Array Value} {below : List Frame} {meth : Method} {c : Code} {D : va_G} {cA : Nat → ClassId} {ad : Nat → Nat} {ov : Value} {A : Nat → Prop} {L : Nat} {xs : Nat → Int32}
variable {cc : ByteArray} {nL o : Nat} {rt : Option FieldType} {hh : List (Nat × Nat × Nat × Nat)} {Qr : qr_} {Qt : qt_} {cells slots : Nat} {Q : State → Prop}
theorem mid_ok {n : Nat} (h : n ∈ mids0) : wc_ n ∈ lw_all ∧ wn_ (me0 n).2.2.2.2.2.2 ∈ lw_all ∧ (me0 n).1.cls = cn1 (me0 n).2.2.2.2.2.2 ∧ (pg0 n).2.1 ≤ 30 ∧ _root_.Jvm.plainName (me0 n).1.cls = true ∧ ((me0 n).2.2.2.2.2.1 = 1 → ws0_ n ∈ lw_all) ∧ ((me0 n).2.2.2.2.2.1 ≠ 1 → wi_ n ∈ lw_all ∧ we_ n ∈ lw_all) := by
  have h1 := List.all_eq_true.mp okm0 n h
  simp only [okm_, Bool.and_eq_true, decide_eq_true_eq] at h1
  obtain ⟨⟨⟨⟨⟨k1, k2⟩, k3⟩, k4⟩, k5⟩, k6⟩ := h1
  refine ⟨cwl0_in n (by simpa using k1), ?_, k3, k5, k6, fun q => ?_, fun q => ?_⟩
  · obtain ⟨⟨p9, x⟩, hq, hx⟩ := List.any_eq_true.mp k2
    have hx : x = (me0 n).2.2.2.2.2.2 := by simpa using hx
    rw [← hx]
    exact ini0_in hq
  · rw [if_pos q] at k4
    obtain ⟨⟨p9, x⟩, hq, hx⟩ := List.any_eq_true.mp k4
    have hx : x = n := by simpa using hx
    rw [← hx]
    exact stl0_in hq
  · rw [if_neg q, Bool.and_eq_true] at k4
    obtain ⟨⟨p9, x⟩, hq, hx⟩ := List.any_eq_true.mp k4.1
    have hx : x = n := by simpa using hx
    obtain ⟨⟨p8, y⟩, hq2, hy⟩ := List.any_eq_true.mp k4.2
    have hy : y = n := by simpa using hy
    exact ⟨by rw [← hx]; exact iml0_in hq, by rw [← hy]; exact sel0_in hq2⟩
/-- the code of a method, by its word -/
theorem wc_spec {n : Nat} {U : State} {a : Array Value} {mk : MethodId} (hn : U.methodNamed? (me0 n).1 = some mk) (h : (wc_ n).before a U = true) : ∃ meth c, U.vm.method? mk = some meth ∧ meth.code = some c ∧ c.code = (me0 n).2.1 ∧ c.maxLocals = (pg0 n).2.1 ∧ meth.sig.returnType = (me0 n).2.2.1 ∧ meth.locks = false ∧ c.exceptionTable.toList.map (fun h => (h.startPc, h.endPc, h.handlerPc, h.catchType)) = (me0 n).2.2.2.1 ∧ parseMethodDescriptor (me0 n).1.desc = some meth.sig := by
  unfold wc_ at h
  split at h
  · rename_i e9
    obtain ⟨meth, c, h1, h2, h3, h4, h5, h6, h7, h8⟩ := Cond.code_spec hn h
    refine ⟨meth, c, h1, h2, h3, h4, h5, h6, ?_, h8⟩
    rw [e9]
    have : c.exceptionTable = #[] := by simpa using h7
    rw [this]
    rfl
  · rename_i e9
    obtain ⟨mk', meth, c, h0, h1, h2, h3, h4, h5, h6, h7, h8⟩ := Cond.codeWith_spec h
    cases hn.symm.trans h0
    exact ⟨meth, c, h1, h2, h3, h4, h6, h7, h5, h8⟩
theorem hd_none {x : List (Nat × Nat × Nat × Nat)} {pc : Nat} (h : hd_ (x.map (fun h => (h.1, h.2.1, h.2.2.1))) pc = none) : ∀ q ∈ x, ¬ (q.1 ≤ pc ∧ pc < q.2.1) := by
  induction x with
  | nil => intro q hq; cases hq
  | cons y t ih =>
    rw [List.map_cons] at h
    unfold hd_ at h
    split at h
    · cases h
    · rename_i hc
      intro q hq
      rcases List.mem_cons.mp hq with e9 | e9
      · rw [e9]; exact hc
      · exact ih h q e9
/-- an exception on its way at a frame of the method -/
theorem th_go (cx : Cx_ p l R s m args meth c 0 0 cc nL o rt hh D cA ad ov A L xs) (hh1 : ∀ h ∈ hh, h.2.2.2 ≠ 0 ∧ Cond.classLink (cn1 o) h.2.2.2 RJ3 ∈ lw_all) (hh2 : hh.length ≤ 1) {T : State} {locs : List Loc} (X : Stand p l e R s m args below meth c T locs 0 0) {pc : Nat} {lsm : Array Slot} {st : List Value} {ls : lo_} {r : Nat} (hr9 : r ≠ 1999) {M : mm_} (hPi : Pi_ D cA ad L xs M T.heap) (hS : va_S A s.heap T.heap locs) (hl : lh_ ad ov nL ls lsm)
    (h : th_ (Wm_ p l e R s m args below meth c 0 0 (Qs_ below args s D cA ad ov A L xs Qr Qt) D cA ad ov A L xs nL) Qt (hh.map (fun h => (h.1, h.2.1, h.2.2.1))) pc ls r M) :
    ∃ t, Steps p.tables e below ((T.setTop (F0 m pc lsm st)).pushFrame (.throwing (ad r))) t ∧ Qs_ below args s D cA ad ov A L xs Qr Qt t := by
  obtain ⟨⟨hx, hb, hml⟩, hown, hts, ⟨hrt, hlocks, htab⟩, hWo, hDD, hov, -, hL⟩ := cx
  unfold th_ at h
  split at h
  · rename_i hpc e9
    obtain ⟨hr7, h⟩ := h
    match hh, hh2, htab, hh1, e9 with
    | [], _, _, _, e9 => cases e9
    | [q], _, htab, hh1, e9 =>
      have hcov : q.1 ≤ pc ∧ pc < q.2.1 ∧ hpc = q.2.2.1 := by
        simp only [List.map_cons, List.map_nil] at e9
        unfold hd_ at e9
        split at e9
        · rename_i hc
          cases e9
          exact ⟨hc.1, hc.2, rfl⟩
        · cases e9
      obtain ⟨x, hx1, hx2⟩ : ∃ x, c.exceptionTable.toList = [x] ∧ (x.startPc, x.endPc, x.handlerPc, x.catchType) = q := by
        cases ht : c.exceptionTable.toList with
        | nil => rw [ht] at htab; cases htab
        | cons x t =>
          rw [ht] at htab
          cases t with
          | nil => exact ⟨x, rfl, by simpa using htab⟩
          | cons y u => simp at htab
      subst hx2
      have hq := hh1 _ List.mem_cons_self
      have hrc : rc0 r = 5 := by rcases hr7 with z | z <;> rw [z] <;> rfl
      have hrN : r < NR0 := by rcases hr7 with z | z <;> rw [z] <;> decide
      have hrv := va_recv (q := (RJ3, TX0, 0)) (ci := 5) (q0 := r) (a := ad r) hWo.1 hPi.1 rfl (by rw [wl_at hrN, ce_obj (show wd0.1 r ≠ 99 by show rc0 r ≠ 99; omega)]; show some (ad r, Sum.inr (rc0 r, _)) = _; rw [hrc])
      obtain ⟨cell, hc1, hc2, hc3⟩ := hrv
      refine wx_caught X rfl hx1 (by simp only [covers, Bool.and_eq_true, decide_eq_true_eq]; exact ⟨hcov.1, hcov.2.1⟩) hq.1 hown (hts _ hq.2) hc1 hc2 hc3 (fun T' hT' X' => ?_)
      have h3 := h T.heap locs lsm hPi.1 hPi.2.1 hPi.2.2 hS hl (List.forall_mem_cons.mpr ⟨trivial, fun v hv => absurd hv List.not_mem_nil⟩) T' hT' X'
      rw [List.map_cons, cv_ref hr9, hcov.2.2] at h3
      exact h3
    | _ :: _ :: _, h2, _, _, _ => simp at h2
  · rename_i e9
    have hn := hd_none e9
    have hout : ∀ x ∈ c.exceptionTable.toList, covers x (F0 m pc lsm st).pc = false := by
      intro x hx9
      have h1 := hn (x.startPc, x.endPc, x.handlerPc, x.catchType) (by rw [← htab]; exact List.mem_map.mpr ⟨x, hx9, rfl⟩)
      simp only [covers]
      rw [← Bool.not_eq_true, Bool.and_eq_true, decide_eq_true_eq, decide_eq_true_eq]
      exact h1
    obtain ⟨h1, h2, h3, h4, h5⟩ := X.leaveThrown (ad r) (g := F0 m pc lsm st) rfl rfl rfl hout (hlocks := hlocks)
    exact ⟨_, h1, .threw (ad r), h2, h3, ⟨M, hPi, hS.F rfl, Or.inr ⟨r, hr9, rfl, h⟩⟩, locs, ⟨h4, h5⟩, hS.2.2⟩
end SN
