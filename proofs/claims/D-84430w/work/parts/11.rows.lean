def sl0 : List Nat := [257, 15, 256]
def sb0 : List (List Int32) := [[32, 115, 105, 103, 110, 97, 108, 32, 114, 111, 117, 116, 101, 32, 112, 114, 111, 99, 101, 115, 115, 32, 118, 97, 114, 32, 116, 105, 109, 101, 114, 32, 115, 116, 97, 114, 116, 32, 115, 116, 97, 116, 101, 32, 105, 110, 112, 117, 116, 32, 115, 97, 118, 101, 32, 119, 104, 101, 110, 32, 110, 111, 110, 101, 32, 110, 101, 120, 116, 32, 115, 116, 111, 112, 32, 106, 111, 105, 110, 32, 111, 117, 116, 112, 117, 116, 32, 115, 101, 116, 32, 114, 101, 115, 101, 116, 32, 99, 114, 101, 97, 116, 101, 32, 100, 101, 99, 105, 100, 101, 32, 101, 108, 115, 101, 32, 101, 110, 100, 32, 116, 111, 32, 118, 105, 97, 32, 119, 105, 116, 104, 32, 100, 101, 108, 97, 121, 32, 101, 110, 118, 32, 105, 102, 32, 112, 114, 105, 111, 32, 105, 110, 116, 32, 98, 111, 111, 108, 32, 112, 105, 100, 32, 116, 114, 117, 101, 32, 102, 97, 108, 115, 101, 32, 110, 117, 108, 108, 32, 115, 101, 108, 102, 32, 115, 101, 110, 100, 101, 114, 32, 112, 97, 114, 101, 110, 116, 32, 111, 102, 102, 115, 112, 114, 105, 110, 103, 32, 110, 111, 119, 32, 97, 99, 116, 105, 118, 101, 32, 119, 97, 105, 116, 105, 110, 103, 32, 110, 111, 116, 32, 97, 110, 100, 32, 111, 114, 32, 99, 104, 97, 114, 116, 32, 105, 110, 115, 116, 32, 97, 108, 116, 32, 111, 112, 116, 32], [40, 41, 91, 93, 44, 59, 58, 42, 43, 47, 37, 61, 60, 62, 45], [115, 105, 103, 110, 97, 108, 32, 114, 111, 117, 116, 101, 32, 112, 114, 111, 99, 101, 115, 115, 32, 118, 97, 114, 32, 116, 105, 109, 101, 114, 32, 115, 116, 97, 114, 116, 32, 115, 116, 97, 116, 101, 32, 105, 110, 112, 117, 116, 32, 115, 97, 118, 101, 32, 119, 104, 101, 110, 32, 110, 111, 110, 101, 32, 110, 101, 120, 116, 32, 115, 116, 111, 112, 32, 106, 111, 105, 110, 32, 111, 117, 116, 112, 117, 116, 32, 115, 101, 116, 32, 114, 101, 115, 101, 116, 32, 99, 114, 101, 97, 116, 101, 32, 100, 101, 99, 105, 100, 101, 32, 101, 108, 115, 101, 32, 101, 110, 100, 32, 116, 111, 32, 118, 105, 97, 32, 119, 105, 116, 104, 32, 100, 101, 108, 97, 121, 32, 101, 110, 118, 32, 105, 102, 32, 112, 114, 105, 111, 32, 105, 110, 116, 32, 98, 111, 111, 108, 32, 112, 105, 100, 32, 116, 114, 117, 101, 32, 102, 97, 108, 115, 101, 32, 110, 117, 108, 108, 32, 115, 101, 108, 102, 32, 115, 101, 110, 100, 101, 114, 32, 112, 97, 114, 101, 110, 116, 32, 111, 102, 102, 115, 112, 114, 105, 110, 103, 32, 110, 111, 119, 32, 97, 99, 116, 105, 118, 101, 32, 119, 97, 105, 116, 105, 110, 103, 32, 110, 111, 116, 32, 97, 110, 100, 32, 111, 114, 32, 99, 104, 97, 114, 116, 32, 105, 110, 115, 116, 32, 97, 108, 116, 32, 111, 112, 116, 32]]
/-! THE MACHINE AT A POINT that the pure machine has come to -/
def cv_ (ad : Nat → Nat) (ov : Value) : pv_ → Value
  | .inl x => .int (Int32.ofInt x)
  | .inr (.inl x) => .long (Int64.ofInt x)
  | .inr (.inr r) => if r = 1999 then ov else .ref (ad r)
def okv_ : pv_ → Prop
  | .inl x => inI x
  | .inr (.inl x) => inL x
  | .inr (.inr _) => True
def lh_ (ad : Nat → Nat) (ov : Value) (nL : Nat) (ls : lo_) (lsm : Array Slot) : Prop := ls.length = nL ∧ lsm.size = nL ∧ lv_wf lsm ∧ ∀ (k : Nat) (v : pv_), ls[k]? = some (some v) → okv_ v ∧ lsm[k]? = some (.val (cv_ ad ov v))
def al_ (ad : Nat → Nat) (ov : Value) (ls : lo_) : List (Nat × Value) := ls.zipIdx.filterMap (fun q => q.1.map (fun v => (q.2, cv_ ad ov v)))
theorem al_mem {ad : Nat → Nat} {ov : Value} {ls : lo_} {q : Nat × Value} : q ∈ al_ ad ov ls ↔ ∃ v, ls[q.1]? = some (some v) ∧ q.2 = cv_ ad ov v := by
  unfold al_
  rw [List.mem_filterMap]
  constructor
  · rintro ⟨⟨x, k⟩, h1, h2⟩
    rw [List.mem_zipIdx_iff_getElem?] at h1
    cases x with
    | none => cases h2
    | some v =>
      cases h2
      exact ⟨v, h1, rfl⟩
  · rintro ⟨v, h1, h2⟩
    refine ⟨(some v, q.1), ?_, ?_⟩
    · rw [List.mem_zipIdx_iff_getElem?]
      exact h1
    · show some (q.1, cv_ ad ov v) = some q
      rw [← h2]
theorem lh_has {ad : Nat → Nat} {ov : Value} {nL : Nat} {ls : lo_} {lsm : Array Slot} (h : lh_ ad ov nL ls lsm) : lv_has lsm nL (al_ ad ov ls) := by
  refine ⟨h.2.1, h.2.2.1, fun q hq => ?_⟩
  obtain ⟨v, h1, h2⟩ := al_mem.mp hq
  rw [h2]
  exact (h.2.2.2 q.1 v h1).2
theorem cv_cat {ad : Nat → Nat} {ov : Value} (hov : ov.category = 1) {v : pv_} (h : (cv_ ad ov v).category = 2) : ∃ x, v = .inr (.inl x) := by
  rcases v with x | x | r
  · cases h
  · exact ⟨x, rfl⟩
  · exfalso
    have h : (if r = 1999 then ov else Value.ref (ad r)).category = 2 := h
    split at h
    · rw [hov] at h; cases h
    · cases h
theorem lh_s1 {ad : Nat → Nat} {ov : Value} (hov : ov.category = 1) {nL k : Nat} {ls : lo_} {lsm lsm' : Array Slot} {v : pv_} (h : lh_ ad ov nL ls lsm) (hv : okv_ v) (hok : ok1_ ls k = true)
    (h' : lv_has lsm' nL ((k, cv_ ad ov v) :: (al_ ad ov ls).filter (fun q => !(q.1 == k) && !(q.1 + 1 == k && q.2.category == 2)))) : lh_ ad ov nL (s1_ ls k v) lsm' := by
  simp only [ok1_, Bool.and_eq_true, decide_eq_true_eq, Bool.or_eq_true, beq_iff_eq, Bool.not_eq_true'] at hok
  refine ⟨by unfold s1_; rw [List.length_set]; exact h.1, h'.1, h'.2.1, fun j w hj => ?_⟩
  unfold s1_ at hj
  rw [List.getElem?_set] at hj
  by_cases e : k = j
  · subst e
    rw [if_pos rfl, if_pos hok.1] at hj
    cases hj
    exact ⟨hv, h'.2.2 (k, cv_ ad ov v) List.mem_cons_self⟩
  · rw [if_neg e] at hj
    refine ⟨(h.2.2.2 j w hj).1, h'.2.2 (j, cv_ ad ov w) (List.mem_cons_of_mem _ (List.mem_filter.mpr ⟨al_mem.mpr ⟨w, hj, rfl⟩, ?_⟩))⟩
    simp only [Bool.and_eq_true, Bool.not_eq_true', beq_eq_false_iff_ne]
    refine ⟨fun e2 => e e2.symm, ?_⟩
    by_cases e3 : j + 1 = k
    · have h0 : isl_ ls[k - 1]? = false := hok.2.resolve_left (by omega)
      have e4 : k - 1 = j := by omega
      rw [e4, hj] at h0
      have h5 : (cv_ ad ov w).category ≠ 2 := fun h6 => by
        obtain ⟨x, hx⟩ := cv_cat hov h6
        rw [hx] at h0
        cases h0
      simp [h5]
    · simp [e3]
theorem lh_s2 {ad : Nat → Nat} {ov : Value} (hov : ov.category = 1) {nL k : Nat} {ls : lo_} {lsm lsm' : Array Slot} {v : pv_} (h : lh_ ad ov nL ls lsm) (hv : okv_ v) (hok : ok2_ ls k = true)
    (h' : lv_has lsm' nL ((k, cv_ ad ov v) :: (al_ ad ov ls).filter (fun q => !(q.1 == k) && (!(q.1 == k + 1) && !(q.1 + 1 == k && q.2.category == 2))))) : lh_ ad ov nL (s2_ ls k v) lsm' := by
  simp only [ok2_, Bool.and_eq_true, decide_eq_true_eq, Bool.or_eq_true, beq_iff_eq, Bool.not_eq_true'] at hok
  refine ⟨by unfold s2_; rw [List.length_set, List.length_set]; exact h.1, h'.1, h'.2.1, fun j w hj => ?_⟩
  unfold s2_ at hj
  rw [List.getElem?_set, List.getElem?_set, List.length_set] at hj
  by_cases e1 : k + 1 = j
  · rw [if_pos e1, if_pos (by omega)] at hj
    cases hj
  · rw [if_neg e1] at hj
    by_cases e : k = j
    · subst e
      rw [if_pos rfl, if_pos (by omega)] at hj
      cases hj
      exact ⟨hv, h'.2.2 (k, cv_ ad ov v) List.mem_cons_self⟩
    · rw [if_neg e] at hj
      refine ⟨(h.2.2.2 j w hj).1, h'.2.2 (j, cv_ ad ov w) (List.mem_cons_of_mem _ (List.mem_filter.mpr ⟨al_mem.mpr ⟨w, hj, rfl⟩, ?_⟩))⟩
      simp only [Bool.and_eq_true, Bool.not_eq_true', beq_eq_false_iff_ne]
      refine ⟨fun e2 => e e2.symm, fun e2 => e1 e2.symm, ?_⟩
      by_cases e3 : j + 1 = k
      · have h0 : isl_ ls[k - 1]? = false := hok.2.resolve_left (by omega)
        have e4 : k - 1 = j := by omega
        rw [e4, hj] at h0
        have h5 : (cv_ ad ov w).category ≠ 2 := fun h6 => by
          obtain ⟨x, hx⟩ := cv_cat hov h6
          rw [hx] at h0
          cases h0
        simp [h5]
      · simp [e3]
theorem lh_ld {ad : Nat → Nat} {ov : Value} {nL k : Nat} {ls : lo_} {lsm : Array Slot} {v : pv_} (h : lh_ ad ov nL ls lsm) (hl : ld_ ls k = some v) : okv_ v ∧ lsm[k]? = some (.val (cv_ ad ov v)) := by
  refine h.2.2.2 k v ?_
  unfold ld_ at hl
  split at hl
  · rename_i w e
    cases hl
    exact e
  · cases hl
theorem ok1_lt {ls : lo_} {k : Nat} (h : ok1_ ls k = true) : k < ls.length := by
  simp only [ok1_, Bool.and_eq_true, decide_eq_true_eq] at h
  exact h.1
theorem ok2_lt {ls : lo_} {k : Nat} (h : ok2_ ls k = true) : k + 1 < ls.length := by
  simp only [ok2_, Bool.and_eq_true, decide_eq_true_eq] at h
  exact h.1
/-- what is told of the cells that are read only: the script (1000: its ints, its length at -1), three Strings (1001 ..) and their bytes (1011 ..) -/
def Ro_ (L : Nat) (xs : Nat → Int32) (M : mm_) : Prop := M 1000 (-1) = L ∧ (∀ j : Nat, j < L → M 1000 j = (xs j).toInt) ∧ ∀ i : Nat, i < 3 → M (1001 + i) 1 = 0 ∧ ∀ j : Nat, j < sl0.getD i 0 → M (1011 + i) j = ((sb0.getD i []).getD j 0).toInt
theorem Ro_up {L : Nat} {xs : Nat → Int32} {M : mm_} {r : Nat} {i v : Int} (h : Ro_ L xs M) (hr : r < 1000) : Ro_ L xs (up_ M r i v) := by
  refine ⟨by rw [up_ne (by omega)]; exact h.1, fun j hj => by rw [up_ne (by omega)]; exact h.2.1 j hj, fun k hk => ⟨by rw [up_ne (by omega)]; exact (h.2.2 k hk).1, fun j hj => by rw [up_ne (by omega)]; exact (h.2.2 k hk).2 j hj⟩⟩
def Wm_ (p : Program) (l : Launch) (e : Env) (R : Room) (s : State) (m : MethodId) (args : Array Value) (below : List Frame) (meth : Method) (c : Code) (cells slots : Nat) (Q : State → Prop) (D : va_G) (cA : Nat → ClassId) (ad : Nat → Nat) (ov : Value) (A : Nat → Prop) (L : Nat) (xs : Nat → Int32) (nL : Nat) : vv_ := fun pc ls st M =>
  ∀ (H : Heap) (locs : List Loc) (lsm : Array Slot), va_P D vwCl (wl_ wd0 nf0 cA NR0 ad M) H → Rg_ wd0 nf0 NR0 M → Ro_ L xs M → va_S A s.heap H locs → lh_ ad ov nL ls lsm → (∀ v ∈ st, okv_ v) → W p l e R s m args below meth c H locs cells slots Q (F0 m pc lsm (st.map (cv_ ad ov)))
abbrev tys_ (cA : Nat → ClassId) : List (ClassId × FieldType) := [(cA 1, .int), (cA 2, .byte), (cA 3, .boolean), (cA 4, .long)]
section SX
variable {p : Program} {l : Launch} {e : Env} {R : Room} {s : State} {m : MethodId} {args : Array Value} {below : List Frame} {meth : Method} {c : Code} {cells slots : Nat} {Q : State → Prop} {D : va_G} {cA : Nat → ClassId} {ad : Nat → Nat} {ov : Value} {A : Nat → Prop} {L : Nat} {xs : Nat → Int32} {nL : Nat}
variable {cc : ByteArray} {pc : Nat} {ls : lo_} {st : List pv_} {M : mm_}
theorem sx_iconst (hx : p.tables.exec = Jvm.exec) (hb : c.code = cc) {k : Int} (hk : inI k) (hdg : decode cc pc = .ok (.iconst k, 1)) (h : Wm_ p l e R s m args below meth c cells slots Q D cA ad ov A L xs nL (pc + 1) ls (.inl k :: st) M) : Wm_ p l e R s m args below meth c cells slots Q D cA ad ov A L xs nL pc ls st M := by
  intro H locs lsm hP hR hO hS hl hv
  exact lv_iconst hx hb hdg rfl (h H locs lsm hP hR hO hS hl (List.forall_mem_cons.mpr ⟨hk, hv⟩))
theorem sx_bipush (hx : p.tables.exec = Jvm.exec) (hb : c.code = cc) {k : Int} (hk : -128 ≤ k ∧ k ≤ 127) (hdg : decode cc pc = .ok (.bipush k, 2)) (h : Wm_ p l e R s m args below meth c cells slots Q D cA ad ov A L xs nL (pc + 2) ls (.inl k :: st) M) : Wm_ p l e R s m args below meth c cells slots Q D cA ad ov A L xs nL pc ls st M := by
  intro H locs lsm hP hR hO hS hl hv
  have hi : inI k := by unfold inI; omega
  refine lv_bipush (v := Int32.ofInt k) hx hb hdg ?_ (h H locs lsm hP hR hO hS hl (List.forall_mem_cons.mpr ⟨hi, hv⟩))
  apply oI_of
  rw [Int8.toInt_toInt32, Int8.toInt_ofInt, show Int8.size = 256 from rfl, Int.bmod_def]
  split <;> omega
theorem sx_sipush (hx : p.tables.exec = Jvm.exec) (hb : c.code = cc) {k : Int} (hk : -32768 ≤ k ∧ k ≤ 32767) (hdg : decode cc pc = .ok (.sipush k, 3)) (h : Wm_ p l e R s m args below meth c cells slots Q D cA ad ov A L xs nL (pc + 3) ls (.inl k :: st) M) : Wm_ p l e R s m args below meth c cells slots Q D cA ad ov A L xs nL pc ls st M := by
  intro H locs lsm hP hR hO hS hl hv
  have hi : inI k := by unfold inI; omega
  refine lv_sipush (v := Int32.ofInt k) hx hb hdg ?_ (h H locs lsm hP hR hO hS hl (List.forall_mem_cons.mpr ⟨hi, hv⟩))
  apply oI_of
  rw [Int16.toInt_toInt32, Int16.toInt_ofInt, show Int16.size = 65536 from rfl, Int.bmod_def]
  split <;> omega
theorem sx_lconst (hx : p.tables.exec = Jvm.exec) (hb : c.code = cc) {k : Fin 2} (hdg : decode cc pc = .ok (.lconst k, 1)) (h : Wm_ p l e R s m args below meth c cells slots Q D cA ad ov A L xs nL (pc + 1) ls (.inr (.inl ((k : Nat) : Int)) :: st) M) : Wm_ p l e R s m args below meth c cells slots Q D cA ad ov A L xs nL pc ls st M := by
  intro H locs lsm hP hR hO hS hl hv
  refine lv_lconst (v := Int64.ofInt ((k : Nat) : Int)) hx hb hdg ?_ (h H locs lsm hP hR hO hS hl (List.forall_mem_cons.mpr ⟨show inL ((k : Nat) : Int) from ?_, hv⟩))
  · exact (Int64.ofInt_eq_ofNat).symm
  · have := k.isLt
    unfold inL
    omega
theorem sx_ldc (hx : p.tables.exec = Jvm.exec) (hb : c.code = cc) {own : String} {idx : Nat} {k : Int} (hown : s.vm.findClass own = some m.cls) (hk : inI k) (hc : (Cond.constant own idx (Int32.ofInt k)).before args s = true) (hdg : decode cc pc = .ok (.ldc idx, 2)) (h : Wm_ p l e R s m args below meth c cells slots Q D cA ad ov A L xs nL (pc + 2) ls (.inl k :: st) M) : Wm_ p l e R s m args below meth c cells slots Q D cA ad ov A L xs nL pc ls st M := by
  intro H locs lsm hP hR hO hS hl hv
  exact lv_ldc hx hb hown hc hdg (h H locs lsm hP hR hO hS hl (List.forall_mem_cons.mpr ⟨hk, hv⟩))
theorem sx_ldcw (hx : p.tables.exec = Jvm.exec) (hb : c.code = cc) {own : String} {idx : Nat} {k : Int} (hown : s.vm.findClass own = some m.cls) (hk : inI k) (hc : (Cond.constant own idx (Int32.ofInt k)).before args s = true) (hdg : decode cc pc = .ok (.ldc_w idx, 3)) (h : Wm_ p l e R s m args below meth c cells slots Q D cA ad ov A L xs nL (pc + 3) ls (.inl k :: st) M) : Wm_ p l e R s m args below meth c cells slots Q D cA ad ov A L xs nL pc ls st M := by
  intro H locs lsm hP hR hO hS hl hv
  exact lv_ldcw hx hb hown hc hdg (h H locs lsm hP hR hO hS hl (List.forall_mem_cons.mpr ⟨hk, hv⟩))
theorem sx_ldc2 (hx : p.tables.exec = Jvm.exec) (hb : c.code = cc) {own : String} {idx : Nat} {k : Int} (hown : s.vm.findClass own = some m.cls) (hk : inL k) (hc : (Cond.constantLong own idx (Int64.ofInt k)).before args s = true) (hdg : decode cc pc = .ok (.ldc2_w idx, 3)) (h : Wm_ p l e R s m args below meth c cells slots Q D cA ad ov A L xs nL (pc + 3) ls (.inr (.inl k) :: st) M) : Wm_ p l e R s m args below meth c cells slots Q D cA ad ov A L xs nL pc ls st M := by
  intro H locs lsm hP hR hO hS hl hv
  exact lv_ldc2 hx hb hown hc hdg (h H locs lsm hP hR hO hS hl (List.forall_mem_cons.mpr ⟨hk, hv⟩))
theorem sx_iload (hx : p.tables.exec = Jvm.exec) (hb : c.code = cc) {k : Nat} {x : Int} (hdg : decode cc pc = .ok (.iload k, 2)) (hld : ld_ ls k = some (.inl x)) (h : Wm_ p l e R s m args below meth c cells slots Q D cA ad ov A L xs nL (pc + 2) ls (.inl x :: st) M) : Wm_ p l e R s m args below meth c cells slots Q D cA ad ov A L xs nL pc ls st M := by
  intro H locs lsm hP hR hO hS hl hv
  obtain ⟨h1, h2⟩ := lh_ld hl hld
  exact lv_iload hx hb hdg h2 (h H locs lsm hP hR hO hS hl (List.forall_mem_cons.mpr ⟨h1, hv⟩))
theorem sx_iload_n (hx : p.tables.exec = Jvm.exec) (hb : c.code = cc) {k : Fin 4} {x : Int} (hdg : decode cc pc = .ok (.iload_n k, 1)) (hld : ld_ ls k = some (.inl x)) (h : Wm_ p l e R s m args below meth c cells slots Q D cA ad ov A L xs nL (pc + 1) ls (.inl x :: st) M) : Wm_ p l e R s m args below meth c cells slots Q D cA ad ov A L xs nL pc ls st M := by
  intro H locs lsm hP hR hO hS hl hv
  obtain ⟨h1, h2⟩ := lh_ld hl hld
  exact lv_iload_n hx hb hdg rfl h2 (h H locs lsm hP hR hO hS hl (List.forall_mem_cons.mpr ⟨h1, hv⟩))
theorem sx_lload (hx : p.tables.exec = Jvm.exec) (hb : c.code = cc) {k : Nat} {x : Int} (hdg : decode cc pc = .ok (.lload k, 2)) (hld : ld_ ls k = some (.inr (.inl x))) (h : Wm_ p l e R s m args below meth c cells slots Q D cA ad ov A L xs nL (pc + 2) ls (.inr (.inl x) :: st) M) : Wm_ p l e R s m args below meth c cells slots Q D cA ad ov A L xs nL pc ls st M := by
  intro H locs lsm hP hR hO hS hl hv
  obtain ⟨h1, h2⟩ := lh_ld hl hld
  exact lv_lload hx hb hdg h2 (h H locs lsm hP hR hO hS hl (List.forall_mem_cons.mpr ⟨h1, hv⟩))
theorem sx_lload_n (hx : p.tables.exec = Jvm.exec) (hb : c.code = cc) {k : Fin 4} {x : Int} (hdg : decode cc pc = .ok (.lload_n k, 1)) (hld : ld_ ls k = some (.inr (.inl x))) (h : Wm_ p l e R s m args below meth c cells slots Q D cA ad ov A L xs nL (pc + 1) ls (.inr (.inl x) :: st) M) : Wm_ p l e R s m args below meth c cells slots Q D cA ad ov A L xs nL pc ls st M := by
  intro H locs lsm hP hR hO hS hl hv
  obtain ⟨h1, h2⟩ := lh_ld hl hld
  exact lv_lload_n hx hb hdg rfl h2 (h H locs lsm hP hR hO hS hl (List.forall_mem_cons.mpr ⟨h1, hv⟩))
theorem cv_ref {r : Nat} (h : r ≠ 1999) : cv_ ad ov (.inr (.inr r)) = .ref (ad r) := if_neg h
theorem sx_aload (hx : p.tables.exec = Jvm.exec) (hb : c.code = cc) {k r : Nat} (hr : r ≠ 1999) (hdg : decode cc pc = .ok (.aload k, 2)) (hld : ld_ ls k = some (.inr (.inr r))) (h : Wm_ p l e R s m args below meth c cells slots Q D cA ad ov A L xs nL (pc + 2) ls (.inr (.inr r) :: st) M) : Wm_ p l e R s m args below meth c cells slots Q D cA ad ov A L xs nL pc ls st M := by
  intro H locs lsm hP hR hO hS hl hv
  obtain ⟨h1, h2⟩ := lh_ld hl hld
  rw [cv_ref hr] at h2
  have h3 := h H locs lsm hP hR hO hS hl (List.forall_mem_cons.mpr ⟨trivial, hv⟩)
  rw [List.map_cons, cv_ref hr] at h3
  exact lv_aload hx hb hdg h2 h3
theorem sx_aload_n (hx : p.tables.exec = Jvm.exec) (hb : c.code = cc) {k : Fin 4} {r : Nat} (hr : r ≠ 1999) (hdg : decode cc pc = .ok (.aload_n k, 1)) (hld : ld_ ls k = some (.inr (.inr r))) (h : Wm_ p l e R s m args below meth c cells slots Q D cA ad ov A L xs nL (pc + 1) ls (.inr (.inr r) :: st) M) : Wm_ p l e R s m args below meth c cells slots Q D cA ad ov A L xs nL pc ls st M := by
  intro H locs lsm hP hR hO hS hl hv
  obtain ⟨h1, h2⟩ := lh_ld hl hld
  rw [cv_ref hr] at h2
  have h3 := h H locs lsm hP hR hO hS hl (List.forall_mem_cons.mpr ⟨trivial, hv⟩)
  rw [List.map_cons, cv_ref hr] at h3
  exact lv_aload_n hx hb hdg rfl h2 h3
theorem sx_istore (hx : p.tables.exec = Jvm.exec) (hb : c.code = cc) (hov : ov.category = 1) {k : Nat} {x : Int} (hdg : decode cc pc = .ok (.istore k, 2)) (hok : ok1_ ls k = true) (h : Wm_ p l e R s m args below meth c cells slots Q D cA ad ov A L xs nL (pc + 2) (s1_ ls k (.inl x)) st M) : Wm_ p l e R s m args below meth c cells slots Q D cA ad ov A L xs nL pc ls (.inl x :: st) M := by
  intro H locs lsm hP hR hO hS hl hv
  obtain ⟨h1, h2⟩ := List.forall_mem_cons.mp hv
  exact lv_istore hx hb hdg (lh_has hl) (by rw [← hl.1]; exact ok1_lt hok) rfl (fun ls' hl' => h H locs ls' hP hR hO hS (lh_s1 hov hl h1 hok hl') h2)
theorem sx_istore_n (hx : p.tables.exec = Jvm.exec) (hb : c.code = cc) (hov : ov.category = 1) {k : Fin 4} {x : Int} (hdg : decode cc pc = .ok (.istore_n k, 1)) (hok : ok1_ ls k = true) (h : Wm_ p l e R s m args below meth c cells slots Q D cA ad ov A L xs nL (pc + 1) (s1_ ls k (.inl x)) st M) : Wm_ p l e R s m args below meth c cells slots Q D cA ad ov A L xs nL pc ls (.inl x :: st) M := by
  intro H locs lsm hP hR hO hS hl hv
  obtain ⟨h1, h2⟩ := List.forall_mem_cons.mp hv
  exact lv_istore_n hx hb hdg rfl (lh_has hl) (by rw [← hl.1]; exact ok1_lt hok) rfl (fun ls' hl' => h H locs ls' hP hR hO hS (lh_s1 hov hl h1 hok hl') h2)
theorem sx_lstore (hx : p.tables.exec = Jvm.exec) (hb : c.code = cc) (hov : ov.category = 1) {k : Nat} {x : Int} (hdg : decode cc pc = .ok (.lstore k, 2)) (hok : ok2_ ls k = true) (h : Wm_ p l e R s m args below meth c cells slots Q D cA ad ov A L xs nL (pc + 2) (s2_ ls k (.inr (.inl x))) st M) : Wm_ p l e R s m args below meth c cells slots Q D cA ad ov A L xs nL pc ls (.inr (.inl x) :: st) M := by
  intro H locs lsm hP hR hO hS hl hv
  obtain ⟨h1, h2⟩ := List.forall_mem_cons.mp hv
  exact lv_lstore hx hb hdg (lh_has hl) (by rw [← hl.1]; exact ok2_lt hok) rfl (fun ls' hl' => h H locs ls' hP hR hO hS (lh_s2 hov hl h1 hok hl') h2)
theorem sx_lstore_n (hx : p.tables.exec = Jvm.exec) (hb : c.code = cc) (hov : ov.category = 1) {k : Fin 4} {x : Int} (hdg : decode cc pc = .ok (.lstore_n k, 1)) (hok : ok2_ ls k = true) (h : Wm_ p l e R s m args below meth c cells slots Q D cA ad ov A L xs nL (pc + 1) (s2_ ls k (.inr (.inl x))) st M) : Wm_ p l e R s m args below meth c cells slots Q D cA ad ov A L xs nL pc ls (.inr (.inl x) :: st) M := by
  intro H locs lsm hP hR hO hS hl hv
  obtain ⟨h1, h2⟩ := List.forall_mem_cons.mp hv
  exact lv_lstore_n hx hb hdg rfl (lh_has hl) (by rw [← hl.1]; exact ok2_lt hok) rfl (fun ls' hl' => h H locs ls' hP hR hO hS (lh_s2 hov hl h1 hok hl') h2)
theorem sx_astore (hx : p.tables.exec = Jvm.exec) (hb : c.code = cc) (hov : ov.category = 1) {k : Nat} {r : Nat} (hr : r ≠ 1999) (hdg : decode cc pc = .ok (.astore k, 2)) (hok : ok1_ ls k = true) (h : Wm_ p l e R s m args below meth c cells slots Q D cA ad ov A L xs nL (pc + 2) (s1_ ls k (.inr (.inr r))) st M) : Wm_ p l e R s m args below meth c cells slots Q D cA ad ov A L xs nL pc ls (.inr (.inr r) :: st) M := by
  intro H locs lsm hP hR hO hS hl hv
  obtain ⟨h1, h2⟩ := List.forall_mem_cons.mp hv
  rw [List.map_cons, cv_ref hr]
  exact lv_astore hx hb hdg (lh_has hl) (by rw [← hl.1]; exact ok1_lt hok) rfl (fun ls' hl' => h H locs ls' hP hR hO hS (lh_s1 hov (v := .inr (.inr r)) hl h1 hok (by rw [cv_ref hr]; exact hl')) h2)
theorem sx_astore_n (hx : p.tables.exec = Jvm.exec) (hb : c.code = cc) (hov : ov.category = 1) {k : Fin 4} {r : Nat} (hr : r ≠ 1999) (hdg : decode cc pc = .ok (.astore_n k, 1)) (hok : ok1_ ls k = true) (h : Wm_ p l e R s m args below meth c cells slots Q D cA ad ov A L xs nL (pc + 1) (s1_ ls k (.inr (.inr r))) st M) : Wm_ p l e R s m args below meth c cells slots Q D cA ad ov A L xs nL pc ls (.inr (.inr r) :: st) M := by
  intro H locs lsm hP hR hO hS hl hv
  obtain ⟨h1, h2⟩ := List.forall_mem_cons.mp hv
  rw [List.map_cons, cv_ref hr]
  exact lv_astore_n hx hb hdg rfl (lh_has hl) (by rw [← hl.1]; exact ok1_lt hok) rfl (fun ls' hl' => h H locs ls' hP hR hO hS (lh_s1 hov (v := .inr (.inr r)) hl h1 hok (by rw [cv_ref hr]; exact hl')) h2)
theorem sx_iinc (hx : p.tables.exec = Jvm.exec) (hb : c.code = cc) (hov : ov.category = 1) {k : Nat} {n x : Int} (hn : inI n) (hdg : decode cc pc = .ok (.iinc k n, 3)) (hld : ld_ ls k = some (.inl x)) (hok : ok1_ ls k = true) (h : Wm_ p l e R s m args below meth c cells slots Q D cA ad ov A L xs nL (pc + 3) (s1_ ls k (.inl (w32 (x + n)))) st M) : Wm_ p l e R s m args below meth c cells slots Q D cA ad ov A L xs nL pc ls st M := by
  intro H locs lsm hP hR hO hS hl hv
  obtain ⟨h1, h2⟩ := lh_ld hl hld
  have hk0 : ls[k]? = some (some (.inl x)) := by
    unfold ld_ at hld
    split at hld
    · rename_i w e9
      cases hld
      exact e9
    · cases hld
  have hm : (k, cv_ ad ov (.inl x)) ∈ al_ ad ov ls := al_mem.mpr ⟨.inl x, hk0, rfl⟩
  obtain ⟨j, hj⟩ := List.getElem?_of_mem hm
  exact lv_iinc (k := j) (v := Int32.ofInt (w32 (x + n))) hx hb hdg (lh_has hl) hj (oI_add h1 hn) (by rw [← hl.1]; exact ok1_lt hok) rfl (fun ls' hl' => h H locs ls' hP hR hO hS (lh_s1 hov (v := .inl (w32 (x + n))) hl (w32_in _) hok hl') hv)
theorem sx_iadd (hx : p.tables.exec = Jvm.exec) (hb : c.code = cc) {x y : Int} (hdg : decode cc pc = .ok (.iadd, 1)) (h : Wm_ p l e R s m args below meth c cells slots Q D cA ad ov A L xs nL (pc + 1) ls (.inl (w32 (x + y)) :: st) M) : Wm_ p l e R s m args below meth c cells slots Q D cA ad ov A L xs nL pc ls (.inl y :: .inl x :: st) M := by
  intro H locs lsm hP hR hO hS hl hv
  obtain ⟨hy, hv⟩ := List.forall_mem_cons.mp hv
  obtain ⟨hx0, hv⟩ := List.forall_mem_cons.mp hv
  have hx1 : inI x := hx0
  have hy1 : inI y := hy
  have h3 := h H locs lsm hP hR hO hS hl (List.forall_mem_cons.mpr ⟨show inI (w32 (x + y)) from w32_in _, hv⟩)
  refine lv_iadd (x := Int32.ofInt x) (y := Int32.ofInt y) hx hb hdg ?_
  rw [oI_add hx1 hy1]
  exact h3
theorem sx_isub (hx : p.tables.exec = Jvm.exec) (hb : c.code = cc) {x y : Int} (hdg : decode cc pc = .ok (.isub, 1)) (h : Wm_ p l e R s m args below meth c cells slots Q D cA ad ov A L xs nL (pc + 1) ls (.inl (w32 (x - y)) :: st) M) : Wm_ p l e R s m args below meth c cells slots Q D cA ad ov A L xs nL pc ls (.inl y :: .inl x :: st) M := by
  intro H locs lsm hP hR hO hS hl hv
  obtain ⟨hy, hv⟩ := List.forall_mem_cons.mp hv
  obtain ⟨hx0, hv⟩ := List.forall_mem_cons.mp hv
  have hx1 : inI x := hx0
  have hy1 : inI y := hy
  have h3 := h H locs lsm hP hR hO hS hl (List.forall_mem_cons.mpr ⟨show inI (w32 (x - y)) from w32_in _, hv⟩)
  refine lv_isub (x := Int32.ofInt x) (y := Int32.ofInt y) hx hb hdg ?_
  rw [oI_sub hx1 hy1]
  exact h3
theorem sx_imul (hx : p.tables.exec = Jvm.exec) (hb : c.code = cc) {x y : Int} (hdg : decode cc pc = .ok (.imul, 1)) (h : Wm_ p l e R s m args below meth c cells slots Q D cA ad ov A L xs nL (pc + 1) ls (.inl (w32 (x * y)) :: st) M) : Wm_ p l e R s m args below meth c cells slots Q D cA ad ov A L xs nL pc ls (.inl y :: .inl x :: st) M := by
  intro H locs lsm hP hR hO hS hl hv
  obtain ⟨hy, hv⟩ := List.forall_mem_cons.mp hv
  obtain ⟨hx0, hv⟩ := List.forall_mem_cons.mp hv
  have hx1 : inI x := hx0
  have hy1 : inI y := hy
  have h3 := h H locs lsm hP hR hO hS hl (List.forall_mem_cons.mpr ⟨show inI (w32 (x * y)) from w32_in _, hv⟩)
  refine lv_imul (x := Int32.ofInt x) (y := Int32.ofInt y) hx hb hdg ?_
  rw [oI_mul hx1 hy1]
  exact h3
theorem sx_idiv (hx : p.tables.exec = Jvm.exec) (hb : c.code = cc) {x y : Int} (hne : y ≠ 0) (hdg : decode cc pc = .ok (.idiv, 1)) (h : Wm_ p l e R s m args below meth c cells slots Q D cA ad ov A L xs nL (pc + 1) ls (.inl (w32 (Int.tdiv x y)) :: st) M) : Wm_ p l e R s m args below meth c cells slots Q D cA ad ov A L xs nL pc ls (.inl y :: .inl x :: st) M := by
  intro H locs lsm hP hR hO hS hl hv
  obtain ⟨hy, hv⟩ := List.forall_mem_cons.mp hv
  obtain ⟨hx0, hv⟩ := List.forall_mem_cons.mp hv
  have hx1 : inI x := hx0
  have hy1 : inI y := hy
  have h3 := h H locs lsm hP hR hO hS hl (List.forall_mem_cons.mpr ⟨show inI (w32 (Int.tdiv x y)) from w32_in _, hv⟩)
  refine lv_idiv (x := Int32.ofInt x) (y := Int32.ofInt y) hx hb hdg (fun h0 => hne ((oI_eq hy1 inI_0).mp h0)) ?_
  rw [oI_div hx1 hy1]
  exact h3
theorem sx_irem (hx : p.tables.exec = Jvm.exec) (hb : c.code = cc) {x y : Int} (hne : y ≠ 0) (hdg : decode cc pc = .ok (.irem, 1)) (h : Wm_ p l e R s m args below meth c cells slots Q D cA ad ov A L xs nL (pc + 1) ls (.inl (Int.tmod x y) :: st) M) : Wm_ p l e R s m args below meth c cells slots Q D cA ad ov A L xs nL pc ls (.inl y :: .inl x :: st) M := by
  intro H locs lsm hP hR hO hS hl hv
  obtain ⟨hy, hv⟩ := List.forall_mem_cons.mp hv
  obtain ⟨hx0, hv⟩ := List.forall_mem_cons.mp hv
  have hx1 : inI x := hx0
  have hy1 : inI y := hy
  have h3 := h H locs lsm hP hR hO hS hl (List.forall_mem_cons.mpr ⟨show inI (Int.tmod x y) from tmod_in hx1 hne, hv⟩)
  refine lv_irem (x := Int32.ofInt x) (y := Int32.ofInt y) hx hb hdg (fun h0 => hne ((oI_eq hy1 inI_0).mp h0)) ?_
  rw [oI_rem hx1 hy1 hne]
  exact h3
theorem sx_iand (hx : p.tables.exec = Jvm.exec) (hb : c.code = cc) {x y : Int} (hdg : decode cc pc = .ok (.iand, 1)) (h : Wm_ p l e R s m args below meth c cells slots Q D cA ad ov A L xs nL (pc + 1) ls (.inl (an_ x y) :: st) M) : Wm_ p l e R s m args below meth c cells slots Q D cA ad ov A L xs nL pc ls (.inl y :: .inl x :: st) M := by
  intro H locs lsm hP hR hO hS hl hv
  obtain ⟨hy, hv⟩ := List.forall_mem_cons.mp hv
  obtain ⟨hx0, hv⟩ := List.forall_mem_cons.mp hv
  have hx1 : inI x := hx0
  have hy1 : inI y := hy
  have h3 := h H locs lsm hP hR hO hS hl (List.forall_mem_cons.mpr ⟨show inI (an_ x y) from toInt_in _, hv⟩)
  refine lv_iand (x := Int32.ofInt x) (y := Int32.ofInt y) hx hb hdg ?_
  rw [an_of]
  exact h3
theorem sx_ior (hx : p.tables.exec = Jvm.exec) (hb : c.code = cc) {x y : Int} (hdg : decode cc pc = .ok (.ior, 1)) (h : Wm_ p l e R s m args below meth c cells slots Q D cA ad ov A L xs nL (pc + 1) ls (.inl (or_ x y) :: st) M) : Wm_ p l e R s m args below meth c cells slots Q D cA ad ov A L xs nL pc ls (.inl y :: .inl x :: st) M := by
  intro H locs lsm hP hR hO hS hl hv
  obtain ⟨hy, hv⟩ := List.forall_mem_cons.mp hv
  obtain ⟨hx0, hv⟩ := List.forall_mem_cons.mp hv
  have hx1 : inI x := hx0
  have hy1 : inI y := hy
  have h3 := h H locs lsm hP hR hO hS hl (List.forall_mem_cons.mpr ⟨show inI (or_ x y) from toInt_in _, hv⟩)
  refine lv_ior (x := Int32.ofInt x) (y := Int32.ofInt y) hx hb hdg ?_
  rw [or_of]
  exact h3
theorem sx_ixor (hx : p.tables.exec = Jvm.exec) (hb : c.code = cc) {x y : Int} (hdg : decode cc pc = .ok (.ixor, 1)) (h : Wm_ p l e R s m args below meth c cells slots Q D cA ad ov A L xs nL (pc + 1) ls (.inl (xo_ x y) :: st) M) : Wm_ p l e R s m args below meth c cells slots Q D cA ad ov A L xs nL pc ls (.inl y :: .inl x :: st) M := by
  intro H locs lsm hP hR hO hS hl hv
  obtain ⟨hy, hv⟩ := List.forall_mem_cons.mp hv
  obtain ⟨hx0, hv⟩ := List.forall_mem_cons.mp hv
  have hx1 : inI x := hx0
  have hy1 : inI y := hy
  have h3 := h H locs lsm hP hR hO hS hl (List.forall_mem_cons.mpr ⟨show inI (xo_ x y) from toInt_in _, hv⟩)
  refine lv_ixor (x := Int32.ofInt x) (y := Int32.ofInt y) hx hb hdg ?_
  rw [xo_of]
  exact h3
theorem sx_ishl (hx : p.tables.exec = Jvm.exec) (hb : c.code = cc) {x y : Int} (hdg : decode cc pc = .ok (.ishl, 1)) (h : Wm_ p l e R s m args below meth c cells slots Q D cA ad ov A L xs nL (pc + 1) ls (.inl (sl_ x y) :: st) M) : Wm_ p l e R s m args below meth c cells slots Q D cA ad ov A L xs nL pc ls (.inl y :: .inl x :: st) M := by
  intro H locs lsm hP hR hO hS hl hv
  obtain ⟨hy, hv⟩ := List.forall_mem_cons.mp hv
  obtain ⟨hx0, hv⟩ := List.forall_mem_cons.mp hv
  have hx1 : inI x := hx0
  have hy1 : inI y := hy
  have h3 := h H locs lsm hP hR hO hS hl (List.forall_mem_cons.mpr ⟨show inI (sl_ x y) from toInt_in _, hv⟩)
  refine lv_ishl (x := Int32.ofInt x) (y := Int32.ofInt y) hx hb hdg ?_
  rw [sl_of]
  exact h3
theorem sx_ishr (hx : p.tables.exec = Jvm.exec) (hb : c.code = cc) {x y : Int} (hdg : decode cc pc = .ok (.ishr, 1)) (h : Wm_ p l e R s m args below meth c cells slots Q D cA ad ov A L xs nL (pc + 1) ls (.inl (sr_ x y) :: st) M) : Wm_ p l e R s m args below meth c cells slots Q D cA ad ov A L xs nL pc ls (.inl y :: .inl x :: st) M := by
  intro H locs lsm hP hR hO hS hl hv
  obtain ⟨hy, hv⟩ := List.forall_mem_cons.mp hv
  obtain ⟨hx0, hv⟩ := List.forall_mem_cons.mp hv
  have hx1 : inI x := hx0
  have hy1 : inI y := hy
  have h3 := h H locs lsm hP hR hO hS hl (List.forall_mem_cons.mpr ⟨show inI (sr_ x y) from toInt_in _, hv⟩)
  refine lv_ishr (x := Int32.ofInt x) (y := Int32.ofInt y) hx hb hdg ?_
  rw [sr_of]
  exact h3
theorem sx_iushr (hx : p.tables.exec = Jvm.exec) (hb : c.code = cc) {x y : Int} (hdg : decode cc pc = .ok (.iushr, 1)) (h : Wm_ p l e R s m args below meth c cells slots Q D cA ad ov A L xs nL (pc + 1) ls (.inl (us_ x y) :: st) M) : Wm_ p l e R s m args below meth c cells slots Q D cA ad ov A L xs nL pc ls (.inl y :: .inl x :: st) M := by
  intro H locs lsm hP hR hO hS hl hv
  obtain ⟨hy, hv⟩ := List.forall_mem_cons.mp hv
  obtain ⟨hx0, hv⟩ := List.forall_mem_cons.mp hv
  exact lv_iushr (x := Int32.ofInt x) (y := Int32.ofInt y) hx hb hdg us_of (h H locs lsm hP hR hO hS hl (List.forall_mem_cons.mpr ⟨show inI (us_ x y) from toInt_in _, hv⟩))
theorem sx_ineg (hx : p.tables.exec = Jvm.exec) (hb : c.code = cc) {x : Int} (hdg : decode cc pc = .ok (.ineg, 1)) (h : Wm_ p l e R s m args below meth c cells slots Q D cA ad ov A L xs nL (pc + 1) ls (.inl (w32 (-x)) :: st) M) : Wm_ p l e R s m args below meth c cells slots Q D cA ad ov A L xs nL pc ls (.inl (x) :: st) M := by
  intro H locs lsm hP hR hO hS hl hv
  obtain ⟨hx0, hv⟩ := List.forall_mem_cons.mp hv
  have hx1 : inI x := hx0
  have h3 := h H locs lsm hP hR hO hS hl (List.forall_mem_cons.mpr ⟨show inI (w32 (-x)) from w32_in _, hv⟩)
  refine lv_ineg (x := Int32.ofInt x) hx hb hdg ?_
  rw [oI_neg hx1]
  exact h3
theorem sx_i2b (hx : p.tables.exec = Jvm.exec) (hb : c.code = cc) {x : Int} (hdg : decode cc pc = .ok (.i2b, 1)) (h : Wm_ p l e R s m args below meth c cells slots Q D cA ad ov A L xs nL (pc + 1) ls (.inl (ib_ x) :: st) M) : Wm_ p l e R s m args below meth c cells slots Q D cA ad ov A L xs nL pc ls (.inl (x) :: st) M := by
  intro H locs lsm hP hR hO hS hl hv
  obtain ⟨hx0, hv⟩ := List.forall_mem_cons.mp hv
  have hx1 : inI x := hx0
  have h3 := h H locs lsm hP hR hO hS hl (List.forall_mem_cons.mpr ⟨show inI (ib_ x) from ib_in, hv⟩)
  exact lv_i2b (x := Int32.ofInt x) hx hb hdg (i2b_ hx1) h3
theorem sx_i2c (hx : p.tables.exec = Jvm.exec) (hb : c.code = cc) {x : Int} (hdg : decode cc pc = .ok (.i2c, 1)) (h : Wm_ p l e R s m args below meth c cells slots Q D cA ad ov A L xs nL (pc + 1) ls (.inl (ic_ x) :: st) M) : Wm_ p l e R s m args below meth c cells slots Q D cA ad ov A L xs nL pc ls (.inl (x) :: st) M := by
  intro H locs lsm hP hR hO hS hl hv
  obtain ⟨hx0, hv⟩ := List.forall_mem_cons.mp hv
  have hx1 : inI x := hx0
  have h3 := h H locs lsm hP hR hO hS hl (List.forall_mem_cons.mpr ⟨show inI (ic_ x) from ic_in, hv⟩)
  exact lv_i2c (x := Int32.ofInt x) hx hb hdg (i2c_ hx1) h3
theorem sx_i2l (hx : p.tables.exec = Jvm.exec) (hb : c.code = cc) {x : Int} (hdg : decode cc pc = .ok (.i2l, 1)) (h : Wm_ p l e R s m args below meth c cells slots Q D cA ad ov A L xs nL (pc + 1) ls (.inr (.inl (x)) :: st) M) : Wm_ p l e R s m args below meth c cells slots Q D cA ad ov A L xs nL pc ls (.inl (x) :: st) M := by
  intro H locs lsm hP hR hO hS hl hv
  obtain ⟨hx0, hv⟩ := List.forall_mem_cons.mp hv
  have hx1 : inI x := hx0
  have h3 := h H locs lsm hP hR hO hS hl (List.forall_mem_cons.mpr ⟨show inL (x) from by unfold inL; unfold inI at hx1; omega, hv⟩)
  exact lv_i2l (x := Int32.ofInt x) hx hb hdg (i2l_ hx1) h3
theorem sx_l2i (hx : p.tables.exec = Jvm.exec) (hb : c.code = cc) {x : Int} (hdg : decode cc pc = .ok (.l2i, 1)) (h : Wm_ p l e R s m args below meth c cells slots Q D cA ad ov A L xs nL (pc + 1) ls (.inl (w32 x) :: st) M) : Wm_ p l e R s m args below meth c cells slots Q D cA ad ov A L xs nL pc ls (.inr (.inl (x)) :: st) M := by
  intro H locs lsm hP hR hO hS hl hv
  obtain ⟨hx0, hv⟩ := List.forall_mem_cons.mp hv
  have hx1 : inL x := hx0
  have h3 := h H locs lsm hP hR hO hS hl (List.forall_mem_cons.mpr ⟨show inI (w32 x) from w32_in _, hv⟩)
  exact lv_l2i (x := Int64.ofInt x) hx hb hdg (l2i_ hx1) h3
theorem sx_ladd (hx : p.tables.exec = Jvm.exec) (hb : c.code = cc) {x y : Int} (hdg : decode cc pc = .ok (.ladd, 1)) (h : Wm_ p l e R s m args below meth c cells slots Q D cA ad ov A L xs nL (pc + 1) ls (.inr (.inl (w64 (x + y))) :: st) M) : Wm_ p l e R s m args below meth c cells slots Q D cA ad ov A L xs nL pc ls (.inr (.inl y) :: .inr (.inl x) :: st) M := by
  intro H locs lsm hP hR hO hS hl hv
  obtain ⟨hy, hv⟩ := List.forall_mem_cons.mp hv
  obtain ⟨hx0, hv⟩ := List.forall_mem_cons.mp hv
  have hx1 : inL x := hx0
  have hy1 : inL y := hy
  have h3 := h H locs lsm hP hR hO hS hl (List.forall_mem_cons.mpr ⟨show inL (w64 (x + y)) from w64_in _, hv⟩)
  refine lv_ladd (x := Int64.ofInt x) (y := Int64.ofInt y) hx hb hdg ?_
  rw [oL_add hx1 hy1]
  exact h3
theorem sx_lsub (hx : p.tables.exec = Jvm.exec) (hb : c.code = cc) {x y : Int} (hdg : decode cc pc = .ok (.lsub, 1)) (h : Wm_ p l e R s m args below meth c cells slots Q D cA ad ov A L xs nL (pc + 1) ls (.inr (.inl (w64 (x - y))) :: st) M) : Wm_ p l e R s m args below meth c cells slots Q D cA ad ov A L xs nL pc ls (.inr (.inl y) :: .inr (.inl x) :: st) M := by
  intro H locs lsm hP hR hO hS hl hv
  obtain ⟨hy, hv⟩ := List.forall_mem_cons.mp hv
  obtain ⟨hx0, hv⟩ := List.forall_mem_cons.mp hv
  have hx1 : inL x := hx0
  have hy1 : inL y := hy
  have h3 := h H locs lsm hP hR hO hS hl (List.forall_mem_cons.mpr ⟨show inL (w64 (x - y)) from w64_in _, hv⟩)
  refine lv_lsub (x := Int64.ofInt x) (y := Int64.ofInt y) hx hb hdg ?_
  rw [oL_sub hx1 hy1]
  exact h3
theorem sx_lmul (hx : p.tables.exec = Jvm.exec) (hb : c.code = cc) {x y : Int} (hdg : decode cc pc = .ok (.lmul, 1)) (h : Wm_ p l e R s m args below meth c cells slots Q D cA ad ov A L xs nL (pc + 1) ls (.inr (.inl (w64 (x * y))) :: st) M) : Wm_ p l e R s m args below meth c cells slots Q D cA ad ov A L xs nL pc ls (.inr (.inl y) :: .inr (.inl x) :: st) M := by
  intro H locs lsm hP hR hO hS hl hv
  obtain ⟨hy, hv⟩ := List.forall_mem_cons.mp hv
  obtain ⟨hx0, hv⟩ := List.forall_mem_cons.mp hv
  have hx1 : inL x := hx0
  have hy1 : inL y := hy
  have h3 := h H locs lsm hP hR hO hS hl (List.forall_mem_cons.mpr ⟨show inL (w64 (x * y)) from w64_in _, hv⟩)
  refine lv_lmul (x := Int64.ofInt x) (y := Int64.ofInt y) hx hb hdg ?_
  rw [oL_mul hx1 hy1]
  exact h3
theorem lcmp_in (x y : Int) : inI (if x < y then -1 else if x = y then 0 else 1) := by
  unfold inI
  split
  · omega
  · split <;> omega
theorem sx_lcmp (hx : p.tables.exec = Jvm.exec) (hb : c.code = cc) {x y : Int} (hdg : decode cc pc = .ok (.lcmp, 1)) (h : Wm_ p l e R s m args below meth c cells slots Q D cA ad ov A L xs nL (pc + 1) ls (.inl (if x < y then -1 else if x = y then 0 else 1) :: st) M) : Wm_ p l e R s m args below meth c cells slots Q D cA ad ov A L xs nL pc ls (.inr (.inl y) :: .inr (.inl x) :: st) M := by
  intro H locs lsm hP hR hO hS hl hv
  obtain ⟨hy, hv⟩ := List.forall_mem_cons.mp hv
  obtain ⟨hx0, hv⟩ := List.forall_mem_cons.mp hv
  have hx1 : inL x := hx0
  have hy1 : inL y := hy
  have h3 := h H locs lsm hP hR hO hS hl (List.forall_mem_cons.mpr ⟨show inI (if x < y then -1 else if x = y then 0 else 1) from lcmp_in x y, hv⟩)
  refine W.lcmp (x := Int64.ofInt x) (y := Int64.ofInt y) hx hb hdg ?_
  have e9 : lg_cmp (Int64.ofInt x) (Int64.ofInt y) = Int32.ofInt (if x < y then -1 else if x = y then 0 else 1) := by
    have q1 := oL_lt hx1 hy1
    have q2 := oL_lt hy1 hx1
    have q3 := oL_eq hx1 hy1
    unfold lg_cmp
    rcases Int.lt_trichotomy x y with h9 | h9 | h9
    · rw [if_neg (fun q => by have := q2.mp q; omega), if_neg (fun q => by have := q3.mp q; omega), if_pos h9]
      rfl
    · rw [if_neg (fun q => by have := q2.mp q; omega), if_pos (q3.mpr h9), if_neg (by omega), if_pos h9]
      rfl
    · rw [if_pos (q2.mpr h9), if_neg (by omega), if_neg (by omega)]
      rfl
  rw [e9]
  exact h3
theorem sx_dupI (hx : p.tables.exec = Jvm.exec) (hb : c.code = cc) {x : Int} (hdg : decode cc pc = .ok (.dup, 1)) (h : Wm_ p l e R s m args below meth c cells slots Q D cA ad ov A L xs nL (pc + 1) ls (.inl x :: .inl x :: st) M) : Wm_ p l e R s m args below meth c cells slots Q D cA ad ov A L xs nL pc ls (.inl x :: st) M := by
  intro H locs lsm hP hR hO hS hl hv
  obtain ⟨hx0, hv⟩ := List.forall_mem_cons.mp hv
  exact lv_dup hx hb hdg rfl (h H locs lsm hP hR hO hS hl (List.forall_mem_cons.mpr ⟨hx0, List.forall_mem_cons.mpr ⟨hx0, hv⟩⟩))
theorem cv_cat1 (hov : ov.category = 1) {r : Nat} : (cv_ ad ov (.inr (.inr r))).category = 1 := by
  show (if r = 1999 then ov else Value.ref (ad r)).category = 1
  split
  · exact hov
  · rfl
theorem sx_dupR (hx : p.tables.exec = Jvm.exec) (hb : c.code = cc) (hov : ov.category = 1) {r : Nat} (hdg : decode cc pc = .ok (.dup, 1)) (h : Wm_ p l e R s m args below meth c cells slots Q D cA ad ov A L xs nL (pc + 1) ls (.inr (.inr r) :: .inr (.inr r) :: st) M) : Wm_ p l e R s m args below meth c cells slots Q D cA ad ov A L xs nL pc ls (.inr (.inr r) :: st) M := by
  intro H locs lsm hP hR hO hS hl hv
  obtain ⟨hx0, hv⟩ := List.forall_mem_cons.mp hv
  exact lv_dup hx hb hdg (cv_cat1 hov) (h H locs lsm hP hR hO hS hl (List.forall_mem_cons.mpr ⟨hx0, List.forall_mem_cons.mpr ⟨hx0, hv⟩⟩))
theorem sx_dup2 (hx : p.tables.exec = Jvm.exec) (hb : c.code = cc) (hov : ov.category = 1) {y : Int} {r : Nat} (hdg : decode cc pc = .ok (.dup2, 1)) (h : Wm_ p l e R s m args below meth c cells slots Q D cA ad ov A L xs nL (pc + 1) ls (.inl y :: .inr (.inr r) :: .inl y :: .inr (.inr r) :: st) M) : Wm_ p l e R s m args below meth c cells slots Q D cA ad ov A L xs nL pc ls (.inl y :: .inr (.inr r) :: st) M := by
  intro H locs lsm hP hR hO hS hl hv
  obtain ⟨hy, hv⟩ := List.forall_mem_cons.mp hv
  obtain ⟨hx0, hv⟩ := List.forall_mem_cons.mp hv
  exact lv_dup2_11 hx hb hdg rfl (cv_cat1 hov) (h H locs lsm hP hR hO hS hl (List.forall_mem_cons.mpr ⟨hy, List.forall_mem_cons.mpr ⟨hx0, List.forall_mem_cons.mpr ⟨hy, List.forall_mem_cons.mpr ⟨hx0, hv⟩⟩⟩⟩))
theorem sx_pop (hx : p.tables.exec = Jvm.exec) (hb : c.code = cc) (hov : ov.category = 1) {v : pv_} (hv2 : ∀ x, v ≠ .inr (.inl x)) (hdg : decode cc pc = .ok (.pop, 1)) (h : Wm_ p l e R s m args below meth c cells slots Q D cA ad ov A L xs nL (pc + 1) ls st M) : Wm_ p l e R s m args below meth c cells slots Q D cA ad ov A L xs nL pc ls (v :: st) M := by
  intro H locs lsm hP hR hO hS hl hv
  obtain ⟨hx0, hv⟩ := List.forall_mem_cons.mp hv
  refine lv_pop hx hb hdg ?_ (h H locs lsm hP hR hO hS hl hv)
  rcases lv_cat (cv_ ad ov v) with h1 | h1
  · exact h1
  · obtain ⟨x, hx⟩ := cv_cat hov h1
    exact absurd hx (hv2 x)
theorem sx_goto (hx : p.tables.exec = Jvm.exec) (hb : c.code = cc) {off : Int} {a : Nat} (ht : (pc : Int) + off = (a : Int)) (hdg : decode cc pc = .ok (.goto off, 3)) (h : Wm_ p l e R s m args below meth c cells slots Q D cA ad ov A L xs nL a ls st M) : Wm_ p l e R s m args below meth c cells slots Q D cA ad ov A L xs nL pc ls st M := by
  intro H locs lsm hP hR hO hS hl hv
  exact lv_goto hx hb hdg ht (h H locs lsm hP hR hO hS hl hv)
theorem sx_icmp_eq (hx : p.tables.exec = Jvm.exec) (hb : c.code = cc) {x y off : Int} {a : Nat} (ht : (pc : Int) + off = (a : Int)) (hdg : decode cc pc = .ok (.if_icmp .eq off, 3)) (h : if x = y then Wm_ p l e R s m args below meth c cells slots Q D cA ad ov A L xs nL a ls st M else Wm_ p l e R s m args below meth c cells slots Q D cA ad ov A L xs nL (pc + 3) ls st M) : Wm_ p l e R s m args below meth c cells slots Q D cA ad ov A L xs nL pc ls (.inl y :: .inl x :: st) M := by
  intro H locs lsm hP hR hO hS hl hv
  obtain ⟨hy, hv⟩ := List.forall_mem_cons.mp hv
  obtain ⟨hx0, hv⟩ := List.forall_mem_cons.mp hv
  have hx1 : inI x := hx0
  have hy1 : inI y := hy
  have e1 := oI_eq hx1 hy1
  have e2 := oI_lt hx1 hy1
  have e3 := oI_le hx1 hy1
  have e4 := oI_lt hy1 hx1
  have e5 := oI_le hy1 hx1
  refine lv_icmp_eq (x := Int32.ofInt x) (y := Int32.ofInt y) hx hb hdg ht (fun hc => ?_) (fun hc => ?_)
  · rw [if_pos (e1.mp hc)] at h
    exact h H locs lsm hP hR hO hS hl hv
  · rw [if_neg (fun q => hc (e1.mpr q))] at h
    exact h H locs lsm hP hR hO hS hl hv
theorem sx_icmp_ne (hx : p.tables.exec = Jvm.exec) (hb : c.code = cc) {x y off : Int} {a : Nat} (ht : (pc : Int) + off = (a : Int)) (hdg : decode cc pc = .ok (.if_icmp .ne off, 3)) (h : if x = y then Wm_ p l e R s m args below meth c cells slots Q D cA ad ov A L xs nL (pc + 3) ls st M else Wm_ p l e R s m args below meth c cells slots Q D cA ad ov A L xs nL a ls st M) : Wm_ p l e R s m args below meth c cells slots Q D cA ad ov A L xs nL pc ls (.inl y :: .inl x :: st) M := by
  intro H locs lsm hP hR hO hS hl hv
  obtain ⟨hy, hv⟩ := List.forall_mem_cons.mp hv
  obtain ⟨hx0, hv⟩ := List.forall_mem_cons.mp hv
  have hx1 : inI x := hx0
  have hy1 : inI y := hy
  have e1 := oI_eq hx1 hy1
  have e2 := oI_lt hx1 hy1
  have e3 := oI_le hx1 hy1
  have e4 := oI_lt hy1 hx1
  have e5 := oI_le hy1 hx1
  refine lv_icmp_ne (x := Int32.ofInt x) (y := Int32.ofInt y) hx hb hdg ht (fun hc => ?_) (fun hc => ?_)
  · rw [if_neg (fun q => hc (e1.mpr q))] at h
    exact h H locs lsm hP hR hO hS hl hv
  · rw [if_pos (e1.mp hc)] at h
    exact h H locs lsm hP hR hO hS hl hv
theorem sx_icmp_lt (hx : p.tables.exec = Jvm.exec) (hb : c.code = cc) {x y off : Int} {a : Nat} (ht : (pc : Int) + off = (a : Int)) (hdg : decode cc pc = .ok (.if_icmp .lt off, 3)) (h : if x < y then Wm_ p l e R s m args below meth c cells slots Q D cA ad ov A L xs nL a ls st M else Wm_ p l e R s m args below meth c cells slots Q D cA ad ov A L xs nL (pc + 3) ls st M) : Wm_ p l e R s m args below meth c cells slots Q D cA ad ov A L xs nL pc ls (.inl y :: .inl x :: st) M := by
  intro H locs lsm hP hR hO hS hl hv
  obtain ⟨hy, hv⟩ := List.forall_mem_cons.mp hv
  obtain ⟨hx0, hv⟩ := List.forall_mem_cons.mp hv
  have hx1 : inI x := hx0
  have hy1 : inI y := hy
  have e1 := oI_eq hx1 hy1
  have e2 := oI_lt hx1 hy1
  have e3 := oI_le hx1 hy1
  have e4 := oI_lt hy1 hx1
  have e5 := oI_le hy1 hx1
  refine lv_icmp_lt (x := Int32.ofInt x) (y := Int32.ofInt y) hx hb hdg ht (fun hc => ?_) (fun hc => ?_)
  · rw [if_pos (e2.mp hc)] at h
    exact h H locs lsm hP hR hO hS hl hv
  · rw [if_neg (fun q => hc (e2.mpr q))] at h
    exact h H locs lsm hP hR hO hS hl hv
theorem sx_icmp_ge (hx : p.tables.exec = Jvm.exec) (hb : c.code = cc) {x y off : Int} {a : Nat} (ht : (pc : Int) + off = (a : Int)) (hdg : decode cc pc = .ok (.if_icmp .ge off, 3)) (h : if x < y then Wm_ p l e R s m args below meth c cells slots Q D cA ad ov A L xs nL (pc + 3) ls st M else Wm_ p l e R s m args below meth c cells slots Q D cA ad ov A L xs nL a ls st M) : Wm_ p l e R s m args below meth c cells slots Q D cA ad ov A L xs nL pc ls (.inl y :: .inl x :: st) M := by
  intro H locs lsm hP hR hO hS hl hv
  obtain ⟨hy, hv⟩ := List.forall_mem_cons.mp hv
  obtain ⟨hx0, hv⟩ := List.forall_mem_cons.mp hv
  have hx1 : inI x := hx0
  have hy1 : inI y := hy
  have e1 := oI_eq hx1 hy1
  have e2 := oI_lt hx1 hy1
  have e3 := oI_le hx1 hy1
  have e4 := oI_lt hy1 hx1
  have e5 := oI_le hy1 hx1
  refine lv_icmp_ge (x := Int32.ofInt x) (y := Int32.ofInt y) hx hb hdg ht (fun hc => ?_) (fun hc => ?_)
  · rw [if_neg (by have := e5.mp hc; omega)] at h
    exact h H locs lsm hP hR hO hS hl hv
  · rw [if_pos (Int.not_le.mp (fun q => hc (e5.mpr q)))] at h
    exact h H locs lsm hP hR hO hS hl hv
theorem sx_icmp_gt (hx : p.tables.exec = Jvm.exec) (hb : c.code = cc) {x y off : Int} {a : Nat} (ht : (pc : Int) + off = (a : Int)) (hdg : decode cc pc = .ok (.if_icmp .gt off, 3)) (h : if x ≤ y then Wm_ p l e R s m args below meth c cells slots Q D cA ad ov A L xs nL (pc + 3) ls st M else Wm_ p l e R s m args below meth c cells slots Q D cA ad ov A L xs nL a ls st M) : Wm_ p l e R s m args below meth c cells slots Q D cA ad ov A L xs nL pc ls (.inl y :: .inl x :: st) M := by
  intro H locs lsm hP hR hO hS hl hv
  obtain ⟨hy, hv⟩ := List.forall_mem_cons.mp hv
  obtain ⟨hx0, hv⟩ := List.forall_mem_cons.mp hv
  have hx1 : inI x := hx0
  have hy1 : inI y := hy
  have e1 := oI_eq hx1 hy1
  have e2 := oI_lt hx1 hy1
  have e3 := oI_le hx1 hy1
  have e4 := oI_lt hy1 hx1
  have e5 := oI_le hy1 hx1
  refine lv_icmp_gt (x := Int32.ofInt x) (y := Int32.ofInt y) hx hb hdg ht (fun hc => ?_) (fun hc => ?_)
  · rw [if_neg (by have := e4.mp hc; omega)] at h
    exact h H locs lsm hP hR hO hS hl hv
  · rw [if_pos (Int.not_lt.mp (fun q => hc (e4.mpr q)))] at h
    exact h H locs lsm hP hR hO hS hl hv
theorem sx_icmp_le (hx : p.tables.exec = Jvm.exec) (hb : c.code = cc) {x y off : Int} {a : Nat} (ht : (pc : Int) + off = (a : Int)) (hdg : decode cc pc = .ok (.if_icmp .le off, 3)) (h : if x ≤ y then Wm_ p l e R s m args below meth c cells slots Q D cA ad ov A L xs nL a ls st M else Wm_ p l e R s m args below meth c cells slots Q D cA ad ov A L xs nL (pc + 3) ls st M) : Wm_ p l e R s m args below meth c cells slots Q D cA ad ov A L xs nL pc ls (.inl y :: .inl x :: st) M := by
  intro H locs lsm hP hR hO hS hl hv
  obtain ⟨hy, hv⟩ := List.forall_mem_cons.mp hv
  obtain ⟨hx0, hv⟩ := List.forall_mem_cons.mp hv
  have hx1 : inI x := hx0
  have hy1 : inI y := hy
  have e1 := oI_eq hx1 hy1
  have e2 := oI_lt hx1 hy1
  have e3 := oI_le hx1 hy1
  have e4 := oI_lt hy1 hx1
  have e5 := oI_le hy1 hx1
  refine lv_icmp_le (x := Int32.ofInt x) (y := Int32.ofInt y) hx hb hdg ht (fun hc => ?_) (fun hc => ?_)
  · rw [if_pos (e3.mp hc)] at h
    exact h H locs lsm hP hR hO hS hl hv
  · rw [if_neg (fun q => hc (e3.mpr q))] at h
    exact h H locs lsm hP hR hO hS hl hv
theorem sx_if_eq (hx : p.tables.exec = Jvm.exec) (hb : c.code = cc) {x off : Int} {a : Nat} (ht : (pc : Int) + off = (a : Int)) (hdg : decode cc pc = .ok (.ifCond .eq off, 3)) (h : if x = 0 then Wm_ p l e R s m args below meth c cells slots Q D cA ad ov A L xs nL a ls st M else Wm_ p l e R s m args below meth c cells slots Q D cA ad ov A L xs nL (pc + 3) ls st M) : Wm_ p l e R s m args below meth c cells slots Q D cA ad ov A L xs nL pc ls (.inl x :: st) M := by
  intro H locs lsm hP hR hO hS hl hv
  obtain ⟨hx0, hv⟩ := List.forall_mem_cons.mp hv
  have hx1 : inI x := hx0
  have e1 := oI_eq hx1 inI_0
  have e2 := oI_lt hx1 inI_0
  have e3 := oI_le hx1 inI_0
  have e4 := oI_lt inI_0 hx1
  have e5 := oI_le inI_0 hx1
  refine lv_if_eq (x := Int32.ofInt x) hx hb hdg ht (fun hc => ?_) (fun hc => ?_)
  · rw [if_pos (e1.mp hc)] at h
    exact h H locs lsm hP hR hO hS hl hv
  · rw [if_neg (fun q => hc (e1.mpr q))] at h
    exact h H locs lsm hP hR hO hS hl hv
theorem sx_if_ne (hx : p.tables.exec = Jvm.exec) (hb : c.code = cc) {x off : Int} {a : Nat} (ht : (pc : Int) + off = (a : Int)) (hdg : decode cc pc = .ok (.ifCond .ne off, 3)) (h : if x = 0 then Wm_ p l e R s m args below meth c cells slots Q D cA ad ov A L xs nL (pc + 3) ls st M else Wm_ p l e R s m args below meth c cells slots Q D cA ad ov A L xs nL a ls st M) : Wm_ p l e R s m args below meth c cells slots Q D cA ad ov A L xs nL pc ls (.inl x :: st) M := by
  intro H locs lsm hP hR hO hS hl hv
  obtain ⟨hx0, hv⟩ := List.forall_mem_cons.mp hv
  have hx1 : inI x := hx0
  have e1 := oI_eq hx1 inI_0
  have e2 := oI_lt hx1 inI_0
  have e3 := oI_le hx1 inI_0
  have e4 := oI_lt inI_0 hx1
  have e5 := oI_le inI_0 hx1
  refine lv_if_ne (x := Int32.ofInt x) hx hb hdg ht (fun hc => ?_) (fun hc => ?_)
  · rw [if_neg (fun q => hc (e1.mpr q))] at h
    exact h H locs lsm hP hR hO hS hl hv
  · rw [if_pos (e1.mp hc)] at h
    exact h H locs lsm hP hR hO hS hl hv
theorem sx_if_lt (hx : p.tables.exec = Jvm.exec) (hb : c.code = cc) {x off : Int} {a : Nat} (ht : (pc : Int) + off = (a : Int)) (hdg : decode cc pc = .ok (.ifCond .lt off, 3)) (h : if x < 0 then Wm_ p l e R s m args below meth c cells slots Q D cA ad ov A L xs nL a ls st M else Wm_ p l e R s m args below meth c cells slots Q D cA ad ov A L xs nL (pc + 3) ls st M) : Wm_ p l e R s m args below meth c cells slots Q D cA ad ov A L xs nL pc ls (.inl x :: st) M := by
  intro H locs lsm hP hR hO hS hl hv
  obtain ⟨hx0, hv⟩ := List.forall_mem_cons.mp hv
  have hx1 : inI x := hx0
  have e1 := oI_eq hx1 inI_0
  have e2 := oI_lt hx1 inI_0
  have e3 := oI_le hx1 inI_0
  have e4 := oI_lt inI_0 hx1
  have e5 := oI_le inI_0 hx1
  refine lv_if_lt (x := Int32.ofInt x) hx hb hdg ht (fun hc => ?_) (fun hc => ?_)
  · rw [if_pos (e2.mp hc)] at h
    exact h H locs lsm hP hR hO hS hl hv
  · rw [if_neg (fun q => hc (e2.mpr q))] at h
    exact h H locs lsm hP hR hO hS hl hv
theorem sx_if_ge (hx : p.tables.exec = Jvm.exec) (hb : c.code = cc) {x off : Int} {a : Nat} (ht : (pc : Int) + off = (a : Int)) (hdg : decode cc pc = .ok (.ifCond .ge off, 3)) (h : if x < 0 then Wm_ p l e R s m args below meth c cells slots Q D cA ad ov A L xs nL (pc + 3) ls st M else Wm_ p l e R s m args below meth c cells slots Q D cA ad ov A L xs nL a ls st M) : Wm_ p l e R s m args below meth c cells slots Q D cA ad ov A L xs nL pc ls (.inl x :: st) M := by
  intro H locs lsm hP hR hO hS hl hv
  obtain ⟨hx0, hv⟩ := List.forall_mem_cons.mp hv
  have hx1 : inI x := hx0
  have e1 := oI_eq hx1 inI_0
  have e2 := oI_lt hx1 inI_0
  have e3 := oI_le hx1 inI_0
  have e4 := oI_lt inI_0 hx1
  have e5 := oI_le inI_0 hx1
  refine lv_if_ge (x := Int32.ofInt x) hx hb hdg ht (fun hc => ?_) (fun hc => ?_)
  · rw [if_neg (by have := e5.mp hc; omega)] at h
    exact h H locs lsm hP hR hO hS hl hv
  · rw [if_pos (Int.not_le.mp (fun q => hc (e5.mpr q)))] at h
    exact h H locs lsm hP hR hO hS hl hv
theorem sx_if_gt (hx : p.tables.exec = Jvm.exec) (hb : c.code = cc) {x off : Int} {a : Nat} (ht : (pc : Int) + off = (a : Int)) (hdg : decode cc pc = .ok (.ifCond .gt off, 3)) (h : if x ≤ 0 then Wm_ p l e R s m args below meth c cells slots Q D cA ad ov A L xs nL (pc + 3) ls st M else Wm_ p l e R s m args below meth c cells slots Q D cA ad ov A L xs nL a ls st M) : Wm_ p l e R s m args below meth c cells slots Q D cA ad ov A L xs nL pc ls (.inl x :: st) M := by
  intro H locs lsm hP hR hO hS hl hv
  obtain ⟨hx0, hv⟩ := List.forall_mem_cons.mp hv
  have hx1 : inI x := hx0
  have e1 := oI_eq hx1 inI_0
  have e2 := oI_lt hx1 inI_0
  have e3 := oI_le hx1 inI_0
  have e4 := oI_lt inI_0 hx1
  have e5 := oI_le inI_0 hx1
  refine lv_if_gt (x := Int32.ofInt x) hx hb hdg ht (fun hc => ?_) (fun hc => ?_)
  · rw [if_neg (by have := e4.mp hc; omega)] at h
    exact h H locs lsm hP hR hO hS hl hv
  · rw [if_pos (Int.not_lt.mp (fun q => hc (e4.mpr q)))] at h
    exact h H locs lsm hP hR hO hS hl hv
theorem sx_if_le (hx : p.tables.exec = Jvm.exec) (hb : c.code = cc) {x off : Int} {a : Nat} (ht : (pc : Int) + off = (a : Int)) (hdg : decode cc pc = .ok (.ifCond .le off, 3)) (h : if x ≤ 0 then Wm_ p l e R s m args below meth c cells slots Q D cA ad ov A L xs nL a ls st M else Wm_ p l e R s m args below meth c cells slots Q D cA ad ov A L xs nL (pc + 3) ls st M) : Wm_ p l e R s m args below meth c cells slots Q D cA ad ov A L xs nL pc ls (.inl x :: st) M := by
  intro H locs lsm hP hR hO hS hl hv
  obtain ⟨hx0, hv⟩ := List.forall_mem_cons.mp hv
  have hx1 : inI x := hx0
  have e1 := oI_eq hx1 inI_0
  have e2 := oI_lt hx1 inI_0
  have e3 := oI_le hx1 inI_0
  have e4 := oI_lt inI_0 hx1
  have e5 := oI_le inI_0 hx1
  refine lv_if_le (x := Int32.ofInt x) hx hb hdg ht (fun hc => ?_) (fun hc => ?_)
  · rw [if_pos (e3.mp hc)] at h
    exact h H locs lsm hP hR hO hS hl hv
  · rw [if_neg (fun q => hc (e3.mpr q))] at h
    exact h H locs lsm hP hR hO hS hl hv
end SX
