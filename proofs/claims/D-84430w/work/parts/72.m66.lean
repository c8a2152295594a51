section M66_lw
/-! THE CLAIM OUT OF ONE WALK OF THE LAW'S BODY. Your part is whole_start (and what it stands on); all else here is the same for every law, but numbers. -/
def R_law : String := "ExchangeHouseLaw"
def lw_P (b : Addr) (xs : List Int32) (args : Array Value) (s : State) : Prop := args = #[.ref b] ∧ s.IntsAt b xs ∧ xs.length ≤ 384 ∧ (Jvm.Cond.and given_1 narrow_1).before args s = true
def lw_Q (_ : Array Value) (s : State) (o : Outcome) (t : State) : Prop := o = .returned (some (.int 1)) ∧ Framed s o t [] 600128 7301098
def lw_Z (below : List Frame) (a : Array Value) (s : State) : State → Prop := fun t => ∃ o, t.status = .running ∧ Ended t below o ∧ lw_Q a s o t
/-- the law's own end, with 1 on the stack, nothing written that was there before, its room as the claim has it -/
theorem lw_ret {p : Program} {l : Launch} {e : Env} {s : State} {m : MethodId} {below : List Frame} {meth : Method} {c : Code} {b : Nat} (hx : p.tables.exec = Jvm.exec) (hb : c.code = code) (hr : meth.sig.returnType = ret) (hlocks : meth.locks = false) {pc : Nat} {H : Heap} {ls : Array Slot} (hdg : decode code pc = .ok (.ireturn, 1)) : W p l e room_1 s m #[Value.ref b] below meth c H [] 600128 7301098 (lw_Z below #[Value.ref b] s) (F0 m pc ls [.int 1]) := by
  intro T hT X
  obtain ⟨fs, hret, hrun, hended, hW, hframe⟩ := X.leave (v := some (.int 1)) (hlocks := hlocks) (fun h => by rw [hr] at h; cases h)
  have hmeth' : T.vm.method? m = some meth := X.method'
  refine ⟨T.setFrames fs, ?_, .returned (some (.int 1)), hrun, hended, rfl, ⟨_, rfl⟩, hW, hframe⟩
  jvm_step X.here [X.here.top, hx, hb, hdg, hmeth', hr, ret, narrow_b1]
  (try refine ⟨rfl, ?_⟩); (try refine ⟨rfl, ?_⟩)
  first | (intro acts; rw [hret _ acts rfl rfl rfl]) | rw [hret _ _ rfl rfl rfl]
  exact Steps.refl _
/-- what holds at the law's entry: the machine, the code, the tables' words (any of lw_tbl by 'hts w (by decide +kernel)'), the script of L ints xs at the cell b, what the Statement gives of the start (any of its parts by flat_of_before) -/
def lw_At (p : Program) (s : State) (m : MethodId) (meth : Method) (c : Code) (b L : Nat) (xs : Nat → Int32) : Prop :=
  p.tables.exec = Jvm.exec ∧ c.code = code ∧ meth.sig.returnType = ret ∧ c.maxLocals = 4 ∧ s.vm.findClass R_law = some m.cls ∧ (∀ w ∈ lw_tbl, w.before #[Value.ref b] s = true) ∧ va_X b L xs s s.heap ∧ b < s.heap.size ∧ meth.locks = false ∧ (Jvm.Cond.and given_1 narrow_1).before #[Value.ref b] s = true
end M66_lw
section M466_c54
/-! the call of load in the law's frame -/
section C54
variable {p : Program} {l : Launch} {e : Env} {R : Room} {s : State} {m : MethodId} {args : Array Value} {below : List Frame} {meth : Method} {c : Code} {D : va_G} {cA : Nat → ClassId} {ad : Nat → Nat} {ov : Value} {A : Nat → Prop} {L : Nat} {xs : Nat → Int32}
variable {cc : ByteArray} {nL o : Nat} {rt : Option FieldType} {cells slots : Nat} {Q : State → Prop}
theorem cv_sw {v : pv_} (h : okr_s v) : cv_ (fun x => ad (sg_ x)) ov v = cv_ ad ov v := by
  match v, h with
  | .inl _, _ => rfl
  | .inr (.inl _), _ => rfl
  | .inr (.inr r), h =>
    have h : sg_ r = r := h
    show (if r = 1999 then ov else .ref (ad (sg_ r))) = if r = 1999 then ov else .ref (ad r)
    rw [h]
theorem lh_sw {ls : lo_} {lsm : Array Slot} (hls : ∀ (k : Nat) (v : pv_), ls[k]? = some (some v) → okr_s v) (h : lh_ ad ov nL ls lsm) : lh_ (fun x => ad (sg_ x)) ov nL ls lsm := ⟨h.1, h.2.1, h.2.2.1, fun k v hk => ⟨(h.2.2.2 k v hk).1, by rw [cv_sw (hls k v hk)]; exact (h.2.2.2 k v hk).2⟩⟩
theorem mp_sw : ∀ {st : List pv_}, (∀ v ∈ st, okr_s v) → st.map (cv_ (fun x => ad (sg_ x)) ov) = st.map (cv_ ad ov)
  | [], _ => rfl
  | v :: t, h => by
    obtain ⟨h1, h2⟩ := List.forall_mem_cons.mp h
    rw [List.map_cons, List.map_cons, cv_sw h1, mp_sw h2]
set_option maxHeartbeats 4000000 in
theorem call54 (cx : Cx_ p l R s m args meth c cells slots cc nL o rt [] D cA ad ov A L xs) (hall : ∀ n ∈ mids0, okn_ n = true) (hRf : 135 ≤ R.frames) (hRl : 8640 ≤ R.locals) {pc idx : Nat} (hdg : decode cc pc = .ok (.invokevirtual idx, 3)) {tb : List (Int × Nat)} (hok : okc_ o idx 54 2 true tb = true) (hfd : (fd_ tb 0).isSome = true) {ls : lo_} {x : Int} {st : List pv_} {M : mm_} (hst : st.length ≤ 8) (hls : ∀ (k : Nat) (v : pv_), ls[k]? = some (some v) → okr_s v) (hss : ∀ v ∈ st, okr_s v)
    (h : LDo M x (fun vs M' => ∃ v, vs = [.inl v] ∧ Wm_ p l e R s m args below meth c cells slots Q D cA ad ov A L xs nL (pc + 3) ls (.inl v :: st) M' ∧ Wm_ p l e R s m args below meth c cells slots Q D cA (fun x => ad (sg_ x)) ov A L xs nL (pc + 3) ls (.inl v :: st) M')) :
    Wm_ p l e R s m args below meth c cells slots Q D cA ad ov A L xs nL pc ls (.inl x :: .inr (.inr 0) :: st) M := by
  obtain ⟨⟨hx, hb, hml⟩, hown, hts, -, hWo, hDD, hov, ⟨-, -, hRc, hRs⟩, hL⟩ := cx
  simp only [okc_, Bool.and_eq_true, decide_eq_true_eq] at hok
  obtain ⟨k1, k2, k3, k4, k5, k6, k7⟩ := hok
  have hmid : 54 ∈ mids0 := by decide
  obtain ⟨w1, w2, w3, w4, w5, w6, w7⟩ := mid_ok hmid
  have hlink : (Cond.methodLink (cn1 o) idx (me0 54).1).before args s = true := by
    obtain ⟨q, hq, h1⟩ := List.any_eq_true.mp k1
    simp only [Bool.and_eq_true, beq_iff_eq] at h1
    have h2 := hts _ (ml_word hq)
    unfold mw_ at h2
    rw [h1.1, h1.2.1, h1.2.2] at h2
    exact h2
  intro H locs lsm hP hR hO hS hl hv T hT X
  obtain ⟨hv1, hv2⟩ := List.forall_mem_cons.mp hv
  obtain ⟨hv3, hrs⟩ := List.forall_mem_cons.mp hv2
  have hM := mk54 (l := l) (D := D) (xs := xs) hall hDD hov hL hv1 h
  have key : ∀ (vm₁ : Vm) (mk : MethodId), s.methodNamed? (me0 54).1 = some mk → Stand p l e R s m args below meth c (T.setVm vm₁) locs cells slots →
      ∃ t2, Steps p.tables e below (doInvoke e ((T.setVm vm₁).setTop { (F0 m pc lsm ((.inl x :: .inr (.inr 0) :: st).map (cv_ ad ov))) with stack := st.map (cv_ ad ov) }) [] mk (([.inr (.inr 0), .inl x] : List pv_).map (cv_ ad ov)).toArray).1 t2 ∧ Q t2 := by
    intro vm₁ mk hnamed X₁
    have hN : (T.setVm vm₁).methodNamed? (me0 54).1 = some mk := X₁.named hnamed
    have hW₁ : s.WarmedH (T.setVm vm₁).vm := X₁.warmed
    have hall2 : ∀ w ∈ lw_all, ∀ (a' : Array Value), w.before a' (T.setVm vm₁) = true := fun w hw a' => word_at hW₁ (lw_self w hw).2 (hts w hw)
    obtain ⟨methY, cY, g1, g2, g3, g4, g5, g6, g7, g8⟩ := wc_spec hN (hall2 _ w1 #[])
    obtain ⟨kY, hkY, -⟩ := className_of_methodNamed hN
    have hini : kY.init = .initialized := by
      have h3 := hall2 _ w2 #[]
      unfold wn_ at h3
      rw [← w3] at h3
      exact Cond.initialized_spec (findClass_of_methodNamed hN) hkY h3
    have hcat : ((st.map (cv_ ad ov)).map fun v => v.category).sum ≤ 16 := by
      have := cat_sum ad ov st
      omega
    refine wx_back (F := A) X₁ hM (fun a9 st9 o9 t9 hq => ?_) (ig := .invokevirtual idx) (len := 3) rfl (by show lsm.size = _; rw [hl.2.1, hml]) (by rw [hb]; exact hdg) hN hkY hini g1 g2 (by show 134 + 1 ≤ _; exact hRf) ?_ (by show cells + 0 ≤ _; omega) (by show slots + 0 ≤ _; omega) ?_ ?_ ?_ ?_
    · rcases hq with hq | hq
      · obtain ⟨-, Lc, h1, h2⟩ := hq
        exact ⟨Lc, h1.1, h1.2, h2⟩
      · obtain ⟨-, Lc, h1, h2⟩ := hq
        exact ⟨Lc, h1.1, h1.2, h2⟩
    · show 2 * 0 + ((st.map (cv_ ad ov)).map fun v => v.category).sum + (cY.maxLocals + 11) + 64 * 134 ≤ R.locals
      omega
    · exact atoms_intro (fun w hw => by
        rcases List.mem_cons.mp hw with e9 | e9
        · rw [e9]; exact hall2 _ w1 _
        · exact hall2 _ e9 _)
    · refine ⟨rfl, ?_, ?_⟩
      · exact Wo_move (U := (T.setVm vm₁).calling _ mk _) hWo hS hT hW₁
      · have hh9 : ((T.setVm vm₁).calling { (F0 m pc lsm ((.inl x :: .inr (.inr 0) :: st).map (cv_ ad ov))) with stack := st.map (cv_ ad ov) } mk (([.inr (.inr 0), .inl x] : List pv_).map (cv_ ad ov)).toArray).heap = H := hT
        rw [hh9]
        exact ⟨hP, hR, hO⟩
    · intro v T' t Lc X' e1 e2 hLc hq
      have hS9 : (va_F A ((T.setVm vm₁).calling { (F0 m pc lsm ((.inl x :: .inr (.inr 0) :: st).map (cv_ ad ov))) with stack := st.map (cv_ ad ov) } mk (([.inr (.inr 0), .inl x] : List pv_).map (cv_ ad ov)).toArray) t) → va_S A s.heap T'.heap (locs ++ Lc) := fun hF => by
        have hz : H.size ≤ t.heap.size := by have h0 := hF.1; rw [show ((T.setVm vm₁).calling _ mk _).heap = H from hT] at h0; exact h0
        have hk9 : ∀ q : Nat, q < H.size → ¬ A q → t.heap[q]? = H[q]? := by have h0 := hF.2; rw [show ((T.setVm vm₁).calling _ mk _).heap = H from hT] at h0; exact h0
        rw [e1]
        refine ⟨Nat.le_trans hS.1 hz, fun q h1 h2 => ?_, fun q hq => ?_⟩
        · rw [hk9 q (Nat.lt_of_lt_of_le h1 hS.1) h2]; exact hS.2.1 q h1 h2
        · rcases List.mem_append.mp hq with h | h
          · exact hS.2.2 q h
          · exact hLc q h
      rcases hq with hq | hq
      · obtain ⟨⟨M', hPi, hF, ho⟩, -⟩ := hq
        have hS' := hS9 hF
        rcases ho with ⟨vs, hw1, hw2, hw3, u, rfl, hw4, -⟩ | ⟨r, -, hw1, -⟩
        · have hv5 : v = some (cv_ ad ov (.inl u)) := by cases hw1; rfl
          have h9 := hw4 T'.heap (locs ++ Lc) lsm (by rw [e1]; exact hPi.1) hPi.2.1 hPi.2.2 hS' hl (List.forall_mem_cons.mpr ⟨hw3 _ List.mem_cons_self, hrs⟩) T' rfl X'
          rw [hv5]
          exact h9
        · cases hw1
      · obtain ⟨⟨M', hPi, hF, ho⟩, -⟩ := hq
        have hS' := hS9 hF
        rcases ho with ⟨vs, hw1, hw2, hw3, u, rfl, -, hw4⟩ | ⟨r, -, hw1, -⟩
        · have hv5 : v = some (cv_ ad ov (.inl u)) := by cases hw1; rfl
          have h9 := hw4 T'.heap (locs ++ Lc) lsm (by rw [e1]; exact hPi.1) hPi.2.1 hPi.2.2 hS' (lh_sw hls hl) (List.forall_mem_cons.mpr ⟨hw3 _ List.mem_cons_self, hrs⟩) T' rfl X'
          rw [List.map_cons, mp_sw hss] at h9
          rw [hv5]
          exact h9
        · cases hw1
    · intro x9 T' t Lc X' e1 e2 hLc hq
      rcases hq with hq | hq
      · obtain ⟨⟨M', hPi, hF, ho⟩, -⟩ := hq
        rcases ho with ⟨vs, hw1, -⟩ | ⟨r, -, hw1, hw2⟩
        · cases hw1
        · exact hw2.elim
      · obtain ⟨⟨M', hPi, hF, ho⟩, -⟩ := hq
        rcases ho with ⟨vs, hw1, -⟩ | ⟨r, -, hw1, hw2⟩
        · cases hw1
        · exact hw2.elim
  obtain ⟨w8, w9⟩ := w7 (by decide)
  have hinst := hts _ w8
  have hsel := hts _ w9
  simp only [Bool.not_true, Bool.false_or, Bool.and_eq_true, decide_eq_true_eq] at k7
  obtain ⟨z, hz1, hz2⟩ : ∃ z ∈ tb.tail, z.1 = ((0 : Nat) : Int) := by
    unfold okh9_ at k5
    cases tb with
    | nil => cases k5
    | cons q t =>
      simp only [Bool.and_eq_true, beq_iff_eq] at k5
      exact fd_tail k5.1 hfd
  have hz3 := List.all_eq_true.mp k7.2 z hz1
  obtain ⟨cellB, hcB, hoB, hclB⟩ := rcv_ hWo hP hS hz2 hz3
  rw [← w3] at hclB
  obtain ⟨mk, methM, hnamed, hmethM, hstM, habM⟩ := Cond.instanceMethod_spec hinst
  obtain ⟨methM', cM, hmethM', -, -, -, -, -, -, hsigM⟩ := wc_spec hnamed (hts _ w1)
  cases hmethM.symm.trans hmethM'
  obtain ⟨c2, r2, m2, q1, q2, q3, q4, kP, hkP, hkPi⟩ := Cond.selects_spec hsel
  cases hclB.symm.trans q1
  cases (State.methodFound?_of_named hnamed k6).symm.trans q2
  cases hnamed.symm.trans q3
  have hselP : selectMethod e.platform s.vm cellB.cls mk = .method mk := by rw [Launch.admits_selectMethod X.admits]; exact q4
  rw [hsigM] at k3
  have hlen : (([.inl x] : List pv_).map (cv_ ad ov)).length = methM.sig.parameters.length := by
    simp only [Option.map_some, Option.some.injEq] at k3
    have k3 : methM.sig.parameters.length + 1 = 2 := k3
    show 1 = _
    omega
  obtain ⟨vm₁, X₁, hstep₁⟩ := X.invokevirtual hx hown hlink hnamed hmethM hstM hkP hkPi k6 (a := ad 0) (cell := cellB) (by rw [hT]; exact hcB)
    (fun z h => by rw [h] at hoB; cases hoB) hselP hmethM habM hkP hkPi (g := F0 m pc lsm ((.inl x :: .inr (.inr 0) :: st).map (cv_ ad ov))) rfl (argsL := ([.inl x] : List pv_).map (cv_ ad ov)) (rest := st.map (cv_ ad ov)) hlen rfl (by rw [hb]; exact hdg)
  obtain ⟨t2, h1, h2⟩ := key vm₁ mk hnamed X₁
  exact ⟨t2, hstep₁ _ fun acts => by rw [doInvoke_state]; exact h1, h2⟩
end C54
end M466_c54
section M467_ll
/-! the law's loop on the machine -/
theorem lw54 : ∀ q ∈ k_450, q.2.2.2.1 = 54 → q = (221, .invokevirtual 18, 3, 54, 2, [((-1), 1), (0, 0)]) := by
  have h : k_450.all (fun q => !(q.2.2.2.1 == 54) || (q.1 == 221 && (decide (q.2.1 = .invokevirtual 18) && (q.2.2.1 == 3 && (q.2.2.2.2.1 == 2 && decide (q.2.2.2.2.2 = [((-1), 1), (0, 0)])))))) = true := by decide +kernel
  intro q hq e
  have h2 := List.all_eq_true.mp h q hq
  obtain ⟨a1, a2, a3, a4, a5, a6⟩ := q
  have e : a4 = 54 := e
  subst e
  simp only [Bool.or_eq_true, Bool.and_eq_true, beq_iff_eq, decide_eq_true_eq, Bool.not_eq_true', beq_self_eq_true, Bool.true_eq_false, false_or] at h2
  obtain ⟨rfl, rfl, rfl, rfl, rfl⟩ := h2
  rfl
section LL1
theorem ex_D {w : wd_} {D D' : ca_} {V : vv_} {Qr : qr_} {Qt : qt_} {md : md_} {pc len a : Nat} {i : Instr} {b : Int} {tb : List (Int × Nat)} {ls : lo_} {st : List pv_} {M : mm_} (hD : D a = D' a) (h : ex_ w D V Qr Qt md pc i len a b tb ls st M) : ex_ w D' V Qr Qt md pc i len a b tb ls st M := by
  cases i <;> first | exact h | (simp only [ex_, cl_] at h ⊢; rw [← hD]; exact h)
variable {p : Program} {l : Launch} {e : Env} {s : State} {m : MethodId} {below : List Frame} {meth : Method} {c : Code} {D : va_G} {cA : Nat → ClassId} {ad : Nat → Nat} {ov : Value} {L b9 : Nat} {xs : Nat → Int32} {cells slots : Nat}
/-- a point of the law's frame, whichever way the plans lie -/
def VL (p : Program) (l : Launch) (e : Env) (s : State) (m : MethodId) (b9 : Nat) (below : List Frame) (meth : Method) (c : Code) (cells slots : Nat) (D : va_G) (cA : Nat → ClassId) (ad : Nat → Nat) (ov : Value) (L : Nat) (xs : Nat → Int32) : vv_ := fun pc ls st M => okP pc ls st → Wm_ p l e room_1 s m #[Value.ref b9] below meth c cells slots (lw_Z below #[Value.ref b9] s) D cA ad ov (fun q => s.heap.size ≤ q) L xs 4 pc ls st M ∧ Wm_ p l e room_1 s m #[Value.ref b9] below meth c cells slots (lw_Z below #[Value.ref b9] s) D cA (fun x => ad (sg_ x)) ov (fun q => s.heap.size ≤ q) L xs 4 pc ls st M
theorem VL_wk : Wk_ (VL p l e s m b9 below meth c cells slots D cA ad ov L xs) := by
  intro pc ls ls' st M hle h hp
  obtain ⟨h1, h2⟩ := h ⟨hp.1, fun k v hk => hp.2.1 k v (hle.2 k v hk), hp.2.2⟩
  exact ⟨Wm_wk pc ls ls' st M hle h1, Wm_wk pc ls ls' st M hle h2⟩
set_option maxRecDepth 100000 in
theorem lw_end (cx : Cx_ p l room_1 s m #[Value.ref b9] meth c cells slots code 4 10 ret [] D cA ad ov (fun q => s.heap.size ≤ q) L xs) (hc : cells ≤ 600128 ∧ slots ≤ 7301098) {pc len a : Nat} {i : Instr} {b : Int} {tb : List (Int × Nat)} {ls : lo_} {st : List pv_} {M : mm_} {D9 : ca_} {V : vv_} (hdg : decode code pc = .ok (i, len)) (hok : oki_ 10 pc i len a b tb = true) (hi : i = .ireturn ∨ i = .lreturn ∨ i = .areturn ∨ i = .return_ ∨ i = .athrow) (hw : lwi_ (pc, i, len, a, b, tb) = true) (h18 : 18 ≤ pc) (h : ex_ wd0 D9 V (fun vs _ => vs = [.inl 1]) (fun _ _ => False) m_450 pc i len a b tb ls st M) :
    Wm_ p l e room_1 s m #[Value.ref b9] below meth c cells slots (lw_Z below #[Value.ref b9] s) D cA ad ov (fun q => s.heap.size ≤ q) L xs 4 pc ls st M := by
  obtain ⟨⟨hx, hb, hml⟩, hown, hts, ⟨hrt, hlocks, htab⟩, hWo, hDD, hov, -, hL⟩ := cx
  rcases hi with rfl | rfl | rfl | rfl | rfl
  · simp only [oki_, beq_iff_eq] at hok
    subst hok
    simp only [ex_] at h
    split at h
    · rename_i x
      have h2 : bl_ x ∧ [Sum.inl x] = ([Sum.inl 1] : List pv_) := h
      have e1 : x = 1 := by injection h2.2 with e1; injection e1
      subst e1
      intro H locs lsm hP hR hO hS hl hv
      refine va_forget (fun q hq => hS.2.2 q hq) ?_
      exact W.widen hc.1 hc.2 (lw_ret hx hb hrt hlocks hdg)
    · exact h.elim
  all_goals (unfold lwi_ at hw; rw [Bool.or_eq_true] at hw; rcases hw with hw | hw)
  all_goals first | (have := of_decide_eq_true hw; omega) | exact absurd (show false = true from hw) (by decide)
set_option maxHeartbeats 4000000 in
set_option maxRecDepth 100000 in
theorem law_one (cx : Cx_ p l room_1 s m #[Value.ref b9] meth c cells slots code 4 10 ret [] D cA ad ov (fun q => s.heap.size ≤ q) L xs) (hall : ∀ n ∈ mids0, okn_ n = true) (hc : cells ≤ 600128 ∧ slots ≤ 7301098) {V : vv_} (hV : ∀ pc ls st M, V pc ls st M → Wm_ p l e room_1 s m #[Value.ref b9] below meth c cells slots (lw_Z below #[Value.ref b9] s) D cA ad ov (fun q => s.heap.size ≤ q) L xs 4 pc ls st M) {pc : Nat} {x : Instr × Nat × Nat × Int × List (Int × Nat)} (hm : (pc, x) ∈ k_450) (h18 : 18 ≤ pc) (ha : x.2.2.1 ≠ 54) {ls : lo_} {st : List pv_} {M : mm_}
    (h : ex_ wd0 lwD V (fun vs _ => vs = [.inl 1]) (fun _ _ => False) m_450 pc x.1 x.2.1 x.2.2.1 x.2.2.2.1 x.2.2.2.2 ls st M) :
    Wm_ p l e room_1 s m #[Value.ref b9] below meth c cells slots (lw_Z below #[Value.ref b9] s) D cA ad ov (fun q => s.heap.size ≤ q) L xs 4 pc ls st M := by
  have hb := List.all_eq_true.mp lwb_ok _ hm
  have hw := List.all_eq_true.mp lwi_ok _ hm
  rw [Bool.or_eq_true] at hb
  rcases hb with hb | hb
  · obtain ⟨g1, g2⟩ := okb_spec hb
    have h2 := ex_mono lwD_m0 hV (fun _ _ g => g) (fun _ _ g => g) h
    have h3 := ex_D (D' := Tr_ wd0 pg0 140) (show lwD x.2.2.1 = Tr_ wd0 pg0 140 x.2.2.1 by funext as M Qr Qt; unfold lwD; rw [if_neg ha]) h2
    have cx' := cx
    obtain ⟨_, _, _, _, _, hDD, hov, _, hL⟩ := cx'
    refine sx_step cx g1 g2 ?_ (fun hi hex => lw_end cx hc g1 g2 hi hw h18 hex) h3
    exact call_go cx (d := 140) (by decide) (by decide) (fun n hn as M Qr Qt h => snd_ hall hDD hov hL 140 n hn as M Qr Qt h) (fun _ _ _ _ _ ht9 => False.elim ht9)
  · exact (nox_ex hb h).elim
set_option maxHeartbeats 4000000 in
set_option maxRecDepth 100000 in
theorem law_54 (cx : Cx_ p l room_1 s m #[Value.ref b9] meth c cells slots code 4 10 ret [] D cA ad ov (fun q => s.heap.size ≤ q) L xs) (hall : ∀ n ∈ mids0, okn_ n = true) {ls : lo_} {st : List pv_} {M : mm_} (hp : okP 221 ls st)
    (h : ex_ wd0 lwD (fun pc ls st M => Wm_ p l e room_1 s m #[Value.ref b9] below meth c cells slots (lw_Z below #[Value.ref b9] s) D cA ad ov (fun q => s.heap.size ≤ q) L xs 4 pc ls st M ∧ Wm_ p l e room_1 s m #[Value.ref b9] below meth c cells slots (lw_Z below #[Value.ref b9] s) D cA (fun x => ad (sg_ x)) ov (fun q => s.heap.size ≤ q) L xs 4 pc ls st M) (fun vs _ => vs = [.inl 1]) (fun _ _ => False) m_450 221 (.invokevirtual 18) 3 54 2 [((-1), 1), (0, 0)] ls st M) :
    Wm_ p l e room_1 s m #[Value.ref b9] below meth c cells slots (lw_Z below #[Value.ref b9] s) D cA ad ov (fun q => s.heap.size ≤ q) L xs 4 221 ls st M := by
  have hm : (221, .invokevirtual 18, 3, 54, 2, [((-1), 1), (0, 0)]) ∈ k_450 := lk_mem (pc := 221) rfl
  have hb := List.all_eq_true.mp lwb_ok _ hm
  rw [Bool.or_eq_true] at hb
  rcases hb with hb | hb
  · obtain ⟨g1, g2⟩ := okb_spec hb
    have g3 : okc_ 10 18 54 2 true [((-1), 1), (0, 0)] = true := by
      simp only [oki_, Bool.and_eq_true] at g2
      exact g2.2
    match st, hp, h with
    | [], _, h => exact h.elim
    | [y], _, h => exact h.elim
    | y :: z :: t, hp, h =>
      simp only [ex_] at h
      split at h
      · split at h
        · unfold cl_ at h
          split at h
          · rename_i c2
            have h9 : lwD 54 [z, y] M (rk_ (fun pc ls st M => Wm_ p l e room_1 s m #[Value.ref b9] below meth c cells slots (lw_Z below #[Value.ref b9] s) D cA ad ov (fun q => s.heap.size ≤ q) L xs 4 pc ls st M ∧ Wm_ p l e room_1 s m #[Value.ref b9] below meth c cells slots (lw_Z below #[Value.ref b9] s) D cA (fun x => ad (sg_ x)) ov (fun q => s.heap.size ≤ q) L xs 4 pc ls st M) 1 224 ls t) _ := h
            unfold lwD at h9
            rw [if_pos rfl] at h9
            split at h9
            · rename_i e9
              cases e9
              exact call54 cx hall (by decide) (by decide) g1 g3 rfl (by have := c2.2; simp only [List.length_cons] at this; omega) hp.2.1 (fun v hv => hp.2.2 v (List.mem_cons_of_mem _ (List.mem_cons_of_mem _ hv))) h9
            · exact h9.elim
          · exact h.elim
        · exact h.elim
      · exact h.elim
  · exact absurd (show false = true from hb) (by decide)
set_option maxHeartbeats 4000000 in
set_option maxRecDepth 100000 in
theorem law_cl (cx : Cx_ p l room_1 s m #[Value.ref b9] meth c cells slots code 4 10 ret [] D cA ad ov (fun q => s.heap.size ≤ q) L xs) (cx2 : Cx_ p l room_1 s m #[Value.ref b9] meth c cells slots code 4 10 ret [] D cA (fun x => ad (sg_ x)) ov (fun q => s.heap.size ≤ q) L xs) (hall : ∀ n ∈ mids0, okn_ n = true) (hc : cells ≤ 600128 ∧ slots ≤ 7301098) :
    Cl_ wd0 lwD (VL p l e s m b9 below meth c cells slots D cA ad ov L xs) (fun vs _ => vs = [.inl 1]) (fun _ _ => False) m_450 := by
  intro pc ls st M hst hp
  unfold st_ at hst
  split at hst
  · rename_i x ex9
    have hm : (pc, x) ∈ k_450 := lk_mem ex9
    have hw := List.all_eq_true.mp lwi_ok _ hm
    have h2 := ex_P hw hp lwD_m0 rfl hst
    by_cases c54 : x.2.2.1 = 54
    · have e9 := lw54 _ hm c54
      cases e9
      refine ⟨law_54 cx hall hp h2, law_54 cx2 hall hp ?_⟩
      have ee : (fun x => (fun x => ad (sg_ x)) (sg_ x)) = ad := by funext x; show ad (sg_ (sg_ x)) = ad x; rw [sg_sg]
      rw [ee]
      exact ex_mono lwD_m0 (fun _ _ _ _ g => ⟨g.2, g.1⟩) (fun _ _ g => g) (fun _ _ g => g) h2
    · exact ⟨law_one cx hall hc (fun _ _ _ _ g => g.1) hm hp.1 c54 h2, law_one cx2 hall hc (fun _ _ _ _ g => g.2) hm hp.1 c54 h2⟩
  · exact hst.elim
end LL1
end M467_ll
section M471_ct
/-! constructors that make arrays alone -/
def dfl_ (ci : Nat) : List Value := (List.range (nf0 ci)).map (fun k => if fk0 ci k = 2 ∨ fk0 ci k = 3 then Value.null else .int 0)
theorem dfl_len (ci : Nat) : (dfl_ ci).length = nf0 ci := by unfold dfl_; rw [List.length_map, List.length_range]
def qo_in : Cond := .instanceMethod objectInit
section CT1
variable {l : Launch} {D : va_G} {cA : Nat → ClassId}
/-- what a constructor is given: the fresh object at h0 -/
def PcC (D : va_G) (cA : Nat → ClassId) (ci h0 sz : Nat) : Array Value → State → Prop := va_Pc [.ref h0] (fun U => U.heap.size = sz ∧ va_P D vwCl [(h0, .inr (ci, dfl_ ci))] U.heap ∧ va_K D vwCl (tys_ cA) U ∧ va_D (fun _ => True) [(h0, .inr (ci, dfl_ ci))])
/-- what it leaves -/
def BcC (D : va_G) (cA : Nat → ClassId) (ci h0 sz : Nat) (tab : List ir_) : List Nat → State → Prop := fun qs t => va_P D vwCl ((h0, .inr (ci, fso_ tab qs (dfl_ ci))) :: aro_ cA tab qs) t.heap ∧ va_K D vwCl (tys_ cA) t ∧ va_D (va_A [(h0, .inr (ci, dfl_ ci))] sz) ((h0, .inr (ci, fso_ tab qs (dfl_ ci))) :: aro_ cA tab qs)
set_option maxHeartbeats 4000000 in
theorem ct_simple {ci : Nat} (hci : ci < 5) {y : MethodName} {cc : ByteArray} (hy1 : plainName y.cls = true) (hy2 : y.cls = cn1 ci) (hy3 : y.name = "<init>") {tab : List ir_} (htab : isc_ ci ci cc tab 4 = true) (hd0 : decode cc 0 = .ok (.aload_n 0, 1)) {io : Nat} (hd1 : decode cc 1 = .ok (.invokespecial io, 3)) (hd9 : decode cc (ise_ tab 4) = .ok (.return_, 1)) (hl : Cond.methodLink (cn1 ci) io objectInit ∈ lw_all) (hi : Cond.instanceMethod objectInit ∈ lw_all) (hc : Cond.code objectInit ⟨#[177]⟩ 1 none ∈ lw_all) (h0 sz : Nat) :
    Met l y (.code y cc 1 none :: lw_all) { frames := 1, cells := tab.length, slots := iss_ tab, locals := 12 } (PcC D cA ci h0 sz) (va_Qv (fun qs : List Nat => qs.length = tab.length) (BcC D cA ci h0 sz tab) (va_A [(h0, .inr (ci, dfl_ ci))] sz)) tab.length (iss_ tab) (va_A [(h0, .inr (ci, dfl_ ci))] sz) := by
  refine Met.ofW (cc := cc) (maxL := 1) (ret := none) hy1 rfl ?_
  intro p e s m args below meth c s₁ B hml hv
  obtain ⟨rfl, hsz, hP, hK, hD0⟩ := hv
  have hx := B.exec
  have hb := B.bytes
  have hr := B.returns
  have hts0 := atoms_spec (ws := .code y cc 1 none :: lw_all) B.pre
  have hts : ∀ w ∈ lw_all, w.before _ s = true := fun w hw => hts0 w (List.mem_cons_of_mem _ hw)
  have hown : s.vm.findClass (cn1 ci) = some m.cls := by rw [← hy2]; exact findClass_of_methodNamed B.named
  have hlocks := B.notSynchronized
  have hin : meth.name = "<init>" := by rw [← hy3]; exact (name_of_methodNamed B.named B.method).1
  subst hsz
  have hD := hD0.self (sz := s.heap.size)
  generalize hAe : va_A [(h0, .inr (ci, dfl_ ci))] s.heap.size = A at hD ⊢
  have hA : ∀ q : Nat, s.heap.size ≤ q → A q := fun q h => by rw [← hAe]; exact Or.inr h
  have hS : va_S A s.heap s.heap [] := va_S.rf
  have hl9 := lv_entry ([.ref h0]) (n := 1) (Nat.le_of_ble_eq_true rfl)
  rw [lg_entry_eq]
  generalize (lg_sl ([.ref h0]) ++ List.replicate (1 - (lg_sl ([.ref h0])).length) Slot.unset).toArray = ls at hl9 ⊢
  have hl9 : lv_has ls 1 [(0, .ref h0)] := hl9
  refine lv_aload_n hx hb hd0 rfl (lv_at hl9 0 rfl) ?_
  refine W.objInit hx hb hown (hts _ hl) (hts _ hi) (hts _ hc) rfl (by rw [hml]; exact hl9.1) rfl hd1 (Nat.le_of_ble_eq_true rfl) (Nat.le_of_ble_eq_true rfl) ?_
  refine W.eq (g2 := F0 m 4 ls []) rfl ?_
  refine ini_seg (o := ci) (ci := ci) (A := A) hx hb hts hown hin hK hci hA (lv_at hl9 0 rfl) tab 4 (dfl_ ci) [] s.heap [] 0 0 htab hP hD hS (dfl_len ci) (by show 0 + tab.length ≤ tab.length; omega) (by show 0 + iss_ tab ≤ iss_ tab; omega) (fun qs H1 locs1 e1 g1 g2 g3 => ?_)
  rw [Nat.zero_add, Nat.zero_add]
  rw [List.nil_append] at g1 g2
  exact W.vret hx hb hr (fun t ht hW => ⟨⟨qs, rfl, e1, by rw [ht]; exact g1, va_K.moved hW.alike hK, by rw [hAe]; exact g2⟩, g3.F ht⟩) g3.2.2 hd9
end CT1
end M471_ct
section M472_tb
/-! the arrays that the constructors make -/
set_option maxRecDepth 100000
/-- as isc_, along the byte list -/
def isr_ (o ci t f k : Nat) : Bool := (match fq_ o f with | some q => q.2.2.1 == ci && (q.2.2.2.1 == k && q.2.2.2.2.1 == 0) | none => false) && (decide (k < nf0 ci) && (decide ((tt0 ci k).1 = cn1 o) && (decide (tz0 ci k = .array (fty_ t)) && (decide (1 ≤ t) && (decide (t ≤ 4) && decide (o = ci))))))
def isc2_ (o ci : Nat) (cc : ByteArray) : List ir_ → List UInt8 → Nat → Bool
  | [], _, _ => true
  | (p, i, l, n, t, f, k) :: tb, bs, pc => Nat.beq p pc && ((we2_ cc p (.aload_n 0) 1 bs && (we2_ cc (p + 1) i l (bs.drop 1) && (psh_ o i l n && (we2_ cc (p + 1 + l) (.newarray (aty_ t)) 2 (bs.drop (1 + l)) && (we2_ cc (p + 1 + l + 2) (.putfield f) 3 (bs.drop (1 + l + 2)) && isr_ o ci t f k))))) && isc2_ o ci cc tb (bs.drop (1 + l + 2 + 3)) (p + 1 + l + 2 + 3))
theorem we2_dc {cc : ByteArray} {q : Nat} {i : Instr} {len : Nat} {bs : List UInt8} (hb : ∀ j, bs[j]? = cc.data.toList[q + j]?) (h : we2_ cc q i len bs = true) : dc_ cc q i len = true := wen_ok (e := (q, i, len, 0, 0, [])) hb h
theorem isc2_ok {o ci : Nat} {cc : ByteArray} : ∀ (tb : List ir_) (bs : List UInt8) (pc : Nat), (∀ j, bs[j]? = cc.data.toList[pc + j]?) → isc2_ o ci cc tb bs pc = true → isc_ o ci cc tb pc = true
  | [], _, _, _, _ => rfl
  | (p, i, l, n, t, f, k) :: tb, bs, pc, hb, h => by
    unfold isc2_ at h
    rw [Bool.and_eq_true, Bool.and_eq_true] at h
    obtain ⟨h1, h2, h3⟩ := h
    have e := Nat.eq_of_beq_eq_true h1
    subst e
    have dr : ∀ d j, (bs.drop d)[j]? = cc.data.toList[p + d + j]? := fun d j => by
      rw [List.getElem?_drop, hb]
      congr 1
      omega
    simp only [Bool.and_eq_true] at h2
    obtain ⟨g1, g2, g3, g4, g5, g6⟩ := h2
    have r := isc2_ok tb _ (p + 1 + l + 2 + 3) (fun j => by rw [dr]; congr 1; omega) h3
    unfold isc_
    rw [Bool.and_eq_true, Bool.and_eq_true]
    refine ⟨beq_self_eq_true _, ?_, r⟩
    unfold irc_
    simp only [Bool.and_eq_true]
    have k2 := we2_dc (q := p + 1) (fun j => by rw [dr]) g2
    have k4 := we2_dc (q := p + 1 + l) (fun j => by rw [dr]; congr 1; omega) g4
    have k5 := we2_dc (q := p + 1 + l + 2) (fun j => by rw [dr]; congr 1; omega) g5
    unfold isr_ at g6
    simp only [Bool.and_eq_true] at g6
    exact ⟨we2_dc hb g1, k2, g3, k4, k5, g6⟩
theorem isc2_go {o ci : Nat} {cc : ByteArray} {tb : List ir_} {pc : Nat} (h : isc2_ o ci cc tb (cc.data.toList.drop pc) pc = true) : isc_ o ci cc tb pc = true := isc2_ok tb _ pc (fun j => by rw [List.getElem?_drop]) h
def tb_190a : List ir_ := [(4, .sipush 5000, 3, 5000, 2, 9, 0), (13, .sipush 1202, 3, 1202, 1, 15, 1), (22, .sipush 1202, 3, 1202, 1, 19, 2), (31, .sipush 1202, 3, 1202, 1, 22, 3), (40, .sipush 1202, 3, 1202, 1, 25, 4)]
theorem tb_190a_ok : isc_ 2 2 prog_5_method_1_code tb_190a 4 = true := isc2_go (by decide +kernel)
theorem tb_190a_e : ise_ tb_190a 4 = 49 := rfl
def tb_206a : List ir_ := [(4, .bipush 20, 2, 20, 1, 9, 5), (12, .bipush 60, 2, 60, 1, 15, 6), (20, .bipush 20, 2, 20, 1, 18, 7), (28, .bipush 10, 2, 10, 1, 21, 8), (36, .bipush 10, 2, 10, 1, 24, 9), (44, .bipush 10, 2, 10, 3, 27, 10), (52, .bipush 10, 2, 10, 3, 31, 11), (60, .bipush 10, 2, 10, 1, 34, 12), (68, .bipush 6, 2, 6, 1, 37, 13), (76, .bipush 6, 2, 6, 1, 40, 14), (84, .bipush 6, 2, 6, 1, 43, 15), (92, .bipush 6, 2, 6, 1, 46, 16), (100, .bipush 6, 2, 6, 1, 49, 17), (108, .bipush 6, 2, 6, 1, 52, 18), (116, .bipush 6, 2, 6, 1, 55, 19), (124, .bipush 6, 2, 6, 1, 58, 20), (132, .bipush 6, 2, 6, 1, 61, 21), (140, .bipush 60, 2, 60, 1, 64, 22), (148, .bipush 48, 2, 48, 1, 67, 23), (156, .bipush 48, 2, 48, 1, 70, 24), (164, .bipush 48, 2, 48, 1, 73, 25), (172, .sipush 600, 3, 600, 1, 76, 26), (181, .sipush 600, 3, 600, 1, 79, 27), (190, .sipush 600, 3, 600, 1, 82, 28), (199, .sipush 600, 3, 600, 1, 85, 29), (208, .sipush 1800, 3, 1800, 1, 88, 30), (217, .sipush 600, 3, 600, 1, 91, 31), (226, .sipush 600, 3, 600, 1, 94, 32), (235, .sipush 600, 3, 600, 1, 97, 33), (244, .sipush 600, 3, 600, 1, 100, 34), (253, .sipush 12000, 3, 12000, 1, 103, 35), (262, .sipush 200, 3, 200, 1, 106, 37), (271, .sipush 200, 3, 200, 1, 109, 38)]
theorem tb_206a_ok : isc_ 3 3 prog_3_method_1_code tb_206a 4 = true := isc2_go (by decide +kernel)
theorem tb_206a_e : ise_ tb_206a 4 = 280 := rfl
def tb_100a : List ir_ := [(28, .bipush 10, 2, 10, 1, 28, 10), (36, .bipush 20, 2, 20, 1, 32, 11), (44, .bipush 10, 2, 10, 1, 35, 12), (52, .bipush 6, 2, 6, 1, 38, 13), (60, .bipush 72, 2, 72, 1, 41, 14), (68, .bipush 48, 2, 48, 1, 44, 15), (76, .bipush 18, 2, 18, 1, 47, 16), (84, .bipush 60, 2, 60, 1, 50, 17), (92, .sipush 600, 3, 600, 1, 53, 25), (101, .sipush 600, 3, 600, 1, 56, 26), (110, .sipush 600, 3, 600, 1, 59, 27), (119, .sipush 600, 3, 600, 1, 62, 28), (128, .bipush 6, 2, 6, 1, 65, 35), (136, .bipush 6, 2, 6, 1, 68, 36)]
theorem tb_100a_ok : isc_ 1 1 prog_4_method_1_code tb_100a 28 = true := isc2_go (by decide +kernel)
theorem tb_100a_e : ise_ tb_100a 28 = 144 := rfl
def tb_51a : List ir_ := [(37, .sipush 5000, 3, 5000, 2, 458, 5), (46, .bipush 12, 2, 12, 1, 7, 12), (54, .bipush 12, 2, 12, 1, 46, 13), (62, .bipush 12, 2, 12, 1, 49, 14), (70, .sipush 192, 3, 192, 1, 52, 15), (79, .bipush 12, 2, 12, 1, 55, 16), (87, .sipush 360, 3, 360, 1, 71, 17), (96, .bipush 36, 2, 36, 3, 58, 18), (104, .bipush 36, 2, 36, 1, 81, 19), (112, .bipush 12, 2, 12, 1, 62, 20), (120, .bipush 12, 2, 12, 1, 65, 21), (128, .bipush 12, 2, 12, 1, 68, 22), (136, .bipush 10, 2, 10, 1, 113, 23), (144, .sipush 420, 3, 420, 1, 110, 24), (153, .sipush 2000, 3, 2000, 1, 18, 39), (162, .sipush 1200, 3, 1200, 1, 87, 40), (171, .iconst 3, 1, 3, 1, 219, 43), (178, .bipush 64, 2, 64, 1, 202, 44)]
theorem tb_51a_ok : isc_ 0 0 prog_1_method_52_code tb_51a 37 = true := isc2_go (by decide +kernel)
theorem tb_51a_e : ise_ tb_51a 37 = 186 := rfl
def tb_51b : List ir_ := [(200, .ldc_w 466, 3, 221100, 1, 349, 51), (209, .sipush 201, 3, 201, 1, 359, 52), (218, .sipush 201, 3, 201, 1, 362, 53), (227, .sipush 201, 3, 201, 1, 370, 54), (236, .sipush 1024, 3, 1024, 1, 367, 55), (245, .sipush 200, 3, 200, 1, 406, 56), (254, .sipush 200, 3, 200, 1, 409, 57), (263, .sipush 200, 3, 200, 1, 412, 58), (272, .sipush 200, 3, 200, 1, 373, 59), (281, .sipush 200, 3, 200, 1, 376, 60), (290, .sipush 200, 3, 200, 1, 379, 61), (299, .sipush 7258, 3, 7258, 1, 382, 66), (308, .sipush 7258, 3, 7258, 1, 388, 67), (317, .sipush 7258, 3, 7258, 1, 391, 68), (326, .bipush 96, 2, 96, 1, 397, 70)]
theorem tb_51b_ok : isc_ 0 0 prog_1_method_52_code tb_51b 200 = true := isc2_go (by decide +kernel)
theorem tb_51b_e : ise_ tb_51b 200 = 334 := rfl
def tb_51c : List ir_ := [(339, .sipush 200, 3, 200, 2, 470, 72), (348, .bipush 20, 2, 20, 1, 473, 73)]
theorem tb_51c_ok : isc_ 0 0 prog_1_method_52_code tb_51c 339 = true := isc2_go (by decide +kernel)
theorem tb_51c_e : ise_ tb_51c 339 = 356 := rfl
def tb_51d : List ir_ := [(367, .bipush 8, 2, 8, 1, 483, 81), (375, .bipush 8, 2, 8, 1, 486, 82), (383, .bipush 40, 2, 40, 1, 489, 83), (391, .bipush 40, 2, 40, 1, 492, 84), (399, .bipush 40, 2, 40, 1, 495, 85), (407, .bipush 40, 2, 40, 1, 498, 86), (415, .bipush 40, 2, 40, 1, 501, 87), (423, .bipush 6, 2, 6, 1, 504, 88), (431, .bipush 6, 2, 6, 1, 507, 89), (439, .bipush 6, 2, 6, 1, 510, 90), (447, .bipush 6, 2, 6, 1, 513, 91)]
theorem tb_51d_ok : isc_ 0 0 prog_1_method_52_code tb_51d 367 = true := isc2_go (by decide +kernel)
theorem tb_51d_e : ise_ tb_51d 367 = 455 := rfl
def tb_210a : List ir_ := [(4, .sipush 5000, 3, 5000, 2, 9, 0), (13, .sipush 5000, 3, 5000, 2, 13, 1), (22, .sipush 5000, 3, 5000, 2, 16, 2), (31, .bipush 48, 2, 48, 4, 19, 7), (39, .sipush 1202, 3, 1202, 1, 23, 8), (48, .sipush 1202, 3, 1202, 1, 27, 9), (57, .sipush 1202, 3, 1202, 4, 30, 10), (66, .bipush 20, 2, 20, 4, 33, 20), (74, .bipush 10, 2, 10, 4, 36, 21), (82, .bipush 6, 2, 6, 4, 39, 22), (90, .bipush 20, 2, 20, 1, 42, 23), (98, .bipush 20, 2, 20, 1, 45, 24), (106, .bipush 60, 2, 60, 1, 48, 25), (114, .bipush 10, 2, 10, 4, 51, 26), (122, .bipush 10, 2, 10, 4, 54, 27), (130, .bipush 10, 2, 10, 1, 57, 28), (138, .bipush 10, 2, 10, 1, 60, 29), (146, .bipush 10, 2, 10, 1, 63, 30), (154, .bipush 10, 2, 10, 1, 66, 31), (162, .bipush 10, 2, 10, 1, 69, 32), (170, .bipush 10, 2, 10, 1, 72, 33), (178, .bipush 10, 2, 10, 3, 75, 34), (186, .bipush 6, 2, 6, 1, 79, 35), (194, .bipush 6, 2, 6, 1, 82, 36), (202, .bipush 6, 2, 6, 1, 85, 37), (210, .bipush 6, 2, 6, 1, 88, 38), (218, .bipush 6, 2, 6, 1, 91, 39), (226, .bipush 6, 2, 6, 1, 94, 40), (234, .bipush 6, 2, 6, 1, 97, 41), (242, .bipush 6, 2, 6, 1, 100, 42), (250, .bipush 6, 2, 6, 1, 103, 43), (258, .bipush 6, 2, 6, 1, 106, 44), (266, .bipush 48, 2, 48, 4, 109, 45), (274, .bipush 18, 2, 18, 4, 112, 46), (282, .bipush 72, 2, 72, 4, 115, 47), (290, .bipush 60, 2, 60, 4, 118, 48), (298, .bipush 48, 2, 48, 1, 121, 49), (306, .bipush 48, 2, 48, 1, 124, 50), (314, .bipush 48, 2, 48, 1, 127, 51), (322, .bipush 48, 2, 48, 1, 130, 52), (330, .bipush 18, 2, 18, 1, 133, 53), (338, .bipush 72, 2, 72, 1, 136, 54), (346, .bipush 60, 2, 60, 1, 139, 55), (354, .bipush 60, 2, 60, 1, 142, 56), (362, .bipush 60, 2, 60, 1, 145, 57), (370, .bipush 36, 2, 36, 4, 148, 59), (378, .bipush 36, 2, 36, 1, 151, 60), (386, .sipush 1300, 3, 1300, 1, 154, 64), (395, .sipush 1300, 3, 1300, 1, 157, 65), (404, .sipush 1300, 3, 1300, 1, 160, 66), (413, .sipush 1300, 3, 1300, 1, 163, 67), (422, .sipush 1300, 3, 1300, 1, 166, 68), (431, .sipush 1300, 3, 1300, 1, 169, 69), (440, .sipush 1300, 3, 1300, 1, 172, 70), (449, .sipush 1300, 3, 1300, 1, 175, 71), (458, .sipush 1300, 3, 1300, 1, 178, 72), (467, .sipush 1300, 3, 1300, 1, 181, 73), (476, .sipush 3900, 3, 3900, 1, 184, 74), (485, .sipush 1300, 3, 1300, 1, 187, 77), (494, .sipush 1300, 3, 1300, 1, 190, 78), (503, .sipush 1300, 3, 1300, 1, 193, 79), (512, .sipush 1300, 3, 1300, 1, 196, 80), (521, .sipush 1300, 3, 1300, 1, 199, 81), (530, .sipush 1300, 3, 1300, 1, 202, 82), (539, .sipush 3900, 3, 3900, 1, 205, 83), (548, .sipush 1300, 3, 1300, 1, 208, 84), (557, .sipush 1300, 3, 1300, 1, 211, 85), (566, .sipush 1300, 3, 1300, 1, 214, 86), (575, .sipush 1300, 3, 1300, 1, 217, 87), (584, .sipush 1300, 3, 1300, 1, 220, 88), (593, .sipush 1300, 3, 1300, 3, 223, 89), (602, .sipush 1300, 3, 1300, 1, 226, 91), (611, .sipush 1300, 3, 1300, 1, 229, 92), (620, .sipush 1300, 3, 1300, 1, 232, 93), (629, .sipush 1300, 3, 1300, 1, 235, 94), (638, .bipush 14, 2, 14, 1, 238, 95), (646, .bipush 14, 2, 14, 1, 241, 96), (654, .bipush 14, 2, 14, 1, 244, 97), (662, .bipush 14, 2, 14, 1, 247, 98), (670, .bipush 14, 2, 14, 1, 250, 99), (678, .bipush 14, 2, 14, 3, 253, 100), (686, .bipush 14, 2, 14, 3, 256, 101), (694, .sipush 3000, 3, 3000, 1, 259, 105), (703, .sipush 3000, 3, 3000, 1, 262, 106), (712, .sipush 1240, 3, 1240, 1, 265, 110), (721, .sipush 1240, 3, 1240, 1, 268, 111), (730, .sipush 1202, 3, 1202, 1, 271, 113), (739, .sipush 1202, 3, 1202, 1, 274, 114), (748, .sipush 1202, 3, 1202, 3, 277, 115), (757, .bipush 40, 2, 40, 3, 280, 117)]
theorem tb_210a_ok : isc_ 4 4 prog_8_method_1_code tb_210a 4 = true := isc2_go (by decide +kernel)
theorem tb_210a_e : ise_ tb_210a 4 = 765 := rfl
def tb_210b : List ir_ := [(770, .sipush 400, 3, 400, 1, 287, 121), (779, .sipush 400, 3, 400, 1, 290, 122), (788, .bipush 6, 2, 6, 1, 293, 123), (796, .sipush 1300, 3, 1300, 3, 296, 124), (805, .sipush 1104, 3, 1104, 1, 299, 125), (814, .sipush 2000, 3, 2000, 1, 302, 140), (823, .sipush 1200, 3, 1200, 1, 305, 141), (832, .iconst 3, 1, 3, 1, 308, 146), (839, .sipush 1202, 3, 1202, 1, 311, 147), (848, .iconst 3, 1, 3, 1, 314, 150), (855, .ldc_w 317, 3, 220800, 1, 318, 154), (864, .sipush 1104, 3, 1104, 1, 321, 155), (873, .sipush 200, 3, 200, 1, 324, 156), (882, .sipush 200, 3, 200, 1, 327, 157), (891, .sipush 200, 3, 200, 1, 330, 158), (900, .sipush 200, 3, 200, 1, 333, 159), (909, .sipush 200, 3, 200, 1, 336, 160), (918, .sipush 200, 3, 200, 1, 339, 161), (927, .sipush 200, 3, 200, 1, 342, 162), (936, .bipush 8, 2, 8, 4, 345, 173), (944, .bipush 8, 2, 8, 1, 348, 174), (952, .bipush 40, 2, 40, 1, 351, 175), (960, .bipush 40, 2, 40, 1, 354, 176), (968, .bipush 40, 2, 40, 1, 357, 177), (976, .bipush 40, 2, 40, 1, 360, 178), (984, .bipush 120, 2, 120, 1, 363, 179), (992, .bipush 120, 2, 120, 1, 366, 180), (1000, .bipush 6, 2, 6, 1, 369, 181), (1008, .iconst 3, 1, 3, 1, 372, 182), (1015, .iconst 3, 1, 3, 1, 375, 183), (1022, .bipush 6, 2, 6, 1, 378, 184), (1030, .bipush 6, 2, 6, 3, 381, 185)]
theorem tb_210b_ok : isc_ 4 4 prog_8_method_1_code tb_210b 770 = true := isc2_go (by decide +kernel)
theorem tb_210b_e : ise_ tb_210b 770 = 1038 := rfl
end M472_tb
section M474_is
/-! a new IllegalStateException with a message: its constructor -/
def isNm : List String := ["java/lang/RuntimeException", "java/lang/Exception"]
section IS1
variable {p : Program} {l : Launch} {e : Env} {R : Room} {s : State} {m : MethodId} {args : Array Value} {below : List Frame} {meth : Method} {c : Code} {T9 : State} {locs : List Loc} {cells slots : Nat}
set_option maxHeartbeats 4000000 in
theorem ise_ctor (X : Stand p l e R s m args below meth c T9 locs cells slots) (hexec : p.tables.exec = Jvm.exec) (htr : e.platform.stackTraces = false) {own : String} {ic : Nat} (hown : s.vm.findClass own = some m.cls) (h : ∀ w ∈ Bundle.ownAtoms own ic RJ3 isNm, w.before args s = true)
    (hlocs : ∀ y ∈ locs, ∀ cell, s.heap[y.base]? = some cell → cell.vm.isStatics = false) {a : Addr} {cX : ClassId} {kX : Class} (hcX : s.vm.findClass RJ3 = some cX) (hkX : s.vm.classes[cX]? = some kX) (hcell : T9.heap[a]? = some (freshCell cX kX)) (hnew : s.heap.size ≤ a)
    {msg : Value} (hmsg : msg.isRef = true) {g : JFrame} (hg : g.method = m) (hsize : g.locals.size = c.maxLocals) {rest : List Value} (hstack : g.stack = msg :: .ref a :: rest) (hdg : decode c.code g.pc = .ok (.invokespecial ic, 3)) (hRf : 5 < R.frames) (hRl : 2 * g.monitorRoom + (rest.map fun v => v.category).sum + 81 ≤ R.locals) :
    ∃ (vm' : Vm) (cell' : Cell) (L : List Loc), Stand p l e R s m args below meth c ((T9.setVm vm').setCell a cell') (locs ++ L) cells slots ∧ (∀ y ∈ L, y.base = a) ∧ cell'.cls = cX ∧ cell'.vm = .none ∧
      ∀ target, Steps p.tables e below (((T9.setVm vm').setCell a cell').setTop { g with stack := rest, pc := g.pc + 3 }) target → Steps p.tables e below (T9.setTop g) target := by
  have ho : e.platform.frameOwnsMonitors = true := by rw [X.admits.platform]
  have hf : e.platform.finalization = false := by rw [X.admits.platform]
  have hpl : e.platform.magicAccessors = ({} : Platform).magicAccessors := by rw [X.admits.platform]
  have fc : Bundle.fit RJ3 = true := by decide
  have fn : ∀ n ∈ isNm, Bundle.fit n = true := by decide
  have hd : ∀ w, w ∈ Bundle.ownAtoms own ic RJ3 isNm → w.holds args s none s [] = true := fun w hw => h w hw
  obtain ⟨T, Z0, LT, -, Y⟩ := ThrowableC.of_atoms (args := args) ho hf hpl (fun w hw => h w (by simp [Bundle.ownAtoms, hw]))
  obtain ⟨Z, MC, LZ, LM, hnZ⟩ := Init0T.ofS_atoms (args := args) hpl LT Y (fun w hw => h w (by simp [Bundle.ownAtoms, hw]))
  obtain ⟨P1, Ps, hlen, L1, hL, hP1, hl1, hl2⟩ := Bundle.chainS (args := args) hpl hnZ isNm RJ3 fc fn (fun w hw => h w (by simp [Bundle.ownAtoms, hw]))
  have hfound : s.vm.findClass RJ3 = some P1.m.cls := findClass_of_methodNamed hP1
  cases Option.some.inj (hcX.symm.trans hfound)
  obtain ⟨c1, k1, hc1, hk, hord, -, -, hn6⟩ := Cond.instantiable_spec (hd (.instantiable RJ3 6) (by simp [Bundle.ownAtoms]))
  cases Option.some.inj (hc1.symm.trans hfound)
  cases Option.some.inj (hkX.symm.trans hk)
  have hs0 : selectMethod e.platform s.vm P1.m.cls T.fill0 = .method T.fill0 := by
    obtain ⟨c2, r2, m2, q1, q2, q3, q4, -⟩ := Cond.selects_spec (hd (.selects RJ3 Bundle.tFill0 Bundle.tFill0) (by simp [Bundle.ownAtoms]))
    cases Option.some.inj (q1.symm.trans hfound)
    cases Option.some.inj (q2.symm.trans (State.methodFound?_of_named Y.fill0 (by decide)))
    cases Option.some.inj (q3.symm.trans Y.fill0)
    rw [Launch.admits_selectMethod X.admits]; exact q4
  have hsF : selectMethod e.platform s.vm P1.m.cls T.fill = .method T.fill := by
    obtain ⟨c2, r2, m2, q1, q2, q3, q4, -⟩ := Cond.selects_spec (hd (.selects RJ3 Bundle.tFill Bundle.tFill) (by simp [Bundle.ownAtoms]))
    cases Option.some.inj (q1.symm.trans hfound)
    cases Option.some.inj (q2.symm.trans (State.methodFound?_of_named Y.fill (by decide)))
    cases Option.some.inj (q3.symm.trans Y.fill)
    rw [Launch.admits_selectMethod X.admits]; exact q4
  obtain ⟨cS0, hcS0, his⟩ := Y.statics
  obtain ⟨u0, hu0⟩ := Cond.staticRefV Y.unassigned LT.unassignedStatic LT.statics hcS0 his (hd (.isRef (.static Bundle.tN "UNASSIGNED_STACK" Bundle.steD)) (by simp [Bundle.ownAtoms]))
  obtain ⟨sen, hsen⟩ := Cond.staticRefV Y.sentinel LT.sentinelStatic LT.statics hcS0 his (hd (.isRef (.static Bundle.tN "SUPPRESSED_SENTINEL" Bundle.listD)) (by simp [Bundle.ownAtoms]))
  obtain ⟨ci, ii, fB, hk1, hg1, ha1, hsB, -, hnB, htB, hfB⟩ := Cond.ownField (t := .object "java/lang/Object") Y.found LT.cls (by decide +kernel) (hd (.fieldLink Bundle.tN 198 Bundle.tN "backtrace" "Ljava/lang/Object;") (by simp [Bundle.ownAtoms])) (hd (.lays Bundle.tN Bundle.tN "backtrace" "Ljava/lang/Object;") (by simp [Bundle.ownAtoms])) e.platform hpl
  obtain ⟨cS, hcS, heS, -, hkeep⟩ := X.same.2.2.2.2.2 T.aS cS0 hcS0
  have hcS : T9.heap[T.aS]? = some cS := hcS
  have hout : ∀ i, (⟨T.aS, i⟩ : Loc) ∉ locs := fun i hm => by
    have := hlocs _ hm cS0 hcS0
    rw [his] at this; cases this
  have hkS : cS.vm ≠ .unknown := by
    rw [heS]; intro hu
    rw [show cS0.vm = .unknown from hu] at his
    cases his
  have hne : T.aS ≠ a := Nat.ne_of_lt (Nat.lt_of_lt_of_le (Array.getElem?_eq_some_iff.mp hcS0).1 hnew)
  obtain ⟨iM, hfM⟩ := Y.msg
  obtain ⟨tC, dC, hdC, hdnC⟩ := Cond.laysAt hfound hk Y.cause (hd (.lays RJ3 Bundle.tN "cause" "Ljava/lang/Throwable;") (by simp [Bundle.ownAtoms]))
  obtain ⟨tS, dS, hdS, hdnS⟩ := Cond.laysAt hfound hk Y.stack (hd (.lays RJ3 Bundle.tN "stackTrace" Bundle.steD) (by simp [Bundle.ownAtoms]))
  obtain ⟨tP, dP, hdP, hdnP⟩ := Cond.laysAt hfound hk Y.supp (hd (.lays RJ3 Bundle.tN "suppressedExceptions" Bundle.listD) (by simp [Bundle.ownAtoms]))
  obtain ⟨tM, dM, hdM, hdnM⟩ := Cond.laysAt hfound hk hfM (hd (.lays RJ3 Bundle.tN "detailMessage" "Ljava/lang/String;") (by simp [Bundle.ownAtoms]))
  obtain ⟨tB, dB, hdB, hdnB⟩ := Cond.laysAt hfound hk hfB (hd (.lays RJ3 Bundle.tN "backtrace" "Ljava/lang/Object;") (by simp [Bundle.ownAtoms]))
  have bC := Cond.laysApart hdB hdC hdnB hdnC (by rw [hnB, Y.causeName]; decide)
  have bS := Cond.laysApart hdB hdS hdnB hdnS (by rw [hnB, Y.stackName]; decide)
  have bP := Cond.laysApart hdB hdP hdnB hdnP (by rw [hnB, Y.suppName]; decide)
  have hskip : SkipFacts T e.platform s (fun u => u) u0 ((preparedCellV T.toThrowableT (freshCell P1.m.cls kX) a u0 sen).withEntry T9.cur) :=
    ⟨{ ci198 := ci, i198 := ii, fBack := fB }, ⟨hk1, hg1, ha1, hsB⟩, by
      have := fresh_default (c := P1.m.cls) tB
      rw [htB] at this
      simpa [preparedCellV, Cell.setSlot, Cell.withEntry, Array.getElem?_setIfInBounds, bC, bS, bP, bC.symm, bS.symm, bP.symm, defaultValue] using this, fun _ _ => rfl⟩
  obtain ⟨tm, mC, cdC, kC, vm1, hnC, -, -, -, -, -, -, -, hW1, st1⟩ := Steps.initColdS (tb := p.tables) (e := e) (below := below) (s := s) (U := T9) X.here hexec X.warmed hpl hown (t := Bundle.initS RJ3) rfl rfl (Bundle.fit_spec fc).2
    (hd (.methodLink own ic (Bundle.initS RJ3)) (by simp [Bundle.ownAtoms])) (h (.instanceMethod (Bundle.initS RJ3)) (by simp [isNm, Bundle.ownAtoms, Bundle.chainSAtoms, Bundle.passSAtoms])) (bytes := Bundle.six) (maxL := 2) (h (.code (Bundle.initS RJ3) Bundle.six 2 none) (by simp [isNm, Bundle.ownAtoms, Bundle.chainSAtoms, Bundle.passSAtoms]))
    (f := g) hg (a := a) (msg := msg) (rest := rest) hstack hdg
  cases Option.some.inj (hnC.symm.trans hP1)
  have X1 := X.noted hW1
  obtain ⟨vm2, X2, st2⟩ := X1.ctorMessageOffV hexec (g := { g with stack := rest }) hg hsize T LT Z LZ MC LM (P1 :: Ps)
    (fun P hP => by rcases List.mem_cons.mp hP with rfl | hP; exact L1; exact hL P hP) ⟨hl1, hl2⟩ (u0 := u0) (sen := sen) (self := a) hmsg (cell := freshCell P1.m.cls kX) (cellS := cS)
    hcell (fun _ => by simp) (by simp) rfl rfl hs0 hsF hcS hne hkS (by rw [hkeep _ (hout _)]; exact hu0) (by rw [hkeep _ (hout _)]; exact hsen)
    (Takes.of_laid hk hord tC (by rw [Y.causeType]; rfl)) (Takes.of_laid hk hord tS (by rw [Y.stackType]; exact fits_refV_array _ u0)) (Takes.of_laid hk hord tP (by rw [Y.suppType]; exact fits_refV_object _ sen))
    (Takes.of_laid hk hord tM (by rw [Y.msgType]; exact fits_refV_object _ ⟨msg, hmsg⟩)) Y.objLocals hskip htr [] hdg
    (by simp only [List.length_cons, hlen]; show 2 + 1 + 2 < R.frames; omega) (by simp only [List.length_cons, hlen]; show 2 * g.monitorRoom + (rest.map fun v => v.category).sum + (13 * (2 + 1) + 42) ≤ R.locals; omega)
  refine ⟨vm2, _, _, X2, fun y hy => ?_, rfl, rfl, fun target ht => st1 _ (fun acts => ?_)⟩
  · simp only [List.mem_cons, List.not_mem_nil, or_false] at hy
    rcases hy with rfl | rfl | rfl | rfl | rfl <;> rfl
  · rw [doInvoke_state]
    exact st2 _ ht
end IS1
end M474_is
section M475_ie
/-! the rows of a new exception in a constructor -/
section IE1
variable {p : Program} {l : Launch} {e : Env} {R : Room} {s : State} {m : MethodId} {args : Array Value} {below : List Frame} {meth : Method} {c : Code} {H : Heap} {locs : List Loc} {cells slots : Nat} {Q : State → Prop} {cc : ByteArray} {pc : Nat} {ls : Array Slot} {rest : List Value} {D : va_G} {cA : Nat → ClassId} {A : Nat → Prop} {ws : va_W}
/-- the wide form of a String's constant -/
theorem wx_ldcwS (hx : p.tables.exec = Jvm.exec) (hb : c.code = cc) {own tx : String} {index q : Nat} (hown : s.vm.findClass own = some m.cls) (hZ : vk_R own index tx q s) (hdg : decode cc pc = .ok (.ldc_w index, 3))
    (k : W p l e R s m args below meth c H locs cells slots Q (F0 m (pc + 3) ls (.ref q :: rest))) : W p l e R s m args below meth c H locs cells slots Q (F0 m pc ls rest) := by
  intro T hT X
  obtain ⟨t, a1, b1⟩ := k T hT X
  obtain ⟨k9, cf, i, a', hk, hcf, hcp, -, hr, hev⟩ := Cond.stringRef_spec hown hZ.1
  cases hZ.2.symm.trans hev
  obtain ⟨k', hk', he⟩ := X.warmed.alike.2.2 _ _ hk
  have hr' : k'.resolved[index]? = some (some (.string q)) := by
    rcases X.warmed.entry hk hk' index with h | ⟨h, -⟩
    · rw [h]; exact hr
    · rw [hr] at h; cases h
  refine ⟨t, ?_, b1⟩
  jvm_step X.here [hx, hb, hdg, ldc_w.wp_string (e := e) (s := T) (f := F0 m pc ls rest) X.here.top hk' (by rw [he]; exact hcf) hcp hr']
  exact a1
/-- new, dup, a String's constant (of length len), the constructor -/
theorem wx_ise (hx : p.tables.exec = Jvm.exec) (hb : c.code = cc) (hml : c.maxLocals = ls.size) (htl : l.stackTraces = false) {own tx : String} {iN iS iC aw len : Nat} {ldi : Instr} (hown : s.vm.findClass own = some m.cls) (hat : ∀ w ∈ Bundle.ownAtoms own iC RJ3 isNm, w.before args s = true) (hcl : (Cond.classLink own iN RJ3).before args s = true) (hini : (Cond.initialized RJ3).before args s = true) (hZ : vk_R own iS tx aw s)
    (hK : va_K D vwCl (tys_ cA) s) (hP : va_P D vwCl ws H) (hD : va_D A ws) (hS : va_S A s.heap H locs) (hA : ∀ q, s.heap.size ≤ q → A q) (hA2 : ∀ q, A q → ∀ cell : Cell, s.heap[q]? = some cell → cell.vm.isStatics = false)
    (hd0 : decode cc pc = .ok (.new iN, 3)) (hd1 : decode cc (pc + 3) = .ok (.dup, 1)) (hd2 : (ldi = .ldc iS ∧ len = 2) ∨ (ldi = .ldc_w iS ∧ len = 3)) (hd3 : decode cc (pc + 4) = .ok (ldi, len)) (hd4 : decode cc (pc + 4 + len) = .ok (.invokespecial iC, 3)) (hRc : cells + 1 ≤ R.cells) (hRs : slots + 6 ≤ R.slots) (hRf : 5 < R.frames) (hrest : (rest.map fun v => v.category).sum ≤ 8) (hRl : 90 ≤ R.locals)
    (kk : ∀ (q : Nat) (H1 : Heap) (locs1 : List Loc), va_P D vwCl (ws ++ [(q, .inr (5, []))]) H1 → va_D A (ws ++ [(q, .inr (5, []))]) → va_S A s.heap H1 locs1 → W p l e R s m args below meth c H1 locs1 (cells + 1) (slots + 6) Q (F0 m (pc + 4 + len + 3) ls (.ref q :: rest))) : W p l e R s m args below meth c H locs cells slots Q (F0 m pc ls rest) := by
  have hKn := hK.1 5 _ rfl
  have hinst : (Cond.instantiable RJ3 6).before args s = true := hat _ (by simp [Bundle.ownAtoms])
  refine W.newcK hx hb hown hcl hinst hini rfl hd0 hRc hRs hKn.2.1 rfl fun H1 kC hkC e1 z1 o1 => ?_
  refine W.eq (g2 := F0 m (pc + 3) ls (.ref H.size :: rest)) rfl ?_
  refine lv_dup hx hb hd1 rfl ?_
  have hld : ∀ (k : W p l e R s m args below meth c H1 locs (cells + 1) (slots + 6) Q (F0 m (pc + 4 + len) ls (.ref aw :: .ref H.size :: .ref H.size :: rest))), W p l e R s m args below meth c H1 locs (cells + 1) (slots + 6) Q (F0 m (pc + 4) ls (.ref H.size :: .ref H.size :: rest)) := fun k => by
    rcases hd2 with ⟨rfl, rfl⟩ | ⟨rfl, rfl⟩
    · exact va_ldcS hx hb hown hZ hd3 k
    · exact wx_ldcwS hx hb hown hZ hd3 k
  refine hld ?_
  intro T hT X
  have hnew : s.heap.size ≤ H.size := hS.1
  have htr : e.platform.stackTraces = false := by rw [X.admits.platform]; exact htl
  obtain ⟨vm', cell', L, X2, hL, hc1, hc2, st⟩ := ise_ctor X hx htr hown hat (fun y hy cell hc => hA2 _ (hS.2.2 y hy) cell hc) (a := H.size) (cX := D.1 5) (kX := kC) hKn.2.1 hkC (by rw [hT]; exact e1) hnew (msg := .ref aw) rfl (g := F0 m (pc + 4 + len) ls (.ref aw :: .ref H.size :: .ref H.size :: rest)) rfl (by show ls.size = _; rw [hml]) (rest := .ref H.size :: rest) rfl (by rw [hb]; exact hd4) hRf (by
    show 2 * 0 + ((Value.ref H.size :: rest).map fun v => v.category).sum + 81 ≤ R.locals
    have : ((Value.ref H.size :: rest).map fun v => v.category).sum = 1 + (rest.map fun v => v.category).sum := by rw [List.map_cons, List.sum_cons]; rfl
    omega)
  have hlt : H.size < (T.setVm vm').heap.size := by show H.size < T.heap.size; rw [hT, z1]; omega
  have hself := heapAt_setCell_self (s := T.setVm vm') cell' hlt
  have hoth : ∀ q : Nat, q ≠ H.size → ((T.setVm vm').setCell H.size cell').heap[q]? = H1[q]? := fun q hq => by
    have h1 : ((T.setVm vm').setCell H.size cell').heap = T.heap.setIfInBounds H.size cell' := rfl
    rw [h1, Array.getElem?_setIfInBounds, if_neg (fun e => hq e.symm), hT]
  have hsz : ((T.setVm vm').setCell H.size cell').heap.size = H.size + 1 := by
    have h1 : ((T.setVm vm').setCell H.size cell').heap = T.heap.setIfInBounds H.size cell' := rfl
    rw [h1, Array.size_setIfInBounds, hT, z1]
  have hold : ∀ (k : Nat) (x : Nat × va_E), ws[k]? = some x → ((T.setVm vm').setCell H.size cell').heap[x.1]? = H[x.1]? := fun k x hx9 => by
    have hl := (hP k x hx9).lt
    rw [hoth _ (by omega), o1 _ hl]
  have P2 : va_P D vwCl (ws ++ [(H.size, .inr (5, []))]) ((T.setVm vm').setCell H.size cell').heap := by
    refine (hP.kept hold).app (fun k x hx9 => ?_)
    have hz : k < 1 := (List.getElem?_eq_some_iff.mp hx9).1
    rw [show k = 0 by omega] at hx9
    cases hx9
    exact ⟨_, rfl, cell', hself, hc1, hc2, fun k hk => absurd hk (Nat.not_lt_zero k)⟩
  have S2 : va_S A s.heap ((T.setVm vm').setCell H.size cell').heap (locs ++ L) := by
    refine ⟨by rw [hsz]; omega, fun q h1 h2 => ?_, fun y hy => ?_⟩
    · rw [hoth q (by omega), o1 q (by omega)]; exact hS.2.1 q h1 h2
    · rcases List.mem_append.mp hy with h | h
      · exact hS.2.2 y h
      · rw [hL y h]; exact hA _ hnew
  obtain ⟨t, a1, b1⟩ := kk H.size _ (locs ++ L) P2 (hD.push hP rfl (hA _ hnew)) S2 _ rfl X2
  exact ⟨t, st t a1, b1⟩
end IE1
end M475_ie
section M476_po
/-! puts of a constructor into its own object -/
def pko_ (ci idx f : Nat) : Bool := (match fq_ ci idx with | some q => q.2.2.1 == ci && (q.2.2.2.1 == f && q.2.2.2.2.1 == 0) | none => false) && (decide (f < nf0 ci) && (decide ((tt0 ci f).1 = cn1 ci) && (match tz0 ci f with | .object _ => true | .array _ => true | _ => false)))
def pki_ (ci idx f : Nat) : Bool := (match fq_ ci idx with | some q => q.2.2.1 == ci && (q.2.2.2.1 == f && q.2.2.2.2.1 == 0) | none => false) && (decide (f < nf0 ci) && (decide ((tt0 ci f).1 = cn1 ci) && (decide (tz0 ci f = .int) && decide ((tt0 ci f).2.2.2 = false))))
section PO1
variable {p : Program} {l : Launch} {e : Env} {R : Room} {s : State} {m : MethodId} {args : Array Value} {below : List Frame} {meth : Method} {c : Code} {H : Heap} {locs : List Loc} {cells slots : Nat} {Q : State → Prop} {cc : ByteArray} {pc : Nat} {ls : Array Slot} {rest : List Value} {D : va_G} {cA : Nat → ClassId} {A : Nat → Prop} {tl : va_W} {h0 v ci idx f : Nat} {fs : List Value}
theorem fqw_ (hts : ∀ w ∈ lw_all, w.before args s = true) (h : (match fq_ ci idx with | some q => q.2.2.1 == ci && (q.2.2.2.1 == f && q.2.2.2.2.1 == 0) | none => false) = true) : (Cond.fieldLink (cn1 ci) idx (cn1 ci) (tt0 ci f).2.1 (tt0 ci f).2.2.1).before args s = true := by
  split at h
  · rename_i q e9
    simp only [Bool.and_eq_true, beq_iff_eq] at h
    have hq := List.find?_some e9
    simp only [Bool.and_eq_true, beq_iff_eq] at hq
    have hm := List.mem_of_find?_eq_some e9
    have hz := hts _ ((fl_word hm).2 (by omega))
    unfold fw_ at hz
    rw [if_pos h.2.2, hq.1, hq.2, h.1, h.2.1] at hz
    exact hz
  · cases h
theorem wx_putO (hx : p.tables.exec = Jvm.exec) (hb : c.code = cc) (hts : ∀ w ∈ lw_all, w.before args s = true) (hown : s.vm.findClass (cn1 ci) = some m.cls) (hin2 : meth.name = "<init>") (hK : va_K D vwCl (tys_ cA) s) (hci : ci < 5) (hok : pko_ ci idx f = true) (hP : va_P D vwCl ((h0, .inr (ci, fs)) :: tl) H) (hD : va_D A ((h0, .inr (ci, fs)) :: tl)) (hS : va_S A s.heap H locs) (hfs : fs.length = nf0 ci) (hdg : decode cc pc = .ok (.putfield idx, 3))
    (kk : ∀ (H1 : Heap) (locs1 : List Loc), va_P D vwCl ((h0, .inr (ci, fs.set f (.ref v))) :: tl) H1 → va_D A ((h0, .inr (ci, fs.set f (.ref v))) :: tl) → va_S A s.heap H1 locs1 → W p l e R s m args below meth c H1 locs1 cells slots Q (F0 m (pc + 3) ls rest)) : W p l e R s m args below meth c H locs cells slots Q (F0 m pc ls (.ref v :: .ref h0 :: rest)) := by
  unfold pko_ at hok
  simp only [Bool.and_eq_true, decide_eq_true_eq] at hok
  obtain ⟨k1, k2, k3, k4⟩ := hok
  have hlk := fqw_ hts k1
  obtain ⟨f1, f2, f3, f4⟩ := cls_facts hci
  have hna : narrow (tz0 ci f) (.ref v) = .ref v := by revert k4; cases tz0 ci f <;> intro k4 <;> first | rfl | cases k4
  have hfi : fits (tz0 ci f) (.ref v) = true := by revert k4; cases tz0 ci f <;> intro k4 <;> first | rfl | cases k4
  have hl : f < fs.length := by rw [hfs]; exact k2
  have kk2 : ∀ (H2 : Heap) (locs2 : List Loc), va_P D vwCl (((h0, Sum.inr (ci, fs)) :: tl : va_W).set 0 (h0, Sum.inr (ci, fs.set f (.ref v)))) H2 → va_D A (((h0, Sum.inr (ci, fs)) :: tl : va_W).set 0 (h0, Sum.inr (ci, fs.set f (.ref v)))) → va_S A s.heap H2 locs2 → W p l e R s m args below meth c H2 locs2 cells slots Q (F0 m (pc + 3) ls rest) := fun H2 locs2 g1 g2 g3 => kk H2 locs2 g1 g2 g3
  cases hfin : (tt0 ci f).2.2.2 with
  | true => exact va_putF hx hb hts f2 (tz0 ci) f4 f3 hown (hK.sub (tys' := []) [] rfl) hP hD hS 0 rfl f1 f k2 hlk (fun x h => by rw [k3] at h; exact h) hfin hin2 k3 (f4 _ k2) hna hfi hl hdg kk2
  | false => exact va_put hx hb hts f2 (tz0 ci) f4 f3 hown (hK.sub (tys' := []) [] rfl) hP hD hS 0 rfl f1 f k2 hlk (fun x h => by rw [k3] at h; exact h) hfin (f4 _ k2) hna hfi hl hdg kk2
theorem wx_putZ {x : Int32} (hx : p.tables.exec = Jvm.exec) (hb : c.code = cc) (hts : ∀ w ∈ lw_all, w.before args s = true) (hown : s.vm.findClass (cn1 ci) = some m.cls) (hK : va_K D vwCl (tys_ cA) s) (hci : ci < 5) (hok : pki_ ci idx f = true) (hP : va_P D vwCl ((h0, .inr (ci, fs)) :: tl) H) (hD : va_D A ((h0, .inr (ci, fs)) :: tl)) (hS : va_S A s.heap H locs) (hfs : fs.length = nf0 ci) (hdg : decode cc pc = .ok (.putfield idx, 3))
    (kk : ∀ (H1 : Heap) (locs1 : List Loc), va_P D vwCl ((h0, .inr (ci, fs.set f (.int x))) :: tl) H1 → va_D A ((h0, .inr (ci, fs.set f (.int x))) :: tl) → va_S A s.heap H1 locs1 → W p l e R s m args below meth c H1 locs1 cells slots Q (F0 m (pc + 3) ls rest)) : W p l e R s m args below meth c H locs cells slots Q (F0 m pc ls (.int x :: .ref h0 :: rest)) := by
  unfold pki_ at hok
  simp only [Bool.and_eq_true, decide_eq_true_eq] at hok
  obtain ⟨k1, k2, k3, k4, k5⟩ := hok
  have hlk := fqw_ hts k1
  obtain ⟨f1, f2, f3, f4⟩ := cls_facts hci
  have hl : f < fs.length := by rw [hfs]; exact k2
  exact va_put hx hb hts f2 (tz0 ci) f4 f3 hown (hK.sub (tys' := []) [] rfl) hP hD hS 0 rfl f1 f k2 hlk (fun x h => by rw [k3] at h; exact h) k5 (f4 _ k2) (by rw [k4]; rfl) (by rw [k4]; rfl) hl hdg (fun H2 locs2 g1 g2 g3 => kk H2 locs2 g1 g2 g3)
end PO1
/-! the words of the constructors -/
theorem wo_in : Cond.instanceMethod objectInit ∈ lw_all := lw_g (lw_at lw_m2 1 rfl) rfl
theorem wo_co : Cond.code objectInit ⟨#[177]⟩ 1 none ∈ lw_all := lw_g (lw_at lw_m2 2 rfl) rfl
theorem wo_l2 : Cond.methodLink (cn1 2) 3 objectInit ∈ lw_all := lw_g (lw_at lw_m2 14 rfl) rfl
theorem wo_l3 : Cond.methodLink (cn1 3) 3 objectInit ∈ lw_all := lw_g (lw_at lw_m2 233 rfl) rfl
theorem wo_l1 : Cond.methodLink (cn1 1) 3 objectInit ∈ lw_all := lw_g (lw_at lw_m2 8 rfl) rfl
theorem wo_l0 : Cond.methodLink (cn1 0) 442 objectInit ∈ lw_all := lw_g (lw_at lw_m2 0 rfl) rfl
theorem wo_l4 : Cond.methodLink (cn1 4) 3 objectInit ∈ lw_all := lw_g (lw_at lw_m7 158 rfl) rfl
end M476_po
section M477_c1
/-! the constructors of Tokens, Plan and Reader -/
abbrev yI (c : Nat) : MethodName := ⟨cn1 c, "<init>", "()V"⟩
section C1a
variable {l : Launch} {D : va_G} {cA : Nat → ClassId}
theorem ct_190 (h0 sz : Nat) : Met l (yI 2) (.code (yI 2) prog_5_method_1_code 1 none :: lw_all) { frames := 1, cells := tb_190a.length, slots := iss_ tb_190a, locals := 12 } (PcC D cA 2 h0 sz) (va_Qv (fun qs : List Nat => qs.length = tb_190a.length) (BcC D cA 2 h0 sz tb_190a) (va_A [(h0, .inr (2, dfl_ 2))] sz)) tb_190a.length (iss_ tb_190a) (va_A [(h0, .inr (2, dfl_ 2))] sz) :=
  ct_simple (by decide) (by decide) rfl rfl tb_190a_ok (by decide +kernel) (io := 3) (by decide +kernel) (by decide +kernel) wo_l2 wo_in wo_co h0 sz
theorem ct_206 (h0 sz : Nat) : Met l (yI 3) (.code (yI 3) prog_3_method_1_code 1 none :: lw_all) { frames := 1, cells := tb_206a.length, slots := iss_ tb_206a, locals := 12 } (PcC D cA 3 h0 sz) (va_Qv (fun qs : List Nat => qs.length = tb_206a.length) (BcC D cA 3 h0 sz tb_206a) (va_A [(h0, .inr (3, dfl_ 3))] sz)) tb_206a.length (iss_ tb_206a) (va_A [(h0, .inr (3, dfl_ 3))] sz) :=
  ct_simple (by decide) (by decide) rfl rfl tb_206a_ok (by decide +kernel) (io := 3) (by decide +kernel) (by decide +kernel) wo_l3 wo_in wo_co h0 sz
end C1a
theorem wk_190 : Cond.code (yI 2) prog_5_method_1_code 1 none ∈ lw_all := lw_g (lw_at lw_m2 13 rfl) rfl
theorem wk_206 : Cond.code (yI 3) prog_3_method_1_code 1 none ∈ lw_all := lw_g (lw_at lw_m2 232 rfl) rfl
theorem wk_100 : Cond.code (yI 1) prog_4_method_1_code 1 none ∈ lw_all := lw_g (lw_at lw_m2 7 rfl) rfl
theorem wk_51 : Cond.code (yI 0) prog_1_method_52_code 1 none ∈ lw_all := lw_g (lw_at lw_m1 239 rfl) rfl
theorem wk_210 : Cond.code (yI 4) prog_8_method_1_code 6 none ∈ lw_all := lw_g (lw_at lw_m7 157 rfl) rfl
theorem wi_190 : Cond.instanceMethod (yI 2) ∈ lw_all := lw_g (lw_at lw_m2 12 rfl) rfl
theorem wi_206 : Cond.instanceMethod (yI 3) ∈ lw_all := lw_g (lw_at lw_m2 231 rfl) rfl
theorem wi_100 : Cond.instanceMethod (yI 1) ∈ lw_all := lw_g (lw_at lw_m2 6 rfl) rfl
theorem wi_51 : Cond.instanceMethod (yI 0) ∈ lw_all := lw_g (lw_at lw_m1 238 rfl) rfl
theorem wi_210 : Cond.instanceMethod (yI 4) ∈ lw_all := lw_g (lw_at lw_m7 156 rfl) rfl
/-- the words of a constructor's contract are good -/
theorem gdK_ {w : Cond} (h : w ∈ lw_all) : GoodIn lw_all (w :: lw_all) := fun x hx => by
  rcases List.mem_cons.mp hx with e | e
  · rw [e]; exact lw_self w h
  · exact lw_self x e
end M477_c1
section M478_zz
/-! what the constructors of Reader and of the house need beside -/
def nm0 : List Cond := [.methodLinkNest (cn1 1) 11 (yI 2) "ExchangeHouse", .methodLinkNest (cn1 0) 449 (yI 1) "ExchangeHouse", .methodLinkNest (cn1 0) 454 (yI 3) "ExchangeHouse", .methodLinkNest (cn1 0) 478 (yI 2) "ExchangeHouse"]
/-- words on tables alone, which the kit's list leaves out -/
def nx0 : List Cond := [.castable RJ3 RJ3, .declares (Bundle.initS "java/lang/RuntimeException"), .declares (Bundle.initS "java/lang/Exception"), .declares (Bundle.initS Bundle.tN)]
/-- a static field lies in its class's cell -/
def lyS (C n d : String) (U : State) (H : Heap) : Prop := ∃ (c : ClassId) (k : Class) (i : Nat) (f : Field) (a : Nat) (cell : Cell), U.vm.findClass C = some c ∧ U.fieldFound? C n d = some (c, k, i, f) ∧ f.isStatic = true ∧ k.statics = some a ∧ H[a]? = some cell ∧ cell.vm.isStatics = true ∧ cell.cls = c ∧ f.slot < cell.slots.size ∧ k.staticTypes[f.slot]? = some f.type
def ZZ (U : State) (H : Heap) : Prop := (va_Zq Bundle.tN "UNASSIGNED_STACK" Bundle.steD (fun _ => False) U H ∧ va_Zq Bundle.tN "SUPPRESSED_SENTINEL" Bundle.listD (fun _ => False) U H) ∧ ((∃ a, vk_R (cn1 1) 20 "wrong" a U) ∧ ∃ a, vk_R (cn1 0) 462 "wrong" a U) ∧ (∀ w ∈ nm0, va_Nw w U) ∧ (∀ w ∈ nx0, va_Nw w U) ∧ lyS Bundle.tN "UNASSIGNED_STACK" Bundle.steD U H ∧ lyS Bundle.tN "SUPPRESSED_SENTINEL" Bundle.listD U H
section ZZ1
variable {s U : State} {H H1 : Heap} {args : Array Value}
theorem lyS.moved {C n d : String} (hvm : s.vm.Alike U.vm) (h : lyS C n d s H) : lyS C n d U H := by
  obtain ⟨c, k, i, f, a, cell, h0, h1, h2, h3, h4, h5, h6, h7, h8⟩ := h
  obtain ⟨k', hi', he⟩ := State.fieldFound?_setVm hvm h1
  exact ⟨c, k', i, f, a, cell, by rw [hvm.findClass]; exact h0, hi', h2, by rw [he]; exact h3, h4, h5, h6, h7, by rw [he]; exact h8⟩
theorem lyS.word {C n d : String} (h : lyS C n d U U.heap) : (Cond.laysStatic C n d).before args U = true := by
  obtain ⟨c, k, i, f, a, cell, h0, h1, h2, h3, h4, h5, h6, h7, h8⟩ := h
  simp [Cond.before, Cond.holds, Cond.value, h0, h1, h2, h3, h4, h5, h6, h7, h8]
theorem lyS.of {C n d : String} (h : (Cond.laysStatic C n d).before args U = true) : lyS C n d U U.heap := by
  obtain ⟨c, k, i, f, a, cell, hc, hi, hst, ha, hcell, hs, hcls, hlt, hty⟩ := Cond.laysStatic_spec h
  exact ⟨c, k, i, f, a, cell, hc, hi, hst, ha, hcell, hs, hcls, hlt, hty⟩
theorem nwD {x : MethodName} (hvm : s.vm.Alike U.vm) (h : va_Nw (.declares x) s) : va_Nw (.declares x) U := by
  have h1 : s.methodNamed? x = U.methodNamed? x := (State.methodNamed?_setVm (s := s) hvm x).symm
  have h2 : U.vm.method? = s.vm.method? := funext hvm.method?
  unfold va_Nw at h ⊢
  simp only [Cond.before, Cond.holds, Cond.value] at h ⊢
  rw [← h1, h2]
  exact h
theorem nwC {a b : String} (hvm : s.vm.Alike U.vm) (h : va_Nw (.castable a b) s) : va_Nw (.castable a b) U := by
  unfold va_Nw at h ⊢
  simp only [Cond.before, Cond.holds, Cond.value] at h ⊢
  simp only [hvm.findClass, hvm.assignable]
  exact h
theorem ZZ.warm (h : ZZ s H) (hW : s.WarmedH U.vm) : ZZ U H := by
  obtain ⟨⟨z1, z2⟩, ⟨⟨a1, r1⟩, a2, r2⟩, z3, z4, z5, z6⟩ := h
  refine ⟨⟨z1.moved hW.alike, z2.moved hW.alike⟩, ⟨⟨a1, r1.warm hW⟩, a2, r2.warm hW⟩, fun w hw => ?_, fun w hw => ?_, z5.moved hW.alike, z6.moved hW.alike⟩
  · have h9 := z3 w hw
    simp only [nm0, List.mem_cons, List.not_mem_nil, or_false] at hw
    rcases hw with rfl | rfl | rfl | rfl <;> exact va_Nw.warmM hW h9
  · have h9 := z4 w hw
    simp only [nx0, List.mem_cons, List.not_mem_nil, or_false] at hw
    rcases hw with rfl | rfl | rfl | rfl
    · exact nwC hW.alike h9
    · exact nwD hW.alike h9
    · exact nwD hW.alike h9
    · exact nwD hW.alike h9
theorem zq_old {C n d : String} (h : va_Zq C n d (fun _ => False) U H) (hk : ∀ (a : Nat) (cell : Cell), H[a]? = some cell → cell.vm.isStatics = true → H1[a]? = H[a]?) : va_Zq C n d (fun _ => False) U H1 := by
  rcases h with ⟨cf, kf, fi, f, a, cell, h1, h2, h3, h4, h5, h6, h7, h8⟩ | ⟨t, cf, kf, fi, f, a, cell, h1, h2, h3, h4, h5, h6, h7, h8⟩
  · exact .inl ⟨cf, kf, fi, f, a, cell, h1, h2, h3, h4, by rw [hk a cell h5 h6]; exact h5, h6, h7, h8⟩
  · exact .inr ⟨t, cf, kf, fi, f, a, cell, h1, h2, h3, h4, by rw [hk a cell h5 h6]; exact h5, h6, h7, h8⟩
theorem ly_old {C n d : String} (h : lyS C n d U H) (hk : ∀ (a : Nat) (cell : Cell), H[a]? = some cell → cell.vm.isStatics = true → H1[a]? = H[a]?) : lyS C n d U H1 := by
  obtain ⟨c, k, i, f, a, cell, h0, h1, h2, h3, h4, h5, h6, h7, h8⟩ := h
  exact ⟨c, k, i, f, a, cell, h0, h1, h2, h3, by rw [hk a cell h4 h5]; exact h4, h5, h6, h7, h8⟩
/-- the statics stay, whatever else is written -/
theorem ZZ.old (h : ZZ U H) (hk : ∀ (a : Nat) (cell : Cell), H[a]? = some cell → cell.vm.isStatics = true → H1[a]? = H[a]?) : ZZ U H1 := ⟨⟨zq_old h.1.1 hk, zq_old h.1.2 hk⟩, h.2.1, h.2.2.1, h.2.2.2.1, ly_old h.2.2.2.2.1 hk, ly_old h.2.2.2.2.2 hk⟩
theorem zq_ref {C n d : String} {A : Nat → Prop} (h : va_Zq C n d A U U.heap) : (Cond.isRef (.static C n d)).before args U = true := by
  rcases h with ⟨cf, kf, fi, f, a, cell, h1, h2, h3, h4, h5, h6, h7, h8⟩ | ⟨t, cf, kf, fi, f, a, cell, h1, h2, h3, h4, h5, h6, h7, h8⟩
  · have e : (Term.static C n d).eval args U none [] U = some .null := by simp [Term.eval, State.fieldNamed?, h1, h2, h4, h5, h6, h7]
    simp [Cond.before, Cond.holds, Cond.value, e, Value.isRef]
  · have e : (Term.static C n d).eval args U none [] U = some (.ref t) := by simp [Term.eval, State.fieldNamed?, h1, h2, h4, h5, h6, h7]
    simp [Cond.before, Cond.holds, Cond.value, e, Value.isRef]
end ZZ1
end M478_zz
section M479_gc
/-! a new object of one of the five classes: new, dup, its constructor -/
theorem dfl_ok {ci j : Nat} (hci : ci < 5) (hj : j < nf0 ci) : defaultValue (tz0 ci j) = vp_V (dfl_ ci) j := by
  have h : ∀ ci, ci < 5 → ∀ j, j < nf0 ci → defaultValue (tz0 ci j) = vp_V (dfl_ ci) j := by decide +kernel
  exact h ci hci j hj
theorem nd_rg (n : Nat) : va_nd (List.range n) = true := by
  have h : ∀ l : List Nat, l.Nodup → va_nd l = true := by
    intro l
    induction l with
    | nil => intro _; rfl
    | cons a t ih =>
      intro h
      have h2 := List.nodup_cons.mp h
      show (decide (a ∉ t) && va_nd t) = true
      rw [ih h2.2, decide_eq_true h2.1]
      rfl
  exact h _ List.nodup_range
/-- what a constructor is given: the fresh object at h0, and the statics -/
def PcZ (D : va_G) (cA : Nat → ClassId) (ci h0 sz : Nat) : Array Value → State → Prop := va_Pc [.ref h0] (fun U => (U.heap.size = sz ∧ va_P D vwCl [(h0, .inr (ci, dfl_ ci))] U.heap ∧ va_K D vwCl (tys_ cA) U ∧ va_D (fun _ => True) [(h0, .inr (ci, dfl_ ci))]) ∧ ZZ U U.heap)
/-- what it leaves: a world -/
def BcW {S : Type} (D : va_G) (cA : Nat → ClassId) (ci h0 sz : Nat) (wB : Nat → S → va_W) : S → State → Prop := fun u t => va_P D vwCl (wB h0 u) t.heap ∧ va_K D vwCl (tys_ cA) t ∧ va_D (va_A [(h0, .inr (ci, dfl_ ci))] sz) (wB h0 u)
/-- a contract of a constructor -/
def CtM {S : Type} (l : Launch) (D : va_G) (cA : Nat → ClassId) (cj : Nat) (cc : ByteArray) (maxL : Nat) (rm : Room) (post : S → Prop) (wB : Nat → S → va_W) (mc ms : Nat) : Prop := ∀ q sz : Nat, Met l (yI cj) (.code (yI cj) cc maxL none :: lw_all) rm (PcZ D cA cj q sz) (va_Qv post (BcW D cA cj q sz wB) (va_A [(q, .inr (cj, dfl_ cj))] sz)) mc ms (va_A [(q, .inr (cj, dfl_ cj))] sz)
section GC1
variable {p : Program} {l : Launch} {e : Env} {R : Room} {s : State} {m : MethodId} {args : Array Value} {below : List Frame} {meth : Method} {c : Code} {H : Heap} {locs : List Loc} {cells slots : Nat} {Q : State → Prop} {cc : ByteArray} {pc nL : Nat} {ls : Array Slot} {rest : List Value} {D : va_G} {cA : Nat → ClassId} {A : Nat → Prop} {ws : va_W}
/-- the statics, at a point of the walk -/
theorem zz_at (hZ : ZZ s s.heap) (hA2 : ∀ q, A q → ∀ cell : Cell, s.heap[q]? = some cell → cell.vm.isStatics = false) (hS : va_S A s.heap H locs) : ZZ s H := by
  refine hZ.old (fun a cell h1 h2 => ?_)
  have hl : a < s.heap.size := (Array.getElem?_eq_some_iff.mp h1).1
  refine hS.2.1 a hl (fun hA => ?_)
  rw [hA2 a hA cell h1] at h2
  cases h2
theorem wx_con {S : Type} {post : S → Prop} {wB : Nat → S → va_W} {own : String} {cj iN iC maxL mc ms : Nat} {cc' : ByteArray} {rm : Room} (hM : CtM l D cA cj cc' maxL rm post wB mc ms) (hrc : rm.cells = mc) (hrs : rm.slots = ms)
    (hx : p.tables.exec = Jvm.exec) (hb : c.code = cc) (hml : c.maxLocals = nL) (hlz : ls.size = nL) (hown : s.vm.findClass own = some m.cls) (hts : ∀ w ∈ lw_all, w.before args s = true) (hcj : cj < 5)
    (wl : Cond.classLink own iN (cn1 cj) ∈ lw_all) (wb : Cond.instantiable (cn1 cj) (nf0 cj) ∈ lw_all) (wn : Cond.initialized (cn1 cj) ∈ lw_all) (wk : Cond.code (yI cj) cc' maxL none ∈ lw_all) (wi : Cond.instanceMethod (yI cj) ∈ lw_all) (hln : (∃ host, va_Nw (.methodLinkNest own iC (yI cj) host) s) ∨ Cond.methodLink own iC (yI cj) ∈ lw_all)
    (hK : va_K D vwCl (tys_ cA) s) (hP : va_P D vwCl ws H) (hD : va_D A ws) (hS : va_S A s.heap H locs) (hA : ∀ q, s.heap.size ≤ q → A q) (hA2 : ∀ q, A q → ∀ cell : Cell, s.heap[q]? = some cell → cell.vm.isStatics = false) (hZ : ZZ s s.heap)
    (hd0 : decode cc pc = .ok (.new iN, 3)) (hd1 : decode cc (pc + 3) = .ok (.dup, 1)) (hd2 : decode cc (pc + 4) = .ok (.invokespecial iC, 3))
    (hRc : cells + 1 + mc ≤ R.cells) (hRs : slots + nf0 cj + ms ≤ R.slots) (hRf : rm.frames + 1 ≤ R.frames) (hRl : 8 + (maxL + 11) + rm.locals ≤ R.locals) (hrest : (rest.map fun v => v.category).sum ≤ 7)
    (kk : ∀ (u : S) (q : Nat) (H1 : Heap) (locs1 : List Loc), post u → va_P D vwCl (ws ++ wB q u) H1 → va_D A (ws ++ wB q u) → va_S A s.heap H1 locs1 → W p l e R s m args below meth c H1 locs1 (cells + 1 + mc) (slots + nf0 cj + ms) Q (F0 m (pc + 7) ls (.ref q :: rest))) : W p l e R s m args below meth c H locs cells slots Q (F0 m pc ls rest) := by
  obtain ⟨f1, f2, f3, f4⟩ := cls_facts hcj
  refine va_new (ci := cj) (fs := dfl_ cj) (C := cn1 cj) (T := tt0 cj) (N := nf0 cj) hx hb hts f2 (tz0 cj) f4 hown (hts _ wl) (hts _ wb) (hts _ wn) (tys := tys_ cA) hK hP hD hS hA f1 (fun j hj => dfl_ok hcj hj) (by omega) (by omega) hd0 (fun q H2 hP2 hD2 hS2 => ?_)
  refine lv_dup hx hb hd1 rfl ?_
  have hix : (ws ++ [(q, .inr (cj, dfl_ cj))])[ws.length]? = some ((q, .inr (cj, dfl_ cj)) : Nat × va_E) := by
    rw [List.getElem?_append_right (Nat.le_refl _), Nat.sub_self]; rfl
  have hC : [ws.length].map (fun i => (ws ++ [(q, .inr (cj, dfl_ cj))])[i]?) = ([(q, .inr (cj, dfl_ cj))] : va_W).map some := by
    show [(ws ++ [(q, .inr (cj, dfl_ cj))])[ws.length]?] = _
    rw [hix]; rfl
  have hR : (List.range ws.length).map (fun i => (ws ++ [((q, .inr (cj, dfl_ cj)) : Nat × va_E)])[i]?) = ws.map some := by
    apply List.ext_getElem?
    intro k
    rw [List.getElem?_map, List.getElem?_map]
    by_cases hk : k < ws.length
    · rw [List.getElem?_range hk, List.getElem?_eq_getElem hk]
      show some ((ws ++ [((q, .inr (cj, dfl_ cj)) : Nat × va_E)])[k]?) = _
      rw [List.getElem?_append_left hk, List.getElem?_eq_getElem hk]
      rfl
    · rw [List.getElem?_eq_none (l := List.range ws.length) (by rw [List.length_range]; omega), List.getElem?_eq_none (l := ws) (by omega)]
      rfl
  have hPc : va_P D vwCl [(q, .inr (cj, dfl_ cj))] H2 := fun k x hx9 => by
    have hz : k < 1 := (List.getElem?_eq_some_iff.mp hx9).1
    rw [show k = 0 by omega] at hx9
    cases hx9
    exact hP2 _ _ hix
  have hDc : va_D (fun _ => True) [((q, .inr (cj, dfl_ cj)) : Nat × va_E)] := ⟨fun i j x y h1 h2 _ => by
    have z1 : i < 1 := (List.getElem?_eq_some_iff.mp h1).1
    have z2 : j < 1 := (List.getElem?_eq_some_iff.mp h2).1
    omega, fun _ _ _ => trivial⟩
  have hFc := va_free (wc := [(q, .inr (cj, dfl_ cj))]) hD2 hS2 hA [ws.length] hC
  have hZ2 : ZZ s H2 := zz_at hZ hA2 hS2
  have hPre : PreS s H2 (PcZ D cA cj q H2.size) [.ref q] := ⟨fun a U g mk q => by obtain ⟨q0, ⟨q1, qP, qK, qD⟩, qZ⟩ := q; exact ⟨q0, ⟨q1, qP, va_K.moved (u := U) (U := U.calling g mk a) (Vm.Alike.refl U.vm) qK, qD⟩, ZZ.warm (U := U.calling g mk a) qZ (State.WarmedH.refl U)⟩, fun U hU hW => ⟨rfl, ⟨by rw [hU], by rw [hU]; exact hPc, va_K.moved hW.alike hK, hDc⟩, by rw [hU]; exact hZ2.warm hW⟩⟩
  have hdesc : (yI cj).cls ≠ "java/lang/invoke/MethodHandle" ∧ (yI cj).cls ≠ "java/lang/invoke/VarHandle" ∧ (parseMethodDescriptor (yI cj).desc).map (fun d => d.parameters.length) = some 0 := by
    refine ⟨?_, ?_, by show (parseMethodDescriptor "()V").map _ = _; decide +kernel⟩
    · show cn1 cj ≠ _
      rcases (show cj = 0 ∨ cj = 1 ∨ cj = 2 ∨ cj = 3 ∨ cj = 4 by omega) with rfl | rfl | rfl | rfl | rfl <;> decide
    · show cn1 cj ≠ _
      rcases (show cj = 0 ∨ cj = 1 ∨ cj = 2 ∨ cj = 3 ∨ cj = 4 by omega) with rfl | rfl | rfl | rfl | rfl <;> decide
  have hG := gdK_ wk
  have hsum : 2 * (F0 m (pc + 4) ls (.ref q :: .ref q :: rest)).monitorRoom + (((.ref q : Value) :: rest).map fun v => v.category).sum ≤ 8 := by
    show 2 * 0 + _ ≤ 8
    rw [List.map_cons, List.sum_cons]
    show 2 * 0 + (1 + _) ≤ 8
    omega
  have hrun : va_Run p l e R s m args below meth c H2 locs (cells + 1) (slots + nf0 cj) mc ms (F0 m (pc + 4) ls (.ref q :: .ref q :: rest)) (.ref q :: rest) (va_Qv post (BcW D cA cj q H2.size wB) (va_A [(q, .inr (cj, dfl_ cj))] H2.size) #[.ref q]) (va_A [(q, .inr (cj, dfl_ cj))] H2.size) := by
    rcases hln with ⟨host, hln⟩ | hln
    · exact va_runIN (As := []) (rest := .ref q :: rest) ⟨hx, hb, hml, hown, hts⟩ (hM q H2.size) ⟨va_cnB 0 hts hG rfl hrc hrs hln (hts _ wn) hdesc ⟨hRf, hRl⟩, rfl, hts _ wi⟩ hPre rfl rfl hlz rfl hsum hd2 ⟨by omega, by omega⟩
    · exact va_runI (As := []) (rest := .ref q :: rest) ⟨hx, hb, hml, hown, hts⟩ (hM q H2.size) (cwI 0 hts hG rfl hrc hrs (hts _ wn) (hts _ hln) (hts _ wi) rfl hdesc ⟨hRf, hRl⟩) hPre rfl rfl hlz rfl hsum hd2 ⟨by omega, by omega⟩
  refine va_callv hrun hS2 (fun q _ h => hFc q h) hFc (fun u t H1 locs1 ht hvm h5 hB hz1 hk1 hS1 => ?_)
  obtain ⟨hP1, hK1, hD1⟩ := hB
  rw [ht] at hP1
  obtain ⟨hP3, hD3⟩ := va_join (wr := ws) (w1 := wB q u) hP2 hD2 [ws.length] (List.range ws.length) hC hR (nd_rg _) (fun i hi h9 => by
    rw [List.mem_range] at hi
    rw [List.mem_singleton] at h9
    omega) hk1 hFc hP1 hD1
  exact kk u q H1 locs1 h5 hP3 hD3 hS1
end GC1
end M479_gc
section M480_c1
/-! the constructor of Reader -/
theorem Met_wk {l : Launch} {y : MethodName} {ws : List Cond} {rm : Room} {Pc Pc' : Array Value → State → Prop} {Qc : Array Value → State → Outcome → State → Prop} {mc ms : Nat} {free : Addr → Prop} (h : Met l y ws rm Pc Qc mc ms free) (hw : ∀ a U, Pc' a U → Pc a U) : Met l y ws rm Pc' Qc mc ms free := fun p e h1 h2 h3 s m args below h4 h5 h6 h7 => h p e h1 h2 h3 s m args below h4 h5 (hw _ _ h6) h7
def wB_ (cA : Nat → ClassId) (ci : Nat) (tab : List ir_) : Nat → List Nat → va_W := fun h0 qs => (h0, .inr (ci, fso_ tab qs (dfl_ ci))) :: aro_ cA tab qs
section C1
variable {l : Launch} {D : va_G} {cA : Nat → ClassId}
theorem cm_190 : CtM l D cA 2 prog_5_method_1_code 1 { frames := 1, cells := tb_190a.length, slots := iss_ tb_190a, locals := 12 } (fun qs : List Nat => qs.length = tb_190a.length) (wB_ cA 2 tb_190a) tb_190a.length (iss_ tb_190a) := fun q sz => Met_wk (ct_190 q sz) (fun _ _ h => ⟨h.1, h.2.1⟩)
theorem cm_206 : CtM l D cA 3 prog_3_method_1_code 1 { frames := 1, cells := tb_206a.length, slots := iss_ tb_206a, locals := 12 } (fun qs : List Nat => qs.length = tb_206a.length) (wB_ cA 3 tb_206a) tb_206a.length (iss_ tb_206a) := fun q sz => Met_wk (ct_206 q sz) (fun _ _ h => ⟨h.1, h.2.1⟩)
end C1
theorem wl_9 : Cond.classLink (cn1 1) 9 (cn1 2) ∈ lw_all := lw_g (lw_at lw_m2 9 rfl) rfl
theorem wl_18 : Cond.classLink (cn1 1) 18 RJ3 ∈ lw_all := lw_g (lw_at lw_m2 50 rfl) rfl
theorem wb_2 : Cond.instantiable (cn1 2) (nf0 2) ∈ lw_all := lw_g (lw_at lw_m2 10 rfl) rfl
theorem wn_2 : Cond.initialized (cn1 2) ∈ lw_all := lw_g (lw_at lw_m1 3 rfl) rfl
theorem wn_5 : Cond.initialized RJ3 ∈ lw_all := lw_g (lw_at lw_m1 7 rfl) rfl
/-- the words of the exception's constructor: those of the list, and the few beside -/
def nq0 : List Cond := [.isRef (.static Bundle.tN "UNASSIGNED_STACK" Bundle.steD), .isRef (.static Bundle.tN "SUPPRESSED_SENTINEL" Bundle.listD), .laysStatic Bundle.tN "UNASSIGNED_STACK" Bundle.steD, .laysStatic Bundle.tN "SUPPRESSED_SENTINEL" Bundle.listD]
def isw_ (own : String) (ic : Nat) : Bool := (Bundle.ownAtoms own ic RJ3 isNm).all (fun w => decide (w ∈ lw_all) || (decide (w ∈ nq0) || decide (w ∈ nx0)))
theorem isw_at {own : String} {ic : Nat} (h : isw_ own ic = true) {s : State} {args : Array Value} (hts : ∀ w ∈ lw_all, w.before args s = true) (hZ : ZZ s s.heap) : ∀ w ∈ Bundle.ownAtoms own ic RJ3 isNm, w.before args s = true := by
  intro w hw
  have h1 := List.all_eq_true.mp h w hw
  simp only [Bool.or_eq_true, decide_eq_true_eq] at h1
  rcases h1 with h1 | h1 | h1
  · exact hts w h1
  · simp only [nq0, List.mem_cons, List.not_mem_nil, or_false] at h1
    rcases h1 with rfl | rfl | rfl | rfl
    · exact zq_ref hZ.1.1
    · exact zq_ref hZ.1.2
    · exact hZ.2.2.2.2.1.word
    · exact hZ.2.2.2.2.2.word
  · have h9 := hZ.2.2.2.1 w h1
    simp only [nx0, List.mem_cons, List.not_mem_nil, or_false] at h1
    rcases h1 with rfl | rfl | rfl | rfl <;> exact va_Nw.use rfl h9
theorem isw_1 : isw_ (cn1 1) 22 = true := by decide +kernel
theorem isw_0 : isw_ (cn1 0) 463 = true := by decide +kernel
section C1b
variable {l : Launch} {D : va_G} {cA : Nat → ClassId}
/-- what the constructor of Reader makes: its Tokens (at u.1), with arrays at u.2.1; the exception (at u.2.2.1); its own arrays at u.2.2.2 -/
abbrev S1_ : Type := Nat × List Nat × Nat × List Nat
def p1_ (u : S1_) : Prop := u.2.1.length = tb_190a.length ∧ u.2.2.2.length = tb_100a.length
def fs1_ (u : S1_) : List Value := fso_ tb_100a u.2.2.2 (((dfl_ 1).set 0 (.ref u.1)).set 1 (.ref u.2.2.1))
def wB1_ (cA : Nat → ClassId) (h0 : Nat) (u : S1_) : va_W := (h0, .inr (1, fs1_ u)) :: (((wB_ cA 2 tb_190a u.1 u.2.1) ++ [(u.2.2.1, .inr (5, []))]) ++ aro_ cA tb_100a u.2.2.2)
/-- A cell of its own is no class's -/
theorem nst_ {h0 ci : Nat} {fs : List Value} {s : State} {tys : List (ClassId × FieldType)} (hci : ci < 5) (hK : va_K D vwCl tys s) (hP : va_P D vwCl [(h0, .inr (ci, fs))] s.heap) : ∀ q, va_A [(h0, .inr (ci, fs))] s.heap.size q → ∀ cell : Cell, s.heap[q]? = some cell → cell.vm.isStatics = false := by
  intro q hq cell hc
  rcases hq with ⟨k, e, h⟩ | h
  · have hz : k < 1 := (List.getElem?_eq_some_iff.mp h).1
    rw [show k = 0 by omega] at h
    cases h
    obtain ⟨f1, -⟩ := cls_facts hci
    obtain ⟨cell', h1, h2, -⟩ := va_recv (q0 := 0) hK hP f1 rfl
    rw [h1] at hc
    cases hc
    exact h2
  · have := (Array.getElem?_eq_some_iff.mp hc).1
    omega
set_option maxHeartbeats 4000000 in
theorem cm_100 (htl : l.stackTraces = false) : CtM l D cA 1 prog_4_method_1_code 1 { frames := 6, cells := 1 + tb_190a.length + 1 + tb_100a.length, slots := nf0 2 + iss_ tb_190a + 6 + iss_ tb_100a, locals := 120 } p1_ (wB1_ cA) (1 + tb_190a.length + 1 + tb_100a.length) (nf0 2 + iss_ tb_190a + 6 + iss_ tb_100a) := by
  intro h0 sz
  refine Met.ofW (cc := prog_4_method_1_code) (maxL := 1) (ret := none) (by decide) rfl ?_
  intro p e s m args below meth c s₁ B hml hv
  obtain ⟨rfl, ⟨hsz, hP, hK, hD0⟩, hZ⟩ := hv
  have hx := B.exec
  have hb := B.bytes
  have hr := B.returns
  have hts0 := atoms_spec (ws := .code (yI 1) prog_4_method_1_code 1 none :: lw_all) B.pre
  have hts : ∀ w ∈ lw_all, w.before _ s = true := fun w hw => hts0 w (List.mem_cons_of_mem _ hw)
  have hown : s.vm.findClass (cn1 1) = some m.cls := findClass_of_methodNamed B.named
  have hlocks := B.notSynchronized
  have hin : meth.name = "<init>" := (name_of_methodNamed B.named B.method).1
  subst hsz
  have hD := hD0.self (sz := s.heap.size)
  have hA2 := nst_ (by decide) hK hP
  generalize hAe : va_A [(h0, .inr (1, dfl_ 1))] s.heap.size = A at hD hA2 ⊢
  have hA : ∀ q : Nat, s.heap.size ≤ q → A q := fun q h => by rw [← hAe]; exact Or.inr h
  have hS : va_S A s.heap s.heap [] := va_S.rf
  have hl9 := lv_entry ([.ref h0]) (n := 1) (Nat.le_of_ble_eq_true rfl)
  rw [lg_entry_eq]
  generalize (lg_sl ([.ref h0]) ++ List.replicate (1 - (lg_sl ([.ref h0])).length) Slot.unset).toArray = ls at hl9 ⊢
  have hl9 : lv_has ls 1 [(0, .ref h0)] := hl9
  have hls0 : ls.size = 1 := hl9.1
  have n1 := dfl_len 1
  obtain ⟨aw, hw1⟩ := hZ.2.1.1
  refine lv_aload_n hx hb (by decide +kernel : decode prog_4_method_1_code 0 = .ok (.aload_n 0, 1)) rfl (lv_at hl9 0 rfl) ?_
  refine W.objInit hx hb hown (hts _ wo_l1) (hts _ wo_in) (hts _ wo_co) rfl (by rw [hml]; exact hl9.1) rfl (by decide +kernel : decode prog_4_method_1_code 1 = .ok (.invokespecial 3, 3)) (Nat.le_of_ble_eq_true rfl) (Nat.le_of_ble_eq_true rfl) ?_
  refine W.eq (g2 := F0 m 4 ls []) rfl ?_
  refine lv_aload_n hx hb (by decide +kernel : decode prog_4_method_1_code 4 = .ok (.aload_n 0, 1)) rfl (lv_at hl9 0 rfl) ?_
  refine wx_con (iN := 9) (iC := 11) cm_190 rfl rfl hx hb hml hls0 hown hts (by decide) wl_9 wb_2 wn_2 wk_190 wi_190 (.inl ⟨_, hZ.2.2.1 _ (List.mem_of_getElem? (i := 0) rfl)⟩) hK hP hD hS hA hA2 hZ (by decide +kernel) (by decide +kernel) (by decide +kernel) (by show 0 + 1 + tb_190a.length ≤ 1 + tb_190a.length + 1 + tb_100a.length; omega) (by show 0 + nf0 2 + iss_ tb_190a ≤ nf0 2 + iss_ tb_190a + 6 + iss_ tb_100a; omega) (by show 1 + 1 ≤ 6; omega) (by show 8 + (1 + 11) + 12 ≤ 120; omega) (Nat.le_of_ble_eq_true rfl) (fun qs qt H locs h5 hP hD hS => ?_)
  refine wx_putO (f := 0) hx hb hts hown hin hK (by decide) (by decide +kernel) hP hD hS n1 (by decide +kernel : decode prog_4_method_1_code (4 + 1 + 7) = .ok (.putfield 12, 3)) (fun H locs hP hD hS => ?_)
  refine lv_aload_n hx hb (by decide +kernel : decode prog_4_method_1_code 15 = .ok (.aload_n 0, 1)) rfl (lv_at hl9 0 rfl) ?_
  refine wx_ise (iN := 18) (iS := 20) (iC := 22) hx hb (by rw [hml, hls0]) htl hown (isw_at isw_1 hts hZ) (hts _ wl_18) (hts _ wn_5) hw1 hK hP hD hS hA hA2 (by decide +kernel) (by decide +kernel) (.inl ⟨rfl, rfl⟩) (by decide +kernel) (by decide +kernel) (by show 0 + 1 + tb_190a.length + 1 ≤ 1 + tb_190a.length + 1 + tb_100a.length; omega) (by show 0 + nf0 2 + iss_ tb_190a + 6 ≤ nf0 2 + iss_ tb_190a + 6 + iss_ tb_100a; omega) (by show 5 < 6; omega) (Nat.le_of_ble_eq_true rfl) (by show 90 ≤ 120; omega) (fun qe H locs hP hD hS => ?_)
  refine wx_putO (f := 1) hx hb hts hown hin hK (by decide) (by decide +kernel) hP hD hS (by rw [List.length_set]; exact n1) (by decide +kernel : decode prog_4_method_1_code (15 + 1 + 4 + 2 + 3) = .ok (.putfield 25, 3)) (fun H locs hP hD hS => ?_)
  refine ini_seg (o := 1) (ci := 1) (A := A) hx hb hts hown hin hK (by decide) hA (lv_at hl9 0 rfl) tb_100a 28 _ _ H locs _ _ tb_100a_ok hP hD hS (by rw [List.length_set, List.length_set]; exact n1) (by show 0 + 1 + tb_190a.length + 1 + tb_100a.length ≤ 1 + tb_190a.length + 1 + tb_100a.length; omega) (by show 0 + nf0 2 + iss_ tb_190a + 6 + iss_ tb_100a ≤ nf0 2 + iss_ tb_190a + 6 + iss_ tb_100a; omega) (fun qa H1 locs1 e1 g1 g2 g3 => ?_)
  rw [show 0 + 1 + tb_190a.length + 1 + tb_100a.length = 1 + tb_190a.length + 1 + tb_100a.length by omega, show 0 + nf0 2 + iss_ tb_190a + 6 + iss_ tb_100a = nf0 2 + iss_ tb_190a + 6 + iss_ tb_100a by omega, tb_100a_e]
  exact W.vret hx hb hr (fun t ht hW => ⟨⟨(qt, qs, qe, qa), rfl, ⟨h5, e1⟩, by rw [ht]; exact g1, va_K.moved hW.alike hK, by rw [hAe]; exact g2⟩, g3.F ht⟩) g3.2.2 (by decide +kernel)
end C1b
end M480_c1
