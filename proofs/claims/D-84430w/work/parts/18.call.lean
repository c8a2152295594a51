/-! CALLS, and the soundness of the pure machine -/
theorem ml_word {q : ml_} (h : q ∈ ml0) : mw_ q ∈ lw_all := by
  refine lw_g ?_ (List.all_eq_true.mp ml0_good q h)
  obtain ⟨i, hi⟩ := List.getElem?_of_mem h
  have hl : ∀ (p : Nat) (l : List Nat), (gaps_ p l).length = l.length := by
    intro p l
    induction l generalizing p with
    | nil => rfl
    | cons x t ih => show (gaps_ (x + 1) t).length + 1 = t.length + 1; rw [ih]
  have hi2 : i < (gaps_ 0 (ml0.map (fun q => q.2.2.2))).length := by
    rw [hl, List.length_map]
    exact (List.getElem?_eq_some_iff.mp hi).1
  refine sk_mem _ _ ml0_ok ((gaps_ 0 (ml0.map (fun q => q.2.2.2)))[i], mw_ q) ?_
  refine List.mem_of_getElem? (i := i) ?_
  rw [List.getElem?_zip_eq_some]
  exact ⟨List.getElem?_eq_getElem hi2, by rw [List.getElem?_map, hi]; rfl⟩
theorem take_rev {α : Type} {st : List α} {b : Nat} {x : α} (hb : 0 < b) (h : st[b - 1]? = some x) : (st.take b).reverse = x :: (st.take (b - 1)).reverse := by
  obtain ⟨n, rfl⟩ : ∃ n, b = n + 1 := ⟨b - 1, by omega⟩
  rw [Nat.add_sub_cancel] at h
  rw [List.take_add_one, h, List.reverse_append]
  rfl
theorem fd_tail {q : Int × Nat} {t : List (Int × Nat)} {r : Nat} (hq : q.1 = -1) (h : (fd_ (q :: t) r).isSome = true) : ∃ z ∈ t, z.1 = (r : Int) := by
  obtain ⟨y, hy⟩ := Option.isSome_iff_exists.mp h
  have := fd_mem _ hy
  rcases List.mem_cons.mp this with e9 | e9
  · rw [← e9] at hq
    have hq : (r : Int) = -1 := hq
    omega
  · exact ⟨_, e9, rfl⟩
section SC
variable {p : Program} {l : Launch} {e : Env} {R : Room} {s : State} {m : MethodId} {args : Array Value} {below : List Frame} {meth : Method} {c : Code} {D : va_G} {cA : Nat → ClassId} {ad : Nat → Nat} {ov : Value} {A : Nat → Prop} {L : Nat} {xs : Nat → Int32}
variable {cc : ByteArray} {nL o : Nat} {rt : Option FieldType} {hh : List (Nat × Nat × Nat × Nat)} {Qt : qt_} {cells slots : Nat} {Q : State → Prop}
/-- the cell of a receiver -/
theorem rcv_ (hWo : Wo_ D cA ad ov A L xs s) {H : Heap} {locs : List Loc} {M : mm_} (hP : va_P D vwCl (wl_ wd0 nf0 cA NR0 ad M) H) (hS : va_S A s.heap H locs) {ci r : Nat} {z : Int × Nat} (hz : z.1 = (r : Int)) (h : okv9_ ci z = true) : ∃ cell : Cell, H[ad r]? = some cell ∧ cell.vm.isStatics = false ∧ s.vm.findClass (cn1 ci) = some cell.cls := by
  unfold okv9_ at h
  rw [hz, Int.toNat_natCast] at h
  simp only [Bool.and_eq_true, Bool.or_eq_true, decide_eq_true_eq, beq_iff_eq] at h
  obtain ⟨-, hrc, h⟩ := h
  rcases h with ⟨h1, h2⟩ | ⟨h1, h2, h3⟩
  · have hv : ∀ ci, ci < 6 → ∃ q, vwCl[ci]? = some q ∧ q.1 = cn1 ci := by
      intro ci hci
      match ci, hci with
      | 0, _ => exact ⟨_, rfl, rfl⟩
      | 1, _ => exact ⟨_, rfl, rfl⟩
      | 2, _ => exact ⟨_, rfl, rfl⟩
      | 3, _ => exact ⟨_, rfl, rfl⟩
      | 4, _ => exact ⟨_, rfl, rfl⟩
      | 5, _ => exact ⟨_, rfl, rfl⟩
    obtain ⟨q, hq1, hq2⟩ := hv ci h2
    rw [← hq2]
    exact va_recv (q0 := r) hWo.1 hP hq1 (by rw [wl_at h1, ce_obj (show wd0.1 r ≠ 99 by show rc0 r ≠ 99; omega)]; show some (ad r, Sum.inr (rc0 r, _)) = _; rw [hrc])
  · subst h3
    obtain ⟨i, rfl⟩ : ∃ i, r = 1001 + i := ⟨r - 1001, by omega⟩
    exact vk_recv (i := i) hWo.2.2.2.1 (by omega) hS
set_option maxHeartbeats 4000000 in
theorem call_go (cx : Cx_ p l R s m args meth c cells slots cc nL o rt hh D cA ad ov A L xs) {d : Nat} (hRf : d + 1 ≤ R.frames) (hRl : 64 * (d + 1) ≤ R.locals)
    (ih : ∀ n ∈ mids0, ∀ (as : List pv_) (M : mm_) (Qr : qr_) (Qt : qt_), Tr_ wd0 pg0 d n as M Qr Qt → Mk_ l D cA ad ov A L xs d n as M Qr Qt)
    {hs : List (Nat × Nat × Nat)}
    (hth : ∀ {T : State} {locs : List Loc} {pc : Nat} {lsm : Array Slot} {st : List Value} {ls : lo_} {r : Nat} {M : mm_}, Stand p l e R s m args below meth c T locs cells slots → r ≠ 1999 → Pi_ D cA ad L xs M T.heap → va_S A s.heap T.heap locs → lh_ ad ov nL ls lsm → th_ (Wm_ p l e R s m args below meth c cells slots Q D cA ad ov A L xs nL) Qt hs pc ls r M →
      ∃ t, Steps p.tables e below ((T.setTop (F0 m pc lsm st)).pushFrame (.throwing (ad r))) t ∧ Q t) :
    Ck_ (Wm_ p l e R s m args below meth c cells slots Q D cA ad ov A L xs nL) (Tr_ wd0 pg0 d) Qt hs o cc := by
  obtain ⟨⟨hx, hb, hml⟩, hown, hts, -, hWo, hDD, hov, ⟨-, -, hRc, hRs⟩, hL⟩ := cx
  intro pc idx a b k vir tb ls st M hdg hok hk hvir h
  unfold cl_ at h
  split at h
  case isFalse => exact h.elim
  rename_i hn
  obtain ⟨hn1, hn2⟩ := hn
  simp only [okc_, Bool.and_eq_true, decide_eq_true_eq] at hok
  obtain ⟨k1, k2, k3, k4, k5, k6, k7⟩ := hok
  have hmid : a ∈ mids0 := by simpa using k2
  obtain ⟨w1, w2, w3, w4, w5, w6, w7⟩ := mid_ok hmid
  have hlink : (Cond.methodLink (cn1 o) idx (me0 a).1).before args s = true := by
    obtain ⟨q, hq, h1⟩ := List.any_eq_true.mp k1
    simp only [Bool.and_eq_true, beq_iff_eq] at h1
    have h2 := hts _ (ml_word hq)
    unfold mw_ at h2
    rw [h1.1, h1.2.1, h1.2.2] at h2
    exact h2
  have hkk : k = (pg0 a).2.2.1 := by
    unfold okh9_ at k5
    cases tb with
    | nil => cases k5
    | cons q t =>
      simp only [Bool.and_eq_true, beq_iff_eq] at k5
      have hk : q.2 = k := hk
      omega
  intro H locs lsm hP hR hO hS hl hv T hT X
  have hAs : ∀ v ∈ (st.take b).reverse, okv_ v := fun v hv9 => hv v (List.mem_of_mem_take (List.mem_reverse.mp hv9))
  have hrs : ∀ v ∈ st.drop b, okv_ v := fun v hv9 => hv v (List.mem_of_mem_drop hv9)
  have hM := ih a hmid _ M _ _ h hAs
  have hstk : st.map (cv_ ad ov) = (((st.take b).reverse).map (cv_ ad ov)).reverse ++ (st.drop b).map (cv_ ad ov) := by
    rw [← List.map_reverse, List.reverse_reverse, ← List.map_append, List.take_append_drop]
  -- what holds whichever way it is called
  have key : ∀ (vm₁ : Vm) (mk : MethodId), s.methodNamed? (me0 a).1 = some mk → Stand p l e R s m args below meth c (T.setVm vm₁) locs cells slots →
      ∃ t2, Steps p.tables e below (doInvoke e ((T.setVm vm₁).setTop { (F0 m pc lsm (st.map (cv_ ad ov))) with stack := (st.drop b).map (cv_ ad ov) }) [] mk (((st.take b).reverse).map (cv_ ad ov)).toArray).1 t2 ∧ Q t2 := by
    intro vm₁ mk hnamed X₁
    have hN : (T.setVm vm₁).methodNamed? (me0 a).1 = some mk := X₁.named hnamed
    have hW₁ : s.WarmedH (T.setVm vm₁).vm := X₁.warmed
    have hall : ∀ w ∈ lw_all, ∀ (a' : Array Value), w.before a' (T.setVm vm₁) = true := fun w hw a' => word_at hW₁ (lw_self w hw).2 (hts w hw)
    obtain ⟨methY, cY, g1, g2, g3, g4, g5, g6, g7, g8⟩ := wc_spec hN (hall _ w1 #[])
    obtain ⟨kY, hkY, -⟩ := className_of_methodNamed hN
    have hini : kY.init = .initialized := by
      have h3 := hall _ w2 #[]
      unfold wn_ at h3
      rw [← w3] at h3
      exact Cond.initialized_spec (findClass_of_methodNamed hN) hkY h3
    have hcat : (((st.drop b).map (cv_ ad ov)).map fun v => v.category).sum ≤ 16 := by
      have := cat_sum ad ov (st.drop b)
      have h2 : (st.drop b).length ≤ 8 := by rw [List.length_drop]; omega
      omega
    refine wx_back (F := A) X₁ hM (fun a9 st9 o9 t9 hq => ?_) (ig := if vir then .invokevirtual idx else .invokestatic idx) (len := 3) rfl (by show lsm.size = _; rw [hl.2.1, hml]) (by rw [hb]; exact hdg) hN hkY hini g1 g2 (by show d + 1 ≤ _; exact hRf) ?_ (by show cells + 0 ≤ _; omega) (by show slots + 0 ≤ _; omega) ?_ ?_ ?_ ?_
    · obtain ⟨-, Lc, h1, h2⟩ := hq
      exact ⟨Lc, h1.1, h1.2, h2⟩
    · show 2 * 0 + (((st.drop b).map (cv_ ad ov)).map fun v => v.category).sum + (cY.maxLocals + 11) + 64 * d ≤ R.locals
      omega
    · exact atoms_intro (fun w hw => by
        rcases List.mem_cons.mp hw with e9 | e9
        · rw [e9]; exact hall _ w1 _
        · exact hall _ e9 _)
    · refine ⟨rfl, ?_, ?_⟩
      · exact Wo_move (U := (T.setVm vm₁).calling _ mk _) hWo hS hT hW₁
      · have hh9 : ((T.setVm vm₁).calling { (F0 m pc lsm (st.map (cv_ ad ov))) with stack := (st.drop b).map (cv_ ad ov) } mk (((st.take b).reverse).map (cv_ ad ov)).toArray).heap = H := hT
        rw [hh9]
        exact ⟨hP, hR, hO⟩
    · intro v T' t Lc X' e1 e2 hLc hq
      obtain ⟨⟨M', hPi, hF, ho⟩, -⟩ := hq
      have hS' : va_S A s.heap T'.heap (locs ++ Lc) := by
        have hz : H.size ≤ t.heap.size := by have h0 := hF.1; rw [show ((T.setVm vm₁).calling _ mk _).heap = H from hT] at h0; exact h0
        have hk9 : ∀ q : Nat, q < H.size → ¬ A q → t.heap[q]? = H[q]? := by have h0 := hF.2; rw [show ((T.setVm vm₁).calling _ mk _).heap = H from hT] at h0; exact h0
        rw [e1]
        refine ⟨Nat.le_trans hS.1 hz, fun q h1 h2 => ?_, fun q hq => ?_⟩
        · rw [hk9 q (Nat.lt_of_lt_of_le h1 hS.1) h2]; exact hS.2.1 q h1 h2
        · rcases List.mem_append.mp hq with h | h
          · exact hS.2.2 q h
          · exact hLc q h
      rcases ho with ⟨vs, hv1, hv2, hv3, hv4⟩ | ⟨r, -, hv1, -⟩
      · have hv5 : v = (vs.map (cv_ ad ov)).head? := by cases hv1; rfl
        have fin : ∀ (st9 : List pv_), (∀ v ∈ st9, okv_ v) → v.toList ++ (st.drop b).map (cv_ ad ov) = st9.map (cv_ ad ov) → Wm_ p l e R s m args below meth c cells slots Q D cA ad ov A L xs nL (pc + 3) ls st9 M' → ∃ t2, Steps p.tables e below (T'.setTop { { (F0 m pc lsm (st.map (cv_ ad ov))) with stack := (st.drop b).map (cv_ ad ov) } with pc := pc + 3, stack := v.toList ++ (st.drop b).map (cv_ ad ov) }) t2 ∧ Q t2 := by
          intro st9 hst9 e9 hw
          have h9 := hw T'.heap (locs ++ Lc) lsm (by rw [e1]; exact hPi.1) hPi.2.1 hPi.2.2 hS' hl hst9 T' rfl X'
          rw [← e9] at h9
          exact h9
        unfold rk_ at hv4
        split at hv4
        · obtain ⟨rfl, hv4⟩ := hv4
          exact fin (st.drop b) hrs (by rw [hv5]; rfl) hv4
        · obtain ⟨x, rfl, hv4⟩ := hv4
          exact fin (.inr (.inl x) :: st.drop b) (List.forall_mem_cons.mpr ⟨hv3 _ List.mem_cons_self, hrs⟩) (by rw [hv5]; rfl) hv4
        · obtain ⟨x, rfl, hv4⟩ := hv4
          exact fin (.inr (.inr x) :: st.drop b) (List.forall_mem_cons.mpr ⟨hv3 _ List.mem_cons_self, hrs⟩) (by rw [hv5]; rfl) hv4
        · obtain ⟨x, rfl, hv4⟩ := hv4
          exact fin (.inl x :: st.drop b) (List.forall_mem_cons.mpr ⟨hv3 _ List.mem_cons_self, hrs⟩) (by rw [hv5]; rfl) hv4
      · cases hv1
    · intro x T' t Lc X' e1 e2 hLc hq
      obtain ⟨⟨M', hPi, hF, ho⟩, -⟩ := hq
      have hS' : va_S A s.heap T'.heap (locs ++ Lc) := by
        have hz : H.size ≤ t.heap.size := by have h0 := hF.1; rw [show ((T.setVm vm₁).calling _ mk _).heap = H from hT] at h0; exact h0
        have hk9 : ∀ q : Nat, q < H.size → ¬ A q → t.heap[q]? = H[q]? := by have h0 := hF.2; rw [show ((T.setVm vm₁).calling _ mk _).heap = H from hT] at h0; exact h0
        rw [e1]
        refine ⟨Nat.le_trans hS.1 hz, fun q h1 h2 => ?_, fun q hq => ?_⟩
        · rw [hk9 q (Nat.lt_of_lt_of_le h1 hS.1) h2]; exact hS.2.1 q h1 h2
        · rcases List.mem_append.mp hq with h | h
          · exact hS.2.2 q h
          · exact hLc q h
      rcases ho with ⟨vs, hv1, -⟩ | ⟨r, hr9, hv1, hv4⟩
      · cases hv1
      · cases hv1
        exact hth (st := (st.drop b).map (cv_ ad ov)) X' hr9 (by rw [e1]; exact hPi) hS' hl hv4
  cases vir with
  | false =>
    have hsta : (me0 a).2.2.2.2.2.1 = 1 := k4
    have hstat := hts _ (w6 hsta)
    obtain ⟨mk, hnamed⟩ : ∃ mk, s.methodNamed? (me0 a).1 = some mk := by
      have h1 := hts _ w1
      unfold wc_ at h1
      split at h1
      · exact Cond.code_named h1
      · obtain ⟨mk, _, _, h0, -⟩ := Cond.codeWith_spec h1
        exact ⟨mk, h0⟩
    obtain ⟨methM, cM, hmethM, -, -, -, -, -, -, hsigM⟩ := wc_spec hnamed (hts _ w1)
    have hstatic : methM.isStatic = true := Cond.static_spec hnamed hmethM hstat
    obtain ⟨kP, hkP, -⟩ := className_of_methodNamed hnamed
    have hinitP : kP.init = .initialized := by
      have h3 := hts _ w2
      unfold wn_ at h3
      rw [← w3] at h3
      exact Cond.initialized_spec (findClass_of_methodNamed hnamed) hkP h3
    rw [hsigM] at k3
    have hlen : (((st.take b).reverse).map (cv_ ad ov)).length = methM.sig.parameters.length := by
      simp only [Option.map_some, Option.some.injEq] at k3
      rw [List.length_map, List.length_reverse, List.length_take, Nat.min_eq_left hn1, ← k3]
      rfl
    obtain ⟨vm₁, X₁, hstep₁⟩ := X.invokestatic hx hown hlink hnamed hmethM hstatic hkP hinitP k6 (g := F0 m pc lsm (st.map (cv_ ad ov))) rfl (argsL := ((st.take b).reverse).map (cv_ ad ov)) (rest := (st.drop b).map (cv_ ad ov)) hlen hstk (by rw [hb]; exact hdg)
    obtain ⟨t2, h1, h2⟩ := key vm₁ mk hnamed X₁
    exact ⟨t2, hstep₁ _ fun acts => by rw [doInvoke_state]; exact h1, h2⟩
  | true =>
    have hvi : (me0 a).2.2.2.2.2.1 = 0 := k4
    obtain ⟨w8, w9⟩ := w7 (by omega)
    have hinst := hts _ w8
    have hsel := hts _ w9
    obtain ⟨r, hr1, hr2⟩ := hvir rfl
    simp only [Bool.not_true, Bool.false_or, Bool.and_eq_true, decide_eq_true_eq] at k7
    obtain ⟨z, hz1, hz2⟩ : ∃ z ∈ tb.tail, z.1 = (r : Int) := by
      unfold okh9_ at k5
      cases tb with
      | nil => cases k5
      | cons q t =>
        simp only [Bool.and_eq_true, beq_iff_eq] at k5
        exact fd_tail k5.1 hr2
    have hz3 := List.all_eq_true.mp k7.2 z hz1
    have hr9 : r ≠ 1999 := by
      unfold okv9_ at hz3
      rw [hz2, Int.toNat_natCast] at hz3
      simp only [Bool.and_eq_true, Bool.or_eq_true, decide_eq_true_eq, beq_iff_eq] at hz3
      obtain ⟨-, -, h9⟩ := hz3
      have : NR0 = 267 := rfl
      rcases h9 with h9 | h9 <;> omega
    obtain ⟨cellB, hcB, hoB, hclB⟩ := rcv_ hWo hP hS hz2 hz3
    rw [← w3] at hclB
    obtain ⟨mk, methM, hnamed, hmethM, hstM, habM⟩ := Cond.instanceMethod_spec hinst
    obtain ⟨methM', cM, hmethM', -, -, -, -, -, -, hsigM⟩ := wc_spec hnamed (hts _ w1)
    cases hmethM.symm.trans hmethM'
    obtain ⟨c2, r2, m2, q1, q2, q3, q4, kP, hkP, hkPi⟩ := Cond.selects_spec hsel
    cases hclB.symm.trans q1
    cases (State.methodFound?_of_named hnamed k6).symm.trans q2
    cases hnamed.symm.trans q3
    have hselP : selectMethod e.platform s.vm cellB.cls mk = .method mk := by rw [Launch.admits_selectMethod X.admits]; exact q4
    have hA2 : (st.take b).reverse = .inr (.inr r) :: (st.take (b - 1)).reverse := take_rev k7.1 hr1
    have hA3 : ((st.take b).reverse).map (cv_ ad ov) = .ref (ad r) :: ((st.take (b - 1)).reverse).map (cv_ ad ov) := by rw [hA2, List.map_cons, cv_ref hr9]
    rw [hsigM] at k3
    have hlen : (((st.take (b - 1)).reverse).map (cv_ ad ov)).length = methM.sig.parameters.length := by
      simp only [Option.map_some, Option.some.injEq] at k3
      have k3 : methM.sig.parameters.length + 1 = b := k3
      rw [List.length_map, List.length_reverse, List.length_take, Nat.min_eq_left (by omega)]
      omega
    have hstk2 : st.map (cv_ ad ov) = (((st.take (b - 1)).reverse).map (cv_ ad ov)).reverse ++ .ref (ad r) :: (st.drop b).map (cv_ ad ov) := by
      rw [hstk, hA3, List.reverse_cons, List.append_assoc]
      rfl
    obtain ⟨vm₁, X₁, hstep₁⟩ := X.invokevirtual hx hown hlink hnamed hmethM hstM hkP hkPi k6 (a := ad r) (cell := cellB) (by rw [hT]; exact hcB)
      (fun z h => by rw [h] at hoB; cases hoB) hselP hmethM habM hkP hkPi (g := F0 m pc lsm (st.map (cv_ ad ov))) rfl (argsL := ((st.take (b - 1)).reverse).map (cv_ ad ov)) (rest := (st.drop b).map (cv_ ad ov)) hlen hstk2 (by rw [hb]; exact hdg)
    obtain ⟨t2, h1, h2⟩ := key vm₁ mk hnamed X₁
    rw [hA3] at h1
    exact ⟨t2, hstep₁ _ fun acts => by rw [doInvoke_state]; exact h1, h2⟩
end SC
