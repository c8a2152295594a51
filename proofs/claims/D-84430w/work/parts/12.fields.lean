/-! fields and arrays -/
def tz0 : Nat → Nat → FieldType := fun c => [tyX0, tyX1, tyX2, tyX3, tyX4].getD c tyX0
theorem cls_facts {ci : Nat} (h : ci < 5) : vwCl[ci]? = some (cn1 ci, tt0 ci, nf0 ci) ∧ (∀ w ∈ u_ws (cn1 ci) (tt0 ci) (nf0 ci), w ∈ lw_all) ∧ (∀ a, a < nf0 ci → ∀ b, b < nf0 ci → a ≠ b → (tt0 ci a).2.1 ≠ (tt0 ci b).2.1) ∧ (∀ k, k < nf0 ci → parseFieldDescriptor (tt0 ci k).2.2.1 = some (tz0 ci k)) := by
  match ci, h with
  | 0, _ => exact ⟨rfl, in_X0, nmX0, tyX0_ok⟩
  | 1, _ => exact ⟨rfl, in_X1, nmX1, tyX1_ok⟩
  | 2, _ => exact ⟨rfl, in_X2, nmX2, tyX2_ok⟩
  | 3, _ => exact ⟨rfl, in_X3, nmX3, tyX3_ok⟩
  | 4, _ => exact ⟨rfl, in_X4, nmX4, tyX4_ok⟩
def nw0 : List Cond := (fl0.filter (fun q => q.2.2.2.2.1 == 1)).map fw_
def fq_ (o idx : Nat) : Option fl_ := fl0.find? (fun q => q.1 == o && q.2.1 == idx)
def okf_ (o idx a : Nat) (b : Int) (tb : List (Int × Nat)) : Bool := match fq_ o idx with
  | some q => decide (b = (q.2.2.2.1 : Int)) && (decide (q.2.2.2.1 < nf0 q.2.2.1) && (decide (q.2.2.1 < 5) && (fk0 q.2.2.1 q.2.2.2.1 == a && (decide (q.2.2.2.2.1 < 2) && (decide ((tt0 q.2.2.1 q.2.2.2.1).1 = cn1 q.2.2.1) && tb.all (fun z => decide (0 ≤ z.1) && (decide (z.1.toNat < NR0) && (rc0 z.1.toNat == q.2.2.1 && (decide (a < 2) || (sh0 z.1.toNat q.2.2.2.1 == z.2 && (z.2 != 0 && decide (z.2 < 1000))))))))))))
  | none => false
def okp_ (o idx a : Nat) : Bool := match fq_ o idx with
  | some q => (tt0 q.2.2.1 q.2.2.2.1).2.2.2 == false && decide (tz0 q.2.2.1 q.2.2.2.1 = (if a = 0 then .int else if a = 1 then .boolean else .object RX3))
  | none => false
theorem fl_word {q : fl_} (h : q ∈ fl0) : fw_ q ∈ lw_tbl ∧ (q.2.2.2.2.1 ≠ 1 → fw_ q ∈ lw_all) := by
  have h1 : fw_ q ∈ lw_tbl := by
    obtain ⟨i, hi⟩ := List.getElem?_of_mem h
    have hl : ∀ (p : Nat) (l : List Nat), (gaps_ p l).length = l.length := by
      intro p l
      induction l generalizing p with
      | nil => rfl
      | cons x t ih => show (gaps_ (x + 1) t).length + 1 = t.length + 1; rw [ih]
    have hi2 : i < (gaps_ 0 (fl0.map (fun q => q.2.2.2.2.2))).length := by
      rw [hl, List.length_map]
      exact (List.getElem?_eq_some_iff.mp hi).1
    refine sk_mem _ _ fl0_ok ((gaps_ 0 (fl0.map (fun q => q.2.2.2.2.2)))[i], fw_ q) ?_
    refine List.mem_of_getElem? (i := i) ?_
    rw [List.getElem?_zip_eq_some]
    exact ⟨List.getElem?_eq_getElem hi2, by rw [List.getElem?_map, hi]; rfl⟩
  refine ⟨h1, fun hn => lw_g h1 ?_⟩
  have h2 := List.all_eq_true.mp fl0_good q h
  rw [Bool.or_eq_true, beq_iff_eq] at h2
  exact h2.resolve_left hn
theorem fd_mem : ∀ (tb : List (Int × Nat)) {r t : Nat}, fd_ tb r = some t → ((r : Int), t) ∈ tb
  | [], _, _, h => by cases h
  | q :: tb, r, t, h => by
    unfold fd_ at h
    split at h
    · rename_i e
      cases h
      rw [← e]
      exact List.mem_cons_self
    · exact List.mem_cons_of_mem _ (fd_mem tb h)
/-- what the check of a field instruction says -/
theorem okf_spec {o idx a r t : Nat} {b : Int} {tb : List (Int × Nat)} (h : okf_ o idx a b tb = true) (hf : fd_ tb r = some t) : ∃ q ∈ fl0, q.1 = o ∧ q.2.1 = idx ∧ b = (q.2.2.2.1 : Int) ∧ q.2.2.2.1 < nf0 q.2.2.1 ∧ q.2.2.1 < 5 ∧ fk0 q.2.2.1 q.2.2.2.1 = a ∧ q.2.2.2.2.1 < 2 ∧ (tt0 q.2.2.1 q.2.2.2.1).1 = cn1 q.2.2.1 ∧ r < NR0 ∧ rc0 r = q.2.2.1 ∧ (2 ≤ a → sh0 r q.2.2.2.1 = t ∧ t ≠ 0 ∧ t < 1000) ∧ fq_ o idx = some q := by
  unfold okf_ at h
  split at h
  · rename_i q e
    simp only [Bool.and_eq_true, decide_eq_true_eq, beq_iff_eq] at h
    obtain ⟨h1, h2, h3, h4, h5, h6, h7⟩ := h
    have h8 := List.all_eq_true.mp h7 _ (fd_mem tb hf)
    simp only [Bool.and_eq_true, decide_eq_true_eq, beq_iff_eq, Bool.or_eq_true, bne_iff_ne, Int.toNat_natCast] at h8
    obtain ⟨-, h9, h10, h11⟩ := h8
    have hq := List.find?_some e
    simp only [Bool.and_eq_true, beq_iff_eq] at hq
    refine ⟨q, List.mem_of_find?_eq_some e, hq.1, hq.2, h1, h2, h3, h4, h5, h6, h9, h10, fun ha => ?_, e⟩
    rcases h11 with h11 | h11
    · omega
    · exact h11
  · cases h
section SF
variable {p : Program} {l : Launch} {e : Env} {R : Room} {s : State} {m : MethodId} {args : Array Value} {below : List Frame} {meth : Method} {c : Code} {cells slots : Nat} {Q : State → Prop} {D : va_G} {cA : Nat → ClassId} {ad : Nat → Nat} {ov : Value} {A : Nat → Prop} {L : Nat} {xs : Nat → Int32} {nL : Nat}
variable {cc : ByteArray} {pc : Nat} {ls : lo_} {st : List pv_} {M : mm_} {H : Heap} {locs : List Loc} {lsm : Array Slot} {rest : List Value}
theorem nw_mem {q : fl_} (h : q ∈ fl0) (h1 : q.2.2.2.2.1 = 1) : fw_ q ∈ nw0 := List.mem_map.mpr ⟨q, List.mem_filter.mpr ⟨h, by rw [h1]; rfl⟩, rfl⟩
theorem rc_ne {r ci : Nat} (h : rc0 r = ci) (hc : ci < 5) : wd0.1 r ≠ 99 := by
  show rc0 r ≠ 99
  omega
/-- a field is read -/
theorem wx_get (hx : p.tables.exec = Jvm.exec) (hb : c.code = cc) (hts : ∀ w ∈ lw_all, w.before args s = true) (hnw : ∀ w ∈ nw0, va_Nw w s) {q : fl_} (hq : q ∈ fl0) (hown : s.vm.findClass (cn1 q.1) = some m.cls) (hK : va_K D vwCl (tys_ cA) s) (hP : va_P D vwCl (wl_ wd0 nf0 cA NR0 ad M) H) {r : Nat} (hk : q.2.2.2.1 < nf0 q.2.2.1) (hc : q.2.2.1 < 5) (hn : q.2.2.2.2.1 < 2) (ho : (tt0 q.2.2.1 q.2.2.2.1).1 = cn1 q.2.2.1) (hr : r < NR0) (hrc : rc0 r = q.2.2.1)
    (hdg : decode cc pc = .ok (.getfield q.2.1, 3)) (kk : W p l e R s m args below meth c H locs cells slots Q (F0 m (pc + 3) lsm (fv_ wd0 ad M r q.2.2.2.1 :: rest))) : W p l e R s m args below meth c H locs cells slots Q (F0 m pc lsm (.ref (ad r) :: rest)) := by
  obtain ⟨f1, f2, f3, f4⟩ := cls_facts hc
  have he : (wl_ wd0 nf0 cA NR0 ad M)[r]? = some (ad r, .inr (q.2.2.1, (List.range (nf0 q.2.2.1)).map (fv_ wd0 ad M r))) := by
    rw [wl_at hr, ce_obj (rc_ne hrc hc)]
    show some (ad r, Sum.inr (rc0 r, List.map (fv_ wd0 ad M r) (List.range (nf0 (rc0 r))))) = _
    rw [hrc]
  have hv : ((List.range (nf0 q.2.2.1)).map (fv_ wd0 ad M r))[q.2.2.2.1]? = some (fv_ wd0 ad M r q.2.2.2.1) := by simp [hk]
  have hw := fl_word hq
  by_cases h1 : q.2.2.2.2.1 = 1
  · have hz := hnw _ (nw_mem hq h1)
    unfold fw_ at hz
    rw [if_neg (by omega)] at hz
    exact va_getN (host := "ExchangeHouse") hx hb hts f2 hown hK hP r he f1 q.2.2.2.1 hk (va_Nw.use rfl hz) (fun x h => by rw [ho] at h; exact h) hv hdg kk
  · have hz := hts _ (hw.2 h1)
    unfold fw_ at hz
    rw [if_pos (by omega)] at hz
    exact va_get hx hb hts f2 hown hK hP r he f1 q.2.2.2.1 hk hz (fun x h => by rw [ho] at h; exact h) hv hdg kk
/-- a field is written -/
theorem wx_put (hx : p.tables.exec = Jvm.exec) (hb : c.code = cc) (hts : ∀ w ∈ lw_all, w.before args s = true) (hnw : ∀ w ∈ nw0, va_Nw w s) {q : fl_} (hq : q ∈ fl0) (hown : s.vm.findClass (cn1 q.1) = some m.cls) (hK : va_K D vwCl (tys_ cA) s) (hP : va_P D vwCl (wl_ wd0 nf0 cA NR0 ad M) H) (hD : va_D A (wl_ wd0 nf0 cA NR0 ad M)) (hS : va_S A s.heap H locs) {r : Nat} (hk : q.2.2.2.1 < nf0 q.2.2.1) (hc : q.2.2.1 < 5) (hn : q.2.2.2.2.1 < 2) (ho : (tt0 q.2.2.1 q.2.2.2.1).1 = cn1 q.2.2.1) (hr : r < NR0) (hrc : rc0 r = q.2.2.1)
    (hfin : (tt0 q.2.2.1 q.2.2.2.1).2.2.2 = false) {v : Value} {x : Int} (hna : narrow (tz0 q.2.2.1 q.2.2.2.1) v = v) (hfit : fits (tz0 q.2.2.1 q.2.2.2.1) v = true) (hxv : fv_ wd0 ad (up_ M r q.2.2.2.1 x) r q.2.2.2.1 = v)
    (hdg : decode cc pc = .ok (.putfield q.2.1, 3)) (kk : ∀ (H1 : Heap) (locs1 : List Loc), va_P D vwCl (wl_ wd0 nf0 cA NR0 ad (up_ M r q.2.2.2.1 x)) H1 → va_S A s.heap H1 locs1 → W p l e R s m args below meth c H1 locs1 cells slots Q (F0 m (pc + 3) lsm rest)) : W p l e R s m args below meth c H locs cells slots Q (F0 m pc lsm (v :: .ref (ad r) :: rest)) := by
  obtain ⟨f1, f2, f3, f4⟩ := cls_facts hc
  have he : (wl_ wd0 nf0 cA NR0 ad M)[r]? = some (ad r, .inr (q.2.2.1, (List.range (nf0 q.2.2.1)).map (fv_ wd0 ad M r))) := by
    rw [wl_at hr, ce_obj (rc_ne hrc hc)]
    show some (ad r, Sum.inr (rc0 r, List.map (fv_ wd0 ad M r) (List.range (nf0 (rc0 r))))) = _
    rw [hrc]
  have hset : (wl_ wd0 nf0 cA NR0 ad M).set r (ad r, .inr (q.2.2.1, ((List.range (nf0 q.2.2.1)).map (fv_ wd0 ad M r)).set q.2.2.2.1 v)) = wl_ wd0 nf0 cA NR0 ad (up_ M r q.2.2.2.1 x) := by
    refine wl_set ?_
    have e1 : wd0.1 r = q.2.2.1 := hrc
    rw [ce_upF (rc_ne hrc hc) (by rw [e1]; exact hk), hxv, e1]
  have hll : q.2.2.2.1 < ((List.range (nf0 q.2.2.1)).map (fv_ wd0 ad M r)).length := by simpa using hk
  have hw := fl_word hq
  have kk2 : ∀ (H1 : Heap) (locs1 : List Loc), va_P D vwCl ((wl_ wd0 nf0 cA NR0 ad M).set r (ad r, .inr (q.2.2.1, ((List.range (nf0 q.2.2.1)).map (fv_ wd0 ad M r)).set q.2.2.2.1 v))) H1 → va_D A ((wl_ wd0 nf0 cA NR0 ad M).set r (ad r, .inr (q.2.2.1, ((List.range (nf0 q.2.2.1)).map (fv_ wd0 ad M r)).set q.2.2.2.1 v))) → va_S A s.heap H1 locs1 → W p l e R s m args below meth c H1 locs1 cells slots Q (F0 m (pc + 3) lsm rest) := by
    intro H1 locs1 g1 g2 g3
    rw [hset] at g1
    exact kk H1 locs1 g1 g3
  by_cases h1 : q.2.2.2.2.1 = 1
  · have hz := hnw _ (nw_mem hq h1)
    unfold fw_ at hz
    rw [if_neg (by omega)] at hz
    exact va_putN (host := "ExchangeHouse") hx hb hts f2 (tz0 q.2.2.1) f4 f3 hown hK hP hD hS r he f1 q.2.2.2.1 hk (va_Nw.use rfl hz) (fun x h => by rw [ho] at h; exact h) hfin (f4 _ hk) hna hfit hll hdg kk2
  · have hz := hts _ (hw.2 h1)
    unfold fw_ at hz
    rw [if_pos (by omega)] at hz
    exact va_put hx hb hts f2 (tz0 q.2.2.1) f4 f3 hown hK hP hD hS r he f1 q.2.2.2.1 hk hz (fun x h => by rw [ho] at h; exact h) hfin (f4 _ hk) hna hfit hll hdg kk2
theorem NR_small : NR0 < 1000 := by decide
theorem sx_get (hx : p.tables.exec = Jvm.exec) (hb : c.code = cc) (hts : ∀ w ∈ lw_all, w.before args s = true) (hnw : ∀ w ∈ nw0, va_Nw w s) {o : Nat} (hown : s.vm.findClass (cn1 o) = some m.cls) (hK : va_K D vwCl (tys_ cA) s) {idx a r t : Nat} {b : Int} {tb : List (Int × Nat)} (hok : okf_ o idx a b tb = true) (hf : fd_ tb r = some t) (hdg : decode cc pc = .ok (.getfield idx, 3))
    (h : match (generalizing := false) a with
        | 0 => Wm_ p l e R s m args below meth c cells slots Q D cA ad ov A L xs nL (pc + 3) ls (.inl (M r b) :: st) M
        | 1 => bl_ (M r b) → Wm_ p l e R s m args below meth c cells slots Q D cA ad ov A L xs nL (pc + 3) ls (.inl (M r b) :: st) M
        | 2 => Wm_ p l e R s m args below meth c cells slots Q D cA ad ov A L xs nL (pc + 3) ls (.inr (.inr t) :: st) M
        | 3 => M r b = (t : Int) ∧ Wm_ p l e R s m args below meth c cells slots Q D cA ad ov A L xs nL (pc + 3) ls (.inr (.inr t) :: st) M
        | _ => False) : Wm_ p l e R s m args below meth c cells slots Q D cA ad ov A L xs nL pc ls (.inr (.inr r) :: st) M := by
  intro H locs lsm hP hR hO hS hl hv
  obtain ⟨h0, hv⟩ := List.forall_mem_cons.mp hv
  obtain ⟨q, hq, rfl, rfl, hb', hk, hc, hfk, hn, ho, hr, hrc, hsh, -⟩ := okf_spec hok hf
  subst hb'
  have hr9 : r ≠ 1999 := by have := NR_small; omega
  rw [List.map_cons, cv_ref hr9]
  refine wx_get hx hb hts hnw hq hown hK hP hk hc hn ho hr hrc hdg ?_
  have e1 : wd0.1 r = q.2.2.1 := hrc
  have e2 : wd0.2.1 (wd0.1 r) q.2.2.2.1 = a := by rw [e1]; exact hfk
  have hrf := (hR r hr).1 (rc_ne hrc hc) q.2.2.2.1 (by rw [e1]; exact hk)
  rw [e2] at hrf
  clear hok hfk
  match a, h with
  | 0, h =>
    have e3 : fv_ wd0 ad M r q.2.2.2.1 = .int (Int32.ofInt (M r q.2.2.2.1)) := by (unfold fv_; rw [e2]; rfl)
    rw [e3]
    exact h H locs lsm hP hR hO hS hl (List.forall_mem_cons.mpr ⟨hrf, hv⟩)
  | 1, h =>
    have e3 : fv_ wd0 ad M r q.2.2.2.1 = .int (Int32.ofInt (M r q.2.2.2.1)) := by (unfold fv_; rw [e2]; rfl)
    rw [e3]
    have hbl : bl_ (M r q.2.2.2.1) := hrf
    exact h hbl H locs lsm hP hR hO hS hl (List.forall_mem_cons.mpr ⟨show inI _ from by (unfold inI; rcases hbl with z | z <;> rw [z] <;> omega), hv⟩)
  | 2, h =>
    have h3 := hsh (by omega)
    have e3 : fv_ wd0 ad M r q.2.2.2.1 = .ref (ad t) := by
      unfold fv_; rw [e2]
      show Value.ref (ad (sh0 r q.2.2.2.1)) = _
      rw [h3.1]
    rw [e3]
    have h4 := h H locs lsm hP hR hO hS hl (List.forall_mem_cons.mpr ⟨trivial, hv⟩)
    rw [List.map_cons, cv_ref (by omega)] at h4
    exact h4
  | 3, h =>
    have h3 := hsh (by omega)
    have e3 : fv_ wd0 ad M r q.2.2.2.1 = .ref (ad t) := by
      unfold fv_; rw [e2]
      show (if M r q.2.2.2.1 = 0 then Value.null else Value.ref (ad (M r q.2.2.2.1).toNat)) = _
      rw [h.1, if_neg (by omega), Int.toNat_natCast]
    rw [e3]
    have h4 := h.2 H locs lsm hP hR hO hS hl (List.forall_mem_cons.mpr ⟨trivial, hv⟩)
    rw [List.map_cons, cv_ref (by omega)] at h4
    exact h4
  | (_ + 4), h => exact h.elim
theorem nar_bool {x : Int} (h : bl_ x) : narrow .boolean (.int (Int32.ofInt x)) = .int (Int32.ofInt x) := by
  rcases h with h | h <;> rw [h] <;> rfl
theorem fits_bool {x : Int} (h : bl_ x) : fits .boolean (.int (Int32.ofInt x)) = true := by
  rcases h with h | h <;> rw [h] <;> decide
theorem bl_in {x : Int} (h : bl_ x) : inI x := by unfold inI; rcases h with z | z <;> rw [z] <;> omega
theorem sx_putI (hx : p.tables.exec = Jvm.exec) (hb : c.code = cc) (hts : ∀ w ∈ lw_all, w.before args s = true) (hnw : ∀ w ∈ nw0, va_Nw w s) {o : Nat} (hown : s.vm.findClass (cn1 o) = some m.cls) (hK : va_K D vwCl (tys_ cA) s) (hov : ov.category = 1) (hDD : ∀ M : mm_, va_D A (wl_ wd0 nf0 cA NR0 ad M)) {idx a r t : Nat} {b x : Int} {tb : List (Int × Nat)} (hok : okf_ o idx a b tb = true) (hop : okp_ o idx a = true) (hf : fd_ tb r = some t) (hdg : decode cc pc = .ok (.putfield idx, 3))
    (h : match (generalizing := false) a with
        | 0 => Wm_ p l e R s m args below meth c cells slots Q D cA ad ov A L xs nL (pc + 3) ls st (up_ M r b x)
        | 1 => bl_ x ∧ Wm_ p l e R s m args below meth c cells slots Q D cA ad ov A L xs nL (pc + 3) ls st (up_ M r b x)
        | _ => False) : Wm_ p l e R s m args below meth c cells slots Q D cA ad ov A L xs nL pc ls (.inl x :: .inr (.inr r) :: st) M := by
  intro H locs lsm hP hR hO hS hl hv
  obtain ⟨h0, hv⟩ := List.forall_mem_cons.mp hv
  obtain ⟨h00, hv⟩ := List.forall_mem_cons.mp hv
  obtain ⟨q, hq, rfl, rfl, hb', hk, hc, hfk, hn, ho, hr, hrc, hsh, hfq⟩ := okf_spec hok hf
  subst hb'
  unfold okp_ at hop
  rw [hfq] at hop
  simp only [Bool.and_eq_true, beq_iff_eq, decide_eq_true_eq] at hop
  have hr9 : r ≠ 1999 := by have := NR_small; omega
  rw [List.map_cons, List.map_cons, cv_ref hr9]
  have e1 : wd0.1 r = q.2.2.1 := hrc
  have e2 : wd0.2.1 (wd0.1 r) q.2.2.2.1 = a := by rw [e1]; exact hfk
  have hx1 : inI x := h0
  have hup : ∀ v, rf_ a v → Rg_ wd0 nf0 NR0 (up_ M r q.2.2.2.1 v) := fun v hv9 => Rg_up hR (fun _ => by rw [Int.toNat_natCast, e2]; exact hv9) (fun h9 => absurd h9 (rc_ne hrc hc)) (by omega)
  clear hok hfk
  match a, h with
  | 0, h =>
    refine wx_put (x := x) hx hb hts hnw hq hown hK hP (hDD M) hS hk hc hn ho hr hrc hop.1 ?_ ?_ ?_ hdg ?_
    · rw [hop.2]; rfl
    · rw [hop.2]; rfl
    · unfold fv_; rw [e2]; show Value.int (Int32.ofInt (up_ M r q.2.2.2.1 x r q.2.2.2.1)) = _; rw [up_at]; rfl
    · intro H1 locs1 g1 g2
      exact h H1 locs1 lsm g1 (hup x hx1) (Ro_up hO (by have := NR_small; omega)) g2 hl hv
  | 1, h =>
    refine wx_put (x := x) hx hb hts hnw hq hown hK hP (hDD M) hS hk hc hn ho hr hrc hop.1 ?_ ?_ ?_ hdg ?_
    · rw [hop.2]; exact nar_bool h.1
    · rw [hop.2]; exact fits_bool h.1
    · unfold fv_; rw [e2]; show Value.int (Int32.ofInt (up_ M r q.2.2.2.1 x r q.2.2.2.1)) = _; rw [up_at]; rfl
    · intro H1 locs1 g1 g2
      exact h.2 H1 locs1 lsm g1 (hup x h.1) (Ro_up hO (by have := NR_small; omega)) g2 hl hv
  | (_ + 2), h => exact h.elim
theorem sx_putR (hx : p.tables.exec = Jvm.exec) (hb : c.code = cc) (hts : ∀ w ∈ lw_all, w.before args s = true) (hnw : ∀ w ∈ nw0, va_Nw w s) {o : Nat} (hown : s.vm.findClass (cn1 o) = some m.cls) (hK : va_K D vwCl (tys_ cA) s) (hov : ov.category = 1) (hDD : ∀ M : mm_, va_D A (wl_ wd0 nf0 cA NR0 ad M)) {idx r t y : Nat} {b : Int} {tb : List (Int × Nat)} (hok : okf_ o idx 3 b tb = true) (hop : okp_ o idx 3 = true) (hf : fd_ tb r = some t) (hdg : decode cc pc = .ok (.putfield idx, 3))
    (h : y = t ∧ Wm_ p l e R s m args below meth c cells slots Q D cA ad ov A L xs nL (pc + 3) ls st (up_ M r b (t : Int))) : Wm_ p l e R s m args below meth c cells slots Q D cA ad ov A L xs nL pc ls (.inr (.inr y) :: .inr (.inr r) :: st) M := by
  intro H locs lsm hP hR hO hS hl hv
  obtain ⟨h0, hv⟩ := List.forall_mem_cons.mp hv
  obtain ⟨h00, hv⟩ := List.forall_mem_cons.mp hv
  obtain ⟨q, hq, rfl, rfl, hb', hk, hc, hfk, hn, ho, hr, hrc, hsh, hfq⟩ := okf_spec hok hf
  subst hb'
  obtain ⟨rfl, h⟩ := h
  unfold okp_ at hop
  rw [hfq] at hop
  simp only [Bool.and_eq_true, beq_iff_eq, decide_eq_true_eq] at hop
  have hr9 : r ≠ 1999 := by have := NR_small; omega
  have h3 := hsh (by omega)
  rw [List.map_cons, List.map_cons, cv_ref hr9, cv_ref (by omega)]
  have e1 : wd0.1 r = q.2.2.1 := hrc
  have e2 : wd0.2.1 (wd0.1 r) q.2.2.2.1 = 3 := by rw [e1]; exact hfk
  refine wx_put (x := (y : Int)) hx hb hts hnw hq hown hK hP (hDD M) hS hk hc hn ho hr hrc hop.1 ?_ ?_ ?_ hdg ?_
  · rw [hop.2]; rfl
  · rw [hop.2]; rfl
  · unfold fv_
    rw [e2]
    show (if up_ M r q.2.2.2.1 y r q.2.2.2.1 = 0 then Value.null else Value.ref (ad (up_ M r q.2.2.2.1 y r q.2.2.2.1).toNat)) = _
    rw [up_at, if_neg (by omega), Int.toNat_natCast]
  · intro H1 locs1 g1 g2
    refine h H1 locs1 lsm g1 (Rg_up hR (fun _ => by rw [Int.toNat_natCast, e2]; show (0 : Int) ≤ _; omega) (fun h9 => absurd h9 (rc_ne hrc hc)) (by omega)) (Ro_up hO (by have := NR_small; omega)) g2 hl hv
end SF
