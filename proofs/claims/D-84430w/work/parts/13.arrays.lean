/-! arrays, switches, Math -/
theorem ak_lt {r : Nat} (h : ak0 r = 1 ∨ ak0 r = 2 ∨ ak0 r = 3 ∨ ak0 r = 4) : r < NR0 ∧ rc0 r = 99 := by
  have hr : r < NR0 := by
    rcases Nat.lt_or_ge r NR0 with h1 | h1
    · exact h1
    · exfalso
      unfold ak0 at h
      rw [if_neg (by have : NR0 = 267 := rfl; omega)] at h
      split at h
      · omega
      · split at h <;> omega
  refine ⟨hr, ?_⟩
  have hd : ∀ r, r < NR0 → (ak0 r = 1 ∨ ak0 r = 2 ∨ ak0 r = 3 ∨ ak0 r = 4) → rc0 r = 99 := by decide +kernel
  exact hd r hr h
section SA
variable {p : Program} {l : Launch} {e : Env} {R : Room} {s : State} {m : MethodId} {args : Array Value} {below : List Frame} {meth : Method} {c : Code} {cells slots : Nat} {Q : State → Prop} {D : va_G} {cA : Nat → ClassId} {ad : Nat → Nat} {ov : Value} {A : Nat → Prop} {L : Nat} {xs : Nat → Int32} {nL : Nat}
variable {cc : ByteArray} {pc : Nat} {ls : lo_} {st : List pv_} {M : mm_} {H : Heap} {locs : List Loc} {lsm : Array Slot} {rest : List Value}
theorem wa_at {r t : Nat} (hr : r < NR0) (hc : rc0 r = 99) (ht : ak0 r = t) (h4 : t ≠ 4) : (wl_ wd0 nf0 cA NR0 ad M)[r]? = some (ad r, .inl (cA t, ln0 r, .inl (fun j : Nat => Int32.ofInt (M r j)))) := by
  rw [wl_at hr, ce_arr hc (show ak0 r ≠ 4 by rw [ht]; exact h4)]
  show some (ad r, Sum.inl (cA (ak0 r), ln0 r, _)) = _
  rw [ht]
theorem wa_atL {r : Nat} (hr : r < NR0) (hc : rc0 r = 99) (ht : ak0 r = 4) : (wl_ wd0 nf0 cA NR0 ad M)[r]? = some (ad r, .inl (cA 4, ln0 r, .inr (.inl (fun j : Nat => Int64.ofInt (M r j))))) := by
  rw [wl_at hr, ce_arl hc (show ak0 r = 4 from ht)]
  show some (ad r, Sum.inl (cA (ak0 r), ln0 r, _)) = _
  rw [ht]
theorem sx_iald (hx : p.tables.exec = Jvm.exec) (hb : c.code = cc) (hK : va_K D vwCl (tys_ cA) s) {r : Nat} {k : Int} (hak : ak0 r = 1) (hki : 0 ≤ k ∧ k < (ln0 r : Int)) (hdg : decode cc pc = .ok (.iaload, 1)) (h : Wm_ p l e R s m args below meth c cells slots Q D cA ad ov A L xs nL (pc + 1) ls (.inl (M r k) :: st) M) : Wm_ p l e R s m args below meth c cells slots Q D cA ad ov A L xs nL pc ls (.inl k :: .inr (.inr r) :: st) M := by
  intro H locs lsm hP hR hO hS hl hv
  obtain ⟨h0, hv⟩ := List.forall_mem_cons.mp hv
  obtain ⟨h00, hv⟩ := List.forall_mem_cons.mp hv
  have hk1 : inI k := h0
  obtain ⟨hr, hc⟩ := ak_lt (r := r) (by omega)
  have hra0 := (hR r hr).2 hc k.toNat (by show k.toNat < ln0 r; omega)
  rw [show wd0.2.2.2.1 r = 1 from hak, Int.toNat_of_nonneg hki.1] at hra0
  have hra : inI (M r k) := hra0
  rw [List.map_cons, List.map_cons, cv_ref (by have := NR_small; omega)]
  refine va_iald hx hb hK hP r 0 (wa_at hr hc hak (by omega)) rfl (oI_in hk1 hki) hdg ?_
  rw [oI_clamp hk1, Int.toNat_of_nonneg hki.1]
  exact h H locs lsm hP hR hO hS hl (List.forall_mem_cons.mpr ⟨hra, hv⟩)
theorem sx_bald (hx : p.tables.exec = Jvm.exec) (hb : c.code = cc) (hK : va_K D vwCl (tys_ cA) s) {r : Nat} {k : Int} (hak : ak0 r = 2) (hki : 0 ≤ k ∧ k < (ln0 r : Int)) (hdg : decode cc pc = .ok (.baload, 1)) (h : (-128 ≤ M r k ∧ M r k ≤ 127 → Wm_ p l e R s m args below meth c cells slots Q D cA ad ov A L xs nL (pc + 1) ls (.inl (M r k) :: st) M)) : Wm_ p l e R s m args below meth c cells slots Q D cA ad ov A L xs nL pc ls (.inl k :: .inr (.inr r) :: st) M := by
  intro H locs lsm hP hR hO hS hl hv
  obtain ⟨h0, hv⟩ := List.forall_mem_cons.mp hv
  obtain ⟨h00, hv⟩ := List.forall_mem_cons.mp hv
  have hk1 : inI k := h0
  obtain ⟨hr, hc⟩ := ak_lt (r := r) (by omega)
  have hra0 := (hR r hr).2 hc k.toNat (by show k.toNat < ln0 r; omega)
  rw [show wd0.2.2.2.1 r = 2 from hak, Int.toNat_of_nonneg hki.1] at hra0
  have hra : -128 ≤ M r k ∧ M r k ≤ 127 := hra0
  rw [List.map_cons, List.map_cons, cv_ref (by have := NR_small; omega)]
  refine va_bald hx hb hK hP r 1 (wa_at hr hc hak (by omega)) rfl (oI_in hk1 hki) hdg ?_
  rw [oI_clamp hk1, Int.toNat_of_nonneg hki.1]
  exact h hra H locs lsm hP hR hO hS hl (List.forall_mem_cons.mpr ⟨show inI (M r k) from by (unfold inI; omega), hv⟩)
theorem sx_zald (hx : p.tables.exec = Jvm.exec) (hb : c.code = cc) (hK : va_K D vwCl (tys_ cA) s) {r : Nat} {k : Int} (hak : ak0 r = 3) (hki : 0 ≤ k ∧ k < (ln0 r : Int)) (hdg : decode cc pc = .ok (.baload, 1)) (h : (bl_ (M r k) → Wm_ p l e R s m args below meth c cells slots Q D cA ad ov A L xs nL (pc + 1) ls (.inl (M r k) :: st) M)) : Wm_ p l e R s m args below meth c cells slots Q D cA ad ov A L xs nL pc ls (.inl k :: .inr (.inr r) :: st) M := by
  intro H locs lsm hP hR hO hS hl hv
  obtain ⟨h0, hv⟩ := List.forall_mem_cons.mp hv
  obtain ⟨h00, hv⟩ := List.forall_mem_cons.mp hv
  have hk1 : inI k := h0
  obtain ⟨hr, hc⟩ := ak_lt (r := r) (by omega)
  have hra0 := (hR r hr).2 hc k.toNat (by show k.toNat < ln0 r; omega)
  rw [show wd0.2.2.2.1 r = 3 from hak, Int.toNat_of_nonneg hki.1] at hra0
  have hra : bl_ (M r k) := hra0
  rw [List.map_cons, List.map_cons, cv_ref (by have := NR_small; omega)]
  refine va_zald hx hb hK hP r 2 (wa_at hr hc hak (by omega)) rfl (oI_in hk1 hki) hdg ?_
  rw [oI_clamp hk1, Int.toNat_of_nonneg hki.1]
  exact h hra H locs lsm hP hR hO hS hl (List.forall_mem_cons.mpr ⟨show inI (M r k) from bl_in hra, hv⟩)
theorem sx_lald (hx : p.tables.exec = Jvm.exec) (hb : c.code = cc) (hK : va_K D vwCl (tys_ cA) s) {r : Nat} {k : Int} (hak : ak0 r = 4) (hki : 0 ≤ k ∧ k < (ln0 r : Int)) (hdg : decode cc pc = .ok (.laload, 1)) (h : Wm_ p l e R s m args below meth c cells slots Q D cA ad ov A L xs nL (pc + 1) ls (.inr (.inl (M r k)) :: st) M) : Wm_ p l e R s m args below meth c cells slots Q D cA ad ov A L xs nL pc ls (.inl k :: .inr (.inr r) :: st) M := by
  intro H locs lsm hP hR hO hS hl hv
  obtain ⟨h0, hv⟩ := List.forall_mem_cons.mp hv
  obtain ⟨h00, hv⟩ := List.forall_mem_cons.mp hv
  have hk1 : inI k := h0
  obtain ⟨hr, hc⟩ := ak_lt (r := r) (by omega)
  have hra0 := (hR r hr).2 hc k.toNat (by show k.toNat < ln0 r; omega)
  rw [show wd0.2.2.2.1 r = 4 from hak, Int.toNat_of_nonneg hki.1] at hra0
  have hra : inL (M r k) := hra0
  rw [List.map_cons, List.map_cons, cv_ref (by have := NR_small; omega)]
  refine va_lald hx hb hK hP r 3 (wa_atL hr hc hak) rfl (oI_in hk1 hki) hdg ?_
  rw [oI_clamp hk1, Int.toNat_of_nonneg hki.1]
  exact h H locs lsm hP hR hO hS hl (List.forall_mem_cons.mpr ⟨hra, hv⟩)
theorem sx_iast (hx : p.tables.exec = Jvm.exec) (hb : c.code = cc) (hK : va_K D vwCl (tys_ cA) s) (hDD : ∀ M : mm_, va_D A (wl_ wd0 nf0 cA NR0 ad M)) {r : Nat} {k x : Int} (hak : ak0 r = 1) (hki : 0 ≤ k ∧ k < (ln0 r : Int)) (hdg : decode cc pc = .ok (.iastore, 1)) (h : Wm_ p l e R s m args below meth c cells slots Q D cA ad ov A L xs nL (pc + 1) ls st (up_ M r k x)) : Wm_ p l e R s m args below meth c cells slots Q D cA ad ov A L xs nL pc ls (.inl x :: .inl k :: .inr (.inr r) :: st) M := by
  intro H locs lsm hP hR hO hS hl hv
  obtain ⟨h1, hv⟩ := List.forall_mem_cons.mp hv
  obtain ⟨h0, hv⟩ := List.forall_mem_cons.mp hv
  obtain ⟨h00, hv⟩ := List.forall_mem_cons.mp hv
  have hk1 : inI k := h0
  have hx1 : inI x := h1
  obtain ⟨hr, hc⟩ := ak_lt (r := r) (by omega)
  rw [List.map_cons, List.map_cons, List.map_cons, cv_ref (by have := NR_small; omega)]
  refine va_iast hx hb hK hP (hDD M) hS r 0 (wa_at hr hc hak (by omega)) rfl (x := Int32.ofInt x) (oI_in hk1 hki) hdg ?_
  intro H1 locs1 g1 g2 g3
  rw [oI_clamp hk1] at g1
  rw [wl_set (v := x) (i := k) (by rw [ce_upI hc (show ak0 r ≠ 4 by omega) hki.1]; show Sum.inl (cA (ak0 r), ln0 r, _) = _; rw [hak])] at g1
  exact h H1 locs1 lsm g1 (Rg_up hR (fun h9 => absurd hc h9) (fun _ => by rw [show wd0.2.2.2.1 r = 1 from hak]; exact hx1) hki.1) (Ro_up hO (by have := NR_small; omega)) g3 hl hv
theorem sx_bast (hx : p.tables.exec = Jvm.exec) (hb : c.code = cc) (hK : va_K D vwCl (tys_ cA) s) (hDD : ∀ M : mm_, va_D A (wl_ wd0 nf0 cA NR0 ad M)) {r : Nat} {k x : Int} (hak : ak0 r = 2) (hki : 0 ≤ k ∧ k < (ln0 r : Int)) (hxr : -128 ≤ x ∧ x ≤ 127) (hdg : decode cc pc = .ok (.bastore, 1)) (h : Wm_ p l e R s m args below meth c cells slots Q D cA ad ov A L xs nL (pc + 1) ls st (up_ M r k x)) : Wm_ p l e R s m args below meth c cells slots Q D cA ad ov A L xs nL pc ls (.inl x :: .inl k :: .inr (.inr r) :: st) M := by
  intro H locs lsm hP hR hO hS hl hv
  obtain ⟨h1, hv⟩ := List.forall_mem_cons.mp hv
  obtain ⟨h0, hv⟩ := List.forall_mem_cons.mp hv
  obtain ⟨h00, hv⟩ := List.forall_mem_cons.mp hv
  have hk1 : inI k := h0
  have hx1 : inI x := h1
  obtain ⟨hr, hc⟩ := ak_lt (r := r) (by omega)
  rw [List.map_cons, List.map_cons, List.map_cons, cv_ref (by have := NR_small; omega)]
  have e8 : vp_nar .byte (Int32.ofInt x) = Int32.ofInt x := by
    show (Int32.ofInt x).toInt8.toInt32 = _
    rw [i2b_ hx1]
    congr 1
    unfold ib_
    omega
  refine va_bast hx hb hK hP (hDD M) hS r 1 (wa_at hr hc hak (by omega)) rfl (x := Int32.ofInt x) (oI_in hk1 hki) hdg ?_
  intro H1 locs1 g1 g2 g3
  rw [e8] at g1
  rw [oI_clamp hk1] at g1
  rw [wl_set (v := x) (i := k) (by rw [ce_upI hc (show ak0 r ≠ 4 by omega) hki.1]; show Sum.inl (cA (ak0 r), ln0 r, _) = _; rw [hak])] at g1
  exact h H1 locs1 lsm g1 (Rg_up hR (fun h9 => absurd hc h9) (fun _ => by rw [show wd0.2.2.2.1 r = 2 from hak]; exact hxr) hki.1) (Ro_up hO (by have := NR_small; omega)) g3 hl hv
theorem sx_zast (hx : p.tables.exec = Jvm.exec) (hb : c.code = cc) (hK : va_K D vwCl (tys_ cA) s) (hDD : ∀ M : mm_, va_D A (wl_ wd0 nf0 cA NR0 ad M)) {r : Nat} {k x : Int} (hak : ak0 r = 3) (hki : 0 ≤ k ∧ k < (ln0 r : Int)) (hxr : bl_ x) (hdg : decode cc pc = .ok (.bastore, 1)) (h : Wm_ p l e R s m args below meth c cells slots Q D cA ad ov A L xs nL (pc + 1) ls st (up_ M r k x)) : Wm_ p l e R s m args below meth c cells slots Q D cA ad ov A L xs nL pc ls (.inl x :: .inl k :: .inr (.inr r) :: st) M := by
  intro H locs lsm hP hR hO hS hl hv
  obtain ⟨h1, hv⟩ := List.forall_mem_cons.mp hv
  obtain ⟨h0, hv⟩ := List.forall_mem_cons.mp hv
  obtain ⟨h00, hv⟩ := List.forall_mem_cons.mp hv
  have hk1 : inI k := h0
  have hx1 : inI x := h1
  obtain ⟨hr, hc⟩ := ak_lt (r := r) (by omega)
  rw [List.map_cons, List.map_cons, List.map_cons, cv_ref (by have := NR_small; omega)]
  have e8 : vp_nar .boolean (Int32.ofInt x) = Int32.ofInt x := by
    rcases hxr with z | z <;> rw [z] <;> rfl
  refine va_zast hx hb hK hP (hDD M) hS r 2 (wa_at hr hc hak (by omega)) rfl (x := Int32.ofInt x) (oI_in hk1 hki) hdg ?_
  intro H1 locs1 g1 g2 g3
  rw [e8] at g1
  rw [oI_clamp hk1] at g1
  rw [wl_set (v := x) (i := k) (by rw [ce_upI hc (show ak0 r ≠ 4 by omega) hki.1]; show Sum.inl (cA (ak0 r), ln0 r, _) = _; rw [hak])] at g1
  exact h H1 locs1 lsm g1 (Rg_up hR (fun h9 => absurd hc h9) (fun _ => by rw [show wd0.2.2.2.1 r = 3 from hak]; exact hxr) hki.1) (Ro_up hO (by have := NR_small; omega)) g3 hl hv
theorem sx_last (hx : p.tables.exec = Jvm.exec) (hb : c.code = cc) (hK : va_K D vwCl (tys_ cA) s) (hDD : ∀ M : mm_, va_D A (wl_ wd0 nf0 cA NR0 ad M)) {r : Nat} {k x : Int} (hak : ak0 r = 4) (hki : 0 ≤ k ∧ k < (ln0 r : Int)) (hdg : decode cc pc = .ok (.lastore, 1)) (h : Wm_ p l e R s m args below meth c cells slots Q D cA ad ov A L xs nL (pc + 1) ls st (up_ M r k x)) : Wm_ p l e R s m args below meth c cells slots Q D cA ad ov A L xs nL pc ls (.inr (.inl x) :: .inl k :: .inr (.inr r) :: st) M := by
  intro H locs lsm hP hR hO hS hl hv
  obtain ⟨h1, hv⟩ := List.forall_mem_cons.mp hv
  obtain ⟨h0, hv⟩ := List.forall_mem_cons.mp hv
  obtain ⟨h00, hv⟩ := List.forall_mem_cons.mp hv
  have hk1 : inI k := h0
  have hx1 : inL x := h1
  obtain ⟨hr, hc⟩ := ak_lt (r := r) (by omega)
  rw [List.map_cons, List.map_cons, List.map_cons, cv_ref (by have := NR_small; omega)]
  refine va_last hx hb hK hP (hDD M) hS r 3 (wa_atL hr hc hak) rfl (x := Int64.ofInt x) (oI_in hk1 hki) hdg ?_
  intro H1 locs1 g1 g2 g3
  rw [oI_clamp hk1] at g1
  rw [wl_set (v := x) (i := k) (by rw [ce_upL hc (show ak0 r = 4 from hak) hki.1]; show Sum.inl (cA (ak0 r), ln0 r, _) = _; rw [hak])] at g1
  exact h H1 locs1 lsm g1 (Rg_up hR (fun h9 => absurd hc h9) (fun _ => by rw [show wd0.2.2.2.1 r = 4 from hak]; exact hx1) hki.1) (Ro_up hO (by have := NR_small; omega)) g3 hl hv
theorem sx_sld (hx : p.tables.exec = Jvm.exec) (hb : c.code = cc) (hX : va_X (ad 1000) L xs s s.heap) (hbl : ad 1000 < s.heap.size) (hbA : ¬ A (ad 1000)) (hL : L < 2147483648) {k : Int} (hki : 0 ≤ k ∧ k < M 1000 (-1)) (hdg : decode cc pc = .ok (.iaload, 1)) (h : Wm_ p l e R s m args below meth c cells slots Q D cA ad ov A L xs nL (pc + 1) ls (.inl (M 1000 k) :: st) M) : Wm_ p l e R s m args below meth c cells slots Q D cA ad ov A L xs nL pc ls (.inl k :: .inr (.inr 1000) :: st) M := by
  intro H locs lsm hP hR hO hS hl hv
  obtain ⟨h0, hv⟩ := List.forall_mem_cons.mp hv
  obtain ⟨h00, hv⟩ := List.forall_mem_cons.mp hv
  have hk1 : inI k := h0
  rw [hO.1] at hki
  have e1 := hO.2.1 k.toNat (by omega)
  rw [Int.toNat_of_nonneg hki.1] at e1
  rw [List.map_cons, List.map_cons, cv_ref (by omega)]
  refine va_sld hx hb hX hbl hbA hS (oI_in hk1 hki) hdg ?_
  rw [oI_clamp hk1, show xs k.toNat = Int32.ofInt (M 1000 k) from oI_of _ e1.symm]
  exact h H locs lsm hP hR hO hS hl (List.forall_mem_cons.mpr ⟨show inI (M 1000 k) from by (rw [e1]; exact toInt_in _), hv⟩)
theorem sx_slen (hx : p.tables.exec = Jvm.exec) (hb : c.code = cc) (hX : va_X (ad 1000) L xs s s.heap) (hbl : ad 1000 < s.heap.size) (hbA : ¬ A (ad 1000)) (hL : L < 2147483648) (hdg : decode cc pc = .ok (.arraylength, 1)) (h : Wm_ p l e R s m args below meth c cells slots Q D cA ad ov A L xs nL (pc + 1) ls (.inl (M 1000 (-1)) :: st) M) : Wm_ p l e R s m args below meth c cells slots Q D cA ad ov A L xs nL pc ls (.inr (.inr 1000) :: st) M := by
  intro H locs lsm hP hR hO hS hl hv
  obtain ⟨h00, hv⟩ := List.forall_mem_cons.mp hv
  rw [List.map_cons, cv_ref (by omega)]
  refine va_slen hx hb hX hbl hbA hS hdg ?_
  have e1 : inI (M 1000 (-1)) := by rw [hO.1]; unfold inI; omega
  rw [show Int32.ofNat L = Int32.ofInt (M 1000 (-1)) by rw [hO.1]; exact (Int32.ofInt_eq_ofNat).symm]
  exact h H locs lsm hP hR hO hS hl (List.forall_mem_cons.mpr ⟨e1, hv⟩)
theorem cat_sum (ad : Nat → Nat) (ov : Value) (st : List pv_) : ((st.map (cv_ ad ov)).map fun v => v.category).sum ≤ 2 * st.length := by
  induction st with
  | nil => simp
  | cons v t ih =>
    rw [List.map_cons, List.map_cons, List.sum_cons, List.length_cons]
    rcases lv_cat (cv_ ad ov v) with h | h <;> omega
theorem sx_mmax (hx : p.tables.exec = Jvm.exec) (hb : c.code = cc) (hov : ov.category = 1) (hml : c.maxLocals = nL) {own : String} {idx : Nat} (hown : s.vm.findClass own = some m.cls) (hlink : (Cond.methodLink own idx Lib.Math.max.name).before args s = true) (hstat : (Cond.static Lib.Math.max.name).before args s = true) (hini : (Cond.initialized "java/lang/Math").before args s = true) (hcode : (Cond.code Lib.Math.max.name Lib.Math.max.code 2 (some .int)).before args s = true) (hRf : 1 ≤ R.frames) (hRl : 32 ≤ R.locals) (hc : cells ≤ R.cells) (hs : slots ≤ R.slots) {x y : Int} (hst : st.length ≤ 8) (hdg : decode cc pc = .ok (.invokestatic idx, 3)) (h : Wm_ p l e R s m args below meth c cells slots Q D cA ad ov A L xs nL (pc + 3) ls (.inl (if x < y then y else x) :: st) M) : Wm_ p l e R s m args below meth c cells slots Q D cA ad ov A L xs nL pc ls (.inl y :: .inl x :: st) M := by
  intro H locs lsm hP hR hO hS hl hv
  obtain ⟨hy, hv⟩ := List.forall_mem_cons.mp hv
  obtain ⟨hx0, hv⟩ := List.forall_mem_cons.mp hv
  have hx1 : inI x := hx0
  have hy1 : inI y := hy
  have h3 := h H locs lsm hP hR hO hS hl (List.forall_mem_cons.mpr ⟨show inI (if x < y then y else x) from by split <;> assumption, hv⟩)
  refine va_mmax (x := Int32.ofInt x) (y := Int32.ofInt y) hx hb (by rw [hml, hl.2.1]) hown hlink hstat hini hcode hRf (by have := cat_sum ad ov st; omega) hc hs hdg ?_
  have e9 : (if Int32.ofInt x < Int32.ofInt y then Int32.ofInt y else Int32.ofInt x) = Int32.ofInt (if x < y then y else x) := by
    by_cases q : x < y
    · rw [if_pos q, if_pos ((oI_lt hx1 hy1).mpr q)]
    · rw [if_neg q, if_neg (fun z => q ((oI_lt hx1 hy1).mp z))]
  have e10 : (if Int32.ofInt x < Int32.ofInt y then Int32.ofInt y else Int32.ofInt x) = Int32.ofInt (if x < y then y else x) := e9
  rw [e10]
  exact h3
theorem sx_mmin (hx : p.tables.exec = Jvm.exec) (hb : c.code = cc) (hov : ov.category = 1) (hml : c.maxLocals = nL) {own : String} {idx : Nat} (hown : s.vm.findClass own = some m.cls) (hlink : (Cond.methodLink own idx Lib.Math.min.name).before args s = true) (hstat : (Cond.static Lib.Math.min.name).before args s = true) (hini : (Cond.initialized "java/lang/Math").before args s = true) (hcode : (Cond.code Lib.Math.min.name Lib.Math.min.code 2 (some .int)).before args s = true) (hRf : 1 ≤ R.frames) (hRl : 32 ≤ R.locals) (hc : cells ≤ R.cells) (hs : slots ≤ R.slots) {x y : Int} (hst : st.length ≤ 8) (hdg : decode cc pc = .ok (.invokestatic idx, 3)) (h : Wm_ p l e R s m args below meth c cells slots Q D cA ad ov A L xs nL (pc + 3) ls (.inl (if y < x then y else x) :: st) M) : Wm_ p l e R s m args below meth c cells slots Q D cA ad ov A L xs nL pc ls (.inl y :: .inl x :: st) M := by
  intro H locs lsm hP hR hO hS hl hv
  obtain ⟨hy, hv⟩ := List.forall_mem_cons.mp hv
  obtain ⟨hx0, hv⟩ := List.forall_mem_cons.mp hv
  have hx1 : inI x := hx0
  have hy1 : inI y := hy
  have h3 := h H locs lsm hP hR hO hS hl (List.forall_mem_cons.mpr ⟨show inI (if y < x then y else x) from by split <;> assumption, hv⟩)
  refine va_mmin (x := Int32.ofInt x) (y := Int32.ofInt y) hx hb (by rw [hml, hl.2.1]) hown hlink hstat hini hcode hRf (by have := cat_sum ad ov st; omega) hc hs hdg ?_
  have e9 : (if Int32.ofInt y < Int32.ofInt x then Int32.ofInt y else Int32.ofInt x) = Int32.ofInt (if y < x then y else x) := by
    by_cases q : y < x
    · rw [if_pos q, if_pos ((oI_lt hy1 hx1).mpr q)]
    · rw [if_neg q, if_neg (fun z => q ((oI_lt hy1 hx1).mp z))]
  have e10 : (if Int32.ofInt y < Int32.ofInt x then Int32.ofInt y else Int32.ofInt x) = Int32.ofInt (if y < x then y else x) := e9
  rw [e10]
  exact h3
theorem sx_mminL (hx : p.tables.exec = Jvm.exec) (hb : c.code = cc) (hov : ov.category = 1) (hml : c.maxLocals = nL) {own : String} {idx : Nat} (hown : s.vm.findClass own = some m.cls) (hlink : (Cond.methodLink own idx Lib.MathLoose.min_long.x).before args s = true) (hstat : (Cond.static Lib.MathLoose.min_long.x).before args s = true) (hini : (Cond.initialized "java/lang/Math").before args s = true) (hcode : (Cond.code Lib.MathLoose.min_long.x Lib.MathLoose.min_long.code 4 (some .long)).before args s = true) (hRf : 1 ≤ R.frames) (hRl : 32 ≤ R.locals) (hc : cells ≤ R.cells) (hs : slots ≤ R.slots) {x y : Int} (hst : st.length ≤ 8) (hdg : decode cc pc = .ok (.invokestatic idx, 3)) (h : Wm_ p l e R s m args below meth c cells slots Q D cA ad ov A L xs nL (pc + 3) ls (.inr (.inl (if y < x then y else x)) :: st) M) : Wm_ p l e R s m args below meth c cells slots Q D cA ad ov A L xs nL pc ls (.inr (.inl y) :: .inr (.inl x) :: st) M := by
  intro H locs lsm hP hR hO hS hl hv
  obtain ⟨hy, hv⟩ := List.forall_mem_cons.mp hv
  obtain ⟨hx0, hv⟩ := List.forall_mem_cons.mp hv
  have hx1 : inL x := hx0
  have hy1 : inL y := hy
  have h3 := h H locs lsm hP hR hO hS hl (List.forall_mem_cons.mpr ⟨show inL (if y < x then y else x) from by split <;> assumption, hv⟩)
  refine va_mmin_long (x := Int64.ofInt x) (y := Int64.ofInt y) hx hb (by rw [hml, hl.2.1]) hown hlink hstat hini hcode hRf (by have := cat_sum ad ov st; omega) hc hs hdg ?_
  have e9 : (if Int64.ofInt y < Int64.ofInt x then Int64.ofInt y else Int64.ofInt x) = Int64.ofInt (if y < x then y else x) := by
    by_cases q : y < x
    · rw [if_pos q, if_pos ((oL_lt hy1 hx1).mpr q)]
    · rw [if_neg q, if_neg (fun z => q ((oL_lt hy1 hx1).mp z))]
  rw [e9]
  exact h3
def okt_ (pc : Nat) (lo hi : Int) (offs : List Int) (tb : List (Int × Nat)) : Bool := decide (tb.length = offs.length) && (decide ((offs.length : Int) = hi - lo + 1) && (List.range offs.length).all (fun j => decide (tb[j]? = some (lo + (j : Int), ((pc : Int) + offs.getD j 0).toNat)) && decide (0 ≤ (pc : Int) + offs.getD j 0)))
theorem sw_at {K : Nat → Prop} {x : Int} : ∀ {tb : List (Int × Nat)} {d : Nat}, sw_ K x tb d → (∃ q ∈ tb, q.1 = x ∧ K q.2) ∨ ((∀ q ∈ tb, q.1 ≠ x) ∧ K d)
  | [], d, h => Or.inr ⟨fun q hq => absurd hq List.not_mem_nil, h⟩
  | k :: t, d, h => by
    unfold sw_ at h
    split at h
    · rename_i e9
      exact Or.inl ⟨k, List.mem_cons_self, e9.symm, h⟩
    · rename_i e9
      rcases sw_at h with ⟨q, h1, h2, h3⟩ | ⟨h1, h2⟩
      · exact Or.inl ⟨q, List.mem_cons_of_mem _ h1, h2, h3⟩
      · refine Or.inr ⟨fun q hq => ?_, h2⟩
        rcases List.mem_cons.mp hq with z | z
        · rw [z]; exact fun q9 => e9 q9.symm
        · exact h1 q z
theorem sx_table (hx : p.tables.exec = Jvm.exec) (hb : c.code = cc) {dflt lo hi : Int} {offs : Array Int} {len a : Nat} {tb : List (Int × Nat)} {x : Int} (ht : (pc : Int) + dflt = (a : Int)) (hok : okt_ pc lo hi offs.toList tb = true) (hdg : decode cc pc = .ok (.tableswitch dflt lo hi offs, len)) (h : sw_ (fun q => Wm_ p l e R s m args below meth c cells slots Q D cA ad ov A L xs nL q ls st M) x tb a) : Wm_ p l e R s m args below meth c cells slots Q D cA ad ov A L xs nL pc ls (.inl x :: st) M := by
  intro H locs lsm hP hR hO hS hl hv
  obtain ⟨hx0, hv⟩ := List.forall_mem_cons.mp hv
  have hx1 : inI x := hx0
  unfold okt_ at hok
  simp only [Bool.and_eq_true, decide_eq_true_eq] at hok
  obtain ⟨k1, k2, k3⟩ := hok
  have key : ∀ j : Nat, j < offs.toList.length → tb[j]? = some (lo + (j : Int), ((pc : Int) + offs.toList.getD j 0).toNat) ∧ 0 ≤ (pc : Int) + offs.toList.getD j 0 := by
    intro j hj
    have := List.all_eq_true.mp k3 j (List.mem_range.mpr hj)
    simp only [Bool.and_eq_true, decide_eq_true_eq] at this
    exact this
  have ex : (Int32.ofInt x).toInt = x := oI_toInt hx1
  rcases sw_at h with ⟨q, h1, h2, h3⟩ | ⟨h1, h2⟩
  · obtain ⟨j, hj⟩ := List.getElem?_of_mem h1
    have hjl : j < offs.toList.length := by rw [← k1]; exact (List.getElem?_eq_some_iff.mp hj).1
    obtain ⟨g1, g2⟩ := key j hjl
    rw [hj] at g1
    cases g1
    have h2 : lo + (j : Int) = x := h2
    refine lv_tableIn (tgt := ((pc : Int) + offs.toList.getD j 0).toNat) (off := offs.toList.getD j 0) hx hb hdg (by rw [ex]; omega) (by rw [ex]; omega) ?_ (by omega) (h3 H locs lsm hP hR hO hS hl hv)
    rw [ex, show (x - lo).toNat = j by omega, ← Array.getElem?_toList, List.getElem?_eq_getElem hjl, List.getD_eq_getElem?_getD, List.getElem?_eq_getElem hjl]
    rfl
  · refine lv_tableOut hx hb hdg ?_ ht (h2 H locs lsm hP hR hO hS hl hv)
    rw [ex]
    rcases Int.lt_or_le x lo with g | g
    · exact Or.inl g
    · rcases Int.lt_or_le hi x with g2 | g2
      · exact Or.inr g2
      · exfalso
        have hjl : (x - lo).toNat < offs.toList.length := by omega
        have := (key _ hjl).1
        exact h1 _ (List.mem_of_getElem? this) (by show lo + ((x - lo).toNat : Int) = x; omega)
def okl_ (pc a : Nat) (dflt : Int) : List (Int × Int) → List (Int × Nat) → Bool
  | [], [] => decide ((pc : Int) + dflt = (a : Int))
  | x :: t, y :: u => decide (x.1 = y.1) && (decide ((pc : Int) + x.2 = (y.2 : Int)) && okl_ pc a dflt t u)
  | _, _ => false
theorem okl_spec {pc a : Nat} {dflt : Int} {K : Nat → Prop} {x : Int} : ∀ {ps : List (Int × Int)} {tb : List (Int × Nat)}, okl_ pc a dflt ps tb = true → sw_ K x tb a → ∃ tgt : Nat, (pc : Int) + Op.lookupswitch.offset ps dflt x = (tgt : Int) ∧ K tgt
  | [], [], h, hk => ⟨a, by simp only [okl_, decide_eq_true_eq] at h; exact h, hk⟩
  | p :: t, q :: u, h, hk => by
    simp only [okl_, Bool.and_eq_true, decide_eq_true_eq] at h
    obtain ⟨h1, h2, h3⟩ := h
    unfold sw_ at hk
    by_cases e9 : x = q.1
    · rw [if_pos e9] at hk
      refine ⟨q.2, ?_, hk⟩
      rw [← h2]
      congr 1
      exact if_pos (h1.trans e9.symm)
    · rw [if_neg e9] at hk
      obtain ⟨tgt, g1, g2⟩ := okl_spec h3 hk
      refine ⟨tgt, ?_, g2⟩
      rw [← g1]
      congr 1
      exact if_neg (fun z => e9 (z.symm.trans h1))
  | [], _ :: _, h, _ => by cases h
  | _ :: _, [], h, _ => by cases h
theorem sx_lookup (hx : p.tables.exec = Jvm.exec) (hb : c.code = cc) {dflt : Int} {ps : Array (Int × Int)} {len a : Nat} {tb : List (Int × Nat)} {x : Int} (hp : (ps.toList.zip (ps.toList.drop 1)).all (fun (a, next) => a.1 < next.1) = true) (hok : okl_ pc a dflt ps.toList tb = true) (hdg : decode cc pc = .ok (.lookupswitch dflt ps, len)) (h : sw_ (fun q => Wm_ p l e R s m args below meth c cells slots Q D cA ad ov A L xs nL q ls st M) x tb a) : Wm_ p l e R s m args below meth c cells slots Q D cA ad ov A L xs nL pc ls (.inl x :: st) M := by
  intro H locs lsm hP hR hO hS hl hv
  obtain ⟨hx0, hv⟩ := List.forall_mem_cons.mp hv
  have hx1 : inI x := hx0
  have ex : (Int32.ofInt x).toInt = x := oI_toInt hx1
  obtain ⟨tgt, g1, g2⟩ := okl_spec hok h
  exact lv_lookup hx hb hdg hp rfl (by rw [ex]; exact g1) (g2 H locs lsm hP hR hO hS hl hv)
end SA
