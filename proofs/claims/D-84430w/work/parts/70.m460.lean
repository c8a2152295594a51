section M460_sw
/-! the pure lemmas that the machine's side uses, without the ghost -/
theorem swM_r0 {M : mm_} {r : Nat} (h1 : r ≠ 1) (h4 : r ≠ 4) (h5 : r ≠ 5) (h : ¬ (79 ≤ r ∧ r ≤ 144)) : swM M r = M r := by
  have i0 : Inhabited fz_ := ⟨fun _ _ => 0⟩
  exact swM_r h1 h4 h5 h
theorem swM_10 {M : mm_} {i : Int} (h : i ≠ 2) : swM M 1 i = M 1 i := by
  have i0 : Inhabited fz_ := ⟨fun _ _ => 0⟩
  exact swM_1 h
theorem x_54c0 {D : ca_} {V : vv_} {Qr : qr_} {Qt : qt_} {M0 : mm_} {x1 x2 : Int} (hD : Mo_ D) (hV : Cl_ wd0 D V Qr Qt m_54) (hW : Wk_ V) (hP : LDP M0) (hq : ∀ M', LDF M0 M' → Qr [.inl 0] M') : V 75 [rr 0, ii x1, ii x2, none, ii 0, none, none] [] M0 := by
  have i0 : Inhabited fz_ := ⟨fun _ _ => 0⟩
  exact x_54c hD hV hW hP hq
theorem lwD_m0 : Mo_ lwD := by
  have i0 : Inhabited fz_ := ⟨fun _ _ => 0⟩
  exact lwD_m
/-! load on the machine: the plans change places -/
def sg_ (r : Nat) : Nat := if r = 4 then 5 else if r = 5 then 4 else if 79 ≤ r ∧ r ≤ 111 then r + 33 else if 112 ≤ r ∧ r ≤ 144 then r - 33 else r
section SW1
variable {r k : Nat} {M : mm_} {ad : Nat → Nat} {cA : Nat → ClassId}
theorem sg_sg (r : Nat) : sg_ (sg_ r) = r := by
  unfold sg_
  repeat' split
  all_goals omega
theorem sg_lt (h : r < 267) : sg_ r < 267 := by
  unfold sg_
  repeat' split
  all_goals omega
theorem sg_0 (h : sg_ r = 0) : r = 0 := by
  unfold sg_ at h
  revert h
  repeat' split
  all_goals omega
theorem sg_id (h1 : r ≠ 4) (h2 : r ≠ 5) (h : ¬ (79 ≤ r ∧ r ≤ 144)) : sg_ r = r := by
  unfold sg_
  rw [if_neg h1, if_neg h2, if_neg (by omega), if_neg (by omega)]
theorem swM_sg (h : r ≠ 1) : swM M r = M (sg_ r) := by
  unfold swM sg_
  repeat' split
  all_goals first | rfl | omega
def swt1 : Bool := (List.range 267).all fun r => wd0.1 (sg_ r) == wd0.1 r && (wd0.2.2.2.1 (sg_ r) == wd0.2.2.2.1 r && wd0.2.2.2.2 (sg_ r) == wd0.2.2.2.2 r)
def swt2 : Bool := (List.range 267).all fun r => wd0.1 r == 99 || (List.range (nf0 (wd0.1 r))).all fun k => !(wd0.2.1 (wd0.1 r) k == 2) || ((r == 0 && (k == 1 || k == 2)) || wd0.2.2.1 (sg_ r) k == sg_ (wd0.2.2.1 r k))
def swt3 : Bool := (List.range 267).all fun r => wd0.1 r == 99 || (List.range (nf0 (wd0.1 r))).all fun k => !(wd0.2.1 (wd0.1 r) k == 3) || (r == 1 && k == 2)
theorem swt1_ok : swt1 = true := by decide +kernel
theorem swt2_ok : swt2 = true := by decide +kernel
theorem swt3_ok : swt3 = true := by decide +kernel
theorem sw_t1 (h : r < 267) : wd0.1 (sg_ r) = wd0.1 r ∧ wd0.2.2.2.1 (sg_ r) = wd0.2.2.2.1 r ∧ wd0.2.2.2.2 (sg_ r) = wd0.2.2.2.2 r := by
  have := List.all_eq_true.mp swt1_ok r (List.mem_range.mpr h)
  simp only [Bool.and_eq_true, beq_iff_eq] at this
  exact this
theorem sw_t2 (h : r < 267) (h9 : wd0.1 r ≠ 99) (hk : k < nf0 (wd0.1 r)) (h2 : wd0.2.1 (wd0.1 r) k = 2) (h0 : ¬ (r = 0 ∧ (k = 1 ∨ k = 2))) : wd0.2.2.1 (sg_ r) k = sg_ (wd0.2.2.1 r k) := by
  have := List.all_eq_true.mp swt2_ok r (List.mem_range.mpr h)
  simp only [Bool.or_eq_true, beq_iff_eq] at this
  rcases this with e | e
  · exact absurd e h9
  · have := List.all_eq_true.mp e k (List.mem_range.mpr hk)
    simp only [Bool.or_eq_true, Bool.and_eq_true, Bool.not_eq_true', beq_iff_eq, beq_eq_false_iff_ne] at this
    rcases this with e | e | e
    · exact absurd h2 e
    · exact absurd e h0
    · exact e
theorem sw_t3 (h : r < 267) (h9 : wd0.1 r ≠ 99) (hk : k < nf0 (wd0.1 r)) (h2 : wd0.2.1 (wd0.1 r) k = 3) : r = 1 ∧ k = 2 := by
  have := List.all_eq_true.mp swt3_ok r (List.mem_range.mpr h)
  simp only [Bool.or_eq_true, beq_iff_eq] at this
  rcases this with e | e
  · exact absurd e h9
  · have := List.all_eq_true.mp e k (List.mem_range.mpr hk)
    simp only [Bool.or_eq_true, Bool.and_eq_true, Bool.not_eq_true', beq_iff_eq, beq_eq_false_iff_ne] at this
    rcases this with e | e
    · exact absurd h2 e
    · exact e
/-- a field, behind the change -/
theorem fv_sw (h12 : M 1 2 = 5) (h : r < 267) (h9 : wd0.1 r ≠ 99) (hk : k < nf0 (wd0.1 r)) (h0 : ¬ (r = 0 ∧ (k = 1 ∨ k = 2))) : fv_ wd0 (fun x => ad (sg_ x)) (swM M) r k = fv_ wd0 ad M (sg_ r) k := by
  have t1 := (sw_t1 h).1
  unfold fv_
  rw [t1]
  split
  · rename_i e
    rw [sw_t2 h h9 hk e h0]
  · rename_i e
    obtain ⟨rfl, rfl⟩ := sw_t3 h h9 hk e
    have e1 : swM M 1 ((2 : Nat) : Int) = 4 := rfl
    have e2 : M (sg_ 1) ((2 : Nat) : Int) = 5 := h12
    rw [e1, e2, if_neg (by decide), if_neg (by decide)]
    rfl
  · rename_i e2 e3
    by_cases c : r = 1
    · subst c
      have hk2 : k ≠ 2 := fun e => e3 (by rw [e]; decide)
      rw [swM_10 (by omega)]
      rfl
    · rw [swM_sg c]
theorem ce_sw (h12 : M 1 2 = 5) (h : r < 267) (h0 : r ≠ 0) : ce_ wd0 nf0 cA (fun x => ad (sg_ x)) (swM M) r = ce_ wd0 nf0 cA ad M (sg_ r) := by
  obtain ⟨t1, t2, t3⟩ := sw_t1 h
  by_cases h9 : wd0.1 r = 99
  · have c : r ≠ 1 := fun e => by rw [e] at h9; exact absurd h9 (by decide)
    unfold ce_
    rw [t1, t2, t3, if_pos h9, if_pos h9, swM_sg c]
  · rw [ce_obj h9, ce_obj (by rw [t1]; exact h9), t1]
    congr 2
    refine List.map_congr_left (fun k hk => fv_sw h12 h h9 (List.mem_range.mp hk) (fun e => h0 e.1))
theorem ce_sw0 : ce_ wd0 nf0 cA (fun x => ad (sg_ x)) (swM M) 0 = .inr (0, (((List.range (nf0 0)).map (fv_ wd0 ad M 0)).set 1 (.ref (ad 5))).set 2 (.ref (ad 4))) := by
  rw [ce_obj (by decide)]; rfl
/-- the world behind the two puts is the world of the changed memory -/
theorem wl_sw {D : va_G} {H : Heap} (h12 : M 1 2 = 5) (h : va_P D vwCl ((wl_ wd0 nf0 cA NR0 ad M).set 0 (ad 0, .inr (0, (((List.range (nf0 0)).map (fv_ wd0 ad M 0)).set 1 (.ref (ad 5))).set 2 (.ref (ad 4))))) H) : va_P D vwCl (wl_ wd0 nf0 cA NR0 (fun x => ad (sg_ x)) (swM M)) H := by
  intro k q hk
  have hN : NR0 = 267 := rfl
  have hk9 : k < 267 := by
    have := (List.getElem?_eq_some_iff.mp hk).1
    simpa [wl_] using this
  rw [wl_at (by rw [hN]; exact hk9)] at hk
  cases hk
  by_cases k0 : k = 0
  · subst k0
    refine h 0 _ ?_
    rw [List.getElem?_set, if_pos rfl, if_pos (by simp [wl_, hN]), ce_sw0]
    rfl
  · refine h (sg_ k) _ ?_
    rw [List.getElem?_set, if_neg (fun e => k0 (sg_0 e.symm)), wl_at (by rw [hN]; exact sg_lt hk9), ce_sw h12 hk9 k0]
theorem wl_swD {A : Nat → Prop} (h : ∀ M : mm_, va_D A (wl_ wd0 nf0 cA NR0 ad M)) : ∀ M : mm_, va_D A (wl_ wd0 nf0 cA NR0 (fun x => ad (sg_ x)) M) := by
  intro M
  have hN : NR0 = 267 := rfl
  have g := h M
  have at9 : ∀ r, r < 267 → (wl_ wd0 nf0 cA NR0 ad M)[r]? = some (ad r, ce_ wd0 nf0 cA ad M r) := fun r hr => wl_at (by rw [hN]; exact hr)
  refine wl_D (fun i j hi hj e => ?_) (fun r hr => ?_)
  · rw [hN] at hi hj
    have := g.1 _ _ _ _ (at9 (sg_ i) (sg_lt hi)) (at9 (sg_ j) (sg_lt hj)) e
    have e2 := congrArg sg_ this
    rw [sg_sg, sg_sg] at e2
    exact e2
  · rw [hN] at hr
    exact g.2 _ _ (at9 (sg_ r) (sg_lt hr))
theorem Rg_sw (h : Rg_ wd0 nf0 NR0 M) : Rg_ wd0 nf0 NR0 (swM M) := by
  intro r hr
  have hN : NR0 = 267 := rfl
  rw [hN] at hr
  obtain ⟨t1, t2, t3⟩ := sw_t1 hr
  obtain ⟨g1, g2⟩ := h (sg_ r) (by rw [hN]; exact sg_lt hr)
  rw [t1] at g1 g2
  rw [t2, t3] at g2
  by_cases c : r = 1
  · subst c
    refine ⟨fun h9 k hk => ?_, fun h9 => absurd h9 (by decide)⟩
    by_cases k2 : k = 2
    · subst k2
      show (0 : Int) ≤ 4
      decide
    · rw [swM_10 (by omega)]
      exact g1 h9 k hk
  · rw [swM_sg c]
    exact ⟨g1, g2⟩
end SW1
end M460_sw
section M461_cl
/-! closures of a frame without handlers, with any end -/
def nox_ : Instr → Bool
  | .new _ => true
  | .invokespecial _ => true
  | _ => false
section CL1
variable {p : Program} {l : Launch} {e : Env} {R : Room} {s : State} {m : MethodId} {args : Array Value} {below : List Frame} {meth : Method} {c : Code} {D : va_G} {cA : Nat → ClassId} {ad : Nat → Nat} {ov : Value} {A : Nat → Prop} {L : Nat} {xs : Nat → Int32} {cells slots : Nat} {Q : State → Prop}
variable {cc : ByteArray} {nL o : Nat} {rt : Option FieldType} {Qr : qr_}
theorem nox_ex {w : wd_} {D9 : ca_} {V : vv_} {Qt : qt_} {md : md_} {pc len a : Nat} {i : Instr} {b : Int} {tb : List (Int × Nat)} {ls : lo_} {st : List pv_} {M : mm_} (hi : nox_ i = true) (h : ex_ w D9 V Qr Qt md pc i len a b tb ls st M) : False := by
  cases i <;> first | exact h | exact absurd (show false = true from hi) (by decide)
/-- what an end looks at -/
theorem ret_V {w : wd_} {D9 D8 : ca_} {V V' : vv_} {md : md_} {pc len a : Nat} {i : Instr} {b : Int} {tb : List (Int × Nat)} {ls : lo_} {st : List pv_} {M : mm_} (hh : md.2.2.2 = []) (hi : i = .ireturn ∨ i = .lreturn ∨ i = .areturn ∨ i = .return_ ∨ i = .athrow) (h : ex_ w D9 V Qr (fun _ _ => False) md pc i len a b tb ls st M) : ex_ w D8 V' Qr (fun _ _ => False) md pc i len a b tb ls st M := by
  rcases hi with rfl | rfl | rfl | rfl | rfl
  · exact h
  · exact h
  · exact h
  · exact h
  · simp only [ex_] at h ⊢
    rw [hh] at h ⊢
    split at h
    · split at h
      · exact h.elim
      · exact h.elim
    · exact h.elim
/-- the frame's points are closed under the pure machine -/
theorem clo_ (cx : Cx_ p l R s m args meth c cells slots cc nL o rt [] D cA ad ov A L xs) {md : md_} (hh : md.2.2.2 = []) (hck : ∀ q ∈ md.1, okb_ o cc q = true ∨ nox_ q.2.1 = true) {d : Nat} (hRf : d + 1 ≤ R.frames) (hRl : 64 * (d + 1) ≤ R.locals)
    (ih : ∀ n ∈ mids0, ∀ (as : List pv_) (M : mm_) (Qr : qr_) (Qt : qt_), Tr_ wd0 pg0 d n as M Qr Qt → Mk_ l D cA ad ov A L xs d n as M Qr Qt)
    (hret : ∀ (pc len a : Nat) (i : Instr) (b : Int) (tb : List (Int × Nat)) (ls : lo_) (st : List pv_) (M : mm_), decode cc pc = .ok (i, len) → oki_ o pc i len a b tb = true → (i = .ireturn ∨ i = .lreturn ∨ i = .areturn ∨ i = .return_ ∨ i = .athrow) → ex_ wd0 (Tr_ wd0 pg0 d) (Wm_ p l e R s m args below meth c cells slots Q D cA ad ov A L xs nL) Qr (fun _ _ => False) md pc i len a b tb ls st M → Wm_ p l e R s m args below meth c cells slots Q D cA ad ov A L xs nL pc ls st M) :
    Cl_ wd0 (Tr_ wd0 pg0 d) (Wm_ p l e R s m args below meth c cells slots Q D cA ad ov A L xs nL) Qr (fun _ _ => False) md := by
  intro pc ls st M9 hst
  unfold st_ at hst
  split at hst
  · rename_i x ex9
    rcases hck _ (lk_mem ex9) with hq | hq
    · obtain ⟨g1, g2⟩ := okb_spec hq
      refine sx_step cx g1 g2 ?_ (fun hi hex => hret _ _ _ _ _ _ _ _ _ g1 g2 hi hex) hst
      rw [hh]
      exact call_go cx hRf hRl ih (fun _ _ _ _ _ ht9 => False.elim ht9)
    · exact (nox_ex hq hst).elim
  · exact hst.elim
end CL1
end M461_cl
section M462_m54
/-! load on the machine: the method whole -/
section M54a
variable {D : ca_} {V : vv_} {Qr : qr_} {Qt : qt_}
set_option maxRecDepth 100000 in
theorem c_54_0 (hD : Mo_ D) (hV : Cl_ wd0 D V Qr Qt m_54) (hW : Wk_ V) (x1 : Int) (M : mm_) (h : if x1 < 0 then Qr [.inl (-2)] M else if x1 ≤ M 0 6 then D 101 [.inr (.inr 1), .inr (.inr 9), .inl x1, .inr (.inr 5)] (up_ M 0 6 0) (ri_ fun v1 M1 => if v1 = 0 then V 54 [rr 0, ii x1, ii v1, none, none, none, none] [] M1 else Qr [.inl v1] (up_ M1 0 71 (M1 1 5))) Qt else Qr [.inl (-2)] M) : V 0 [rr 0, ii x1, none, none, none, none, none] [] M := bx_go hD hV hW [(54, [])] 30 h
theorem c_54_54 (hD : Mo_ D) (hV : Cl_ wd0 D V Qr Qt m_54) (hW : Wk_ V) (x1 x2 : Int) (M : mm_) (h : V 64 [rr 0, ii x1, ii x2, rr 4, none, none, none] [.inr (.inr 5), .inr (.inr 0)] M) : V 54 [rr 0, ii x1, ii x2, none, none, none, none] [] M := bx_go hD hV hW [(64, [])] 6 h
theorem c_54_72 (hD : Mo_ D) (hV : Cl_ wd0 D V Qr Qt m_54) (hW : Wk_ V) (x1 x2 : Int) (M : mm_) (h : V 75 [rr 0, ii x1, ii x2, none, ii 0, none, none] [] M) : V 72 [rr 0, ii x1, ii x2, none, none, none, none] [] M := bx_go hD hV hW [(75, [])] 2 h
end M54a
section M54b
variable {p : Program} {l : Launch} {e : Env} {R : Room} {s : State} {m : MethodId} {args : Array Value} {below : List Frame} {meth : Method} {c : Code} {D : va_G} {cA : Nat → ClassId} {ad : Nat → Nat} {ov : Value} {A : Nat → Prop} {L : Nat} {xs : Nat → Int32} {cells slots : Nat} {Q : State → Prop} {M : mm_}
variable {cc : ByteArray} {nL o : Nat} {rt : Option FieldType} {hh : List (Nat × Nat × Nat × Nat)} {H : Heap} {locs : List Loc} {pc : Nat} {lsm : Array Slot} {rest : List Value}
theorem Ro_sw (h : Ro_ L xs M) : Ro_ L xs (swM M) := by
  have e : ∀ r : Nat, 1000 ≤ r → swM M r = M r := fun r hr => swM_r0 (by omega) (by omega) (by omega) (by omega)
  refine ⟨by rw [e 1000 (by omega)]; exact h.1, fun j hj => by rw [e 1000 (by omega)]; exact h.2.1 j hj, fun k hk => ⟨by rw [e _ (by omega)]; exact (h.2.2 k hk).1, fun j hj => by rw [e _ (by omega)]; exact (h.2.2 k hk).2 j hj⟩⟩
theorem Wo_sw {U : State} (h : Wo_ D cA ad ov A L xs U) : Wo_ D cA (fun x => ad (sg_ x)) ov A L xs U := by
  have e : ∀ r : Nat, 1000 ≤ r → sg_ r = r := fun r hr => sg_id (by omega) (by omega) (by omega)
  unfold Wo_ at h ⊢
  simp only [e 1000 (by omega), fun i : Nat => e (1001 + i) (by omega), fun i : Nat => e (1011 + i) (by omega)]
  exact h
/-- a field of a reference is put, whatever the world -/
theorem wx_putw (cx : Cx_ p l R s m args meth c cells slots cc nL o rt hh D cA ad ov A L xs) {idx a r t : Nat} {b : Int} {tb : List (Int × Nat)} (hok : okf_ o idx a b tb = true) (hop : okp_ o idx a = true) (ha : 2 ≤ a) (hf : fd_ tb r = some t) {ws : va_W} {x : Nat} {fs : List Value} {v : Nat} (hP : va_P D vwCl ws H) (hD : va_D A ws) (hS : va_S A s.heap H locs) (he : ws[r]? = some (x, .inr (rc0 r, fs))) (hl : fs.length = nf0 (rc0 r))
    (hdg : decode cc pc = .ok (.putfield idx, 3)) (kk : ∀ (H1 : Heap) (locs1 : List Loc), va_P D vwCl (ws.set r (x, .inr (rc0 r, fs.set b.toNat (.ref v)))) H1 → va_D A (ws.set r (x, .inr (rc0 r, fs.set b.toNat (.ref v)))) → va_S A s.heap H1 locs1 → W p l e R s m args below meth c H1 locs1 cells slots Q (F0 m (pc + 3) lsm rest)) : W p l e R s m args below meth c H locs cells slots Q (F0 m pc lsm (.ref v :: .ref x :: rest)) := by
  obtain ⟨⟨hx, hb, hml⟩, hown, hts, -, hWo, hDD, hov, -, hL⟩ := cx
  obtain ⟨q, hq, rfl, rfl, hb', hk, hc, hfk, hn, ho, hr, hrc, hsh, hfq⟩ := okf_spec hok hf
  subst hb'
  unfold okp_ at hop
  rw [hfq] at hop
  simp only [Bool.and_eq_true, beq_iff_eq, decide_eq_true_eq] at hop
  rw [if_neg (by omega), if_neg (by omega)] at hop
  rw [hrc] at he hl kk
  rw [Int.toNat_natCast] at kk
  obtain ⟨f1, f2, f3, f4⟩ := cls_facts hc
  have hna : narrow (tz0 q.2.2.1 q.2.2.2.1) (.ref v) = .ref v := by rw [hop.2]; rfl
  have hfit : fits (tz0 q.2.2.1 q.2.2.2.1) (.ref v) = true := by rw [hop.2]; rfl
  have hll : q.2.2.2.1 < fs.length := by rw [hl]; exact hk
  have hw := fl_word hq
  by_cases h1 : q.2.2.2.2.1 = 1
  · have hz := hWo.2.1 _ (nw_mem hq h1)
    unfold fw_ at hz
    rw [if_neg (by omega)] at hz
    exact va_putN (host := "ExchangeHouse") hx hb hts f2 (tz0 q.2.2.1) f4 f3 hown hWo.1 hP hD hS r he f1 q.2.2.2.1 hk (va_Nw.use rfl hz) (fun x h => by rw [ho] at h; exact h) hop.1 (f4 _ hk) hna hfit hll hdg kk
  · have hz := hts _ (hw.2 h1)
    unfold fw_ at hz
    rw [if_pos (by omega)] at hz
    exact va_put hx hb hts f2 (tz0 q.2.2.1) f4 f3 hown hWo.1 hP hD hS r he f1 q.2.2.2.1 hk hz (fun x h => by rw [ho] at h; exact h) hop.1 (f4 _ hk) hna hfit hll hdg kk
/-- the two puts of load -/
theorem sw_64 (cx : Cx_ p l R s m args meth c cells slots (me0 54).2.1 7 0 rt hh D cA ad ov A L xs) (hck : okn_ 54 = true) (h12 : M 1 2 = 5) {x1 x2 : Int}
    (h : Wm_ p l e R s m args below meth c cells slots Q D cA (fun x => ad (sg_ x)) ov A L xs 7 72 [rr 0, ii x1, ii x2, none, none, none, none] [] (swM M)) : Wm_ p l e R s m args below meth c cells slots Q D cA ad ov A L xs 7 64 [rr 0, ii x1, ii x2, rr 4, none, none, none] [.inr (.inr 5), .inr (.inr 0)] M := by
  have cx' := cx
  obtain ⟨⟨hx, hb, hml⟩, hown, hts, -, hWo, hDD, hov, -, hL⟩ := cx
  have ck := List.all_eq_true.mp hck
  have m64 : (64, .putfield 119, 3, 2, 1, [(0, 4)]) ∈ (pg0 54).1 := lk_mem (pc := 64) rfl
  have m67 : (67, .aload_n 0, 1, 0, 0, []) ∈ (pg0 54).1 := lk_mem (pc := 67) rfl
  have m68 : (68, .aload_n 3, 1, 0, 0, []) ∈ (pg0 54).1 := lk_mem (pc := 68) rfl
  have m69 : (69, .putfield 455, 3, 2, 2, [(0, 5)]) ∈ (pg0 54).1 := lk_mem (pc := 69) rfl
  obtain ⟨a1, a2⟩ := okb_spec (ck _ m64)
  obtain ⟨b1, -⟩ := okb_spec (ck _ m67)
  obtain ⟨c1, -⟩ := okb_spec (ck _ m68)
  obtain ⟨d1, d2⟩ := okb_spec (ck _ m69)
  simp only [oki_, Bool.and_eq_true] at a2 d2
  intro H locs lsm hP hR hO hS hl hv
  have l0 := (hl.2.2.2 0 _ rfl).2
  have l3 := (hl.2.2.2 3 _ rfl).2
  show W p l e R s m args below meth c H locs cells slots Q (F0 m 64 lsm [.ref (ad 5), .ref (ad 0)])
  have he : (wl_ wd0 nf0 cA NR0 ad M)[0]? = some (ad 0, .inr (rc0 0, (List.range (nf0 0)).map (fv_ wd0 ad M 0))) := by
    rw [wl_at (by decide), ce_obj (by decide)]; rfl
  refine wx_putw (r := 0) (t := 4) cx' a2.2.1 a2.2.2 (by decide) rfl hP (hDD M) hS he (by rw [List.length_map, List.length_range]; rfl) a1 (fun H1 locs1 g1 g2 g3 => ?_)
  refine lv_aload_n hx hb b1 rfl l0 ?_
  refine lv_aload_n hx hb c1 rfl l3 ?_
  refine wx_putw (r := 0) (t := 5) cx' d2.2.1 d2.2.2 (by decide) rfl g1 g2 g3 (x := ad 0) (fs := ((List.range (nf0 0)).map (fv_ wd0 ad M 0)).set 1 (.ref (ad 5))) (by rw [List.getElem?_set, if_pos rfl, if_pos (List.getElem?_eq_some_iff.mp he).1]; rfl) (by rw [List.length_set, List.length_map, List.length_range]; rfl) d1 (fun H2 locs2 k1 k2 k3 => ?_)
  rw [List.set_set] at k1
  have hV := h H2 locs2 lsm (wl_sw h12 k1) (Rg_sw hR) (Ro_sw hO) k3 ⟨rfl, hl.2.1, hl.2.2.1, fun k v hk => ?_⟩ (fun v hv => absurd hv List.not_mem_nil)
  · exact hV
  · match k, hk with
    | 0, hk => cases hk; exact hl.2.2.2 0 _ rfl
    | 1, hk => cases hk; exact hl.2.2.2 1 _ rfl
    | 2, hk => cases hk; exact hl.2.2.2 2 _ rfl
    | 3, hk => cases hk
    | 4, hk => cases hk
    | 5, hk => cases hk
    | 6, hk => cases hk
    | (k + 7), hk => cases hk
end M54b
end M462_m54
section M463_mk
/-! load on the machine: its contract -/
def Qf54 (D : va_G) (cA : Nat → ClassId) (ad : Nat → Nat) (ov : Value) (A : Nat → Prop) (L : Nat) (xs : Nat → Int32) (Qr : qr_) : Array Value → State → Outcome → State → Prop := fun a st o t => Qf_ D cA ad ov A L xs Qr (fun _ _ => False) a st o t ∨ Qf_ D cA (fun x => ad (sg_ x)) ov A L xs Qr (fun _ _ => False) a st o t
def Qs54 (below : List Frame) (args : Array Value) (s : State) (D : va_G) (cA : Nat → ClassId) (ad : Nat → Nat) (ov : Value) (A : Nat → Prop) (L : Nat) (xs : Nat → Int32) (Qr : qr_) : State → Prop := fun t => ∃ o, t.status = .running ∧ Ended t below o ∧ Qf54 D cA ad ov A L xs Qr args s o t
section M54c
variable {l : Launch} {D : va_G} {cA : Nat → ClassId} {ad : Nat → Nat} {ov : Value} {A : Nat → Prop} {L : Nat} {xs : Nat → Int32}
set_option maxHeartbeats 4000000 in
theorem mk54 (hall : ∀ n ∈ mids0, okn_ n = true) (hDD : ∀ M : mm_, va_D A (wl_ wd0 nf0 cA NR0 ad M)) (hov : ov.category = 1) (hL : L < 2147483648) {x : Int} {M : mm_} {Qr : qr_} (hx : inI x) (h : LDo M x Qr) : MetFree l (me0 54).1 (headSpec (wc_ 54 :: lw_all) (rm_ 134)) (fun av U => av = (([.inr (.inr 0), .inl x] : List pv_).map (cv_ ad ov)).toArray ∧ Wo_ D cA ad ov A L xs U ∧ Pi_ D cA ad L xs M U.heap) (fun _ _ _ _ _ => True) (Qf54 D cA ad ov A L xs Qr) := by
  have hn : 54 ∈ mids0 := by decide
  obtain ⟨w1, w2, w3, w4, w5, w6, w7⟩ := mid_ok hn
  refine MetFree.of_bodyS (code := (me0 54).2.1) (maxLocals := (pg0 54).2.1) (ret := (me0 54).2.2.1) w5 ?_ ?_
  · intro args s m hp hnm
    obtain ⟨meth, c, h1, h2, h3, h4, h5, h6, h7, h8⟩ := wc_spec hnm (atoms_spec (ws := wc_ 54 :: lw_all) hp _ List.mem_cons_self)
    exact ⟨meth, c, h1, h2, h3, h4, h5, h6⟩
  · intro p e s m args below meth c s₁ B hml hP _
    obtain ⟨rfl, hWo, hPi⟩ := hP
    generalize has9 : ([.inr (.inr 0), .inl x] : List pv_) = as at *
    have hts0 := atoms_spec (ws := wc_ 54 :: lw_all) B.pre
    have hts : ∀ w ∈ lw_all, w.before ((as.map (cv_ ad ov)).toArray) s = true := fun w hw => hts0 w (List.mem_cons_of_mem _ hw)
    have hown : s.vm.findClass (cn1 (me0 54).2.2.2.2.2.2) = some m.cls := by rw [← w3]; exact findClass_of_methodNamed B.named
    have hh0 : s₁.heap = s.heap := by rw [B.state]; rfl
    have X₀ : Stand p l e (rm_ 134) s m ((as.map (cv_ ad ov)).toArray) below meth c s₁ [] 0 0 := Stand.of_body B
    have htab : c.exceptionTable.toList.map (fun h => (h.startPc, h.endPc, h.handlerPc, h.catchType)) = [] := by
      obtain ⟨meth', c', g1, g2, -, -, -, -, g7, -⟩ := wc_spec B.named (hts0 _ List.mem_cons_self)
      cases B.method.symm.trans g1
      cases X₀.code.symm.trans g2
      exact g7
    have cx : Cx_ p l (rm_ 134) s m ((as.map (cv_ ad ov)).toArray) meth c 0 0 (me0 54).2.1 7 0 (me0 54).2.2.1 [] D cA ad ov A L xs :=
      ⟨⟨B.exec, B.bytes, hml⟩, hown, hts, ⟨B.returns, B.notSynchronized, htab⟩, hWo, hDD, hov, ⟨by decide, by decide, Nat.le_refl _, Nat.le_refl _⟩, hL⟩
    have cx2 : Cx_ p l (rm_ 134) s m ((as.map (cv_ ad ov)).toArray) meth c 0 0 (me0 54).2.1 7 0 (me0 54).2.2.1 [] D cA (fun x => ad (sg_ x)) ov A L xs :=
      ⟨⟨B.exec, B.bytes, hml⟩, hown, hts, ⟨B.returns, B.notSynchronized, htab⟩, Wo_sw hWo, wl_swD hDD, hov, ⟨by decide, by decide, Nat.le_refl _, Nat.le_refl _⟩, hL⟩
    have hck : okn_ 54 = true := hall 54 hn
    have ck : ∀ q ∈ m_54.1, okb_ 0 (me0 54).2.1 q = true ∨ nox_ q.2.1 = true := fun q hq => .inl (List.all_eq_true.mp hck q hq)
    have q1 : ∀ t, Qs_ below ((as.map (cv_ ad ov)).toArray) s D cA ad ov A L xs Qr (fun _ _ => False) t → Qs54 below ((as.map (cv_ ad ov)).toArray) s D cA ad ov A L xs Qr t := fun t ⟨o, a, b, c⟩ => ⟨o, a, b, .inl c⟩
    have q2 : ∀ t, Qs_ below ((as.map (cv_ ad ov)).toArray) s D cA (fun x => ad (sg_ x)) ov A L xs Qr (fun _ _ => False) t → Qs54 below ((as.map (cv_ ad ov)).toArray) s D cA ad ov A L xs Qr t := fun t ⟨o, a, b, c⟩ => ⟨o, a, b, .inr c⟩
    have cl1 : Cl_ wd0 (Tr_ wd0 pg0 133) (Wm_ p l e (rm_ 134) s m ((as.map (cv_ ad ov)).toArray) below meth c 0 0 (Qs54 below ((as.map (cv_ ad ov)).toArray) s D cA ad ov A L xs Qr) D cA ad ov A L xs 7) Qr (fun _ _ => False) m_54 :=
      clo_ cx rfl ck (Nat.le_refl _) (Nat.le_refl _) (fun n hn as M Qr Qt h => snd_ hall hDD hov hL 133 n hn as M Qr Qt h) (fun pc len a i b tb ls st M g1 g2 hi hex H locs lsm z1 z2 z3 z4 z5 z6 => W.post q1 (ret_go cx (fun h hh => absurd hh List.not_mem_nil) (by decide) (md := m_54) rfl rfl g1 g2 hi (ret_V (D8 := Tr_ wd0 pg0 133) rfl hi hex) H locs lsm z1 z2 z3 z4 z5 z6))
    have cl2 : Cl_ wd0 (Tr_ wd0 pg0 133) (Wm_ p l e (rm_ 134) s m ((as.map (cv_ ad ov)).toArray) below meth c 0 0 (Qs54 below ((as.map (cv_ ad ov)).toArray) s D cA ad ov A L xs Qr) D cA (fun x => ad (sg_ x)) ov A L xs 7) Qr (fun _ _ => False) m_54 :=
      clo_ cx2 rfl ck (Nat.le_refl _) (Nat.le_refl _) (fun n hn as M Qr Qt h => snd_ hall (wl_swD hDD) hov hL 133 n hn as M Qr Qt h) (fun pc len a i b tb ls st M g1 g2 hi hex H locs lsm z1 z2 z3 z4 z5 z6 => W.post q2 (ret_go cx2 (fun h hh => absurd hh List.not_mem_nil) (by decide) (md := m_54) rfl rfl g1 g2 hi (ret_V (D8 := Tr_ wd0 pg0 133) rfl hi hex) H locs lsm z1 z2 z3 z4 z5 z6))
    have V0 : Wm_ p l e (rm_ 134) s m ((as.map (cv_ ad ov)).toArray) below meth c 0 0 (Qs54 below ((as.map (cv_ ad ov)).toArray) s D cA ad ov A L xs Qr) D cA ad ov A L xs 7 0 [rr 0, ii x, none, none, none, none, none] [] M := by
      refine c_54_0 (Tr_mono 133) cl1 Wm_wk x M ?_
      by_cases c0 : x < 0
      · rw [if_pos c0]; exact h.1 (.inl c0)
      · rw [if_neg c0]
        by_cases c1 : x ≤ M 0 6
        · rw [if_pos c1]
          refine Tr_mono 133 _ _ _ _ _ _ _ (fun vs M1 g => ?_) (fun _ _ h => h) (h.2 ⟨by omega, c1⟩)
          obtain ⟨v, e9, g1, g2⟩ := g
          refine ⟨v, e9, ?_⟩
          dsimp only
          by_cases z : v = 0
          · rw [if_pos z]
            exact c_54_54 (Tr_mono 133) cl1 Wm_wk _ _ _ (sw_64 cx hck (g1 z).1.2 (c_54_72 (Tr_mono 133) cl2 Wm_wk _ _ _ (x_54c0 (Tr_mono 133) cl2 Wm_wk (g1 z).1.1 (fun M' lf => (g1 z).2 M' lf))))
          · rw [if_neg z]; exact g2 z
        · rw [if_neg c1]; exact h.1 (.inr (by omega))
    have hok : ∀ v ∈ as, okv_ v := by
      rw [← has9]
      exact List.forall_mem_cons.mpr ⟨trivial, List.forall_mem_cons.mpr ⟨hx, fun v hv => absurd hv List.not_mem_nil⟩⟩
    have hen : lh_ ad ov 7 [rr 0, ii x, none, none, none, none, none] ((lg_sl (as.map (cv_ ad ov)) ++ List.replicate (7 - (lg_sl (as.map (cv_ ad ov))).length) Slot.unset).toArray) := by
      have h9 := lh_entry (ad := ad) (n := 7) hov (as := as) (by rw [← has9]; show 2 ≤ 7; decide) hok
      rw [← has9] at h9 ⊢
      exact h9
    have hV := V0 s₁.heap [] _ (by rw [hh0]; exact hPi.1) hPi.2.1 hPi.2.2 (by rw [hh0]; exact va_S.rf) hen (fun v hv => absurd hv List.not_mem_nil) s₁ rfl X₀
    rw [List.map_nil, ← lg_entry_eq] at hV
    obtain ⟨t, a1, o, b1, b2, b3⟩ := hV
    exact ⟨t, o, a1, b1, b2, b3⟩
end M54c
end M463_mk
section M464_lp
/-! the law's frame: what its instructions may do -/
def okr_s : pv_ → Prop
  | .inr (.inr r) => sg_ r = r
  | _ => True
def okP (pc : Nat) (ls : lo_) (st : List pv_) : Prop := 18 ≤ pc ∧ (∀ (k : Nat) (v : pv_), ls[k]? = some (some v) → okr_s v) ∧ ∀ v ∈ st, okr_s v
def lwi_ (q : en_) : Bool := decide (q.1 < 18) || (match q.2.1 with
  | .iconst _ => true
  | .bipush _ => true
  | .iload_n _ => true
  | .aload_n _ => true
  | .iinc _ _ => true
  | .iadd => true
  | .isub => true
  | .iand => true
  | .iaload => true
  | .arraylength => true
  | .if_icmp _ _ => decide (18 ≤ q.2.2.2.1)
  | .goto _ => decide (18 ≤ q.2.2.2.1)
  | .tableswitch _ _ _ _ => decide (18 ≤ q.2.2.2.1) && q.2.2.2.2.2.all (fun z => decide (18 ≤ z.2))
  | .ireturn => true
  | .invokevirtual _ => (match q.2.2.2.2.2 with | z :: _ => z.2 == 1 || z.2 == 2 | _ => false)
  | _ => false)
theorem lwi_ok : k_450.all lwi_ = true := by decide +kernel
section LPa
variable {w : wd_} {D : ca_} {V : vv_} {Qr : qr_} {md : md_} {pc len a : Nat} {i : Instr} {b : Int} {tb : List (Int × Nat)} {ls : lo_} {st st' : List pv_} {M : mm_}
theorem okP_n {pc' : Nat} (h : okP pc ls st) (h1 : 18 ≤ pc') (h2 : ∀ v ∈ st', okr_s v) : okP pc' ls st' := ⟨h1, h.2.1, h2⟩
theorem okP_l {k : Nat} {v : pv_} (h : okP pc ls st) (e : ld_ ls k = some v) : okr_s v := by
  unfold ld_ at e
  split at e
  · rename_i x e9
    cases e
    exact h.2.1 k _ e9
  · cases e
theorem sw_P {P P' : Nat → Prop} {x : Int} (hP : ∀ q, 18 ≤ q → P q → P' q) : ∀ {tb : List (Int × Nat)} {d : Nat}, tb.all (fun z => decide (18 ≤ z.2)) = true → 18 ≤ d → sw_ P x tb d → sw_ P' x tb d
  | [], d, _, hd, h => hP d hd h
  | k :: t, d, ht, hd, h => by
    rw [List.all_cons, Bool.and_eq_true] at ht
    unfold sw_ at h ⊢
    split
    · rename_i c; rw [if_pos c] at h; exact hP _ (of_decide_eq_true ht.1) h
    · rename_i c; rw [if_neg c] at h; exact sw_P hP ht.2 hd h
set_option maxHeartbeats 4000000 in
theorem ex_P (hi : lwi_ (pc, i, len, a, b, tb) = true) (hp : okP pc ls st) (hD : Mo_ D) (hh : md.2.2.2 = []) (h : ex_ w D (fun pc ls st M => okP pc ls st → V pc ls st M) Qr (fun _ _ => False) md pc i len a b tb ls st M) : ex_ w D V Qr (fun _ _ => False) md pc i len a b tb ls st M := by
  have h18 := hp.1
  have hs := hp.2.2
  unfold lwi_ at hi
  rw [Bool.or_eq_true] at hi
  rcases hi with hi | hi
  · have := of_decide_eq_true hi; omega
  cases i <;> try exact absurd (show false = true from hi) (by decide)
  all_goals simp only [ex_] at h ⊢
  case iconst => exact h (okP_n hp (by omega) (List.forall_mem_cons.mpr ⟨trivial, hs⟩))
  case bipush => exact h (okP_n hp (by omega) (List.forall_mem_cons.mpr ⟨trivial, hs⟩))
  case iload_n =>
    split at h
    · exact h (okP_n hp (by omega) (List.forall_mem_cons.mpr ⟨trivial, hs⟩))
    · exact h
  case aload_n =>
    split at h
    · rename_i e9
      split at h
      · exact h.elim
      · rename_i c; rw [if_neg c]; exact h (okP_n hp (by omega) (List.forall_mem_cons.mpr ⟨okP_l hp e9, hs⟩))
    · exact h
  case iadd =>
    split at h
    · obtain ⟨h1, h2⟩ := List.forall_mem_cons.mp hs
      obtain ⟨h3, h4⟩ := List.forall_mem_cons.mp h2
      exact h (okP_n hp (by omega) (List.forall_mem_cons.mpr ⟨trivial, h4⟩))
    · exact h
  case isub =>
    split at h
    · obtain ⟨h1, h2⟩ := List.forall_mem_cons.mp hs
      obtain ⟨h3, h4⟩ := List.forall_mem_cons.mp h2
      exact h (okP_n hp (by omega) (List.forall_mem_cons.mpr ⟨trivial, h4⟩))
    · exact h
  case iand =>
    split at h
    · obtain ⟨h1, h2⟩ := List.forall_mem_cons.mp hs
      obtain ⟨h3, h4⟩ := List.forall_mem_cons.mp h2
      exact h (okP_n hp (by omega) (List.forall_mem_cons.mpr ⟨trivial, h4⟩))
    · exact h
  case iinc =>
    split at h
    · split at h
      · rename_i c
        rw [if_pos c]
        refine h ⟨by omega, fun k v hk => ?_, hs⟩
        unfold s1_ at hk
        rw [List.getElem?_set] at hk
        split at hk
        · split at hk
          · cases hk; trivial
          · cases hk
        · exact hp.2.1 k v hk
      · exact h.elim
    · exact h
  case iaload =>
    split at h
    · obtain ⟨h1, h2⟩ := List.forall_mem_cons.mp hs
      obtain ⟨h3, h4⟩ := List.forall_mem_cons.mp h2
      split at h
      · rename_i c; rw [if_pos c]; exact ⟨h.1, h.2 (okP_n hp (by omega) (List.forall_mem_cons.mpr ⟨trivial, h4⟩))⟩
      · rename_i c
        rw [if_neg c]
        split at h
        · rename_i c2; rw [if_pos c2]; exact ⟨h.1, h.2 (okP_n hp (by omega) (List.forall_mem_cons.mpr ⟨trivial, h4⟩))⟩
        · exact h.elim
    · exact h
  case arraylength =>
    split at h
    · obtain ⟨h1, h2⟩ := List.forall_mem_cons.mp hs
      split at h
      · rename_i c; rw [if_pos c]; exact h (okP_n hp (by omega) (List.forall_mem_cons.mpr ⟨trivial, h2⟩))
      · rename_i c
        rw [if_neg c]
        split at h
        · rename_i c2; rw [if_pos c2]; exact h (okP_n hp (by omega) (List.forall_mem_cons.mpr ⟨trivial, h2⟩))
        · exact h.elim
    · exact h
  case if_icmp =>
    have h9 := of_decide_eq_true hi
    split at h
    · obtain ⟨h1, h2⟩ := List.forall_mem_cons.mp hs
      obtain ⟨h3, h4⟩ := List.forall_mem_cons.mp h2
      have ka := okP_n (st' := _) hp h9 h4
      have kb := okP_n (pc' := pc + 3) (st' := _) hp (by omega) h4
      split at h <;> (split at h <;> (rename_i c9; first | (rw [if_pos c9]; exact h ka) | (rw [if_pos c9]; exact h kb) | (rw [if_neg c9]; exact h ka) | (rw [if_neg c9]; exact h kb)))
    · exact h
  case goto => exact h (okP_n hp (of_decide_eq_true hi) hs)
  case tableswitch =>
    rw [Bool.and_eq_true] at hi
    split at h
    · obtain ⟨h1, h2⟩ := List.forall_mem_cons.mp hs
      exact sw_P (fun q hq g => g (okP_n hp hq h2)) hi.2 (of_decide_eq_true hi.1) h
    · exact h
  case ireturn => exact h
  case invokevirtual =>
    split at h
    · rename_i r e9
      split at h
      · rename_i c
        rw [if_pos c]
        unfold cl_ at h ⊢
        split at h
        · rename_i c2
          rw [if_pos c2]
          refine hD _ _ _ _ _ _ _ (fun vs M' g => ?_) (fun r M' g => ?_) h
          · cases tb with
            | nil => cases hi
            | cons z t =>
              rw [Bool.or_eq_true, beq_iff_eq, beq_iff_eq] at hi
              have hs2 : ∀ v ∈ st.drop b.toNat, okr_s v := fun v hv => hs v (List.mem_of_mem_drop hv)
              have g2 : rk_ (fun pc ls st M => okP pc ls st → V pc ls st M) z.2 (pc + 3) ls (st.drop b.toNat) vs M' := g
              show rk_ V z.2 (pc + 3) ls (st.drop b.toNat) vs M'
              rcases hi with e | e <;> rw [e] at g2 ⊢ <;> (obtain ⟨x, e1, g3⟩ := g2; exact ⟨x, e1, g3 (okP_n hp (by omega) (List.forall_mem_cons.mpr ⟨trivial, hs2⟩))⟩)
          · rw [hh] at g ⊢; exact g
        · exact h.elim
      · exact h.elim
    · exact h.elim
end LPa
end M464_lp
