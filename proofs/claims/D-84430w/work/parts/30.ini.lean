/-! MAKING: arrays in a constructor, one after another -/
/-- pc, the push, its length, how many, kind, the putfield's entry, the field -/
abbrev ir_ : Type := Nat × Instr × Nat × Nat × Nat × Nat × Nat
def aty_ (k : Nat) : ArrayType := if k = 1 then .int else if k = 2 then .byte else if k = 3 then .boolean else .long
def fty_ (k : Nat) : FieldType := if k = 1 then .int else if k = 2 then .byte else if k = 3 then .boolean else .long
def za_ (k n : Nat) : vp_A := (n, if k = 4 then .inr (.inl fun _ => 0) else .inl fun _ => 0)
def dc_ (cc : ByteArray) (pc : Nat) (i : Instr) (len : Nat) : Bool := match decode cc pc with
  | .ok q => decide (q.1 = i) && q.2 == len
  | _ => false
theorem dc_spec {cc : ByteArray} {pc len : Nat} {i : Instr} (h : dc_ cc pc i len = true) : decode cc pc = .ok (i, len) := by
  unfold dc_ at h
  split at h
  · rename_i q e9
    simp only [Bool.and_eq_true, decide_eq_true_eq, beq_iff_eq] at h
    rw [e9, ← h.1, ← h.2]
  · cases h
def psh_ (o : Nat) (i : Instr) (len n : Nat) : Bool := match i with
  | .iconst k => len == 1 && (decide (k = (n : Int)) && decide (n < 10))
  | .bipush k => len == 2 && (decide (k = (n : Int)) && decide (n < 128))
  | .sipush k => len == 3 && (decide (k = (n : Int)) && decide (n < 32768))
  | .ldc idx => len == 2 && (okK_ o idx (n : Int) 0 && decide (n < 1000000))
  | .ldc_w idx => len == 3 && (okK_ o idx (n : Int) 0 && decide (n < 1000000))
  | _ => false
def irc_ (o ci : Nat) (cc : ByteArray) (r : ir_) : Bool :=
  dc_ cc r.1 (.aload_n 0) 1 && (dc_ cc (r.1 + 1) r.2.1 r.2.2.1 && (psh_ o r.2.1 r.2.2.1 r.2.2.2.1 && (dc_ cc (r.1 + 1 + r.2.2.1) (.newarray (aty_ r.2.2.2.2.1)) 2 && (dc_ cc (r.1 + 1 + r.2.2.1 + 2) (.putfield r.2.2.2.2.2.1) 3 &&
  ((match fq_ o r.2.2.2.2.2.1 with | some q => q.2.2.1 == ci && (q.2.2.2.1 == r.2.2.2.2.2.2 && q.2.2.2.2.1 == 0) | none => false) && (decide (r.2.2.2.2.2.2 < nf0 ci) && (decide ((tt0 ci r.2.2.2.2.2.2).1 = cn1 o) && (decide (tz0 ci r.2.2.2.2.2.2 = .array (fty_ r.2.2.2.2.1)) && (decide (1 ≤ r.2.2.2.2.1) && (decide (r.2.2.2.2.1 ≤ 4) && decide (o = ci)))))))))))
section IN
variable {p : Program} {l : Launch} {e : Env} {R : Room} {s : State} {m : MethodId} {args : Array Value} {below : List Frame} {meth : Method} {c : Code} {Q : State → Prop} {D : va_G} {cA : Nat → ClassId} {A : Nat → Prop} {cc : ByteArray} {o ci : Nat}
theorem wx_psh {H : Heap} {locs : List Loc} {cells slots : Nat} (hx : p.tables.exec = Jvm.exec) (hb : c.code = cc) (hts : ∀ w ∈ lw_all, w.before args s = true) (hown : s.vm.findClass (cn1 o) = some m.cls) {pc len n : Nat} {i : Instr} {ls : Array Slot} {rest : List Value} (hdg : decode cc pc = .ok (i, len)) (h : psh_ o i len n = true) (k : W p l e R s m args below meth c H locs cells slots Q (F0 m (pc + len) ls (.int (Int32.ofInt (n : Int)) :: rest))) : W p l e R s m args below meth c H locs cells slots Q (F0 m pc ls rest) := by
  cases i with
  | iconst x =>
    simp only [psh_, Bool.and_eq_true, beq_iff_eq, decide_eq_true_eq] at h
    obtain ⟨rfl, rfl, h⟩ := h
    exact lv_iconst hx hb hdg rfl k
  | bipush x =>
    simp only [psh_, Bool.and_eq_true, beq_iff_eq, decide_eq_true_eq] at h
    obtain ⟨rfl, rfl, h⟩ := h
    refine lv_bipush hx hb hdg ?_ k
    apply oI_of
    rw [Int8.toInt_toInt32, Int8.toInt_ofInt, show Int8.size = 256 from rfl, Int.bmod_def]
    split <;> omega
  | sipush x =>
    simp only [psh_, Bool.and_eq_true, beq_iff_eq, decide_eq_true_eq] at h
    obtain ⟨rfl, rfl, h⟩ := h
    refine lv_sipush hx hb hdg ?_ k
    apply oI_of
    rw [Int16.toInt_toInt32, Int16.toInt_ofInt, show Int16.size = 65536 from rfl, Int.bmod_def]
    split <;> omega
  | ldc idx =>
    simp only [psh_, Bool.and_eq_true, beq_iff_eq, decide_eq_true_eq] at h
    obtain ⟨rfl, h, -⟩ := h
    obtain ⟨q, hq, e1, e2, e3, e4, hw⟩ := okK_spec h
    have hw2 := hts _ hw
    unfold cw_ at hw2
    rw [if_pos e4, e1, e2, e3] at hw2
    exact lv_ldc hx hb hown hw2 hdg k
  | ldc_w idx =>
    simp only [psh_, Bool.and_eq_true, beq_iff_eq, decide_eq_true_eq] at h
    obtain ⟨rfl, h, -⟩ := h
    obtain ⟨q, hq, e1, e2, e3, e4, hw⟩ := okK_spec h
    have hw2 := hts _ hw
    unfold cw_ at hw2
    rw [if_pos e4, e1, e2, e3] at hw2
    exact lv_ldcw hx hb hown hw2 hdg k
  | _ => exact absurd h (by simp [psh_])
theorem psh_lt {o len n : Nat} {i : Instr} (h : psh_ o i len n = true) : n < 1000000 := by
  cases i <;> simp only [psh_, Bool.and_eq_true, decide_eq_true_eq, Bool.false_eq_true] at h <;> omega
theorem za_cell {k n : Nat} (h1 : 1 ≤ k) (h4 : k ≤ 4) (cA : ClassId) : vp_cell cA (za_ k n) = arrV cA n (fun _ => defaultValue (fty_ k)) := by
  have : k = 1 ∨ k = 2 ∨ k = 3 ∨ k = 4 := by omega
  rcases this with rfl | rfl | rfl | rfl <;> rfl
theorem qa_in {k : Nat} (h1 : 1 ≤ k) (h4 : k ≤ 4) : Cond.arrayClass (newarray.typeOf (aty_ k)) ∈ lw_all := by
  have : k = 1 ∨ k = 2 ∨ k = 3 ∨ k = 4 := by omega
  rcases this with rfl | rfl | rfl | rfl
  · exact lw_g (lw_at lw_m2 49 rfl) rfl
  · exact lw_g (lw_at lw_m2 48 rfl) rfl
  · exact lw_g (lw_at lw_m3 177 rfl) rfl
  · exact lw_g (lw_at lw_m10 24 rfl) rfl
/-- one array: made, and laid into its field -/
theorem ini_one {H : Heap} {locs : List Loc} {cells slots : Nat} (hx : p.tables.exec = Jvm.exec) (hb : c.code = cc) (hts : ∀ w ∈ lw_all, w.before args s = true) (hown : s.vm.findClass (cn1 o) = some m.cls) (hin2 : meth.name = "<init>") (hK : va_K D vwCl (tys_ cA) s) (hci : ci < 5) {r : ir_} (hr : irc_ o ci cc r = true) {h0 : Nat} {fs : List Value} {tl : va_W} (hA : ∀ q, s.heap.size ≤ q → A q) {ls : Array Slot} (hls : ls[0]? = some (.val (.ref h0)))
    (hP : va_P D vwCl ((h0, .inr (ci, fs)) :: tl) H) (hD : va_D A ((h0, .inr (ci, fs)) :: tl)) (hS : va_S A s.heap H locs) (hfs : fs.length = nf0 ci) (hRc : cells + 1 ≤ R.cells) (hRs : slots + r.2.2.2.1 ≤ R.slots)
    (kk : ∀ (q : Nat) (H1 : Heap) (locs1 : List Loc), va_P D vwCl ((h0, .inr (ci, fs.set r.2.2.2.2.2.2 (.ref q))) :: (tl ++ [(q, .inl (cA r.2.2.2.2.1, za_ r.2.2.2.2.1 r.2.2.2.1))])) H1 → va_D A ((h0, .inr (ci, fs.set r.2.2.2.2.2.2 (.ref q))) :: (tl ++ [(q, .inl (cA r.2.2.2.2.1, za_ r.2.2.2.2.1 r.2.2.2.1))])) → va_S A s.heap H1 locs1 →
      W p l e R s m args below meth c H1 locs1 (cells + 1) (slots + r.2.2.2.1) Q (F0 m (r.1 + 1 + r.2.2.1 + 2 + 3) ls [])) : W p l e R s m args below meth c H locs cells slots Q (F0 m r.1 ls []) := by
  obtain ⟨pc, ps, len, n, k, idx, f⟩ := r
  dsimp only at hr hRs kk ⊢
  unfold irc_ at hr
  dsimp only at hr
  simp only [Bool.and_eq_true, decide_eq_true_eq] at hr
  obtain ⟨d1, d2, d3, d4, d5, d6, d7, d8, d9, d10, d11, d12⟩ := hr
  have hn6 := psh_lt d3
  obtain ⟨f1, f2, f3, f4⟩ := cls_facts hci
  have hcomp : componentBytes (fty_ k) ≤ 8 := by
    have : k = 1 ∨ k = 2 ∨ k = 3 ∨ k = 4 := by omega
    rcases this with rfl | rfl | rfl | rfl <;> decide
  have hty : newarray.typeOf (aty_ k) = fty_ k := by
    have : k = 1 ∨ k = 2 ∨ k = 3 ∨ k = 4 := by omega
    rcases this with rfl | rfl | rfl | rfl <;> rfl
  have hnI : inI (n : Int) := by unfold inI; omega
  refine lv_aload_n hx hb (dc_spec d1) rfl hls ?_
  refine wx_psh hx hb hts hown (dc_spec d2) d3 ?_
  refine va_newa (N' := n) (a0 := za_ k n) hx hb (hts _ (qa_in d10 d11)) hty hK hP hD hS hA (za_cell d10 d11) ?_ ?_ ?_ hRc hRs (dc_spec d4) ?_
  · intro h9
    have h9 : Int32.ofInt (n : Int) < Int32.ofInt 0 := h9
    rw [oI_lt hnI inI_0] at h9
    omega
  · rw [oI_clamp hnI, Int.toNat_natCast]
  · have : n * componentBytes (fty_ k) ≤ 1000000 * 8 := Nat.mul_le_mul (by omega) hcomp
    omega
  · intro q cA' H1 hK1 hP1 hD1 hS1
    have hcA : cA' = cA k := by
      have h1 := (hK1.2 4 (cA', fty_ k) rfl).2
      have h2 : ∃ t0 : Nat, (tys_ cA)[t0]? = some (cA k, fty_ k) := by
        have : k = 1 ∨ k = 2 ∨ k = 3 ∨ k = 4 := by omega
        rcases this with rfl | rfl | rfl | rfl
        · exact ⟨0, rfl⟩
        · exact ⟨1, rfl⟩
        · exact ⟨2, rfl⟩
        · exact ⟨3, rfl⟩
      obtain ⟨t0, h2⟩ := h2
      have h3 := (hK.2 t0 _ h2).2
      have : k = 1 ∨ k = 2 ∨ k = 3 ∨ k = 4 := by omega
      rcases this with rfl | rfl | rfl | rfl <;> exact Option.some.inj (h1.symm.trans h3)
    subst hcA
    have hl : f < fs.length := by rw [hfs]; exact d7
    have hq : ∃ q ∈ fl0, fq_ o idx = some q ∧ q.1 = o ∧ q.2.1 = idx ∧ q.2.2.1 = ci ∧ q.2.2.2.1 = f ∧ q.2.2.2.2.1 = 0 := by
      split at d6
      · rename_i q e9
        simp only [Bool.and_eq_true, beq_iff_eq] at d6
        have hq := List.find?_some e9
        simp only [Bool.and_eq_true, beq_iff_eq] at hq
        exact ⟨q, List.mem_of_find?_eq_some e9, e9, hq.1, hq.2, d6.1, d6.2.1, d6.2.2⟩
      · cases d6
    obtain ⟨z, hz, -, z1, z2, z3, z4, z5⟩ := hq
    have hlk := hts _ ((fl_word hz).2 (by omega))
    unfold fw_ at hlk
    rw [if_pos z5, z1, z2, z3, z4] at hlk
    have hna : narrow (.array (fty_ k)) (.ref q) = .ref q := rfl
    have hfi : fits (.array (fty_ k)) (.ref q) = true := rfl
    have hset : ((h0, Sum.inr (ci, fs)) :: tl ++ [(q, Sum.inl (cA k, za_ k n))] : va_W).set 0 (h0, Sum.inr (ci, fs.set f (.ref q))) = (h0, Sum.inr (ci, fs.set f (.ref q))) :: (tl ++ [(q, Sum.inl (cA k, za_ k n))]) := rfl
    have kk2 : ∀ (H2 : Heap) (locs2 : List Loc), va_P D vwCl (((h0, Sum.inr (ci, fs)) :: tl ++ [(q, Sum.inl (cA k, za_ k n))] : va_W).set 0 (h0, Sum.inr (ci, fs.set f (.ref q)))) H2 → va_D A (((h0, Sum.inr (ci, fs)) :: tl ++ [(q, Sum.inl (cA k, za_ k n))] : va_W).set 0 (h0, Sum.inr (ci, fs.set f (.ref q)))) → va_S A s.heap H2 locs2 → W p l e R s m args below meth c H2 locs2 (cells + 1) (slots + n) Q (F0 m (pc + 1 + len + 2 + 3) ls []) := by
      intro H2 locs2 g1 g2 g3
      rw [hset] at g1 g2
      exact kk q H2 locs2 g1 g2 g3
    cases hfin : (tt0 ci f).2.2.2 with
    | true => exact va_putF hx hb hts f2 (tz0 ci) f4 f3 hown (hK1.sub (tys' := []) [] rfl) hP1 hD1 hS1 0 rfl f1 f d7 hlk (fun x h => by rw [d8, d12] at h; exact h) hfin hin2 d8 (f4 _ d7) (by rw [d9]; exact hna) (by rw [d9]; exact hfi) hl (dc_spec d5) kk2
    | false => exact va_put hx hb hts f2 (tz0 ci) f4 f3 hown (hK1.sub (tys' := []) [] rfl) hP1 hD1 hS1 0 rfl f1 f d7 hlk (fun x h => by rw [d8, d12] at h; exact h) hfin (f4 _ d7) (by rw [d9]; exact hna) (by rw [d9]; exact hfi) hl (dc_spec d5) kk2
/-- the fields behind a row of arrays -/
def fso_ : List ir_ → List Nat → List Value → List Value
  | r :: t, q :: qs, fs => fso_ t qs (fs.set r.2.2.2.2.2.2 (.ref q))
  | _, _, fs => fs
def aro_ (cA : Nat → ClassId) : List ir_ → List Nat → va_W
  | r :: t, q :: qs => (q, .inl (cA r.2.2.2.2.1, za_ r.2.2.2.2.1 r.2.2.2.1)) :: aro_ cA t qs
  | _, _ => []
def ise_ : List ir_ → Nat → Nat
  | [], pc => pc
  | r :: t, _ => ise_ t (r.1 + 1 + r.2.2.1 + 2 + 3)
def isc_ (o ci : Nat) (cc : ByteArray) : List ir_ → Nat → Bool
  | [], _ => true
  | r :: t, pc => r.1 == pc && (irc_ o ci cc r && isc_ o ci cc t (r.1 + 1 + r.2.2.1 + 2 + 3))
def iss_ : List ir_ → Nat
  | [] => 0
  | r :: t => r.2.2.2.1 + iss_ t
theorem ini_seg (hx : p.tables.exec = Jvm.exec) (hb : c.code = cc) (hts : ∀ w ∈ lw_all, w.before args s = true) (hown : s.vm.findClass (cn1 o) = some m.cls) (hin2 : meth.name = "<init>") (hK : va_K D vwCl (tys_ cA) s) (hci : ci < 5) {h0 : Nat} (hA : ∀ q, s.heap.size ≤ q → A q) {ls : Array Slot} (hls : ls[0]? = some (.val (.ref h0))) :
    ∀ (tab : List ir_) (pc : Nat) (fs : List Value) (tl : va_W) (H : Heap) (locs : List Loc) (cells slots : Nat), isc_ o ci cc tab pc = true → va_P D vwCl ((h0, .inr (ci, fs)) :: tl) H → va_D A ((h0, .inr (ci, fs)) :: tl) → va_S A s.heap H locs → fs.length = nf0 ci → cells + tab.length ≤ R.cells → slots + iss_ tab ≤ R.slots →
    (∀ (qs : List Nat) (H1 : Heap) (locs1 : List Loc), qs.length = tab.length → va_P D vwCl ((h0, .inr (ci, fso_ tab qs fs)) :: (tl ++ aro_ cA tab qs)) H1 → va_D A ((h0, .inr (ci, fso_ tab qs fs)) :: (tl ++ aro_ cA tab qs)) → va_S A s.heap H1 locs1 → W p l e R s m args below meth c H1 locs1 (cells + tab.length) (slots + iss_ tab) Q (F0 m (ise_ tab pc) ls [])) →
    W p l e R s m args below meth c H locs cells slots Q (F0 m pc ls [])
  | [], pc, fs, tl, H, locs, cells, slots, _, hP, hD, hS, _, _, _, kk => kk [] H locs rfl (by rw [show tl ++ aro_ cA [] [] = tl from List.append_nil tl]; exact hP) (by rw [show tl ++ aro_ cA [] [] = tl from List.append_nil tl]; exact hD) hS
  | r :: t, pc, fs, tl, H, locs, cells, slots, hok, hP, hD, hS, hfs, hRc, hRs, kk => by
    unfold isc_ at hok
    simp only [Bool.and_eq_true, beq_iff_eq] at hok
    obtain ⟨rfl, h1, h2⟩ := hok
    have hRs' : slots + (r.2.2.2.1 + iss_ t) ≤ R.slots := hRs
    rw [List.length_cons] at hRc
    refine ini_one hx hb hts hown hin2 hK hci h1 hA hls hP hD hS hfs (by omega) (by omega) (fun q H1 locs1 g1 g2 g3 => ?_)
    refine ini_seg hx hb hts hown hin2 hK hci hA hls t _ _ _ H1 locs1 _ _ h2 g1 g2 g3 (by rw [List.length_set]; exact hfs) (by omega) (by omega) (fun qs H2 locs2 e1 e2 e3 e4 => ?_)
    have h9 := kk (q :: qs) H2 locs2 (by rw [List.length_cons, List.length_cons, e1])
    rw [List.append_assoc] at e2 e3
    have h8 := h9 e2 e3 e4
    rw [List.length_cons] at h8
    have e5 : cells + (t.length + 1) = cells + 1 + t.length := by omega
    have e6 : slots + iss_ (r :: t) = slots + r.2.2.2.1 + iss_ t := by show slots + (r.2.2.2.1 + iss_ t) = _; omega
    rw [e5, e6] at h8
    exact h8
end IN
