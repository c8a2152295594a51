section M481_c0
/-! the constructor of the house -/
theorem wl_447 : Cond.classLink (cn1 0) 447 (cn1 1) ∈ lw_all := lw_g (lw_at lw_m2 3 rfl) rfl
theorem wl_124 : Cond.classLink (cn1 0) 124 (cn1 3) ∈ lw_all := lw_g (lw_at lw_m2 228 rfl) rfl
theorem wl_476 : Cond.classLink (cn1 0) 476 (cn1 2) ∈ lw_all := lw_g (lw_at lw_m3 181 rfl) rfl
theorem wl_205 : Cond.classLink (cn1 0) 205 RJ3 ∈ lw_all := lw_g (lw_at lw_m1 78 rfl) rfl
theorem wb_1 : Cond.instantiable (cn1 1) (nf0 1) ∈ lw_all := lw_g (lw_at lw_m2 4 rfl) rfl
theorem wb_3 : Cond.instantiable (cn1 3) (nf0 3) ∈ lw_all := lw_g (lw_at lw_m2 229 rfl) rfl
theorem wn_1 : Cond.initialized (cn1 1) ∈ lw_all := lw_g (lw_at lw_m1 2 rfl) rfl
theorem wn_3 : Cond.initialized (cn1 3) ∈ lw_all := lw_g (lw_at lw_m1 8 rfl) rfl
theorem wl_7 : Cond.classLink (cn1 10) 7 (cn1 0) ∈ lw_all := lw_g (lw_at lw_m1 236 rfl) rfl
theorem wl_10 : Cond.classLink (cn1 10) 10 (cn1 4) ∈ lw_all := lw_g (lw_at lw_m7 153 rfl) rfl
theorem wb_0 : Cond.instantiable (cn1 0) (nf0 0) ∈ lw_all := lw_g (lw_at lw_m1 23 rfl) rfl
theorem wb_4 : Cond.instantiable (cn1 4) (nf0 4) ∈ lw_all := lw_g (lw_at lw_m7 154 rfl) rfl
theorem wn_0 : Cond.initialized (cn1 0) ∈ lw_all := lw_g (lw_at lw_m1 1 rfl) rfl
theorem wn_4 : Cond.initialized (cn1 4) ∈ lw_all := lw_g (lw_at lw_m1 9 rfl) rfl
theorem wm_9 : Cond.methodLink (cn1 10) 9 (yI 0) ∈ lw_all := lw_g (lw_at lw_m1 237 rfl) rfl
theorem wm_12 : Cond.methodLink (cn1 10) 12 (yI 4) ∈ lw_all := lw_g (lw_at lw_m7 155 rfl) rfl
def mcR : Nat := 1 + tb_190a.length + 1 + tb_100a.length
def msR : Nat := nf0 2 + iss_ tb_190a + 6 + iss_ tb_100a
def mcTk : Nat := tb_190a.length
def msTk : Nat := iss_ tb_190a
def mcP : Nat := tb_206a.length
def msP : Nat := iss_ tb_206a
/-- what the constructor of the house makes: Reader, Plan, Plan, arrays, exception, arrays, arrays, Tokens, arrays -/
abbrev S0_ : Type := (Nat × S1_) × (Nat × List Nat) × (Nat × List Nat) × List Nat × Nat × List Nat × List Nat × (Nat × List Nat) × List Nat
def p0_ (u : S0_) : Prop := p1_ u.1.2 ∧ u.2.1.2.length = tb_206a.length ∧ u.2.2.1.2.length = tb_206a.length ∧ u.2.2.2.1.length = tb_51a.length ∧ u.2.2.2.2.2.1.length = tb_51b.length ∧ u.2.2.2.2.2.2.1.length = tb_51c.length ∧ u.2.2.2.2.2.2.2.1.2.length = tb_190a.length ∧ u.2.2.2.2.2.2.2.2.length = tb_51d.length
def fs0_ (u : S0_) : List Value := fso_ tb_51d u.2.2.2.2.2.2.2.2 ((fso_ tb_51c u.2.2.2.2.2.2.1 ((fso_ tb_51b u.2.2.2.2.2.1 ((fso_ tb_51a u.2.2.2.1 ((((dfl_ 0).set 0 (.ref u.1.1)).set 1 (.ref u.2.1.1)).set 2 (.ref u.2.2.1.1))).set 48 (.ref u.2.2.2.2.1))).set 71 (.int (Int32.ofInt (-1))))).set 74 (.ref u.2.2.2.2.2.2.2.1.1))
def wB0_ (cA : Nat → ClassId) (h0 : Nat) (u : S0_) : va_W := (h0, .inr (0, fs0_ u)) :: ((((((((wB1_ cA u.1.1 u.1.2 ++ wB_ cA 3 tb_206a u.2.1.1 u.2.1.2) ++ wB_ cA 3 tb_206a u.2.2.1.1 u.2.2.1.2) ++ aro_ cA tb_51a u.2.2.2.1) ++ [(u.2.2.2.2.1, .inr (5, []))]) ++ aro_ cA tb_51b u.2.2.2.2.2.1) ++ aro_ cA tb_51c u.2.2.2.2.2.2.1) ++ wB_ cA 2 tb_190a u.2.2.2.2.2.2.2.1.1 u.2.2.2.2.2.2.2.1.2) ++ aro_ cA tb_51d u.2.2.2.2.2.2.2.2)
theorem fso_len : ∀ (tab : List ir_) (qs : List Nat) (fs : List Value), (fso_ tab qs fs).length = fs.length
  | [], _, fs => by unfold fso_; rfl
  | r :: t, [], fs => by unfold fso_; rfl
  | r :: t, q :: qs, fs => by unfold fso_; rw [fso_len t qs, List.length_set]
def mcX : Nat := 1 + mcR + 1 + mcP + 1 + mcP + tb_51a.length + 1 + tb_51b.length + tb_51c.length + 1 + mcTk + tb_51d.length
def msX : Nat := nf0 1 + msR + nf0 3 + msP + nf0 3 + msP + iss_ tb_51a + 6 + iss_ tb_51b + iss_ tb_51c + nf0 2 + msTk + iss_ tb_51d
section C0b
variable {l : Launch} {D : va_G} {cA : Nat → ClassId}
set_option maxHeartbeats 4000000 in
set_option maxRecDepth 100000 in
theorem cm_51 (htl : l.stackTraces = false) : CtM l D cA 0 prog_1_method_52_code 1 { frames := 7, cells := mcX, slots := msX, locals := 150 } p0_ (wB0_ cA) mcX msX := by
  intro h0 sz
  refine Met.ofW (cc := prog_1_method_52_code) (maxL := 1) (ret := none) (by decide) rfl ?_
  intro p e s m args below meth c s₁ B hml hv
  obtain ⟨rfl, ⟨hsz, hP, hK, hD0⟩, hZ⟩ := hv
  have hx := B.exec
  have hb := B.bytes
  have hr := B.returns
  have hts0 := atoms_spec (ws := .code (yI 0) prog_1_method_52_code 1 none :: lw_all) B.pre
  have hts : ∀ w ∈ lw_all, w.before _ s = true := fun w hw => hts0 w (List.mem_cons_of_mem _ hw)
  have hown : s.vm.findClass (cn1 0) = some m.cls := findClass_of_methodNamed B.named
  have hlocks := B.notSynchronized
  have hin : meth.name = "<init>" := (name_of_methodNamed B.named B.method).1
  subst hsz
  have hD := hD0.self (sz := s.heap.size)
  have hA2 := nst_ (by decide) hK hP
  generalize hAe : va_A [(h0, .inr (0, dfl_ 0))] s.heap.size = A at hD hA2 ⊢
  have hA : ∀ q : Nat, s.heap.size ≤ q → A q := fun q h => by rw [← hAe]; exact Or.inr h
  have hS : va_S A s.heap s.heap [] := va_S.rf
  have hl9 := lv_entry ([.ref h0]) (n := 1) (Nat.le_of_ble_eq_true rfl)
  rw [lg_entry_eq]
  generalize (lg_sl ([.ref h0]) ++ List.replicate (1 - (lg_sl ([.ref h0])).length) Slot.unset).toArray = ls at hl9 ⊢
  have hl9 : lv_has ls 1 [(0, .ref h0)] := hl9
  have hls0 : ls.size = 1 := hl9.1
  have n0 := dfl_len 0
  obtain ⟨aw, hw1⟩ := hZ.2.1.2
  refine lv_aload_n hx hb (by decide +kernel : decode prog_1_method_52_code 0 = .ok (.aload_n 0, 1)) rfl (lv_at hl9 0 rfl) ?_
  refine W.objInit hx hb hown (hts _ wo_l0) (hts _ wo_in) (hts _ wo_co) rfl (by rw [hml]; exact hl9.1) rfl (by decide +kernel : decode prog_1_method_52_code 1 = .ok (.invokespecial 442, 3)) (Nat.le_of_ble_eq_true rfl) (Nat.le_of_ble_eq_true rfl) ?_
  refine W.eq (g2 := F0 m 4 ls []) rfl ?_
  refine lv_aload_n hx hb (by decide +kernel : decode prog_1_method_52_code 4 = .ok (.aload_n 0, 1)) rfl (lv_at hl9 0 rfl) ?_
  refine wx_con (iN := 447) (iC := 449) (cm_100 htl) rfl rfl hx hb hml hls0 hown hts (by decide) wl_447 wb_1 wn_1 wk_100 wi_100 (.inl ⟨_, hZ.2.2.1 _ (List.mem_of_getElem? (i := 1) rfl)⟩) hK hP hD hS hA hA2 hZ (by decide +kernel : decode prog_1_method_52_code 5 = .ok (.new 447, 3)) (by decide +kernel : decode prog_1_method_52_code 8 = .ok (.dup, 1)) (by decide +kernel : decode prog_1_method_52_code 9 = .ok (.invokespecial 449, 3)) (by show 0 + 1 + mcR ≤ 1 + mcR + 1 + mcP + 1 + mcP + tb_51a.length + 1 + tb_51b.length + tb_51c.length + 1 + mcTk + tb_51d.length; omega) (by show 0 + nf0 1 + msR ≤ nf0 1 + msR + nf0 3 + msP + nf0 3 + msP + iss_ tb_51a + 6 + iss_ tb_51b + iss_ tb_51c + nf0 2 + msTk + iss_ tb_51d; omega) (by show 6 + 1 ≤ 7; omega) (by show 8 + (1 + 11) + 120 ≤ 150; omega) (Nat.le_of_ble_eq_true rfl) (fun u1 q1 H locs e1 hP hD hS => ?_)
  refine wx_putO (f := 0) hx hb hts hown hin hK (by decide) (by decide +kernel) hP hD hS n0 (by decide +kernel : decode prog_1_method_52_code 12 = .ok (.putfield 450, 3)) (fun H locs hP hD hS => ?_)
  refine lv_aload_n hx hb (by decide +kernel : decode prog_1_method_52_code 15 = .ok (.aload_n 0, 1)) rfl (lv_at hl9 0 rfl) ?_
  refine wx_con (iN := 124) (iC := 454) cm_206 rfl rfl hx hb hml hls0 hown hts (by decide) wl_124 wb_3 wn_3 wk_206 wi_206 (.inl ⟨_, hZ.2.2.1 _ (List.mem_of_getElem? (i := 2) rfl)⟩) hK hP hD hS hA hA2 hZ (by decide +kernel : decode prog_1_method_52_code 16 = .ok (.new 124, 3)) (by decide +kernel : decode prog_1_method_52_code 19 = .ok (.dup, 1)) (by decide +kernel : decode prog_1_method_52_code 20 = .ok (.invokespecial 454, 3)) (by show 0 + 1 + mcR + 1 + mcP ≤ 1 + mcR + 1 + mcP + 1 + mcP + tb_51a.length + 1 + tb_51b.length + tb_51c.length + 1 + mcTk + tb_51d.length; omega) (by show 0 + nf0 1 + msR + nf0 3 + msP ≤ nf0 1 + msR + nf0 3 + msP + nf0 3 + msP + iss_ tb_51a + 6 + iss_ tb_51b + iss_ tb_51c + nf0 2 + msTk + iss_ tb_51d; omega) (by show 1 + 1 ≤ 7; omega) (by show 8 + (1 + 11) + 12 ≤ 150; omega) (Nat.le_of_ble_eq_true rfl) (fun u2 q2 H locs e2 hP hD hS => ?_)
  refine wx_putO (f := 1) hx hb hts hown hin hK (by decide) (by decide +kernel) hP hD hS (by rw [List.length_set]; exact n0) (by decide +kernel : decode prog_1_method_52_code 23 = .ok (.putfield 119, 3)) (fun H locs hP hD hS => ?_)
  refine lv_aload_n hx hb (by decide +kernel : decode prog_1_method_52_code 26 = .ok (.aload_n 0, 1)) rfl (lv_at hl9 0 rfl) ?_
  refine wx_con (iN := 124) (iC := 454) cm_206 rfl rfl hx hb hml hls0 hown hts (by decide) wl_124 wb_3 wn_3 wk_206 wi_206 (.inl ⟨_, hZ.2.2.1 _ (List.mem_of_getElem? (i := 2) rfl)⟩) hK hP hD hS hA hA2 hZ (by decide +kernel : decode prog_1_method_52_code 27 = .ok (.new 124, 3)) (by decide +kernel : decode prog_1_method_52_code 30 = .ok (.dup, 1)) (by decide +kernel : decode prog_1_method_52_code 31 = .ok (.invokespecial 454, 3)) (by show 0 + 1 + mcR + 1 + mcP + 1 + mcP ≤ 1 + mcR + 1 + mcP + 1 + mcP + tb_51a.length + 1 + tb_51b.length + tb_51c.length + 1 + mcTk + tb_51d.length; omega) (by show 0 + nf0 1 + msR + nf0 3 + msP + nf0 3 + msP ≤ nf0 1 + msR + nf0 3 + msP + nf0 3 + msP + iss_ tb_51a + 6 + iss_ tb_51b + iss_ tb_51c + nf0 2 + msTk + iss_ tb_51d; omega) (by show 1 + 1 ≤ 7; omega) (by show 8 + (1 + 11) + 12 ≤ 150; omega) (Nat.le_of_ble_eq_true rfl) (fun u3 q3 H locs e3 hP hD hS => ?_)
  refine wx_putO (f := 2) hx hb hts hown hin hK (by decide) (by decide +kernel) hP hD hS (by rw [List.length_set, List.length_set]; exact n0) (by decide +kernel : decode prog_1_method_52_code 34 = .ok (.putfield 455, 3)) (fun H locs hP hD hS => ?_)
  refine ini_seg (o := 0) (ci := 0) (A := A) hx hb hts hown hin hK (by decide) hA (lv_at hl9 0 rfl) tb_51a 37 _ _ H locs _ _ tb_51a_ok hP hD hS (by rw [List.length_set, List.length_set, List.length_set]; exact n0) (by show 0 + 1 + mcR + 1 + mcP + 1 + mcP + tb_51a.length ≤ 1 + mcR + 1 + mcP + 1 + mcP + tb_51a.length + 1 + tb_51b.length + tb_51c.length + 1 + mcTk + tb_51d.length; omega) (by show 0 + nf0 1 + msR + nf0 3 + msP + nf0 3 + msP + iss_ tb_51a ≤ nf0 1 + msR + nf0 3 + msP + nf0 3 + msP + iss_ tb_51a + 6 + iss_ tb_51b + iss_ tb_51c + nf0 2 + msTk + iss_ tb_51d; omega) (fun a4 H locs e4 hP hD hS => ?_)
  rw [tb_51a_e]
  refine lv_aload_n hx hb (by decide +kernel : decode prog_1_method_52_code 186 = .ok (.aload_n 0, 1)) rfl (lv_at hl9 0 rfl) ?_
  refine wx_ise (pc := 187) (iN := 205) (iS := 462) (iC := 463) hx hb (by rw [hml, hls0]) htl hown (isw_at isw_0 hts hZ) (hts _ wl_205) (hts _ wn_5) hw1 hK hP hD hS hA hA2 (by decide +kernel : decode prog_1_method_52_code 187 = .ok (.new 205, 3)) (by decide +kernel : decode prog_1_method_52_code 190 = .ok (.dup, 1)) (.inr ⟨rfl, rfl⟩) (by decide +kernel : decode prog_1_method_52_code 191 = .ok (.ldc_w 462, 3)) (by decide +kernel : decode prog_1_method_52_code 194 = .ok (.invokespecial 463, 3)) (by show 0 + 1 + mcR + 1 + mcP + 1 + mcP + tb_51a.length + 1 ≤ 1 + mcR + 1 + mcP + 1 + mcP + tb_51a.length + 1 + tb_51b.length + tb_51c.length + 1 + mcTk + tb_51d.length; omega) (by show 0 + nf0 1 + msR + nf0 3 + msP + nf0 3 + msP + iss_ tb_51a + 6 ≤ nf0 1 + msR + nf0 3 + msP + nf0 3 + msP + iss_ tb_51a + 6 + iss_ tb_51b + iss_ tb_51c + nf0 2 + msTk + iss_ tb_51d; omega) (by show 5 < 7; omega) (Nat.le_of_ble_eq_true rfl) (by show 90 ≤ 150; omega) (fun q5 H locs hP hD hS => ?_)
  refine wx_putO (f := 48) hx hb hts hown hin hK (by decide) (by decide +kernel) hP hD hS (by rw [fso_len, List.length_set, List.length_set, List.length_set]; exact n0) (by decide +kernel : decode prog_1_method_52_code 197 = .ok (.putfield 229, 3)) (fun H locs hP hD hS => ?_)
  refine ini_seg (o := 0) (ci := 0) (A := A) hx hb hts hown hin hK (by decide) hA (lv_at hl9 0 rfl) tb_51b 200 _ _ H locs _ _ tb_51b_ok hP hD hS (by rw [List.length_set, fso_len, List.length_set, List.length_set, List.length_set]; exact n0) (by show 0 + 1 + mcR + 1 + mcP + 1 + mcP + tb_51a.length + 1 + tb_51b.length ≤ 1 + mcR + 1 + mcP + 1 + mcP + tb_51a.length + 1 + tb_51b.length + tb_51c.length + 1 + mcTk + tb_51d.length; omega) (by show 0 + nf0 1 + msR + nf0 3 + msP + nf0 3 + msP + iss_ tb_51a + 6 + iss_ tb_51b ≤ nf0 1 + msR + nf0 3 + msP + nf0 3 + msP + iss_ tb_51a + 6 + iss_ tb_51b + iss_ tb_51c + nf0 2 + msTk + iss_ tb_51d; omega) (fun a6 H locs e6 hP hD hS => ?_)
  rw [tb_51b_e]
  refine lv_aload_n hx hb (by decide +kernel : decode prog_1_method_52_code 334 = .ok (.aload_n 0, 1)) rfl (lv_at hl9 0 rfl) ?_
  refine lv_iconst hx hb (by decide +kernel : decode prog_1_method_52_code 335 = .ok (.iconst (-1), 1)) rfl ?_
  refine wx_putZ (f := 71) (x := Int32.ofInt (-1)) hx hb hts hown hK (by decide) (by decide +kernel) hP hD hS (by rw [fso_len, List.length_set, fso_len, List.length_set, List.length_set, List.length_set]; exact n0) (by decide +kernel : decode prog_1_method_52_code 336 = .ok (.putfield 467, 3)) (fun H locs hP hD hS => ?_)
  refine ini_seg (o := 0) (ci := 0) (A := A) hx hb hts hown hin hK (by decide) hA (lv_at hl9 0 rfl) tb_51c 339 _ _ H locs _ _ tb_51c_ok hP hD hS (by rw [List.length_set, fso_len, List.length_set, fso_len, List.length_set, List.length_set, List.length_set]; exact n0) (by show 0 + 1 + mcR + 1 + mcP + 1 + mcP + tb_51a.length + 1 + tb_51b.length + tb_51c.length ≤ 1 + mcR + 1 + mcP + 1 + mcP + tb_51a.length + 1 + tb_51b.length + tb_51c.length + 1 + mcTk + tb_51d.length; omega) (by show 0 + nf0 1 + msR + nf0 3 + msP + nf0 3 + msP + iss_ tb_51a + 6 + iss_ tb_51b + iss_ tb_51c ≤ nf0 1 + msR + nf0 3 + msP + nf0 3 + msP + iss_ tb_51a + 6 + iss_ tb_51b + iss_ tb_51c + nf0 2 + msTk + iss_ tb_51d; omega) (fun a7 H locs e7 hP hD hS => ?_)
  rw [tb_51c_e]
  refine lv_aload_n hx hb (by decide +kernel : decode prog_1_method_52_code 356 = .ok (.aload_n 0, 1)) rfl (lv_at hl9 0 rfl) ?_
  refine wx_con (iN := 476) (iC := 478) cm_190 rfl rfl hx hb hml hls0 hown hts (by decide) wl_476 wb_2 wn_2 wk_190 wi_190 (.inl ⟨_, hZ.2.2.1 _ (List.mem_of_getElem? (i := 3) rfl)⟩) hK hP hD hS hA hA2 hZ (by decide +kernel : decode prog_1_method_52_code 357 = .ok (.new 476, 3)) (by decide +kernel : decode prog_1_method_52_code 360 = .ok (.dup, 1)) (by decide +kernel : decode prog_1_method_52_code 361 = .ok (.invokespecial 478, 3)) (by show 0 + 1 + mcR + 1 + mcP + 1 + mcP + tb_51a.length + 1 + tb_51b.length + tb_51c.length + 1 + mcTk ≤ 1 + mcR + 1 + mcP + 1 + mcP + tb_51a.length + 1 + tb_51b.length + tb_51c.length + 1 + mcTk + tb_51d.length; omega) (by show 0 + nf0 1 + msR + nf0 3 + msP + nf0 3 + msP + iss_ tb_51a + 6 + iss_ tb_51b + iss_ tb_51c + nf0 2 + msTk ≤ nf0 1 + msR + nf0 3 + msP + nf0 3 + msP + iss_ tb_51a + 6 + iss_ tb_51b + iss_ tb_51c + nf0 2 + msTk + iss_ tb_51d; omega) (by show 1 + 1 ≤ 7; omega) (by show 8 + (1 + 11) + 12 ≤ 150; omega) (Nat.le_of_ble_eq_true rfl) (fun u8 q8 H locs e8 hP hD hS => ?_)
  refine wx_putO (f := 74) hx hb hts hown hin hK (by decide) (by decide +kernel) hP hD hS (by rw [fso_len, List.length_set, fso_len, List.length_set, fso_len, List.length_set, List.length_set, List.length_set]; exact n0) (by decide +kernel : decode prog_1_method_52_code 364 = .ok (.putfield 479, 3)) (fun H locs hP hD hS => ?_)
  refine ini_seg (o := 0) (ci := 0) (A := A) hx hb hts hown hin hK (by decide) hA (lv_at hl9 0 rfl) tb_51d 367 _ _ H locs _ _ tb_51d_ok hP hD hS (by rw [List.length_set, fso_len, List.length_set, fso_len, List.length_set, fso_len, List.length_set, List.length_set, List.length_set]; exact n0) (by show 0 + 1 + mcR + 1 + mcP + 1 + mcP + tb_51a.length + 1 + tb_51b.length + tb_51c.length + 1 + mcTk + tb_51d.length ≤ 1 + mcR + 1 + mcP + 1 + mcP + tb_51a.length + 1 + tb_51b.length + tb_51c.length + 1 + mcTk + tb_51d.length; omega) (by show 0 + nf0 1 + msR + nf0 3 + msP + nf0 3 + msP + iss_ tb_51a + 6 + iss_ tb_51b + iss_ tb_51c + nf0 2 + msTk + iss_ tb_51d ≤ nf0 1 + msR + nf0 3 + msP + nf0 3 + msP + iss_ tb_51a + 6 + iss_ tb_51b + iss_ tb_51c + nf0 2 + msTk + iss_ tb_51d; omega) (fun a9 H locs e9 hP hD hS => ?_)
  rw [tb_51d_e]
  rw [show 0 + 1 + (1 + tb_190a.length + 1 + tb_100a.length) + 1 + tb_206a.length + 1 + tb_206a.length + tb_51a.length + 1 + tb_51b.length + tb_51c.length + 1 + tb_190a.length + tb_51d.length = mcX by show _ = 1 + (1 + tb_190a.length + 1 + tb_100a.length) + 1 + tb_206a.length + 1 + tb_206a.length + tb_51a.length + 1 + tb_51b.length + tb_51c.length + 1 + tb_190a.length + tb_51d.length; omega, show 0 + nf0 1 + (nf0 2 + iss_ tb_190a + 6 + iss_ tb_100a) + nf0 3 + iss_ tb_206a + nf0 3 + iss_ tb_206a + iss_ tb_51a + 6 + iss_ tb_51b + iss_ tb_51c + nf0 2 + iss_ tb_190a + iss_ tb_51d = msX by show _ = nf0 1 + (nf0 2 + iss_ tb_190a + 6 + iss_ tb_100a) + nf0 3 + iss_ tb_206a + nf0 3 + iss_ tb_206a + iss_ tb_51a + 6 + iss_ tb_51b + iss_ tb_51c + nf0 2 + iss_ tb_190a + iss_ tb_51d; omega]
  exact W.vret hx hb hr (fun t ht hW => ⟨⟨((q1, u1), (q2, u2), (q3, u3), a4, q5, a6, a7, (q8, u8), a9), rfl, ⟨e1, e2, e3, e4, e6, e7, e8, e9⟩, by rw [ht]; exact hP, va_K.moved hW.alike hK, by rw [hAe]; exact hD⟩, hS.F ht⟩) hS.2.2 (by decide +kernel : decode prog_1_method_52_code 455 = .ok (.return_, 1))
end C0b
end M481_c0
section M482_rw
/-! the first world, by roles -/
/-- a value by its number: null, 0, -1, or a cell of the list -/
def sval (adr : Nat → Nat) (k : Nat) : Value := if k = 0 then .null else if k = 1 then .int 0 else if k = 2 then .int (Int32.ofInt (-1)) else .ref (adr (k - 3))
abbrev sE_ : Type := (Nat × Nat) ⊕ (Nat × List Nat)
def rzE (cA : Nat → ClassId) (adr : Nat → Nat) : sE_ → va_E
  | .inl a => .inl (cA a.1, za_ a.1 a.2)
  | .inr o => .inr (o.1, o.2.map (sval adr))
def rz_ (cA : Nat → ClassId) (adr : Nat → Nat) (q : Nat × sE_) : Nat × va_E := (adr q.1, rzE cA adr q.2)
def fsoS : List ir_ → Nat → List Nat → List Nat
  | [], _, fs => fs
  | r :: t, p, fs => fsoS t (p + 1) (fs.set r.2.2.2.2.2.2 (3 + p))
def aroS : List ir_ → Nat → List (Nat × sE_)
  | [], _ => []
  | r :: t, p => (p, .inl (r.2.2.2.2.1, r.2.2.2.1)) :: aroS t (p + 1)
def dflS (ci : Nat) : List Nat := (List.range (nf0 ci)).map (fun k => if fk0 ci k = 2 ∨ fk0 ci k = 3 then 0 else 1)
section RW1
variable {cA : Nat → ClassId} {adr : Nat → Nat}
theorem dflS_v (ci : Nat) : dfl_ ci = (dflS ci).map (sval adr) := by
  unfold dfl_ dflS
  rw [List.map_map]
  apply List.map_congr_left
  intro k _
  show _ = sval adr (if fk0 ci k = 2 ∨ fk0 ci k = 3 then 0 else 1)
  by_cases c : fk0 ci k = 2 ∨ fk0 ci k = 3
  · rw [if_pos c, if_pos c]; rfl
  · rw [if_neg c, if_neg c]; rfl
theorem fsoS_v : ∀ (tab : List ir_) (p : Nat) (fs : List Nat), fso_ tab ((List.range' p tab.length).map adr) (fs.map (sval adr)) = (fsoS tab p fs).map (sval adr)
  | [], p, fs => by unfold fso_ fsoS; rfl
  | r :: t, p, fs => by
    rw [List.length_cons, List.range'_succ, List.map_cons]
    unfold fso_ fsoS
    have e : (fs.map (sval adr)).set r.2.2.2.2.2.2 (.ref (adr p)) = (fs.set r.2.2.2.2.2.2 (3 + p)).map (sval adr) := by
      rw [List.map_set]
      congr 1
      unfold sval
      rw [if_neg (by omega), if_neg (by omega), if_neg (by omega), show 3 + p - 3 = p by omega]
    rw [e]
    exact fsoS_v t (p + 1) _
theorem aroS_v : ∀ (tab : List ir_) (p : Nat), aro_ cA tab ((List.range' p tab.length).map adr) = (aroS tab p).map (rz_ cA adr)
  | [], p => by unfold aro_ aroS; rfl
  | r :: t, p => by
    rw [List.length_cons, List.range'_succ, List.map_cons]
    unfold aro_ aroS
    rw [List.map_cons, aroS_v t (p + 1)]
    rfl
theorem set_v {fs : List Nat} {f p : Nat} : (fs.map (sval adr)).set f (.ref (adr p)) = (fs.set f (3 + p)).map (sval adr) := by
  rw [List.map_set]
  congr 1
  unfold sval
  rw [if_neg (by omega), if_neg (by omega), if_neg (by omega), show 3 + p - 3 = p by omega]
theorem set_i {fs : List Nat} {f : Nat} : (fs.map (sval adr)).set f (.int (Int32.ofInt (-1))) = (fs.set f 2).map (sval adr) := by
  rw [List.map_set]
  rfl
end RW1
/-- where each list of cells begins -/
def sgR (adr : Nat → Nat) : Nat → List (List Nat) → Prop
  | _, [] => True
  | b, l :: t => l = (List.range' b l.length).map adr ∧ sgR adr (b + l.length) t
theorem sg_ex : ∀ (segs : List (List Nat)) (pre : List Nat), sgR (fun p => (pre ++ segs.flatten).getD p 0) pre.length segs
  | [], _ => trivial
  | l :: t, pre => by
    refine ⟨?_, ?_⟩
    · apply List.ext_getElem?
      intro k
      by_cases hk : k < l.length
      · rw [List.getElem?_map, List.getElem?_range' hk, List.getElem?_eq_getElem hk]
        show some l[k] = some ((pre ++ (l :: t).flatten).getD (pre.length + 1 * k) 0)
        rw [List.getD_eq_getElem?_getD, List.getElem?_append_right (by omega), List.flatten_cons, List.getElem?_append_left (by omega), show pre.length + 1 * k - pre.length = k by omega, List.getElem?_eq_getElem hk]
        rfl
      · rw [List.getElem?_eq_none (by omega), List.getElem?_eq_none (by rw [List.length_map, List.length_range']; omega)]
    · have h := sg_ex t (pre ++ l)
      rw [List.length_append] at h
      have e : (fun p => ((pre ++ l) ++ t.flatten).getD p 0) = fun p => (pre ++ (l :: t).flatten).getD p 0 := by
        funext p
        rw [List.flatten_cons, List.append_assoc]
      rw [e] at h
      exact h
def fsS1 : List Nat := fsoS tb_100a 10 (((dflS 1).set 0 (3 + 3)).set 1 (3 + 9))
def fsS0 : List Nat := fsoS tb_51d 134 ((fsoS tb_51c 126 ((fsoS tb_51b 111 ((fsoS tb_51a 92 ((((dflS 0).set 0 (3 + 2)).set 1 (3 + 24)).set 2 (3 + 58))).set 48 (3 + 110))).set 71 2)).set 74 (3 + 128))
def fsS4 : List Nat := fsoS tb_210b 235 ((fsoS tb_210a 145 (dflS 4)).set 119 2)
def wS2 (p : Nat) : List (Nat × sE_) := (p, .inr (2, fsoS tb_190a (p + 1) (dflS 2))) :: aroS tb_190a (p + 1)
def wS3 (p : Nat) : List (Nat × sE_) := (p, .inr (3, fsoS tb_206a (p + 1) (dflS 3))) :: aroS tb_206a (p + 1)
def wS1 : List (Nat × sE_) := (2, .inr (1, fsS1)) :: ((wS2 3 ++ [(9, .inr (5, []))]) ++ aroS tb_100a 10)
def wS0 : List (Nat × sE_) := (1, .inr (0, fsS0)) :: ((((((((wS1 ++ wS3 24) ++ wS3 58) ++ aroS tb_51a 92) ++ [(110, .inr (5, []))]) ++ aroS tb_51b 111) ++ aroS tb_51c 126) ++ wS2 128) ++ aroS tb_51d 134)
def wS4 : List (Nat × sE_) := (0, .inr (4, fsS4)) :: ((wS0 ++ aroS tb_210a 145) ++ aroS tb_210b 235)
end M482_rw
section M483_rv
/-! the first world as the world of a memory -/
def piL : List Nat := [1, 2, 3, 128, 24, 58, 0, 110, 9, 92, 93, 94, 95, 96, 97, 98, 99, 100, 101, 102, 103, 104, 105, 106, 107, 108, 109, 111, 112, 113, 114, 115, 116, 117, 118, 119, 120, 121, 122, 123, 124, 125, 126, 127, 134, 135, 136, 137, 138, 139, 140, 141, 142, 143, 144, 10, 11, 12, 13, 14, 15, 16, 17, 18, 19, 20, 21, 22, 23, 4, 5, 6, 7, 8, 129, 130, 131, 132, 133, 25, 26, 27, 28, 29, 30, 31, 32, 33, 34, 35, 36, 37, 38, 39, 40, 41, 42, 43, 44, 45, 46, 47, 48, 49, 50, 51, 52, 53, 54, 55, 56, 57, 59, 60, 61, 62, 63, 64, 65, 66, 67, 68, 69, 70, 71, 72, 73, 74, 75, 76, 77, 78, 79, 80, 81, 82, 83, 84, 85, 86, 87, 88, 89, 90, 91, 145, 146, 147, 148, 149, 150, 151, 152, 153, 154, 155, 156, 157, 158, 159, 160, 161, 162, 163, 164, 165, 166, 167, 168, 169, 170, 171, 172, 173, 174, 175, 176, 177, 178, 179, 180, 181, 182, 183, 184, 185, 186, 187, 188, 189, 190, 191, 192, 193, 194, 195, 196, 197, 198, 199, 200, 201, 202, 203, 204, 205, 206, 207, 208, 209, 210, 211, 212, 213, 214, 215, 216, 217, 218, 219, 220, 221, 222, 223, 224, 225, 226, 227, 228, 229, 230, 231, 232, 233, 234, 235, 236, 237, 238, 239, 240, 241, 242, 243, 244, 245, 246, 247, 248, 249, 250, 251, 252, 253, 254, 255, 256, 257, 258, 259, 260, 261, 262, 263, 264, 265, 266]
def piI : List Nat := [6, 0, 1, 2, 69, 70, 71, 72, 73, 8, 55, 56, 57, 58, 59, 60, 61, 62, 63, 64, 65, 66, 67, 68, 4, 79, 80, 81, 82, 83, 84, 85, 86, 87, 88, 89, 90, 91, 92, 93, 94, 95, 96, 97, 98, 99, 100, 101, 102, 103, 104, 105, 106, 107, 108, 109, 110, 111, 5, 112, 113, 114, 115, 116, 117, 118, 119, 120, 121, 122, 123, 124, 125, 126, 127, 128, 129, 130, 131, 132, 133, 134, 135, 136, 137, 138, 139, 140, 141, 142, 143, 144, 9, 10, 11, 12, 13, 14, 15, 16, 17, 18, 19, 20, 21, 22, 23, 24, 25, 26, 7, 27, 28, 29, 30, 31, 32, 33, 34, 35, 36, 37, 38, 39, 40, 41, 42, 43, 3, 74, 75, 76, 77, 78, 44, 45, 46, 47, 48, 49, 50, 51, 52, 53, 54, 145, 146, 147, 148, 149, 150, 151, 152, 153, 154, 155, 156, 157, 158, 159, 160, 161, 162, 163, 164, 165, 166, 167, 168, 169, 170, 171, 172, 173, 174, 175, 176, 177, 178, 179, 180, 181, 182, 183, 184, 185, 186, 187, 188, 189, 190, 191, 192, 193, 194, 195, 196, 197, 198, 199, 200, 201, 202, 203, 204, 205, 206, 207, 208, 209, 210, 211, 212, 213, 214, 215, 216, 217, 218, 219, 220, 221, 222, 223, 224, 225, 226, 227, 228, 229, 230, 231, 232, 233, 234, 235, 236, 237, 238, 239, 240, 241, 242, 243, 244, 245, 246, 247, 248, 249, 250, 251, 252, 253, 254, 255, 256, 257, 258, 259, 260, 261, 262, 263, 264, 265, 266]
def ad9 (adr ro : Nat → Nat) : Nat → Nat := fun r => if r < 267 then adr (piL.getD r 0) else ro r
def fvS (r k : Nat) : Nat := match wd0.2.1 (wd0.1 r) k with
  | 2 => 3 + piL.getD (wd0.2.2.1 r k) 0
  | 3 => 0
  | _ => if (r = 0 ∧ k = 71) ∨ (r = 6 ∧ k = 119) then 2 else 1
def ceS (r : Nat) : sE_ := if wd0.1 r = 99 then .inl (wd0.2.2.2.1 r, wd0.2.2.2.2 r) else .inr (wd0.1 r, (List.range (nf0 (wd0.1 r))).map (fvS r))
set_option maxRecDepth 100000 in
theorem pi_ok : (List.range 267).all (fun r => decide (wS4[piL.getD r 0]? = some (piL.getD r 0, ceS r)) && (decide (piI.getD (piL.getD r 0) 0 = r) && decide (piL.getD r 0 < 267))) = true := by decide +kernel
set_option maxRecDepth 100000 in
theorem lk_ok : (List.range 9).all (fun r => (List.range (nf0 (wd0.1 r))).all (fun k => decide (wd0.2.1 (wd0.1 r) k = 2 → wd0.2.2.1 r k < 267) && decide (wd0.2.1 (wd0.1 r) k = 3 → ¬ ((r = 0 ∧ k = 71) ∨ (r = 6 ∧ k = 119))))) = true := by decide +kernel
theorem rc9 {r : Nat} (h : r < 267) (h9 : wd0.1 r ≠ 99) : r < 9 := by
  have h9 : rc0 r ≠ 99 := h9
  unfold rc0 at h9
  by_cases c : r < 9
  · exact c
  · rw [if_neg c, if_neg (by omega)] at h9
    exact absurd rfl h9
theorem rc9' {r : Nat} (h9 : wd0.1 r = 99) : r ≠ 0 ∧ r ≠ 6 := by
  refine ⟨fun e => ?_, fun e => ?_⟩ <;> (rw [e] at h9; exact absurd h9 (by decide))
section RW2
variable {D : va_G} {cA : Nat → ClassId} {adr ro : Nat → Nat} {M : mm_} {A : Nat → Prop} {H : Heap}
theorem ce_v (hM : ∀ r : Nat, r < 267 → ∀ i : Int, M r i = (if (r = 0 ∧ i = 71) ∨ (r = 6 ∧ i = 119) then -1 else 0)) {r : Nat} (hr : r < 267) : ce_ wd0 nf0 cA (ad9 adr ro) M r = rzE cA adr (ceS r) := by
  unfold ce_ ceS
  by_cases c : wd0.1 r = 99
  · rw [if_pos c, if_pos c]
    obtain ⟨n0, n6⟩ := rc9' c
    have z : ∀ j : Nat, M r (j : Int) = 0 := fun j => by rw [hM r hr, if_neg (by omega)]
    show _ = Sum.inl (cA (wd0.2.2.2.1 r), za_ (wd0.2.2.2.1 r) (wd0.2.2.2.2 r))
    unfold za_
    by_cases c4 : wd0.2.2.2.1 r = 4
    · rw [if_pos c4, if_pos c4]
      have e : (fun j : Nat => Int64.ofInt (M r (j : Int))) = fun _ => (0 : Int64) := by funext j; rw [z j]; rfl
      rw [e]
    · rw [if_neg c4, if_neg c4]
      have e : (fun j : Nat => Int32.ofInt (M r (j : Int))) = fun _ => (0 : Int32) := by funext j; rw [z j]; rfl
      rw [e]
  · rw [if_neg c, if_neg c]
    have h9 := rc9 hr c
    show _ = Sum.inr (wd0.1 r, ((List.range (nf0 (wd0.1 r))).map (fvS r)).map (sval adr))
    rw [List.map_map]
    congr 2
    apply List.map_congr_left
    intro k hk
    have h1 := List.all_eq_true.mp (List.all_eq_true.mp lk_ok r (List.mem_range.mpr h9)) k hk
    rw [Bool.and_eq_true, decide_eq_true_eq, decide_eq_true_eq] at h1
    show fv_ wd0 (ad9 adr ro) M r k = sval adr (fvS r k)
    have hm := hM r hr (k : Int)
    generalize e9 : wd0.2.1 (wd0.1 r) k = kd at h1
    unfold fv_ fvS
    rw [e9]
    match kd, h1 with
    | 2, h1 =>
      have hl := h1.1 rfl
      show Value.ref (ad9 adr ro (wd0.2.2.1 r k)) = sval adr (3 + piL.getD (wd0.2.2.1 r k) 0)
      unfold ad9 sval
      rw [if_pos hl, if_neg (by omega), if_neg (by omega), if_neg (by omega), Nat.add_sub_cancel_left]
    | 3, h1 =>
      show (if M r (k : Int) = 0 then Value.null else _) = sval adr 0
      rw [if_pos (show M r (k : Int) = 0 by rw [hm, if_neg (by have := h1.2 rfl; omega)])]
      rfl
    | 0, _ =>
      show Value.int (Int32.ofInt (M r (k : Int))) = sval adr (if (r = 0 ∧ k = 71) ∨ (r = 6 ∧ k = 119) then 2 else 1)
      rw [hm]
      by_cases c : (r = 0 ∧ k = 71) ∨ (r = 6 ∧ k = 119)
      · rw [if_pos c, if_pos (by omega)]; rfl
      · rw [if_neg c, if_neg (by omega)]; rfl
    | 1, _ =>
      show Value.int (Int32.ofInt (M r (k : Int))) = sval adr (if (r = 0 ∧ k = 71) ∨ (r = 6 ∧ k = 119) then 2 else 1)
      rw [hm]
      by_cases c : (r = 0 ∧ k = 71) ∨ (r = 6 ∧ k = 119)
      · rw [if_pos c, if_pos (by omega)]; rfl
      · rw [if_neg c, if_neg (by omega)]; rfl
    | n + 4, _ =>
      show Value.int (Int32.ofInt (M r (k : Int))) = sval adr (if (r = 0 ∧ k = 71) ∨ (r = 6 ∧ k = 119) then 2 else 1)
      rw [hm]
      by_cases c : (r = 0 ∧ k = 71) ∨ (r = 6 ∧ k = 119)
      · rw [if_pos c, if_pos (by omega)]; rfl
      · rw [if_neg c, if_neg (by omega)]; rfl
theorem pi_at {r : Nat} (hr : r < 267) : wS4[piL.getD r 0]? = some (piL.getD r 0, ceS r) ∧ piI.getD (piL.getD r 0) 0 = r ∧ piL.getD r 0 < 267 := by
  have h := List.all_eq_true.mp pi_ok r (List.mem_range.mpr hr)
  simpa only [Bool.and_eq_true, decide_eq_true_eq] using h
theorem P_first (hM : ∀ r : Nat, r < 267 → ∀ i : Int, M r i = (if (r = 0 ∧ i = 71) ∨ (r = 6 ∧ i = 119) then -1 else 0)) (hP : va_P D vwCl (wS4.map (rz_ cA adr)) H) : va_P D vwCl (wl_ wd0 nf0 cA NR0 (ad9 adr ro) M) H := by
  intro k q hk
  have hl : k < 267 := by
    have := (List.getElem?_eq_some_iff.mp hk).1
    unfold wl_ at this
    rw [List.length_map, List.length_range] at this
    exact this
  rw [wl_at (show k < NR0 from hl)] at hk
  cases hk
  have h := pi_at hl
  have h2 := hP (piL.getD k 0) (rz_ cA adr (piL.getD k 0, ceS k)) (by rw [List.getElem?_map, h.1]; rfl)
  rw [ce_v hM hl]
  unfold ad9
  rw [if_pos hl]
  exact h2
theorem D_first (hD : va_D A (wS4.map (rz_ cA adr))) (M : mm_) : va_D A (wl_ wd0 nf0 cA NR0 (ad9 adr ro) M) := by
  have key : ∀ (k : Nat) (q : Nat × va_E), (wl_ wd0 nf0 cA NR0 (ad9 adr ro) M)[k]? = some q → k < 267 ∧ q.1 = adr (piL.getD k 0) ∧ (wS4.map (rz_ cA adr))[piL.getD k 0]? = some (rz_ cA adr (piL.getD k 0, ceS k)) := fun k q hk => by
    have hl : k < 267 := by
      have := (List.getElem?_eq_some_iff.mp hk).1
      unfold wl_ at this
      rw [List.length_map, List.length_range] at this
      exact this
    rw [wl_at (show k < NR0 from hl)] at hk
    cases hk
    refine ⟨hl, by show ad9 adr ro k = _; unfold ad9; rw [if_pos hl], ?_⟩
    rw [List.getElem?_map, (pi_at hl).1]; rfl
  refine ⟨fun i j p q hi hj e => ?_, fun k q hk => ?_⟩
  · obtain ⟨i1, i2, i3⟩ := key i p hi
    obtain ⟨j1, j2, j3⟩ := key j q hj
    have h := hD.1 _ _ _ _ i3 j3 (by show adr _ = adr _; rw [← i2, ← j2]; exact e)
    have h1 := (pi_at i1).2.1
    have h2 := (pi_at j1).2.1
    rw [h] at h1
    exact h1.symm.trans h2
  · obtain ⟨k1, k2, k3⟩ := key k q hk
    have h := hD.2 _ _ k3
    rw [k2]
    exact h
end RW2
section RW3
variable {cA : Nat → ClassId}
/-- the cells that the constructors have made, in a row -/
theorem wB_v {adr : Nat → Nat} (ci : Nat) (tab : List ir_) (p : Nat) : wB_ cA ci tab (adr p) ((List.range' (p + 1) tab.length).map adr) = ((p, .inr (ci, fsoS tab (p + 1) (dflS ci))) :: aroS tab (p + 1) : List (Nat × sE_)).map (rz_ cA adr) := by
  unfold wB_
  rw [dflS_v (adr := adr), fsoS_v, aroS_v]
  rfl
set_option maxHeartbeats 4000000 in
theorem world_ex {h0 aX : Nat} {u : S0_} {qa qb : List Nat} (hu : p0_ u) (ha : qa.length = tb_210a.length) (hb : qb.length = tb_210b.length) : ∃ adr : Nat → Nat, ((h0, .inr (4, fso_ tb_210b qb ((fso_ tb_210a qa (dfl_ 4)).set 119 (.int (Int32.ofInt (-1)))))) :: ((wB0_ cA aX u ++ aro_ cA tb_210a qa) ++ aro_ cA tb_210b qb) : va_W) = wS4.map (rz_ cA adr) ∧ h0 = adr 0 ∧ aX = adr 1 := by
  obtain ⟨⟨q1, q2, u2, q3, u3⟩, ⟨q4, u4⟩, ⟨q5, u5⟩, u6, q7, u7, u8, ⟨q9, u9⟩, u10⟩ := u
  obtain ⟨⟨l2, l3⟩, l4, l5, l6, l7, l8, l9, l10⟩ := hu
  dsimp only at l2 l3 l4 l5 l6 l7 l8 l9 l10
  have h := sg_ex [[h0], [aX], [q1], [q2], u2, [q3], u3, [q4], u4, [q5], u5, u6, [q7], u7, u8, [q9], u9, u10, qa, qb] []
  generalize (fun p => ([] ++ [[h0], [aX], [q1], [q2], u2, [q3], u3, [q4], u4, [q5], u5, u6, [q7], u7, u8, [q9], u9, u10, qa, qb].flatten).getD p 0) = adr at h
  simp only [sgR] at h
  obtain ⟨e0, e1, e2, e3, f2, e4, f3, e5, f4, e6, f5, f6, e7, f7, f8, e9, f9, f10, f11, f12, -⟩ := h
  have c190 : tb_190a.length = 5 := rfl
  have c100 : tb_100a.length = 14 := rfl
  have c206 : tb_206a.length = 33 := rfl
  have ca : tb_51a.length = 18 := rfl
  have cb : tb_51b.length = 15 := rfl
  have cc : tb_51c.length = 2 := rfl
  have cd : tb_51d.length = 11 := rfl
  have c210 : tb_210a.length = 90 := rfl
  simp only [l2, l3, l4, l5, l6, l7, l8, l9, l10, ha, hb, List.length_nil, List.length_cons, c190, c100, c206, ca, cb, cc, cd, c210, Nat.reduceAdd, Nat.zero_add, List.range'_one, List.map_cons, List.map_nil, List.cons.injEq, and_true] at e0 e1 e2 e3 f2 e4 f3 e5 f4 e6 f5 f6 e7 f7 f8 e9 f9 f10 f11 f12
  refine ⟨adr, ?_, e0, e1⟩
  subst e0 e1 e2 e3 f2 e4 f3 e5 f4 e6 f5 f6 e7 f7 f8 e9 f9 f10 f11 f12
  have g2 := wB_v (cA := cA) (adr := adr) 2 tb_190a 3
  have g9 := wB_v (cA := cA) (adr := adr) 2 tb_190a 128
  have g4 := wB_v (cA := cA) (adr := adr) 3 tb_206a 24
  have g5 := wB_v (cA := cA) (adr := adr) 3 tb_206a 58
  have a3 := aroS_v (cA := cA) (adr := adr) tb_100a 10
  have a6 := aroS_v (cA := cA) (adr := adr) tb_51a 92
  have a7 := aroS_v (cA := cA) (adr := adr) tb_51b 111
  have a8 := aroS_v (cA := cA) (adr := adr) tb_51c 126
  have a10 := aroS_v (cA := cA) (adr := adr) tb_51d 134
  have a11 := aroS_v (cA := cA) (adr := adr) tb_210a 145
  have a12 := aroS_v (cA := cA) (adr := adr) tb_210b 235
  have s3 := fun fs => fsoS_v (adr := adr) tb_100a 10 fs
  have s6 := fun fs => fsoS_v (adr := adr) tb_51a 92 fs
  have s7 := fun fs => fsoS_v (adr := adr) tb_51b 111 fs
  have s8 := fun fs => fsoS_v (adr := adr) tb_51c 126 fs
  have s10 := fun fs => fsoS_v (adr := adr) tb_51d 134 fs
  have s11 := fun fs => fsoS_v (adr := adr) tb_210a 145 fs
  have s12 := fun fs => fsoS_v (adr := adr) tb_210b 235 fs
  rw [c190] at g2 g9
  rw [c206] at g4 g5
  rw [c100] at a3 s3
  rw [ca] at a6 s6
  rw [cb] at a7 s7
  rw [cc] at a8 s8
  rw [cd] at a10 s10
  rw [c210] at a11 s11
  have w1 : wB1_ cA (adr 2) (adr 3, (List.range' 4 5).map adr, adr 9, (List.range' 10 14).map adr) = wS1.map (rz_ cA adr) := by
    unfold wB1_ fs1_ wS1 wS2 fsS1
    dsimp only
    rw [g2, a3, dflS_v (adr := adr), set_v, set_v, s3]
    simp only [List.map_cons, List.map_append]
    rfl
  have w0 : wB0_ cA (adr 1) ((adr 2, adr 3, (List.range' 4 5).map adr, adr 9, (List.range' 10 14).map adr), (adr 24, (List.range' 25 33).map adr), (adr 58, (List.range' 59 33).map adr), (List.range' 92 18).map adr, adr 110, (List.range' 111 15).map adr, (List.range' 126 2).map adr, (adr 128, (List.range' 129 5).map adr), (List.range' 134 11).map adr) = wS0.map (rz_ cA adr) := by
    unfold wB0_ fs0_ wS0 wS2 wS3 fsS0
    dsimp only
    rw [w1, g4, g5, a6, a7, a8, g9, a10, dflS_v (adr := adr), set_v, set_v, set_v, s6, set_v, s7, set_i, s8, set_v, s10]
    simp only [List.map_cons, List.map_append]
    rfl
  rw [w0, a11, a12, dflS_v (adr := adr), s11, set_i, s12]
  unfold wS4 fsS4
  rw [List.map_cons, List.map_append, List.map_append]
  unfold rz_ rzE
  dsimp only
end RW3
end M483_rv
section M484_c4
/-! the constructor of Q -/
theorem okb210 : ∀ q ∈ m_210b.1, okb_ 4 prog_8_method_1_code q = true ∨ nox_ q.2.1 = true := by
  have h : k_210b.all (okb_ 4 prog_8_method_1_code) = true := okb_all (by decide +kernel)
  exact fun q hq => .inl (List.all_eq_true.mp h q hq)
/-- the first memory -/
def M00 (L : Nat) (xs : Nat → Int32) : mm_ := fun r i => if r = 1000 then (if i = -1 then (L : Int) else if 0 ≤ i ∧ i < (L : Int) then (xs i.toNat).toInt else 0) else if 1011 ≤ r ∧ r ≤ 1013 then ((sb0.getD (r - 1011) []).getD i.toNat 0).toInt else if (r = 0 ∧ i = 71) ∨ (r = 6 ∧ i = 119) then -1 else 0
section M00s
variable {L : Nat} {xs : Nat → Int32} {M : mm_}
theorem M00_lt {r : Nat} (h : r < 267) (i : Int) : M00 L xs r i = if (r = 0 ∧ i = 71) ∨ (r = 6 ∧ i = 119) then -1 else 0 := by
  unfold M00
  rw [if_neg (by omega), if_neg (by omega)]
theorem M00_Ro : Ro_ L xs (M00 L xs) := by
  refine ⟨by unfold M00; rw [if_pos rfl, if_pos rfl], fun j hj => ?_, fun i hi => ⟨?_, fun j hj => ?_⟩⟩
  · unfold M00
    rw [if_pos rfl, if_neg (by omega), if_pos (by omega), Int.toNat_natCast]
  · unfold M00
    rw [if_neg (by omega), if_neg (by omega), if_neg (by omega)]
  · unfold M00
    rw [if_neg (by omega), if_pos (by omega), Int.toNat_natCast, show 1011 + i - 1011 = i by omega]
theorem rf_0 (k : Nat) : rf_ k 0 := by
  unfold rf_
  split
  · exact .inl rfl
  · trivial
  · exact Int.le_refl 0
  · exact ⟨by decide, by decide⟩
theorem ra_0 (k : Nat) : ra_ k 0 := by
  unfold ra_
  split
  · decide
  · exact .inl rfl
  · exact ⟨by decide, by decide⟩
  · exact ⟨by decide, by decide⟩
theorem M00_Rg : Rg_ wd0 nf0 NR0 (M00 L xs) := by
  intro r hr
  have hr : r < 267 := hr
  refine ⟨fun h9 k hk => ?_, fun h9 j hj => ?_⟩
  · rw [M00_lt hr]
    by_cases c : (r = 0 ∧ (k : Int) = 71) ∨ (r = 6 ∧ (k : Int) = 119)
    · rw [if_pos c]
      rcases c with ⟨rfl, c⟩ | ⟨rfl, c⟩
      · have : k = 71 := by omega
        subst this
        show inI (-1)
        exact ⟨by decide, by decide⟩
      · have : k = 119 := by omega
        subst this
        show inI (-1)
        exact ⟨by decide, by decide⟩
    · rw [if_neg c]; exact rf_0 _
  · obtain ⟨n0, n6⟩ := rc9' h9
    rw [M00_lt hr, if_neg (by omega)]
    exact ra_0 _
set_option maxRecDepth 100000 in
theorem ro_al : ∀ j, j < 257 → ((sb0.getD 0 []).getD j 0).toInt = alL.getD j 0 := by decide +kernel
set_option maxRecDepth 100000 in
theorem ro_sg : ∀ j, j < 15 → ((sb0.getD 1 []).getD j 0).toInt = sgL.getD j 0 := by decide +kernel
set_option maxRecDepth 100000 in
theorem ro_w3 : ∀ j, j < 256 → ((sb0.getD 2 []).getD j 0).toInt = w3L.getD j 0 := by decide +kernel
theorem ro_1 (h : Ro_ L xs M) : RO_ M := by
  have a0 := h.2.2 0 (by decide)
  have a1 := h.2.2 1 (by decide)
  refine ⟨a0.1, a1.1, fun i h0 h1 => ?_, fun i h0 h1 => ?_⟩
  · obtain ⟨j, rfl⟩ : ∃ j : Nat, i = j := ⟨i.toNat, by omega⟩
    have h2 := a0.2 j (by show j < 257; omega)
    rw [show (1011 + 0 : Nat) = 1011 from rfl] at h2
    rw [h2, ro_al j (by omega)]
    unfold pAl
    rw [Int.toNat_natCast]
  · obtain ⟨j, rfl⟩ : ∃ j : Nat, i = j := ⟨i.toNat, by omega⟩
    have h2 := a1.2 j (by show j < 15; omega)
    rw [show (1011 + 1 : Nat) = 1012 from rfl] at h2
    rw [h2, ro_sg j (by omega)]
    unfold pSg
    rw [Int.toNat_natCast]
theorem ro_3 (h : Ro_ L xs M) : RO3 M := by
  have a0 := h.2.2 2 (by decide)
  refine ⟨a0.1, fun i h0 h1 => ?_⟩
  obtain ⟨j, rfl⟩ : ∃ j : Nat, i = j := ⟨i.toNat, by omega⟩
  have h2 := a0.2 j (by show j < 256; omega)
  rw [show (1011 + 2 : Nat) = 1013 from rfl] at h2
  rw [h2, ro_w3 j (by omega)]
  unfold w3v
  rw [Int.toNat_natCast]
end M00s
def WQ_ (cA : Nat → ClassId) (h0 aX : Nat) (u : S0_) : va_W := (h0, .inr (4, dfl_ 4)) :: wB0_ cA aX u
def PcQ (D : va_G) (cA : Nat → ClassId) (aX : Nat) (u : S0_) (ro : Nat → Nat) (ov : Value) (L : Nat) (xs : Nat → Int32) (h0 sz : Nat) : Array Value → State → Prop := va_Pc [.ref h0] (fun U => U.heap.size = sz ∧ va_P D vwCl (WQ_ cA h0 aX u) U.heap ∧ va_D (fun _ => True) (WQ_ cA h0 aX u) ∧ Wo_ D cA ro ov (va_A (WQ_ cA h0 aX u) sz) L xs U)
def BcQ (D : va_G) (cA : Nat → ClassId) (A : Nat → Prop) (ro : Nat → Nat) (L : Nat) (xs : Nat → Int32) (adr : Nat → Nat) (t : State) : Prop := (∃ M : mm_, Pi_ D cA (ad9 adr ro) L xs M t.heap ∧ (∀ r : Nat, r ≠ 148 → M r = M00 L xs r) ∧ Wd_ M) ∧ ∀ M : mm_, va_D A (wl_ wd0 nf0 cA NR0 (ad9 adr ro) M)
def mcQ : Nat := tb_210a.length + tb_210b.length
def msQ : Nat := iss_ tb_210a + iss_ tb_210b
theorem Wo_ad {D : va_G} {cA : Nat → ClassId} {ad ad' : Nat → Nat} {ov : Value} {A : Nat → Prop} {L : Nat} {xs : Nat → Int32} {U : State} (h : Wo_ D cA ad ov A L xs U) (he : ∀ r : Nat, 267 ≤ r → ad' r = ad r) : Wo_ D cA ad' ov A L xs U := by
  unfold Wo_ at h ⊢
  rw [he 1000 (by decide), show (fun i => ad' (1001 + i)) = fun i => ad (1001 + i) from funext fun i => he _ (by omega), show (fun i => ad' (1011 + i)) = fun i => ad (1011 + i) from funext fun i => he _ (by omega)]
  refine ⟨h.1, h.2.1, h.2.2.1, h.2.2.2.1, fun i hi => ?_, h.2.2.2.2.2⟩
  rw [he _ (by omega)]
  exact h.2.2.2.2.1 i hi
section C4
variable {l : Launch} {D : va_G} {cA : Nat → ClassId} {ro : Nat → Nat} {ov : Value} {L : Nat} {xs : Nat → Int32} {aX : Nat} {u : S0_}
set_option maxHeartbeats 4000000 in
set_option maxRecDepth 100000 in
theorem cm_210 (hall : ∀ n ∈ mids0, okn_ n = true) (hov : ov.category = 1) (hL : L < 2147483648) (hu : p0_ u) (h0 sz : Nat) : Met l (yI 4) (.code (yI 4) prog_8_method_1_code 6 none :: lw_all) { frames := 10, cells := mcQ, slots := msQ, locals := 800 } (PcQ D cA aX u ro ov L xs h0 sz) (va_Qv (fun adr : Nat → Nat => h0 = adr 0 ∧ aX = adr 1) (BcQ D cA (va_A (WQ_ cA h0 aX u) sz) ro L xs) (va_A (WQ_ cA h0 aX u) sz)) mcQ msQ (va_A (WQ_ cA h0 aX u) sz) := by
  refine Met.ofW (cc := prog_8_method_1_code) (maxL := 6) (ret := none) (by decide) rfl ?_
  intro p e s m args below meth c s₁ B hml hv
  obtain ⟨rfl, hsz, hP, hD0, hWo⟩ := hv
  have hx := B.exec
  have hb := B.bytes
  have hr := B.returns
  have hts0 := atoms_spec (ws := .code (yI 4) prog_8_method_1_code 6 none :: lw_all) B.pre
  have hts : ∀ w ∈ lw_all, w.before _ s = true := fun w hw => hts0 w (List.mem_cons_of_mem _ hw)
  have hown : s.vm.findClass (cn1 4) = some m.cls := findClass_of_methodNamed B.named
  have hlocks := B.notSynchronized
  have hin : meth.name = "<init>" := (name_of_methodNamed B.named B.method).1
  have htab : c.exceptionTable.toList.map (fun h => (h.startPc, h.endPc, h.handlerPc, h.catchType)) = [] := by
    obtain ⟨meth', c', g1, g2, -, -, -, -, g7, -⟩ := Cond.code_spec B.named (hts0 _ List.mem_cons_self)
    cases B.method.symm.trans g1
    cases (Stand.of_body B).code.symm.trans g2
    have : c.exceptionTable = #[] := by simpa using g7
    rw [this]; rfl
  have hK := hWo.1
  subst hsz
  have hD := hD0.self (sz := s.heap.size)
  generalize hAe : va_A (WQ_ cA h0 aX u) s.heap.size = A at hD hWo ⊢
  have hA : ∀ q : Nat, s.heap.size ≤ q → A q := fun q h => by rw [← hAe]; exact Or.inr h
  have hS : va_S A s.heap s.heap [] := va_S.rf
  have hl9 := lv_entry ([.ref h0]) (n := 6) (Nat.le_of_ble_eq_true rfl)
  rw [lg_entry_eq]
  generalize (lg_sl ([.ref h0]) ++ List.replicate (6 - (lg_sl ([.ref h0])).length) Slot.unset).toArray = ls at hl9 ⊢
  have hl9 : lv_has ls 6 [(0, .ref h0)] := hl9
  have n0 := dfl_len 4
  refine lv_aload_n hx hb (by decide +kernel : decode prog_8_method_1_code 0 = .ok (.aload_n 0, 1)) rfl (lv_at hl9 0 rfl) ?_
  refine W.objInit hx hb hown (hts _ wo_l4) (hts _ wo_in) (hts _ wo_co) rfl (by rw [hml]; exact hl9.1) rfl (by decide +kernel : decode prog_8_method_1_code 1 = .ok (.invokespecial 3, 3)) (Nat.le_of_ble_eq_true rfl) (Nat.le_of_ble_eq_true rfl) ?_
  refine W.eq (g2 := F0 m 4 ls []) rfl ?_
  refine ini_seg (o := 4) (ci := 4) (A := A) hx hb hts hown hin hK (by decide) hA (lv_at hl9 0 rfl) tb_210a 4 (dfl_ 4) (wB0_ cA aX u) s.heap [] 0 0 tb_210a_ok hP hD hS n0 (by show 0 + tb_210a.length ≤ tb_210a.length + tb_210b.length; omega) (by show 0 + iss_ tb_210a ≤ iss_ tb_210a + iss_ tb_210b; omega) (fun qa H locs ea hP hD hS => ?_)
  rw [tb_210a_e]
  refine lv_aload_n hx hb (by decide +kernel : decode prog_8_method_1_code 765 = .ok (.aload_n 0, 1)) rfl (lv_at hl9 0 rfl) ?_
  refine lv_iconst hx hb (by decide +kernel : decode prog_8_method_1_code 766 = .ok (.iconst (-1), 1)) rfl ?_
  refine wx_putZ (f := 119) (x := Int32.ofInt (-1)) hx hb hts hown hK (by decide) (by decide +kernel) hP hD hS (by rw [fso_len]; exact n0) (by decide +kernel : decode prog_8_method_1_code 767 = .ok (.putfield 283, 3)) (fun H locs hP hD hS => ?_)
  refine ini_seg (o := 4) (ci := 4) (A := A) hx hb hts hown hin hK (by decide) hA (lv_at hl9 0 rfl) tb_210b 770 _ _ H locs _ _ tb_210b_ok hP hD hS (by rw [List.length_set, fso_len]; exact n0) (by show 0 + tb_210a.length + tb_210b.length ≤ tb_210a.length + tb_210b.length; omega) (by show 0 + iss_ tb_210a + iss_ tb_210b ≤ iss_ tb_210a + iss_ tb_210b; omega) (fun qb H locs eb hP hD hS => ?_)
  rw [tb_210b_e, show 0 + tb_210a.length + tb_210b.length = mcQ by show _ = tb_210a.length + tb_210b.length; omega, show 0 + iss_ tb_210a + iss_ tb_210b = msQ by show _ = iss_ tb_210a + iss_ tb_210b; omega]
  refine wx_ldcwS hx hb hown (hWo.2.2.2.2.1 2 (by decide)) (by decide +kernel : decode prog_8_method_1_code 1038 = .ok (.ldc_w 384, 3)) ?_
  obtain ⟨adr, ew, e0, e1⟩ := world_ex (cA := cA) (h0 := h0) (aX := aX) hu ea eb
  rw [ew] at hP hD
  have hDD := D_first (ro := ro) hD
  have hPi := P_first (ro := ro) (M := M00 L xs) (fun r hr i => M00_lt hr i) hP
  have hWo2 : Wo_ D cA (ad9 adr ro) ov A L xs s := Wo_ad hWo (fun r hr => by unfold ad9; rw [if_neg (by omega)])
  have cx : Cx_ p l { frames := 10, cells := mcQ, slots := msQ, locals := 800 } s m #[Value.ref h0] meth c mcQ msQ prog_8_method_1_code 6 4 none [] D cA (ad9 adr ro) ov A L xs := ⟨⟨hx, hb, hml⟩, hown, hts, ⟨hr, hlocks, htab⟩, hWo2, hDD, hov, ⟨by decide, by decide, Nat.le_refl _, Nat.le_refl _⟩, hL⟩
  have cl := clo_ (e := e) (below := below) (Q := MQ below (va_Qv (fun adr : Nat → Nat => h0 = adr 0 ∧ aX = adr 1) (BcQ D cA A ro L xs) A) #[Value.ref h0] s mcQ msQ A) (Qr := fun vs M => vs = [] ∧ (∀ r : Nat, r ≠ 148 → M r = M00 L xs r) ∧ Wd_ M) cx (md := m_210b) rfl okb210 (d := 9) (by decide) (by decide) (fun n hn as M Qr Qt h => snd_ hall hDD hov hL 9 n hn as M Qr Qt h) (fun pc len a i b tb ls st M g1 g2 hi hex => by
    rcases hi with rfl | rfl | rfl | rfl | rfl
    · simp only [ex_] at hex
      split at hex
      · rw [if_neg (by decide), if_neg (by decide), if_neg (by decide), if_neg (by decide)] at hex; exact hex.elim
      · exact hex.elim
    · simp only [ex_] at hex
      split at hex
      · rw [if_neg (by decide)] at hex; exact hex.elim
      · exact hex.elim
    · simp only [ex_] at hex
      split at hex
      · rw [if_neg (fun h => absurd h.1 (by decide))] at hex; exact hex.elim
      · exact hex.elim
    · simp only [oki_, beq_iff_eq] at g2
      subst g2
      simp only [ex_] at hex
      rw [if_pos (show m_210b.2.2.1 = 0 from rfl)] at hex
      split at hex
      · intro H locs lsm hP hR hO hS hl hv
        exact W.vret hx hb hr (fun t ht hW => ⟨⟨adr, rfl, ⟨e0, e1⟩, ⟨M, by rw [ht]; exact ⟨hP, hR, hO⟩, hex.2.1, hex.2.2⟩, hDD⟩, hS.F ht⟩) hS.2.2 g1
      · exact hex.elim
    · simp only [ex_] at hex
      split at hex
      · split at hex
        · exact hex.elim
        · exact hex.elim
      · exact hex.elim)
  have V := x_210 (d := 5) (M := M00 L xs) cl Wm_wk (ro_3 M00_Ro) (fun M' g1 g2 => ⟨rfl, g1, g2⟩)
  refine V H locs ls hPi M00_Rg M00_Ro hS ⟨rfl, hl9.1, hl9.2.1, fun k v hk => ?_⟩ (List.forall_mem_cons.mpr ⟨trivial, fun v hv => absurd hv List.not_mem_nil⟩)
  match k, hk with
  | 0, hk =>
    cases hk
    refine ⟨trivial, ?_⟩
    have h1 := lv_at hl9 0 rfl
    rw [h1, e0]
    rfl
  | 1, hk => cases hk
  | 2, hk => cases hk
  | 3, hk => cases hk
  | 4, hk => cases hk
  | 5, hk => cases hk
  | n + 6, hk => cases hk
end C4
end M484_c4
section M485_ws
/-! the law from its entry -/
def tmZ (i : Nat) : Term := .string (cn1 (st0_.getD i (0, 0)).1) (st0_.getD i (0, 0)).2
def FF0 : List Cond := flatC (Jvm.Cond.and given_1 narrow_1)
def pS0 : List Nat := [35, 298, 320]
def sgS (i : Nat) : List Cond := [.exactly (tmZ i) "java/lang/String", .eq (.field (tmZ i) "java/lang/String" "coder" "B") (.int 0), .arrayOf (.field (tmZ i) "java/lang/String" "value" "[B") .byte, .eq (.length (.field (tmZ i) "java/lang/String" "value" "[B")) (.int (Int32.ofNat (sl0.getD i 0)))] ++ (List.range (sl0.getD i 0)).map (fun j => Cond.eq (.elem (.field (tmZ i) "java/lang/String" "value" "[B") (.int (Int32.ofNat j))) (.int ((sb0.getD i []).getD j 0)))
set_option maxRecDepth 100000 in
theorem sgS_ok : ∀ i, i < 3 → (FF0.drop (pS0.getD i 0)).take (4 + sl0.getD i 0) = sgS i := by decide +kernel
theorem sgS_in {i : Nat} (hi : i < 3) {w : Cond} (h : w ∈ sgS i) : w ∈ FF0 := by
  rw [← sgS_ok i hi] at h
  exact List.mem_of_mem_drop (List.mem_of_mem_take h)
theorem arrK_of {s : State} {args : Array Value} {ty : FieldType} (h : (Cond.arrayClass ty).before args s = true) : ∃ cA : ClassId, ArrOfT s cA ty ∧ s.vm.findClass ("[" ++ ty.toString) = some cA := by
  obtain ⟨cA, kA, comp, h1, h2, h3⟩ := Cond.arrayClass_spec h
  exact ⟨cA, fun n z => ⟨fun k h => (by cases h), kA, h2, comp, h3⟩, h1⟩
section WS1
variable {s : State} {args : Array Value}
theorem K_ex (hts : ∀ w ∈ lw_all, w.before args s = true) : ∃ (D : va_G) (cA : Nat → ClassId), va_K D vwCl (tys_ cA) s := by
  have hk : ∀ ci, ci < 5 → ∃ (cC : ClassId) (iS : Nat → Nat), u_Kn s (cn1 ci) (tt0 ci) (nf0 ci) cC iS := fun ci hci => by
    obtain ⟨f1, f2, f3, f4⟩ := cls_facts hci
    refine u_known (n := nf0 ci) hts f2 (hts _ ?_)
    rcases (show ci = 0 ∨ ci = 1 ∨ ci = 2 ∨ ci = 3 ∨ ci = 4 by omega) with rfl | rfl | rfl | rfl | rfl
    · exact wb_0
    · exact wb_1
    · exact wb_2
    · exact wb_3
    · exact wb_4
  obtain ⟨c0, i0, k0⟩ := hk 0 (by decide)
  obtain ⟨c1, i1, k1⟩ := hk 1 (by decide)
  obtain ⟨c2, i2, k2⟩ := hk 2 (by decide)
  obtain ⟨c3, i3, k3⟩ := hk 3 (by decide)
  obtain ⟨c4, i4, k4⟩ := hk 4 (by decide)
  obtain ⟨c5, i5, k5⟩ := u_known (C := RJ3) (T := TX0) (N := 0) (n := 6) hts (fun w hw => by simp [u_ws] at hw) (hts (.instantiable RJ3 6) (lw_g (lw_at lw_m2 51 rfl) rfl))
  obtain ⟨a1, b1, d1⟩ := arrK_of (hts _ (qa_in (k := 1) (by decide) (by decide)))
  obtain ⟨a2, b2, d2⟩ := arrK_of (hts _ (qa_in (k := 2) (by decide) (by decide)))
  obtain ⟨a3, b3, d3⟩ := arrK_of (hts _ (qa_in (k := 3) (by decide) (by decide)))
  obtain ⟨a4, b4, d4⟩ := arrK_of (hts _ (qa_in (k := 4) (by decide) (by decide)))
  refine ⟨(fun k => [c0, c1, c2, c3, c4, c5].getD k c0, fun k => [i0, i1, i2, i3, i4, i5].getD k i0), fun k => [a1, a1, a2, a3, a4].getD k a1, fun k q hq => ?_, fun k q hq => ?_⟩
  · match k, hq with
    | 0, hq => cases hq; exact k0
    | 1, hq => cases hq; exact k1
    | 2, hq => cases hq; exact k2
    | 3, hq => cases hq; exact k3
    | 4, hq => cases hq; exact k4
    | 5, hq => cases hq; exact k5
    | k + 6, hq => simp [vwCl] at hq
  · match k, hq with
    | 0, hq => cases hq; exact ⟨b1, d1⟩
    | 1, hq => cases hq; exact ⟨b2, d2⟩
    | 2, hq => cases hq; exact ⟨b3, d3⟩
    | 3, hq => cases hq; exact ⟨b4, d4⟩
    | k + 4, hq => simp [tys_] at hq
theorem nw_of {w : Cond} (hw : w.onTables = true) (h : w.before args s = true) : va_Nw w s := va_Nw.of hw h
theorem nw0_in {w : Cond} (h : w ∈ nw0) : w ∈ lw_tbl := by
  obtain ⟨q, hq, rfl⟩ := List.mem_map.mp h
  exact (fl_word (List.mem_filter.mp hq).1).1
theorem wrong_R {own : String} {k : Nat} (h1 : (Cond.stringRef own k "wrong").before args s = true) (h2 : (Cond.exactly (.string own k) "java/lang/String").before args s = true) : ∃ a, vk_R own k "wrong" a s := by
  obtain ⟨a, c, cA, kA, q1, -⟩ := Cond.exactly_spec (args := args) (first := s) (o := none) (s := s) (idx := []) (t := .string own k) (cls := "java/lang/String") h2
  exact ⟨a, vk_R.of h1 q1⟩
set_option maxRecDepth 100000 in
theorem ZZ_ex (hts : ∀ w ∈ lw_tbl, w.before args s = true) (hgv : ∀ w ∈ FF0, w.before args s = true) : ZZ s s.heap := by
  have hl1 := hts (.laysStatic Bundle.tN "UNASSIGNED_STACK" Bundle.steD) (lw_at lw_m2 77 rfl)
  have hl2 := hts (.laysStatic Bundle.tN "SUPPRESSED_SENTINEL" Bundle.listD) (lw_at lw_m2 79 rfl)
  have hi := hts (.initialized Bundle.tN) (lw_at lw_m1 4 rfl)
  refine ⟨⟨va_Zqof hl1 hi (hgv _ (List.mem_of_getElem? (i := 4) rfl)) (fun _ _ h => h), va_Zqof hl2 hi (hgv _ (List.mem_of_getElem? (i := 5) rfl)) (fun _ _ h => h)⟩, ⟨wrong_R (hts (.stringRef (cn1 1) 20 "wrong") (lw_at lw_m2 89 rfl)) (hgv _ (List.mem_of_getElem? (i := 16) rfl)), wrong_R (hts (.stringRef (cn1 0) 462 "wrong") (lw_at lw_m3 178 rfl)) (hgv _ (List.mem_of_getElem? (i := 25) rfl))⟩, fun w hw => ?_, fun w hw => ?_, lyS.of hl1, lyS.of hl2⟩
  · simp only [nm0, List.mem_cons, List.not_mem_nil, or_false] at hw
    rcases hw with rfl | rfl | rfl | rfl
    · exact nw_of rfl (hts _ (lw_at lw_m2 11 rfl))
    · exact nw_of rfl (hts _ (lw_at lw_m2 5 rfl))
    · exact nw_of rfl (hts _ (lw_at lw_m2 230 rfl))
    · exact nw_of rfl (hts _ (lw_at lw_m3 182 rfl))
  · simp only [nx0, List.mem_cons, List.not_mem_nil, or_false] at hw
    rcases hw with rfl | rfl | rfl | rfl
    · exact nw_of rfl (hts _ (lw_at lw_m2 52 rfl))
    · exact nw_of rfl (hts _ (lw_at lw_m2 54 rfl))
    · exact nw_of rfl (hts _ (lw_at lw_m2 56 rfl))
    · exact nw_of rfl (hts _ (lw_at lw_m2 58 rfl))
set_option maxRecDepth 100000 in
theorem Wo_ex {b L : Nat} {xs : Nat → Int32} (hts : ∀ w ∈ lw_tbl, w.before args s = true) (hgv : ∀ w ∈ FF0, w.before args s = true) (hX : va_X b L xs s s.heap) (hbl : b < s.heap.size) {D : va_G} {cA : Nat → ClassId} (hK : va_K D vwCl (tys_ cA) s) : ∃ (ro : Nat → Nat) (ov : Value), ov.category = 1 ∧ ro 1000 = b ∧ Wo_ D cA ro ov (fun q => s.heap.size ≤ q) L xs s := by
  have hA : ∀ a : Nat, a < s.heap.size → ¬ (fun q : Nat => s.heap.size ≤ q) a := fun a h => Nat.not_le.mpr h
  have m4 : ∀ i : Nat, i < 3 → ∀ (k : Nat) (w : Cond), (sgS i)[k]? = some w → w.before args s = true := fun i hi k w h => hgv w (sgS_in hi (List.mem_of_getElem? h))
  obtain ⟨aK, aV, hE, hR⟩ := vk_Sof (args := args) (s := s) (N := 3) (tm := tmZ) (len := sl0) (byt := sb0) (A := fun q => s.heap.size ≤ q) (by decide) (fun i hi => m4 i hi 0 _ rfl) (fun i hi => m4 i hi 1 _ rfl) (fun i hi => m4 i hi 2 _ rfl) (fun i hi => m4 i hi 3 _ rfl) (fun i hi j hj => hgv _ (sgS_in hi (List.mem_append_right _ (List.mem_map.mpr ⟨j, List.mem_range.mpr hj, rfl⟩)))) (fun i j hi hj hne => by
    have h01 : (Cond.not (Cond.eq (tmZ 0) (tmZ 1))).before args s = true := hgv _ (List.mem_of_getElem? (i := 319) rfl)
    have h02 : (Cond.not (Cond.eq (tmZ 0) (tmZ 2))).before args s = true := hgv _ (List.mem_of_getElem? (i := 582) rfl)
    have h12 : (Cond.not (Cond.eq (tmZ 1) (tmZ 2))).before args s = true := hgv _ (List.mem_of_getElem? (i := 583) rfl)
    rcases (show i = 0 ∨ i = 1 ∨ i = 2 by omega) with rfl | rfl | rfl <;> rcases (show j = 0 ∨ j = 1 ∨ j = 2 by omega) with rfl | rfl | rfl
    · exact absurd rfl hne
    · exact .inl h01
    · exact .inl h02
    · exact .inr h01
    · exact absurd rfl hne
    · exact .inl h12
    · exact .inr h02
    · exact .inr h12
    · exact absurd rfl hne) hA
  have hc := va_Zof (A := fun q => s.heap.size ≤ q) (hts (.laysStatic "java/lang/String" "COMPACT_STRINGS" "Z") (lw_at lw_m5 52 rfl)) (hts (.initialized "java/lang/String") (lw_at lw_m1 10 rfl)) (va_eqi (hgv (.eq (.static "java/lang/String" "COMPACT_STRINGS" "Z") (.int 1)) (List.mem_of_getElem? (i := 6) rfl))) hA
  have hsio := va_Zqof (A := fun q => s.heap.size ≤ q) (hts (.laysStatic "jdk/internal/util/Preconditions" "SIOOBE_FORMATTER" "Ljava/util/function/BiFunction;") (lw_at lw_m5 92 rfl)) (hts (.initialized "jdk/internal/util/Preconditions") (lw_at lw_m1 12 rfl)) (hgv (.isRef (.static "jdk/internal/util/Preconditions" "SIOOBE_FORMATTER" "Ljava/util/function/BiFunction;")) (List.mem_of_getElem? (i := 7) rfl)) hA
  obtain ⟨ov, ho1, ho2⟩ : ∃ ov : Value, ov.category = 1 ∧ va_Z "jdk/internal/util/Preconditions" "SIOOBE_FORMATTER" "Ljava/util/function/BiFunction;" ov (fun q => s.heap.size ≤ q) s s.heap := by
    rcases hsio with h | ⟨t, h⟩
    · exact ⟨.null, rfl, h⟩
    · exact ⟨.ref t, rfl, h⟩
  have r0 : vk_R (cn1 2) 71 (stx0.getD 0 "") (aK 0) s := vk_R.of (hts _ (lw_at lw_m5 42 rfl)) (hR 0 (by decide))
  have r1 : vk_R (cn1 2) 64 (stx0.getD 1 "") (aK 1) s := vk_R.of (hts _ (lw_at lw_m5 146 rfl)) (hR 1 (by decide))
  have r2 : vk_R (cn1 4) 384 (stx0.getD 2 "") (aK 2) s := vk_R.of (hts _ (lw_at lw_m7 160 rfl)) (hR 2 (by decide))
  refine ⟨fun r => if r = 1000 then b else if 1001 ≤ r ∧ r ≤ 1003 then aK (r - 1001) else aV (r - 1011), ov, ho1, rfl, hK, fun w hw => ?_, ⟨hX, hbl, Nat.not_le.mpr hbl⟩, ?_, fun i hi => ?_, hc, ho2⟩
  · have h1 := hts w (nw0_in hw)
    obtain ⟨a, i, b, n, d, q, rfl⟩ := nw0_form hw
    exact nw_of rfl h1
  · refine ⟨fun i hi => ?_, fun i j hi hj h => ?_⟩
    · have h := hE.1 i hi
      dsimp only
      rw [if_neg (by omega), if_pos (by omega), if_neg (by omega), if_neg (by omega), show 1001 + i - 1001 = i by omega, show 1011 + i - 1011 = i by omega]
      exact h
    · dsimp only at h
      rw [if_neg (by omega), if_pos (by omega), if_neg (by omega), if_pos (by omega), show 1001 + i - 1001 = i by omega, show 1001 + j - 1001 = j by omega] at h
      exact hE.2 i j hi hj h
  · dsimp only
    rw [if_neg (by omega), if_pos (by omega), show 1001 + i - 1001 = i by omega]
    rcases (show i = 0 ∨ i = 1 ∨ i = 2 by omega) with rfl | rfl | rfl
    · exact r0
    · exact r1
    · exact r2
theorem Wo_nar {D : va_G} {cA : Nat → ClassId} {ad : Nat → Nat} {ov : Value} {A B : Nat → Prop} {L : Nat} {xs : Nat → Int32} {U : State} (h : Wo_ D cA ad ov A L xs U) (hAB : ∀ q, B q → A q) : Wo_ D cA ad ov B L xs U := by
  obtain ⟨h1, h2, ⟨h3, h4, h5⟩, h6, h7, h8, h9⟩ := h
  exact ⟨h1, h2, ⟨h3, h4, fun z => h5 (hAB _ z)⟩, h6.narrow hAB, h7, h8.narrow hAB, h9.narrow hAB⟩
end WS1
end M485_ws
section M486_wt
/-! the law's body, from its entry to its loop -/
section WT1
variable {D : va_G} {cA : Nat → ClassId} {A : Nat → Prop} {H : Heap} {ws : va_W} {x : Nat × va_E}
theorem P_fr (h : va_P D vwCl (ws ++ [x]) H) : va_P D vwCl (x :: ws) H := by
  intro k q hk
  have hm := List.mem_of_getElem? hk
  have hm2 : q ∈ ws ++ [x] := by
    rcases List.mem_cons.mp hm with e | e
    · rw [e]; exact List.mem_append_right _ (List.mem_singleton.mpr rfl)
    · exact List.mem_append_left _ e
  obtain ⟨i, hi⟩ := List.getElem?_of_mem hm2
  exact h i q hi
theorem D_fr (h : va_D A (ws ++ [x])) : va_D A (x :: ws) := by
  have key : ∀ (k : Nat) (q : Nat × va_E), (x :: ws)[k]? = some q → (k = 0 ∧ (ws ++ [x])[ws.length]? = some q) ∨ (1 ≤ k ∧ k - 1 < ws.length ∧ (ws ++ [x])[k - 1]? = some q) := fun k q hk => by
    cases k with
    | zero =>
      refine .inl ⟨rfl, ?_⟩
      rw [List.getElem?_append_right (Nat.le_refl _), Nat.sub_self]
      exact hk
    | succ k =>
      rw [List.getElem?_cons_succ] at hk
      have hl := (List.getElem?_eq_some_iff.mp hk).1
      refine .inr ⟨by omega, by omega, ?_⟩
      rw [Nat.add_sub_cancel, List.getElem?_append_left hl]
      exact hk
  refine ⟨fun i j p q hi hj e => ?_, fun k q hk => ?_⟩
  · rcases key i p hi with ⟨i1, i2⟩ | ⟨i1, i2, i3⟩ <;> rcases key j q hj with ⟨j1, j2⟩ | ⟨j1, j2, j3⟩
    · omega
    · have := h.1 _ _ _ _ i2 j3 e; omega
    · have := h.1 _ _ _ _ i3 j2 e; omega
    · have := h.1 _ _ _ _ i3 j3 e; omega
  · rcases key k q hk with ⟨i1, i2⟩ | ⟨i1, i2, i3⟩
    · exact h.2 _ _ i2
    · exact h.2 _ _ i3
end WT1
set_option maxHeartbeats 4000000 in
set_option maxRecDepth 100000 in
theorem whole_in {p : Program} {e : Env} {s : State} {m : MethodId} {below : List Frame} {meth : Method} {c : Code} (l : Launch) {b L : Nat} {xs : Nat → Int32} (hL : L ≤ 384) (C0 : lw_At p s m meth c b L xs) (htl : l.stackTraces = false) (htab : c.exceptionTable.toList.map (fun h => (h.startPc, h.endPc, h.handlerPc, h.catchType)) = []) (hall : ∀ n ∈ mids0, okn_ n = true)
    (hlaw : ∀ (V : vv_) (M : mm_), Cl_ wd0 lwD V (fun vs _ => vs = [.inl 1]) (fun _ _ => False) m_450 → Wk_ V → (∀ r : Nat, r ≠ 148 → M r = M00 L xs r) → Wd_ M → RO_ M → V 18 [rr 1000, rr 0, rr 6, ii 0] [] M) :
    W p l e room_1 s m #[Value.ref b] below meth c s.heap [] 0 0 (lw_Z below #[Value.ref b] s) (entryFrame m ([Value.ref b] : List Value).toArray 4) := by
  obtain ⟨hx, hb, hr, hml, hown, hts9, hX, hbl, hlocks, hgv9⟩ := id C0
  have hgv : ∀ w ∈ FF0, w.before #[Value.ref b] s = true := flat_of_before _ hgv9
  have hts : ∀ w ∈ lw_all, w.before #[Value.ref b] s = true := fun w hw => hts9 w (List.mem_filter.mp hw).1
  have hown : s.vm.findClass (cn1 10) = some m.cls := hown
  obtain ⟨D, cA, hK⟩ := K_ex hts
  have hZ := ZZ_ex hts9 hgv
  obtain ⟨ro, ov, hov, hro, hWo⟩ := Wo_ex hts9 hgv hX hbl hK
  have hA : ∀ q : Nat, s.heap.size ≤ q → (fun q : Nat => s.heap.size ≤ q) q := fun _ h => h
  have hA2 : ∀ q : Nat, (fun q : Nat => s.heap.size ≤ q) q → ∀ cell : Cell, s.heap[q]? = some cell → cell.vm.isStatics = false := fun q h cell hc => by
    have h : s.heap.size ≤ q := h
    have := (Array.getElem?_eq_some_iff.mp hc).1
    omega
  generalize hAe : (fun q : Nat => s.heap.size ≤ q) = A at hA hA2 hWo
  have hS : va_S A s.heap s.heap [] := va_S.rf
  have hP : va_P D vwCl [] s.heap := fun k q h => by simp at h
  have hD : va_D A [] := ⟨fun i j p q h => by simp at h, fun k q h => by simp at h⟩
  have hl := lv_entry ([.ref b]) (n := 4) (Nat.le_of_ble_eq_true rfl)
  rw [lg_entry_eq]
  generalize (lg_sl ([.ref b]) ++ List.replicate (4 - (lg_sl ([.ref b])).length) Slot.unset).toArray = ls at hl ⊢
  have hl : lv_has ls 4 [(0, .ref b)] := hl
  refine wx_con (iN := 7) (iC := 9) (cm_51 htl) rfl rfl hx hb hml hl.1 hown hts (by decide) wl_7 wb_0 wn_0 wk_51 wi_51 (.inr wm_9) hK hP hD hS hA hA2 hZ (by decide +kernel : decode code 0 = .ok (.new 7, 3)) (by decide +kernel : decode code 3 = .ok (.dup, 1)) (by decide +kernel : decode code 4 = .ok (.invokespecial 9, 3)) (by decide +kernel) (by decide +kernel) (by decide) (by decide) (Nat.le_of_ble_eq_true rfl) (fun u aX H locs hu hP hD hS => ?_)
  rw [List.nil_append] at hP hD
  refine lv_astore_n (lv' := [(1, .ref aX), (0, .ref b)]) hx hb (by decide +kernel : decode code 7 = .ok (.astore_n 1, 1)) rfl hl (by decide) rfl (fun ls hl => ?_)
  obtain ⟨f1, f2, f3, f4⟩ := cls_facts (ci := 4) (by decide)
  refine va_new (ci := 4) (fs := dfl_ 4) (C := cn1 4) (T := tt0 4) (N := nf0 4) hx hb hts f2 (tz0 4) f4 hown (hts _ wl_10) (hts _ wb_4) (hts _ wn_4) (tys := tys_ cA) hK hP hD hS hA f1 (fun j hj => dfl_ok (by decide) hj) (by decide +kernel) (by decide +kernel) (by decide +kernel : decode code 8 = .ok (.new 10, 3)) (fun q4 H hP hD hS => ?_)
  refine lv_dup hx hb (by decide +kernel : decode code 11 = .ok (.dup, 1)) rfl ?_
  have hP := P_fr hP
  have hD := D_fr hD
  have hP : va_P D vwCl (WQ_ cA q4 aX u) H := hP
  have hD : va_D A (WQ_ cA q4 aX u) := hD
  have hFc : ∀ q, va_A (WQ_ cA q4 aX u) H.size q → A q := fun q h => by
    rcases h with ⟨k, e9, h⟩ | h
    · exact hD.2 k _ h
    · exact hA q (Nat.le_trans hS.1 h)
  have hPre : PreS s H (PcQ D cA aX u ro ov L xs q4 H.size) [.ref q4] := ⟨fun a U g mk q => by
      obtain ⟨z0, z1, zP, zD, zW⟩ := q
      exact ⟨z0, z1, zP, zD, Wo_move (U := U.calling g mk a) zW va_S.rf rfl (State.WarmedH.refl U)⟩, fun U hU hW => ⟨rfl, by rw [hU], by rw [hU]; exact hP, hD.weaken (fun _ _ _ _ => trivial), Wo_nar (Wo_move hWo hS hU hW) hFc⟩⟩
  have hrun := va_runI (e := e) (R := room_1) (locs := locs) (below := below) (meth := meth) (cells := 0 + 1 + mcX + 1) (slots := 0 + nf0 0 + msX + nf0 4) (g := F0 m 12 ls [.ref q4, .ref q4]) (As := []) (rest := [.ref q4]) ⟨hx, hb, hml, hown, hts⟩ (cm_210 (l := l) (D := D) (cA := cA) (ro := ro) (xs := xs) (aX := aX) hall hov (by omega) hu q4 H.size) (cwI 0 hts (gdK_ wk_210) rfl rfl rfl (hts _ wn_4) (hts _ wm_12) (hts _ wi_210) rfl (by decide +kernel) ⟨by decide, by decide⟩) hPre rfl rfl hl.1 rfl (lv_room (Nat.le_of_ble_eq_true rfl)) (by decide +kernel : decode code 12 = .ok (.invokespecial 12, 3)) ⟨by decide +kernel, by decide +kernel⟩
  refine va_callv hrun hS (fun q _ h => hFc q h) hFc (fun adr t H1 locs1 ht hvm h5 hB hz1 hk1 hS => ?_)
  obtain ⟨⟨M, ⟨hP1, hR1, hO1⟩, hM0, hWd⟩, hDD⟩ := hB
  rw [ht] at hP1
  have hDD : ∀ M : mm_, va_D A (wl_ wd0 nf0 cA NR0 (ad9 adr ro) M) := fun M => (hDD M).weaken (fun _ _ _ h => hFc _ h)
  refine lv_astore_n (lv' := [(2, .ref q4), (1, .ref aX), (0, .ref b)]) hx hb (by decide +kernel : decode code 15 = .ok (.astore_n 2, 1)) rfl hl (by decide) rfl (fun ls hl => ?_)
  refine lv_iconst (v := 0) hx hb (by decide +kernel : decode code 16 = .ok (.iconst 0, 1)) (by decide) ?_
  refine lv_istore_n (lv' := [(3, .int 0), (2, .ref q4), (1, .ref aX), (0, .ref b)]) hx hb (by decide +kernel : decode code 17 = .ok (.istore_n 3, 1)) rfl hl (by decide) rfl (fun ls hl => ?_)
  have hWo2 : Wo_ D cA (ad9 adr ro) ov A L xs s := Wo_ad hWo (fun r hr => by unfold ad9; rw [if_neg (by omega)])
  subst hAe
  have hcc : 0 + 1 + mcX + 1 + mcQ ≤ 600128 ∧ 0 + nf0 0 + msX + nf0 4 + msQ ≤ 7301098 := by decide +kernel
  have cx : Cx_ p l room_1 s m #[Value.ref b] meth c (0 + 1 + mcX + 1 + mcQ) (0 + nf0 0 + msX + nf0 4 + msQ) code 4 10 ret [] D cA (ad9 adr ro) ov (fun q => s.heap.size ≤ q) L xs := ⟨⟨hx, hb, hml⟩, hown, hts, ⟨hr, hlocks, htab⟩, hWo2, hDD, hov, ⟨by decide, by decide, hcc.1, hcc.2⟩, by omega⟩
  have cx2 : Cx_ p l room_1 s m #[Value.ref b] meth c (0 + 1 + mcX + 1 + mcQ) (0 + nf0 0 + msX + nf0 4 + msQ) code 4 10 ret [] D cA (fun x => ad9 adr ro (sg_ x)) ov (fun q => s.heap.size ≤ q) L xs := ⟨⟨hx, hb, hml⟩, hown, hts, ⟨hr, hlocks, htab⟩, Wo_sw hWo2, wl_swD hDD, hov, ⟨by decide, by decide, hcc.1, hcc.2⟩, by omega⟩
  have cl := law_cl (e := e) (below := below) cx cx2 hall hcc
  have V := hlaw _ M cl VL_wk hM0 hWd (ro_1 hO1)
  have hok : okP 18 [rr 1000, rr 0, rr 6, ii 0] [] := by
    refine ⟨Nat.le_refl _, fun k v hk => ?_, fun v hv => absurd hv List.not_mem_nil⟩
    match k, hk with
    | 0, hk => cases hk; show sg_ 1000 = 1000; decide
    | 1, hk => cases hk; show sg_ 0 = 0; decide
    | 2, hk => cases hk; show sg_ 6 = 6; decide
    | 3, hk => cases hk; trivial
    | n + 4, hk => cases hk
  refine (V hok).1 H1 locs1 ls hP1 hR1 hO1 hS ⟨rfl, hl.1, hl.2.1, fun k v hk => ?_⟩ (fun v hv => absurd hv List.not_mem_nil)
  match k, hk with
  | 0, hk =>
    cases hk
    have h1 := lv_at hl 3 rfl
    refine ⟨trivial, ?_⟩
    rw [h1, ← hro]; rfl
  | 1, hk =>
    cases hk
    have h1 := lv_at hl 2 rfl
    refine ⟨trivial, ?_⟩
    rw [h1, h5.2]; rfl
  | 2, hk =>
    cases hk
    have h1 := lv_at hl 1 rfl
    refine ⟨trivial, ?_⟩
    rw [h1, h5.1]; rfl
  | 3, hk =>
    cases hk
    have h1 := lv_at hl 0 rfl
    exact ⟨⟨by decide, by decide⟩, h1⟩
  | n + 4, hk => cases hk
end M486_wt
