section T286_rt
/-! a route whole (X 122 | Q 228 [1] + 245) -/
def RTE (κ ν : Int → Int) (a : Int) (m : Nat) : Prop := (κ (a + 1) = 100 ∧ a + 1 < 1200) ∧ sdO κ (a + 2) ∧ (κ (a + 3) = 114 ∧ a + 3 < 1200) ∧ sdO κ (a + 4) ∧ DLO κ ν (a + 5) ∧ (κ (dle κ (a + 5)) = 23 ∧ dle κ (a + 5) < 1200) ∧ LST κ m (dle κ (a + 5) + 1)
/-- X's row of a route, from its tokens -/
def RTX (M N : mm_) (r a : Int) : Prop := (M 114 (2 * r) = sdv M N (a + 2) ∧ M 114 (2 * r + 1) = sdv M N (a + 4)) ∧ (M 115 r = dlt (M 70) (M 73) (a + 5) ∧ M 116 r = dmt (M 70) (M 73) (a + 5) ∧ M 117 r = dlb (M 70) (a + 5) ∧ M 118 r = drw (M 70) (a + 5)) ∧ ∀ m, LST (M 70) m (dle (M 70) (a + 5) + 1) → M 119 r = lsv N m (dle (M 70) (a + 5) + 1) 0
/-- Q's row of a route, from its tokens -/
def RTQ (M N : mm_) (r a : Int) : Prop := (N 158 r = sdq M N (a + 2) ∧ N 159 r = sdq M N (a + 4)) ∧ (N 162 r = dl7 (M 70) (M 73) (a + 5) ∧ N 163 r = dl8 (M 70) (M 73) (a + 5) ∧ N 166 r = drw (M 70) (a + 5)) ∧ N 165 r = dle (M 70) (a + 5) + 1
section RTh
variable {dq : Nat} {b F F1 r v x : Int} {ns nr np t : Int} {Kv G : mm_ → Prop} {Qt Qtq : qt_} {V V' : vv_} {M N Mx' M' N' M1 N1 : mm_} {a a' : Int}
theorem dle_le [ig : Inhabited gh_] {κ : Int → Int} : a ≤ dle κ a ∧ dle κ a ≤ a + 4 := by
  unfold dle
  split
  · split <;> omega
  · omega
theorem drw_b [ig : Inhabited gh_] {κ : Int → Int} : bl_ (drw κ a) := by
  unfold drw
  split
  · split
    · exact .inr rfl
    · exact .inl rfl
  · exact .inl rfl
theorem RL_32 [ig : Inhabited gh_] (h : RL b F M N a) : RL b F (up_ M 1 32 x) N a := RL_c h (ER_1 h.1.2.1 (up_ne (by decide)) (by rw [up_ne (by decide)]) (fun i hi => up_of2 (fun e => by rw [e] at hi; revert hi; decide)) (fun _ _ => rfl)) (fun k hk => up_ne (fun e => by rw [e] at hk; revert hk; decide)) (up_of2 (by decide)) (by rw [up_of2 (by decide)]; exact h.2.2) (fun _ _ => rfl) ⟨rfl, rfl⟩
theorem sdv_e [ig : Inhabited gh_] (f : RLF b r M N M1 N1) : sdv M1 N1 a = sdv M N a ∧ sdq M1 N1 a = sdq M N a := by
  obtain ⟨_, s2, s3⟩ := RLF_s f
  unfold sdv sdq
  rw [(RLF_70 f).1, s2, s3]; exact ⟨rfl, rfl⟩
/-- from V 103 on -/
theorem y_r103 [ig : Inhabited gh_] {y1 y2 : Int} (hV : Cl_ wd0 (Tr_ wd0 pg0 130) V (rv_ Kv) Qt m_122) (hW : Wk_ V) (ha0 : 0 ≤ a) (h : RL b F M N (a + 2)) (h32 : M 1 32 = nr) (hr : 0 ≤ nr ∧ nr < 10) (h18 : b = 0 → N 6 18 = nr) (hS : b = 1 → ∃ m, RTE (M 70) (M 73) a m) (ho : M 70 (a + 1) = 100 ∧ a + 1 < 1200)
    (hK : ∀ M1 N1 a' m, RL b F M1 N1 a' → RLF b nr (up_ M 1 32 (nr + 1)) N M1 N1 → RTX M1 N1 nr a → RTE (M 70) (M 73) a m → a' = dle (M 70) (a + 5) + 1 + 2 * m → (b = 1 → N1 6 13 = 0 → sdv M N (a + 2) ≠ -1 ∧ sdv M N (a + 4) ≠ -1 ∧ dlt (M 70) (M 73) (a + 5) ≤ dmt (M 70) (M 73) (a + 5)) → (∀ (G : mm_ → Prop) (Qtq : qt_), (b = 0 → G (rqw N1 nr (a + 1) (sdq M N (a + 2)) (sdq M N (a + 4)) (dl7 (M 70) (M 73) (a + 5)) (dl8 (M 70) (M 73) (a + 5)) (drw (M 70) (a + 5)) (dle (M 70) (a + 5) + 1))) → (b = 1 → G N1) → q46 dq nr (a + 1) N G Qtq) → Kv M1)
    (hQ : b = 0 → ∀ Mx', XPb M Mx' → (∀ (G : mm_ → Prop) (Qtq : qt_), (∀ M', SQp Mx' N M' → G M') → q46 dq nr (a + 1) N G Qtq) → Qt 8 Mx') :
    V 103 [rr 1, ii y1, ii y2, none, none, none, none] [] M := by
  have h0 := ER_a h.1.2.1
  refine b_122_103 (Tr_mono _) hV hW _ _ _ ?_
  rw [h32, w32_id (x := nr + 1) (by omega) (by omega), w32_id (x := 2 * nr) (by omega) (by omega), w32_id (x := 2 * nr + 1) (by omega) (by omega)]
  refine ⟨h.1.2.2, ?_⟩
  have R0 := RL_32 (x := nr + 1) h
  have xp : XPb M (up_ M 1 32 (nr + 1)) := fun r hr => up_ne (fun e => hr (by rw [e]; decide))
  have a70 : up_ M 1 32 (nr + 1) 70 = M 70 := up_ne (by decide)
  have a73 : up_ M 1 32 (nr + 1) 73 = M 73 := up_ne (by decide)
  have sda : ∀ y, sdv (up_ M 1 32 (nr + 1)) N y = sdv M N y ∧ sdq (up_ M 1 32 (nr + 1)) N y = sdq M N y := fun y => by unfold sdv sdq; rw [a70]; exact ⟨rfl, rfl⟩
  generalize up_ M 1 32 (nr + 1) = Ma at *
  have s70 : ∀ {M1 N1}, RLF b nr Ma N M1 N1 → M1 70 = M 70 ∧ M1 73 = M 73 := fun f => ⟨(RLF_70 f).1.trans a70, (RLF_70 f).2.1.trans a73⟩
  have s0 : ∀ {M1 N1}, RLF b nr Ma N M1 N1 → ∀ y, sdv M1 N1 y = sdv M N y ∧ sdq M1 N1 y = sdq M N y := fun f y => ⟨(sdv_e f).1.trans (sda y).1, (sdv_e f).2.trans (sda y).2⟩
  have F0 : RLF b nr Ma N Ma N := RLF_rf
  have hS1 : b = 1 → sdO (M 70) (a + 2) ∧ (M 70 (a + 3) = 114 ∧ a + 3 < 1200) ∧ sdO (M 70) (a + 4) ∧ DLO (M 70) (M 73) (a + 5) ∧ (M 70 (dle (M 70) (a + 5)) = 23 ∧ dle (M 70) (a + 5) < 1200) ∧ ∃ m, LST (M 70) m (dle (M 70) (a + 5) + 1) := fun hb => by
    obtain ⟨m, hm⟩ := hS hb
    exact ⟨hm.2.1, hm.2.2.1, hm.2.2.2.1, hm.2.2.2.2.1, hm.2.2.2.2.2.1, m, hm.2.2.2.2.2.2⟩
  clear hS h
  -- the first side
  refine y_123 (dq := dq) R0 (fun hb => by rw [a70]; exact (hS1 hb).1) (fun M1 N1 R1 f1 o1 z1 hq1 => ?_) (fun hb Mx' hx' hq' => ?_)
  rotate_left
  · exact hQ hb Mx' (XPb_tr xp hx') (fun G Qtq hg V' hV' hW' => hq' _ _ fun v M9 p => q_244s p.1 (q_246s p.1 p.2.1 fun v2 => q28_s hV' hW' p.1 (hg _ p)))
  rw [(sda (a + 2)).1]
  rw [(sda (a + 2)).2] at hq1
  rw [(sda (a + 2)).1] at z1
  rw [a70] at o1
  refine ⟨by omega, ?_⟩
  have F1 := RLF_tr F0 (RLN_F (r := nr) f1)
  have R1' : RL b F (up_ M1 114 (2 * nr) (sdv M N (a + 2))) N1 (a + 2 + 1) := RL_up (by decide) R1
  have F1' : RLF b nr Ma N (up_ M1 114 (2 * nr) (sdv M N (a + 2))) N1 := RLF_tr F1 (RLF_up (.inr ⟨rfl, .inl rfl⟩))
  have u1 : up_ M1 114 (2 * nr) (sdv M N (a + 2)) 114 (2 * nr) = sdv M N (a + 2) := up_at
  generalize up_ M1 114 (2 * nr) (sdv M N (a + 2)) = Mb at *
  rw [show a + 2 + 1 = a + 3 by omega] at R1'
  clear R1 F1 f1 R0 F0
  have b70 := (s70 F1').1
  have hE1 := R1'.1.2.1
  have hT1 := R1'.1.1
  -- the arrow
  refine y_108 hE1 (by decide) (fun hb => by rw [b70]; exact tS_o (hS1 hb).2.1.1 (hS1 hb).2.1.2) (fun k2 h13 hE2 => ?_) (fun hb k2 h13 => ?_) (fun hb k2 => ?_)
  rotate_left
  · have hsp := SQ_P (SQ_bf hE1 hb (k := 2) (by decide) (QA_rf (M := N1)))
    exact hQ hb _ (XPb_tr xp (XPb_tr (RLF_X F1') XPb_fl)) (fun G Qtq hg V' hV' hW' => hq1 _ _ (j_244r hT1 hE1 hb (by decide) k2 h13 (q_246s hsp.1 hsp.2.1 fun v2 => q28_s hV' hW' hsp.1 (hg _ (SQp_tr (RLF_Q F1') hsp)))))
  · have hsp := SQ_P (SQ_bf hE1 hb (k := 1) (by decide) (QA_rf (M := N1)))
    exact hQ hb _ (XPb_tr xp (XPb_tr (RLF_X F1') XPb_fl)) (fun G Qtq hg V' hV' hW' => hq1 _ _ (j_244w hT1 hE1 hb (by decide) k2 (q_246s hsp.1 hsp.2.1 fun v2 => q28_s hV' hW' hsp.1 (hg _ (SQp_tr (RLF_Q F1') hsp)))))
  have R2 := RL_go R1' hE2
  have F2 := RLF_tr F1' (RLN_F (r := nr) (RLN_go (b := b) (M := Mb) (N := N1)))
  have u2 : nX_ Mb 114 (2 * nr) = sdv M N (a + 2) := by rw [nX_ne (by decide)]; exact u1
  have k2' : M 70 (a + 3) = 114 := by rw [← b70]; exact k2
  have z2 : b = 1 → nx_ N1 6 13 = 0 → sdv M N (a + 2) ≠ -1 := fun hb hz => z1 hb (by rw [nx_6 (by decide)] at hz; exact hz)
  have toQ1 : ∀ {G : mm_ → Prop} {Qtq : qt_}, (∀ V' : vv_, Cl_ wd0 (Tr_ wd0 pg0 (dq + 18)) V' (rv_ G) Qtq m_245 → Wk_ V' → Tr_ wd0 pg0 (dq + 18) 246 [.inr (.inr 6)] (nx_ N1) (rl_ fun v2 M4 => q28V dq nr (a + 1) (sdq M N (a + 2)) v2 M4 V' Qtq) Qtq) → q46 dq nr (a + 1) N G Qtq := fun hq V' hV' hW' => hq1 _ _ (j_244t hT1 hE1 (by decide) k2 h13 (hq V' hV' hW'))
  rw [show a + 3 + 1 = a + 4 by omega] at R2
  clear hE2
  generalize nX_ Mb = Mc at *
  generalize nx_ N1 = N2 at *
  clear hq1 R1' F1' u1 b70 hE1 hT1 k2 z1
  refine ⟨R2.1.2.2, ?_⟩
  have b70 := (s70 F2).1
  -- the second side
  refine y_123 (dq := dq) R2 (fun hb => by rw [b70]; exact (hS1 hb).2.2.1) (fun M3 N3 R3 f3 o3 z3 hq3 => ?_) (fun hb Mx' hx' hq' => ?_)
  rotate_left
  · exact hQ hb Mx' (XPb_tr xp (XPb_tr (RLF_X F2) hx')) (fun G Qtq hg => toQ1 fun V' hV' hW' => hq' _ _ fun v M9 p => q28_s hV' hW' p.1 (hg _ (SQp_tr (RLF_Q F2) p)))
  rw [(s0 F2 (a + 4)).1]
  rw [(s0 F2 (a + 4)).2] at hq3
  rw [(s0 F2 (a + 4)).1] at z3
  have z4 : b = 1 → N3 6 13 = 0 → sdv M N (a + 2) ≠ -1 ∧ sdv M N (a + 4) ≠ -1 := fun hb hz => ⟨z2 hb (f3.2.2.2 hb hz), z3 hb hz⟩
  rw [b70] at o3
  have F3 := RLF_tr F2 (RLN_F (r := nr) f3)
  have R3' : RL b F (up_ M3 114 (2 * nr + 1) (sdv M N (a + 4))) N3 (a + 4 + 1) := RL_up (by decide) R3
  have F3' : RLF b nr Ma N (up_ M3 114 (2 * nr + 1) (sdv M N (a + 4))) N3 := RLF_tr F3 (RLF_up (.inr ⟨rfl, .inr rfl⟩))
  have u3 : up_ M3 114 (2 * nr + 1) (sdv M N (a + 4)) 114 (2 * nr + 1) = sdv M N (a + 4) := up_at
  have u4 : up_ M3 114 (2 * nr + 1) (sdv M N (a + 4)) 114 (2 * nr) = sdv M N (a + 2) := by rw [up_of2 (by (clear hV hW ha0 h32 hr h18 ho hQ h0 hK xp a70 a73 sda s70 s0 hS1 o1 h13 k2' u2 z2 toQ1 R2 F2 b70 R3 f3 o3 z3 hq3 z4 F3 R3' F3' u3; lia)), f3.1.1 114 (by decide)]; exact u2
  refine ⟨by omega, R3.1.2.2, ?_⟩
  generalize up_ M3 114 (2 * nr + 1) (sdv M N (a + 4)) = Md at *
  rw [show a + 4 + 1 = a + 5 by omega] at R3'
  have toQ2 : ∀ (G : mm_ → Prop) (Qtq : qt_), q28 dq nr (a + 1) (sdq M N (a + 2)) (sdq M N (a + 4)) N3 G Qtq → q46 dq nr (a + 1) N G Qtq := fun G Qtq hq => toQ1 fun V' hV' hW' => hq3 _ _ (hq V' hV' hW')
  clear R3 F3 f3 R2 F2 u2 b70 hq3 toQ1
  obtain ⟨b70, b73⟩ := s70 F3'
  -- DELAY
  show z24 V Qt y1 y2 nr Md
  refine y_dly (dq := dq) (x1 := nr) (x2 := a + 1) (v1 := sdq M N (a + 2)) (v2 := sdq M N (a + 4)) R3' hr (fun hb => ?_) (fun M4 N4 R4 F4 d4 o4 l4 hq4 => ?_) (fun hb Mx' hx' hq' => ?_)
  · have g := dle_le (κ := M 70) (a := a + 5)
    have := (hS1 hb).2.2.2.2.1
    rw [b70, b73]; exact ⟨(hS1 hb).2.2.2.1, by omega⟩
  rotate_left
  · exact hQ hb Mx' (XPb_tr xp (XPb_tr (RLF_X F3') hx')) (fun G Qtq hg => toQ2 G Qtq (hq' G Qtq (fun M9 p => hg _ (SQp_tr (RLF_Q F3') p))))
  unfold DRW at d4
  rw [b70, b73] at d4 o4 hq4 l4
  rw [b70] at R4
  have F5 := RLF_tr F3' F4
  have z5 : b = 1 → nx_ N4 6 13 = 0 → sdv M N (a + 2) ≠ -1 ∧ sdv M N (a + 4) ≠ -1 ∧ dlt (M 70) (M 73) (a + 5) ≤ dmt (M 70) (M 73) (a + 5) := fun hb hz => by
    rw [nx_6 (by decide)] at hz
    have := z4 hb (F4.2.2.2 hb hz)
    exact ⟨this.1, this.2, l4 hb hz⟩
  have toQ3 : ∀ (G : mm_ → Prop) (Qtq : qt_), q40 dq nr (a + 1) (sdq M N (a + 2)) (sdq M N (a + 4)) (dl7 (M 70) (M 73) (a + 5)) (dl8 (M 70) (M 73) (a + 5)) (drw (M 70) (a + 5)) N4 G Qtq → q46 dq nr (a + 1) N G Qtq := fun G Qtq hq => toQ2 G Qtq (hq4 G Qtq hq)
  have u5 : M4 114 (2 * nr + 1) = sdv M N (a + 4) := by rw [d4.2]; exact u3
  have u6 : M4 114 (2 * nr) = sdv M N (a + 2) := by rw [d4.2]; exact u4
  replace d4 := d4.1
  clear hq4 toQ2 F4 F3' R3' u3 u4 b70 b73
  obtain ⟨b70, b73⟩ := s70 F5
  have hE4 := R4.1.2.1
  have hT4 := R4.1.1
  generalize hde : dle (M 70) (a + 5) = e at *
  -- WITH
  unfold z23
  refine y_108 hE4 (by decide) (fun hb => by rw [b70]; exact tS_o (hS1 hb).2.2.2.2.1.1 (hS1 hb).2.2.2.2.1.2) (fun k5 h15 hE5 => ?_) (fun hb k5 h15 => ?_) (fun hb k5 => ?_)
  rotate_left
  · have hsp := SQ_P (SQ_bf hE4 hb (k := 2) (by decide) (QA_rf (M := N4)))
    exact hQ hb _ (XPb_tr xp (XPb_tr (RLF_X F5) XPb_fl)) (fun G Qtq hg => toQ3 G Qtq fun V' hV' hW' => b_245_140 (Tr_mono _) hV' hW' _ _ _ _ _ _ _ _ (j_250r hT4 hE4 hb (by decide) k5 h15 (q155_s hV' hW' hsp.1 (hg _ (SQp_tr (RLF_Q F5) hsp)))))
  · have hsp := SQ_P (SQ_bf hE4 hb (k := 1) (by decide) (QA_rf (M := N4)))
    exact hQ hb _ (XPb_tr xp (XPb_tr (RLF_X F5) XPb_fl)) (fun G Qtq hg => toQ3 G Qtq fun V' hV' hW' => b_245_140 (Tr_mono _) hV' hW' _ _ _ _ _ _ _ _ (j_250w hT4 hE4 hb (by decide) k5 (q155_s hV' hW' hsp.1 (hg _ (SQp_tr (RLF_Q F5) hsp)))))
  have R5 := RL_go R4 hE5
  have F6 := RLF_tr F5 (RLN_F (r := nr) (RLN_go (b := b) (M := M4) (N := N4)))
  have R6 : RL b F (up_ (nX_ M4) 119 nr 0) (nx_ N4) (e + 1) := RL_up (by decide) R5
  have F7 : RLF b nr Ma N (up_ (nX_ M4) 119 nr 0) (nx_ N4) := RLF_tr F6 (RLF_up (.inl ⟨by decide, rfl⟩))
  have y : ∀ k : Nat, k ≠ 1 → k ≠ 119 → up_ (nX_ M4) 119 nr 0 k = M4 k := fun k h1 h2 => by rw [up_ne h2, nX_ne h1]
  have y9 : up_ (nX_ M4) 119 nr 0 119 nr = 0 := up_at
  have e12 : nx_ N4 6 12 = e + 1 := hE5.2.2.1
  have k5' : M 70 e = 23 := by rw [← b70]; exact k5
  have toQ4 : ∀ (G : mm_ → Prop) (Qtq : qt_), q55 dq nr (a + 1) (sdq M N (a + 2)) (sdq M N (a + 4)) (dl7 (M 70) (M 73) (a + 5)) (dl8 (M 70) (M 73) (a + 5)) (drw (M 70) (a + 5)) (e + 1) (nx_ N4) G Qtq → q46 dq nr (a + 1) N G Qtq := fun G Qtq hq => toQ3 G Qtq fun V' hV' hW' => b_245_140 (Tr_mono _) hV' hW' _ _ _ _ _ _ _ _ (j_250t hT4 hE4 (by decide) k5 h15 (by rw [e12]; exact hq V' hV' hW'))
  refine ⟨R5.1.2.2, hr, ?_⟩
  generalize up_ (nX_ M4) 119 nr 0 = Me at *
  generalize nx_ N4 = N5 at *
  clear toQ3 hE5 R5 F6 R4 F5 hE4 hT4 b70 b73
  obtain ⟨b70, b73⟩ := s70 F7
  -- the list
  refine l_351 (dq := dq) (x1 := nr) (t := a + 1) (v1 := sdq M N (a + 2)) (v2 := sdq M N (a + 4)) (x7 := dl7 (M 70) (M 73) (a + 5)) (x8 := dl8 (M 70) (M 73) (a + 5)) (x9 := drw (M 70) (a + 5)) (x10 := e + 1) hV hW hr hr drw_b (by omega) 1201 (e + 1) Me N5 (by have := R6.1.2.1.1.1; (clear hV hW ha0 h32 hr h18 ho hQ h0 xp a70 a73 sda s70 s0 o1 h13 k2' z2 o3 z3 z4 o4 l4 u5 u6 d4 hde hK hS1 k5 k5' y y9 z5 toQ4 R6 F7 b70 b73; lia)) R6 (fun hb => by rw [b70]; exact (hS1 hb).2.2.2.2.2) (fun hb => by rw [F7.2.2.1 18 (by decide), h18 hb]; exact hr) (fun M1 N1 a' m R8 F8 w8 v8 o8 a8 hq8 => ?_) (fun hb Mx' hx' hq' => ?_)
  · rw [b70] at o8
    have F9 := RLF_tr F7 F8
    obtain ⟨c70, c73⟩ := s70 F9
    obtain ⟨t1, t2, _⟩ := RLF_s F8
    rw [y9] at v8
    refine hK M1 N1 a' m R8 F9 ⟨⟨?_, ?_⟩, ⟨?_, ?_, ?_, ?_⟩, fun m' hm' => ?_⟩ ⟨ho, o1, ⟨k2', h13⟩, o3, o4, ⟨by rw [hde]; exact k5', by rw [hde]; exact h15⟩, by rw [hde]; exact o8⟩ (by rw [a8]) (fun hb hz => z5 hb (F8.2.2.2 hb hz)) (fun G Qtq g0 g1 => toQ4 G Qtq (hq8 G Qtq g0 g1))
    · rw [w8.1, y 114 (by decide) (by decide), u6, (s0 F9 (a + 2)).1]
    · rw [w8.1, y 114 (by decide) (by decide), u5, (s0 F9 (a + 4)).1]
    · rw [w8.2.1, y 115 (by decide) (by decide), c70, c73]; exact d4.1
    · rw [w8.2.2.1, y 116 (by decide) (by decide), c70, c73]; exact d4.2.1
    · rw [w8.2.2.2.1, y 117 (by decide) (by decide), c70]; exact d4.2.2.1
    · rw [w8.2.2.2.2, y 118 (by decide) (by decide), c70]; exact d4.2.2.2
    · rw [c70, hde] at hm' ⊢
      rw [LST_u m' m _ hm' o8, v8, lsv_e t1 t2]
  · exact hQ hb Mx' (XPb_tr xp (XPb_tr (RLF_X F7) hx')) (fun G Qtq hg => toQ4 G Qtq (hq' G Qtq (fun M9 p => hg _ (SQp_tr (RLF_Q F7) p))))
end RTh
end T286_rt
section T287_rt
/-! a route whole, from SYS to SYS -/
def RTo (b nr a : Int) (M N M' N' : mm_) : Prop := (b = 0 → (M' 57 nr = a + 1 ∧ M' 55 nr = a ∧ RTQ M' N' nr a) ∧ ((∀ k : Nat, k ∉ [1, 5, 55, 57, 114, 115, 116, 117, 118, 119] → M' k = M k) ∧ (∀ i, i ≠ nr → M' 55 i = M 55 i ∧ M' 57 i = M 57 i) ∧ ∀ i : Int, i ≠ 1 → M' 5 i = M 5 i) ∧ (∀ k : Nat, k ∉ [6, 153, 158, 159, 162, 163, 165, 166, 190, 191] → N' k = N k) ∧ (∀ k : Nat, k ∈ [153, 158, 159, 162, 163, 165, 166] → ∀ i, i ≠ nr → N' k i = N k i) ∧ ∀ i : Int, i ∉ [12, 13, 14, 18, 58] → N' 6 i = N 6 i)
  ∧ (b = 1 → (∀ k : Nat, k ≠ 1 → M' k = M k) ∧ (∀ k : Nat, k ≠ 6 → N' k = N k) ∧ (N' 6 13 = 0 → N 6 13 = 0 ∧ M 114 (2 * nr) ≠ -1 ∧ M 114 (2 * nr + 1) ≠ -1 ∧ M 115 nr ≤ M 116 nr) ∧ ∀ i : Int, i ∉ [12, 13, 14] → N' 6 i = N 6 i) ∧ ∀ i : Int, i ∉ [3, 4, 5, 7, 32] → M' 1 i = M 1 i
section RTi
variable {dq : Nat} {b F F1 r v x : Int} {ns nr np t v1 v2 x7 x8 x9 x10 : Int} {Kv G : mm_ → Prop} {Qt Qtq : qt_} {V V' : vv_} {M N Mx' M' N' M1 N1 Mz Nz : mm_} {a a' : Int}
theorem rqw_r [ig : Inhabited gh_] {k : Nat} (h : k ∉ [6, 153, 158, 159, 162, 163, 165, 166]) : rqw N r t v1 v2 x7 x8 x9 x10 k = N k := by
  unfold rqw
  rw [up_ne (fun e => h (by rw [e]; decide)), up_ne (fun e => h (by rw [e]; decide)), up_ne (fun e => h (by rw [e]; decide)), up_ne (fun e => h (by rw [e]; decide)), up_ne (fun e => h (by rw [e]; decide)), up_ne (fun e => h (by rw [e]; decide)), up_ne (fun e => h (by rw [e]; decide)), up_ne (fun e => h (by rw [e]; decide))]
theorem rqw_o [ig : Inhabited gh_] {k : Nat} {i : Int} (h : k ≠ 6) (hi : i ≠ r) : rqw N r t v1 v2 x7 x8 x9 x10 k i = N k i := by
  unfold rqw
  rw [up_ne h, up_of2 hi, up_of2 hi, up_of2 hi, up_of2 hi, up_of2 hi, up_of2 hi, up_of2 hi]
theorem rqw_6 [ig : Inhabited gh_] {i : Int} (h : i ≠ 18) : rqw N r t v1 v2 x7 x8 x9 x10 6 i = N 6 i := by
  unfold rqw
  rw [up_of2 h, up_ne (by decide), up_ne (by decide), up_ne (by decide), up_ne (by decide), up_ne (by decide), up_ne (by decide), up_ne (by decide)]
theorem rqw_k [ig : Inhabited gh_] : (rqw N r t v1 v2 x7 x8 x9 x10 6 18 = N 6 18 + 1 ∧ rqw N r t v1 v2 x7 x8 x9 x10 153 r = N 151 t) ∧ (rqw N r t v1 v2 x7 x8 x9 x10 158 r = v1 ∧ rqw N r t v1 v2 x7 x8 x9 x10 159 r = v2) ∧ (rqw N r t v1 v2 x7 x8 x9 x10 162 r = x7 ∧ rqw N r t v1 v2 x7 x8 x9 x10 163 r = x8 ∧ rqw N r t v1 v2 x7 x8 x9 x10 166 r = x9) ∧ rqw N r t v1 v2 x7 x8 x9 x10 165 r = x10 := by
  unfold rqw
  refine ⟨⟨up_at, ?_⟩, ⟨?_, ?_⟩, ⟨?_, ?_, ?_⟩, ?_⟩
  · rw [up_ne (by decide), up_ne (by decide), up_ne (by decide), up_ne (by decide), up_ne (by decide), up_ne (by decide), up_ne (by decide), up_at]
  · rw [up_ne (by decide), up_ne (by decide), up_ne (by decide), up_ne (by decide), up_ne (by decide), up_ne (by decide), up_at]
  · rw [up_ne (by decide), up_ne (by decide), up_ne (by decide), up_ne (by decide), up_ne (by decide), up_at]
  · rw [up_ne (by decide), up_ne (by decide), up_ne (by decide), up_ne (by decide), up_at]
  · rw [up_ne (by decide), up_ne (by decide), up_ne (by decide), up_at]
  · rw [up_ne (by decide), up_ne (by decide), up_at]
  · rw [up_ne (by decide), up_at]
/-- pass 2: the row is as it was -/
theorem RTX_same [ig : Inhabited gh_] {m : Nat} (f : RLF b r M N M1 N1) (h : RTX M N r a) (h1 : RTX M1 N1 r a) (hm : LST (M 70) m (dle (M 70) (a + 5) + 1)) : ∀ k : Nat, k ≠ 1 → M1 k = M k := by
  intro k hk
  obtain ⟨e70, e73, _⟩ := RLF_70 f
  have s := fun y => sdv_e (a := y) f
  obtain ⟨t1, t2, _⟩ := RLF_s f
  obtain ⟨⟨a1, a2⟩, ⟨a3, a4, a5, a6⟩, a7⟩ := h
  obtain ⟨⟨b1, b2⟩, ⟨b3, b4, b5, b6⟩, b7⟩ := h1
  rw [e70, e73] at b3 b4
  rw [e70] at b5 b6 b7
  rw [(s _).1] at b1 b2
  have c7 := b7 m hm
  rw [lsv_e t1 t2] at c7
  by_cases c : k ∈ [114, 115, 116, 117, 118, 119]
  · have rows : ∀ k : Nat, k ∈ [115, 116, 117, 118, 119] → M1 k r = M k r → M1 k = M k := fun k hk e => by
      funext i
      by_cases ci : i = r
      · rw [ci]; exact e
      · exact f.1.2.2.1 k hk i ci
    simp only [List.mem_cons, List.not_mem_nil, or_false] at c
    rcases c with c | c | c | c | c | c <;> rw [c]
    · funext i
      by_cases c1 : i = 2 * r
      · rw [c1, b1, a1]
      · by_cases c2 : i = 2 * r + 1
        · rw [c2, b2, a2]
        · exact f.1.2.2.2 i c1 c2
    · exact rows 115 (by decide) (by rw [b3, a3])
    · exact rows 116 (by decide) (by rw [b4, a4])
    · exact rows 117 (by decide) (by rw [b5, a5])
    · exact rows 118 (by decide) (by rw [b6, a6])
    · exact rows 119 (by decide) (by rw [c7, a7 m hm])
  · exact f.1.1 k (fun e => c (by simp only [List.mem_cons, List.not_mem_nil, or_false] at e ⊢; (clear f hm e70 e73 s t1 t2 a1 a2 a7 a3 a4 a5 a6 b1 b2 b7 b3 b4 b5 b6 c7 c; lia)))
theorem RL_i [ig : Inhabited gh_] (i1 i2 : Inhabited gh_) (h : @RL i1 b F M N a) (hg : @gg_ i2 = @gg_ i1) (hk : b = 1 → kk_ (N 6 13) (N 6 14) ≤ @bb_ i2 (M 1 19)) : @RL i2 b F M N a := ⟨⟨h.1.1, ER_i i1 i2 h.1.2.1 hg hk, h.1.2.2⟩, h.2.1, by rw [hg]; exact h.2.2⟩
theorem y_122 [ig : Inhabited gh_] (h : SYS b F M N a ns nr np) (hk : M 70 a = 1) (h9 : b = 0 → M 1 9 = 0) (hS : b = 1 → (∃ m, RTE (M 70) (M 73) a m) ∧ (nr < M 5 1 ∧ M 57 nr = a + 1) ∧ RTX M N nr a)
    (hK : ∀ F' M' N' a' m, SYS b F' M' N' a' ns (nr + 1) np → RTE (M 70) (M 73) a m → a' = dle (M 70) (a + 5) + 1 + 2 * m → RTo b nr a M N M' N' → (F' ≤ F ∧ (b = 1 → F' = F) ∧ GNO b F F' M N N' (a + 1)) → (∀ (G : mm_ → Prop) (Qtq : qt_), G N' → qRC dq nr N G Qtq) → Kv M')
    (hQ : b = 0 → ∀ Mx', XPb M Mx' → (∀ (G : mm_ → Prop) (Qtq : qt_), (∀ M', SQp Mx' N M' → G M') → qRC dq nr N G Qtq) → Qt 8 Mx') :
    Tr_ wd0 pg0 131 122 [.inr (.inr 1)] M (rv_ Kv) Qt := by
  have hE := h.1.1.2.1
  have ha := ER_a hE
  have h01 := bl01 hE
  refine t_122 fun V hV hW => y_rnm (dq := dq) hV hW h hk h9 (fun hb => ?_) (fun F1 Mz Nz z0 z1 R k57 hr fF ho hq => ?_) hQ
  · obtain ⟨⟨m, hm⟩, h2, _⟩ := hS hb
    exact ⟨hm.1, h2⟩
  have nX2 : ∀ k : Nat, k ≠ 1 → nX_ (nX_ M) k = M k := fun k h => by rw [nX_ne h, nX_ne h]
  have xr : ∀ k : Nat, k ≠ 1 → k ≠ 5 → k ≠ 55 → k ≠ 57 → Mz k = M k := fun k e1 e5 e6 e7 => by
    rcases h01 with hb | hb
    · rw [(z0 hb).2.1, rx1_r e5 e7 e6, gd1_r e1, nX2 k e1]
    · rw [(z1 hb).2.1, nX2 k e1]
  have x5 : ∀ i : Int, i ≠ 1 → Mz 5 i = M 5 i := fun i hi => by
    rcases h01 with hb | hb
    · rw [(z0 hb).2.1, rx1_5 hi, gd1_r (by decide), nX2 5 (by decide)]
    · rw [(z1 hb).2.1, nX2 5 (by decide)]
  have x1 : ∀ i : Int, i ∉ [3, 4, 5, 7] → Mz 1 i = M 1 i := fun i hi => by
    have h3 : i ≠ 3 := nm_i hi (by decide)
    rcases h01 with hb | hb
    · rw [(z0 hb).2.1, rx1_r (by decide) (by decide) (by decide), gd1_1 (nm_i hi (by decide)) (nm_i hi (by decide)) (nm_i hi (by decide)), nX_1 h3, nX_1 h3]
    · rw [(z1 hb).2.1, nX_1 h3, nX_1 h3]
  have qr : ∀ k : Nat, k ≠ 6 → k ≠ 190 → k ≠ 191 → Nz k = N k := fun k e1 e2 e3 => by
    rcases h01 with hb | hb
    · rw [(z0 hb).2.2.1, gq_r e1 e2 e3, nx_ne e1, nx_ne e1]
    · rw [GWI_r (z1 hb).2.2 e1, nx_ne e1, nx_ne e1]
  have q6 : ∀ i : Int, i ∉ [12, 13, 14, 58] → Nz 6 i = N 6 i := fun i hi => by
    have h2 : i ≠ 12 := nm_i hi (by decide)
    rcases h01 with hb | hb
    · rw [(z0 hb).2.2.1, gq_6 (nm_i hi (by decide)), nx_6 h2, nx_6 h2]
    · rw [GWI_6 (z1 hb).2.2 (nm_i hi (by decide)) (nm_i hi (by decide)), nx_6 h2, nx_6 h2]
  have e70 : Mz 70 = M 70 := xr 70 (by decide) (by decide) (by decide) (by decide)
  have e73 : Mz 73 = M 73 := xr 73 (by decide) (by decide) (by decide) (by decide)
  have xp : XPb M Mz := fun k hk => xr k (fun e => hk (by rw [e]; decide)) (fun e => hk (by rw [e]; decide)) (fun e => hk (by rw [e]; decide)) (fun e => hk (by rw [e]; decide))
  have qp : QPb N Nz := ⟨fun k hk => qr k (fun e => hk (by unfold QPRr; (clear h h9 hS hK hQ hE ha h01 hV hW z0 z1 R k57 hr fF ho hq nX2 xr x5 x1 qr q6 e70 e73 xp hk; lia))) (fun e => hk (by unfold QPRr; omega)) (fun e => hk (by unfold QPRr; omega)), fun i hi => q6 i (fun e => hi (by simp only [qpI, List.mem_cons, List.not_mem_nil, or_false] at e ⊢; (clear h hk h9 hS hK hQ hE ha h01 hV hW z0 z1 R k57 hr fF ho hq nX2 xr x5 x1 qr q6 e70 e73 xp hi; lia)))⟩
  have h32 : Mz 1 32 = nr := by rw [x1 32 (by decide)]; exact h.2.1.1.2.1
  refine y_r103 (ig := ih_ gg_ (fun _ => kk_ (Nz 6 13) (Nz 6 14)) 0 0) (dq := dq) (y1 := a) (y2 := a + 1) hV hW ha.1 (RL_i ig _ R rfl fun _ => Int.le_refl _) h32 ⟨hr.1, hr.2.2⟩ (fun hb => by rw [q6 18 (by decide)]; exact (z0 hb).2.2.2.1) (fun hb => by rw [e70, e73]; exact (hS hb).1) (by rw [e70]; exact ho) (fun M1 N1 a' m R1i F1' X1 E1 a1 z9 hq1 => ?_) (fun hb Mx' hx' hq' => ?_)
  rotate_left
  · exact hQ hb Mx' (XPb_tr xp hx') (fun G Qtq hg => hq G Qtq (hq' G Qtq fun M9 p => hg _ (SQp_tr qp p)))
  rw [e70, e73] at E1
  rw [e70] at a1
  have u1 : ∀ i : Int, i ≠ 32 → up_ Mz 1 32 (nr + 1) 1 i = Mz 1 i := fun i h => up_of2 h
  have u : ∀ k : Nat, k ≠ 1 → up_ Mz 1 32 (nr + 1) k = Mz k := fun k h => up_ne h
  have u32 : up_ Mz 1 32 (nr + 1) 1 32 = nr + 1 := up_at
  have sde : ∀ y, sdq (up_ Mz 1 32 (nr + 1)) Nz y = sdq Mz Nz y ∧ sdv (up_ Mz 1 32 (nr + 1)) Nz y = sdv Mz Nz y := fun y => by unfold sdq sdv; rw [u 70 (by decide)]; exact ⟨rfl, rfl⟩
  have y1 : ∀ i : Int, i ∉ [3, 4, 5, 7, 32] → M1 1 i = M 1 i := fun i hi => by
    have h4 : i ∉ [3, 4, 5, 7] := fun e => hi (by simp only [List.mem_cons, List.not_mem_nil, or_false] at e ⊢; (clear h hk h9 hS hK hQ hE ha h01 hV hW z0 z1 R k57 hr fF ho hq nX2 xr x5 x1 qr q6 e70 e73 xp qp h32 R1i F1' X1 E1 a1 z9 hq1 u1 u u32 sde hi; lia))
    rw [F1'.1.2.1 i h4, u1 i (nm_i hi (by decide)), x1 i h4]
  have y32 : M1 1 32 = nr + 1 := by rw [F1'.1.2.1 32 (by decide)]; exact u32
  have ye : ∀ k : Nat, k ∉ [1, 5, 55, 57, 114, 115, 116, 117, 118, 119] → M1 k = M k := fun k hk => by
    rw [F1'.1.1 k (fun e => hk (by simp only [List.mem_cons, List.not_mem_nil, or_false] at e ⊢; (clear h h9 hS hK hQ hE ha h01 hV hW z0 z1 R k57 hr fF ho hq nX2 xr x5 x1 qr q6 e70 e73 xp qp h32 R1i F1' X1 E1 a1 z9 hq1 u1 u u32 sde y1 y32 hk; lia))), u k (fun e => hk (by rw [e]; decide)), xr k (fun e => hk (by rw [e]; decide)) (fun e => hk (by rw [e]; decide)) (fun e => hk (by rw [e]; decide)) (fun e => hk (by rw [e]; decide))]
  have kz : b = 1 → kk_ (N1 6 13) (N1 6 14) ≤ kk_ (Nz 6 13) (Nz 6 14) := fun hb => ER_ki _ R1i.1.2.1 hb
  have R1 : @RL ig b F1 M1 N1 a' := RL_i _ ig R1i rfl (fun hb => by have k0 := kz hb; have k1 := (fF.2.2.2 hb).1; have k2 := ER_kk hE hb; rw [y1 19 (by decide)]; (clear h hk h9 hS hK hQ hE ha h01 hV hW z0 z1 R k57 hr fF ho hq nX2 xr x5 x1 qr q6 e70 e73 xp qp h32 R1i F1' X1 E1 a1 z9 hq1 u1 u u32 sde y1 y32 ye kz hb; omega))
  have y5 : M1 5 = Mz 5 := by rw [F1'.1.1 5 (by decide), u 5 (by decide)]
  have hg := dle_le (κ := M 70) (a := a + 5)
  have am : a + 2 ≤ a' := by (clear h hk h9 hS hK hQ hE ha h01 hV hW z0 z1 R hr fF ho hq nX2 xr x5 x1 qr q6 e70 e73 xp qp h32 R1i F1' X1 E1 z9 hq1 u1 u u32 sde y1 y32 ye kz R1 y5; omega)
  rcases h01 with hb | hb
  · obtain ⟨Z, eM, eN, e18, e51⟩ := z0 hb
    have kk := rx1_k (M := gd1_ (nX_ (nX_ M)) (nx_ (nx_ N)) (a + 1)) (t := a + 1) (f := a)
    have g51 : gd1_ (nX_ (nX_ M)) (nx_ (nx_ N)) (a + 1) 5 1 = nr := by rw [gd1_r (by decide), nX2 5 (by decide)]; exact e51
    rw [g51, ← eM] at kk
    obtain ⟨⟨w1, w2⟩, w3, w4, w5⟩ := rqw_k (N := N1) (r := nr) (t := a + 1) (v1 := sdq Mz Nz (a + 2)) (v2 := sdq Mz Nz (a + 4)) (x7 := dl7 (Mz 70) (Mz 73) (a + 5)) (x8 := dl8 (Mz 70) (Mz 73) (a + 5)) (x9 := drw (Mz 70) (a + 5)) (x10 := dle (Mz 70) (a + 5) + 1)
    have wr : ∀ k : Nat, k ∉ [6, 153, 158, 159, 162, 163, 165, 166] → rqw N1 nr (a + 1) (sdq Mz Nz (a + 2)) (sdq Mz Nz (a + 4)) (dl7 (Mz 70) (Mz 73) (a + 5)) (dl8 (Mz 70) (Mz 73) (a + 5)) (drw (Mz 70) (a + 5)) (dle (Mz 70) (a + 5) + 1) k = N1 k := fun k hk => rqw_r hk
    have wo : ∀ (k : Nat) (i : Int), k ≠ 6 → i ≠ nr → rqw N1 nr (a + 1) (sdq Mz Nz (a + 2)) (sdq Mz Nz (a + 4)) (dl7 (Mz 70) (Mz 73) (a + 5)) (dl8 (Mz 70) (Mz 73) (a + 5)) (drw (Mz 70) (a + 5)) (dle (Mz 70) (a + 5) + 1) k i = N1 k i := fun k i h h' => rqw_o h h'
    have w6 : ∀ i : Int, i ≠ 18 → rqw N1 nr (a + 1) (sdq Mz Nz (a + 2)) (sdq Mz Nz (a + 4)) (dl7 (Mz 70) (Mz 73) (a + 5)) (dl8 (Mz 70) (Mz 73) (a + 5)) (drw (Mz 70) (a + 5)) (dle (Mz 70) (a + 5) + 1) 6 i = N1 6 i := fun i h => rqw_6 h
    have hq2 : ∀ (G : mm_ → Prop) (Qtq : qt_), G (rqw N1 nr (a + 1) (sdq Mz Nz (a + 2)) (sdq Mz Nz (a + 4)) (dl7 (Mz 70) (Mz 73) (a + 5)) (dl8 (Mz 70) (Mz 73) (a + 5)) (drw (Mz 70) (a + 5)) (dle (Mz 70) (a + 5) + 1)) → qRC dq nr N G Qtq := fun G Qtq hg => hq G Qtq (hq1 G Qtq (fun _ => hg) (fun hb1 => by omega))
    generalize rqw N1 nr (a + 1) (sdq Mz Nz (a + 2)) (sdq Mz Nz (a + 4)) (dl7 (Mz 70) (Mz 73) (a + 5)) (dl8 (Mz 70) (Mz 73) (a + 5)) (drw (Mz 70) (a + 5)) (dle (Mz 70) (a + 5) + 1) = N2 at *
    have n151 : N1 151 = Nz 151 := F1'.2.1 151 (by decide)
    have N2r : ∀ k : Nat, k ∉ [6, 153, 158, 159, 162, 163, 165, 166] → N2 k = Nz k := fun k hk => by rw [wr k hk, F1'.2.1 k (fun e => hk (by rw [e]; decide))]
    have n153 : N2 153 = rqv Nz nr (a + 1) 153 := by
      funext i
      by_cases c : i = nr
      · rw [c, w2, rqv_k.2, n151]
      · rw [wo 153 i (by decide) c, rqv_o c, F1'.2.1 153 (by decide)]
    have hE2 : ER b F1 M1 N2 a' 0 := ER_1 R1.1.2.1 rfl rfl (fun _ _ => rfl) (fun i hi => w6 i (fun e => by rw [e] at hi; revert hi; decide))
    have Y : SY0 b F1 M1 N2 a' := by
      refine SY_rl Z hb hE2 am (fun k hk => ?_) (fun i hi => ?_) R1.2.2 (fun k hk => ?_) (fun i hi => ?_)
      · rw [F1'.1.1 k (fun e => hk (by simp only [List.mem_cons, List.not_mem_nil, or_false] at e ⊢; (clear h h9 hS hK hQ hE ha hV hW z0 z1 R k57 hr fF ho hq nX2 xr x5 x1 qr q6 e70 e73 xp qp h32 R1i F1' X1 E1 a1 z9 u1 u u32 sde y1 y32 ye kz R1 y5 hg am hb Z eM eN e18 e51 kk g51 hq1 w1 w2 w3 w4 w5 wr wo w6 hq2 n151 N2r n153 hE2 hk; lia))), u k (fun e => hk (by rw [e]; decide))]
      · have h4 : i ∉ [3, 4, 5, 7] := fun e => by simp only [List.mem_cons, List.not_mem_nil, or_false] at e hi; (clear h hk h9 hS hK hQ hE ha hV hW z0 z1 R k57 hr fF ho hq nX2 xr x5 x1 qr q6 e70 e73 xp qp h32 R1i F1' X1 E1 a1 z9 u1 u u32 sde y1 y32 ye kz R1 y5 hg am hb Z eM eN e18 e51 kk g51 hq1 w1 w2 w3 w4 w5 wr wo w6 hq2 n151 N2r n153 hE2; lia)
        rw [F1'.1.2.1 i h4, u1 i (fun e => by rw [e] at hi; revert hi; decide)]
      · by_cases c : k = 153
        · rw [c]; exact n153
        · rw [N2r k (fun e => hk (by simp only [List.mem_cons, List.not_mem_nil, or_false] at e ⊢; (clear h h9 hS hK hQ hE ha hV hW z0 z1 R k57 hr fF ho hq nX2 xr x5 x1 qr q6 e70 e73 xp qp h32 R1i F1' X1 E1 a1 z9 u1 u u32 sde y1 y32 ye kz R1 y5 hg am hb Z eM eN e18 e51 kk g51 hq1 w1 w2 w3 w4 w5 wr wo w6 hq2 n151 N2r n153 hE2 hk; lia))), rqv_r (fun e => hk (by rw [e]; decide)) c]
      · by_cases c : i = 18
        · rw [c, w1, rqv_k.1, F1'.2.2.1 18 (by decide)]
        · rw [w6 i c, rqv_6 c, F1'.2.2.1 i (fun e => by simp only [List.mem_cons, List.not_mem_nil, or_false] at e hi; (clear h hk h9 hS hK hQ hE ha hV hW z0 z1 R k57 hr fF ho hq nX2 xr x5 x1 qr q6 e70 e73 xp qp h32 R1i F1' X1 E1 a1 z9 u1 u u32 sde y1 y32 ye kz R1 y5 hg am hb Z eM eN e18 e51 kk g51 hq1 w1 w2 w3 w4 w5 wr wo w6 hq2 n151 N2r n153 hE2 c; omega))]
    have d51 : M1 5 1 = nr + 1 := by rw [y5]; exact kk.1
    have S' : SYS b F1 M1 N2 a' ns (nr + 1) np := SYS_rt h Y ⟨y1 31 (by decide), y32, y1 33 (by decide)⟩ (fun _ => ⟨by rw [y5, x5 0 (by decide)], d51⟩) (by rw [y5, x5 2 (by decide)]) (fun k hk => ye k (fun e => by simp only [rwX, List.mem_cons, List.not_mem_nil, or_false] at e hk; (clear h h9 hS hK hQ hE ha hV hW z0 z1 R k57 hr fF ho hq nX2 xr x5 x1 qr q6 e70 e73 xp qp h32 R1i F1' X1 E1 a1 z9 u1 u u32 sde y1 y32 ye kz R1 y5 hg am hb Z eM eN e18 e51 kk g51 hq1 w1 w2 w3 w4 w5 wr wo w6 hq2 n151 N2r n153 hE2 Y d51; omega))) (fun k hk => by
      simp only [rwQ, List.mem_cons, List.not_mem_nil, or_false] at hk
      rw [N2r k (by simp only [List.mem_cons, List.not_mem_nil, or_false]; (clear h h9 hS hK hQ hE ha hV hW z0 z1 R k57 hr fF ho hq nX2 xr x5 x1 qr q6 e70 e73 xp qp h32 R1i F1' X1 E1 a1 z9 u1 u u32 sde y1 y32 ye kz R1 y5 hg am hb Z eM eN e18 e51 kk g51 hq1 w1 w2 w3 w4 w5 wr wo w6 hq2 n151 N2r n153 hE2 Y d51; omega)), qr k (by (clear h h9 hS hK hQ hE ha hV hW z0 z1 R k57 hr fF ho hq nX2 xr x5 x1 qr q6 e70 e73 xp qp h32 R1i F1' X1 E1 a1 z9 u1 u u32 sde y1 y32 ye kz R1 y5 hg am hb Z eM eN e18 e51 kk g51 hq1 w1 w2 w3 w4 w5 wr wo w6 hq2 n151 N2r n153 hE2 Y d51; omega)) (by (clear h h9 hS hK hQ hE ha hV hW z0 z1 R k57 hr fF ho hq nX2 xr x5 x1 qr q6 e70 e73 xp qp h32 R1i F1' X1 E1 a1 z9 u1 u u32 sde y1 y32 ye kz R1 y5 hg am hb Z eM eN e18 e51 kk g51 hq1 w1 w2 w3 w4 w5 wr wo w6 hq2 n151 N2r n153 hE2 Y d51; omega)) (by (clear h h9 hS hK hQ hE ha hV hW z0 z1 R k57 hr fF ho hq nX2 xr x5 x1 qr q6 e70 e73 xp qp h32 R1i F1' X1 E1 a1 z9 u1 u u32 sde y1 y32 ye kz R1 y5 hg am hb Z eM eN e18 e51 kk g51 hq1 w1 w2 w3 w4 w5 wr wo w6 hq2 n151 N2r n153 hE2 Y d51; omega))])
    have f70 : M1 70 = Mz 70 := by rw [F1'.1.1 70 (by decide), u 70 (by decide)]
    have f73 : M1 73 = Mz 73 := by rw [F1'.1.1 73 (by decide), u 73 (by decide)]
    have sq : ∀ y, sdq M1 N2 y = sdq Mz Nz y := fun y => by unfold sdq; rw [f70, wr 151 (by decide), n151]
    refine hK F1 M1 N2 a' m S' E1 a1 ⟨fun _ => ⟨⟨?_, ?_, ⟨?_, ?_⟩, ?_, ?_⟩, ⟨ye, fun i hi => ?_, fun i hi => by rw [y5, x5 i hi]⟩, fun k hk => ?_, fun k hk i hi => ?_, fun i hi => by rw [w6 i (nm_i hi (by decide)), F1'.2.2.1 i (fun e => hi (by simp only [List.mem_cons, List.not_mem_nil, or_false] at e ⊢; (clear h hk h9 hS hK hQ hE ha hV hW z0 z1 R k57 hr fF ho hq nX2 xr x5 x1 qr q6 e70 e73 xp qp h32 R1i F1' X1 E1 a1 z9 u1 u u32 sde y1 y32 ye kz R1 y5 hg am hb Z eM eN e18 e51 kk g51 hq1 w1 w2 w3 w4 w5 wr wo w6 hq2 n151 N2r n153 hE2 Y d51 S' f70 f73 sq hi; lia))), q6 i (fun e => hi (by simp only [List.mem_cons, List.not_mem_nil, or_false] at e ⊢; (clear h hk h9 hS hK hQ hE ha hV hW z0 z1 R k57 hr fF ho hq nX2 xr x5 x1 qr q6 e70 e73 xp qp h32 R1i F1' X1 E1 a1 z9 u1 u u32 sde y1 y32 ye kz R1 y5 hg am hb Z eM eN e18 e51 kk g51 hq1 w1 w2 w3 w4 w5 wr wo w6 hq2 n151 N2r n153 hE2 Y d51 S' f70 f73 sq hi; lia)))]⟩, fun hb1 => by (clear h hk h9 hS hK hQ hE ha hV hW z0 z1 R k57 hr fF ho hq nX2 xr x5 x1 qr q6 e70 e73 xp qp h32 R1i F1' X1 E1 a1 z9 u1 u u32 sde y1 y32 ye kz R1 y5 hg am Z eM eN e18 e51 kk g51 hq1 w1 w2 w3 w4 w5 wr wo w6 hq2 n151 N2r n153 hE2 Y d51 S' f70 f73 sq; lia), y1⟩ ⟨fF.1, fF.2.1, GNO_le fF.2.2 fun hb1 => by (clear h hk h9 hS hK hQ hE ha hV hW z0 z1 R k57 hr fF ho hq nX2 xr x5 x1 qr q6 e70 e73 xp qp h32 R1i F1' X1 E1 a1 z9 u1 u u32 sde y1 y32 ye kz R1 y5 hg am Z eM eN e18 e51 kk g51 hq1 w1 w2 w3 w4 w5 wr wo w6 hq2 n151 N2r n153 hE2 Y d51 S' f70 f73 sq; lia)⟩ hq2
    · rw [F1'.1.1 57 (by decide), u 57 (by decide)]; exact k57
    · rw [F1'.1.1 55 (by decide), u 55 (by decide)]; exact kk.2.2
    · rw [w3.1, sq]
    · rw [w3.2, sq]
    · rw [f70, f73]; exact w4
    · rw [f70]; exact w5
    · rw [F1'.1.1 57 (by decide), u 57 (by decide), F1'.1.1 55 (by decide), u 55 (by decide), eM, (rx1_o (by rw [g51]; exact hi)).1, (rx1_o (by rw [g51]; exact hi)).2, gd1_r (by decide), gd1_r (by decide), nX2 55 (by decide), nX2 57 (by decide)]
      exact ⟨rfl, rfl⟩
    · rw [N2r k (fun e => hk (by simp only [List.mem_cons, List.not_mem_nil, or_false] at e ⊢; (clear h h9 hS hK hQ hE ha hV hW z0 z1 R k57 hr fF ho hq nX2 xr x5 x1 qr q6 e70 e73 xp qp h32 R1i F1' X1 E1 a1 z9 u1 u u32 sde y1 y32 ye kz R1 y5 hg am hb Z eM eN e18 e51 kk g51 hq1 w1 w2 w3 w4 w5 wr wo w6 hq2 n151 N2r n153 hE2 Y d51 S' f70 f73 sq hk; lia))), qr k (fun e => hk (by rw [e]; decide)) (fun e => hk (by rw [e]; decide)) (fun e => hk (by rw [e]; decide))]
    · simp only [List.mem_cons, List.not_mem_nil, or_false] at hk
      rw [wo k i (by (clear h h9 hS hK hQ hE ha hV hW z0 z1 R k57 hr fF ho hq nX2 xr x5 x1 qr q6 e70 e73 xp qp h32 R1i F1' X1 E1 a1 z9 u1 u u32 sde y1 y32 ye kz R1 y5 hg am hb Z eM eN e18 e51 kk g51 hq1 w1 w2 w3 w4 w5 wr wo w6 hq2 n151 N2r n153 hE2 Y d51 S' f70 f73 sq hi; lia)) hi, F1'.2.1 k (by omega), qr k (by omega) (by (clear h h9 hS hK hQ hE ha hV hW z0 z1 R k57 hr fF ho hq nX2 xr x5 x1 qr q6 e70 e73 xp qp h32 R1i F1' X1 E1 a1 z9 u1 u u32 sde y1 y32 ye kz R1 y5 hg am hb Z eM eN e18 e51 kk g51 hq1 w1 w2 w3 w4 w5 wr wo w6 hq2 n151 N2r n153 hE2 Y d51 S' f70 f73 sq hi; lia)) (by (clear h h9 hS hK hQ hE ha hV hW z0 z1 R k57 hr fF ho hq nX2 xr x5 x1 qr q6 e70 e73 xp qp h32 R1i F1' X1 E1 a1 z9 u1 u u32 sde y1 y32 ye kz R1 y5 hg am hb Z eM eN e18 e51 kk g51 hq1 w1 w2 w3 w4 w5 wr wo w6 hq2 n151 N2r n153 hE2 Y d51 S' f70 f73 sq hi; lia))]
  · obtain ⟨Z, eM, hw⟩ := z1 hb
    have MM : ∀ k : Nat, k ≠ 1 → Mz k = M k := fun k h => by rw [eM, nX2 k h]
    have NN : ∀ k : Nat, k ≠ 6 → Nz k = N k := fun k h => by rw [GWI_r hw h, nx_ne h, nx_ne h]
    have tse : tpl Nz = tpl N := tpl_e (q6 19 (by decide)) (NN 154 (by decide))
    have sse : sgl Nz = sgl N := sgl_e (q6 17 (by decide)) (NN 152 (by decide))
    have X0 : RTX (up_ Mz 1 32 (nr + 1)) Nz nr a := by
      have := (hS hb).2.2
      unfold RTX sdv at this ⊢
      rw [u 114 (by decide), u 115 (by decide), u 116 (by decide), u 117 (by decide), u 118 (by decide), u 119 (by decide), u 70 (by decide), u 73 (by decide), MM 114 (by decide), MM 115 (by decide), MM 116 (by decide), MM 117 (by decide), MM 118 (by decide), MM 119 (by decide), MM 70 (by decide), MM 73 (by decide), tse, NN 151 (by decide)]
      refine ⟨this.1, this.2.1, fun m hm => ?_⟩
      rw [lsv_e sse (NN 151 (by decide))]; exact this.2.2 m hm
    have same := RTX_same (m := m) F1' X0 X1 (by rw [u 70 (by decide), MM 70 (by decide)]; exact E1.2.2.2.2.2.2)
    have sm : ∀ k : Nat, k ≠ 1 → M1 k = M k := fun k hk => by rw [same k hk, u k hk, MM k hk]
    have Y : SY0 b F1 M1 N1 a' := SY_1 Z R1.1.2.1 am (fun k hk => by rw [same k hk, u k hk]) (fun i hi => by
      have h4 : i ∉ [3, 4, 5, 7] := fun e => by simp only [List.mem_cons, List.not_mem_nil, or_false] at e hi; (clear h hk h9 hS hK hQ hE ha hV hW z0 z1 R k57 hr fF ho hq nX2 xr x5 x1 qr q6 e70 e73 xp qp h32 R1i F1' X1 E1 a1 z9 hq1 u1 u u32 sde y1 y32 ye kz R1 y5 hg am hb Z eM hw MM NN tse sse X0 same sm; lia)
      rw [F1'.1.2.1 i h4, u1 i (fun e => by rw [e] at hi; revert hi; decide)]) R1.2.2 (fun k hk => F1'.2.1 k hk) (fun i hi => F1'.2.2.1 i (fun e => by simp only [List.mem_cons, List.not_mem_nil, or_false] at e hi; (clear h hk h9 hS hK hQ hE ha hV hW z0 z1 R k57 hr fF ho hq nX2 xr x5 x1 qr q6 e70 e73 xp qp h32 R1i F1' X1 E1 a1 z9 hq1 u1 u u32 sde y1 y32 ye kz R1 y5 hg am hb Z eM hw MM NN tse sse X0 same sm; omega)))
    have S' : SYS b F1 M1 N1 a' ns (nr + 1) np := SYS_rt h Y ⟨y1 31 (by decide), y32, y1 33 (by decide)⟩ (fun hb0 => by (clear h hk h9 hS hK hQ hE ha hV hW z0 z1 R k57 hr fF ho hq nX2 xr x5 x1 qr q6 e70 e73 xp qp h32 R1i F1' X1 E1 a1 z9 hq1 u1 u u32 sde y1 y32 ye kz R1 y5 hg am Z eM hw MM NN tse sse X0 same sm Y; lia)) (by rw [sm 5 (by decide)]) (fun k hk => sm k (fun e => by rw [e] at hk; revert hk; decide)) (fun k hk => by rw [F1'.2.1 k (fun e => by rw [e] at hk; revert hk; decide), NN k (fun e => by rw [e] at hk; revert hk; decide)])
    refine hK F1 M1 N1 a' m S' E1 a1 ⟨fun hb0 => by omega, fun _ => ⟨sm, fun k hk => by rw [F1'.2.1 k hk, NN k hk], fun hz => ?_, fun i hi => ?_⟩, y1⟩ ⟨fF.1, fF.2.1, GNO_le fF.2.2 kz⟩ (fun G Qtq hg => hq G Qtq (hq1 G Qtq (fun hb0 => by omega) (fun _ => hg)))
    · have hz1 := F1'.2.2.2 hb hz
      have P1 : PZ 1 F F M N (nX_ (nX_ M)) Nz 0 := PZ_1 hw
      have zz := z9 hb hz
      have x0 := (hS hb).2.2.1
      have x2 := (hS hb).2.2.2.1
      have sde2 : ∀ y, sdv Mz Nz y = sdv M N y := fun y => by unfold sdv; rw [MM 70 (by decide), tse, NN 151 (by decide)]
      rw [sde2, sde2] at zz
      exact ⟨(P1.2.2.1 rfl).2.2.2 hz1, by rw [x0.1]; exact zz.1, by rw [x0.2]; exact zz.2.1, by rw [x2.1, x2.2.1]; have := zz.2.2; rw [e70, e73] at this; exact this⟩
    · rw [F1'.2.2.1 i hi, GWI_6 hw (nm_i hi (by decide)) (nm_i hi (by decide)), nx_6 (nm_i hi (by decide)), nx_6 (nm_i hi (by decide))]
end RTi
end T287_rt
section T288_fl
/-! routes filled: X alone (1 8 = 0, 1 9 = 1) -/
def FL (M N : mm_) (a : Int) : Prop := (Tks M N ∧ (gd_ M a ∧ M 1 3 = a) ∧ M 1 8 = 0 ∧ M 1 2 = 5) ∧ sgl9 M N ∧ tpl9 M N
def FLF (b r : Int) (M N M1 N1 : mm_) : Prop := RLF b r M N M1 N1 ∧ ∀ i : Int, i ≠ 3 → M1 1 i = M 1 i
section FLa
variable {d : Nat} {r t v y1 y2 : Int} {K : Int → mm_ → Prop} {Kv : mm_ → Prop} {Qt : qt_} {V : vv_} {M N M1 N1 : mm_} {a a' : Int}
theorem FL_c [Inhabited gh_] (h : FL M N a) (hx : ∀ k : Nat, k ∈ [5, 56, 58, 69, 70, 71, 72, 73] → M1 k = M k) (h2 : M1 1 2 = M 1 2) (h8 : M1 1 8 = M 1 8) (hg : gd_ M1 a' ∧ M1 1 3 = a') : FL M1 N a' := by
  obtain ⟨⟨s1, _, s3, s4⟩, g1, g2⟩ := h
  have e70 := hx 70 (by decide)
  refine ⟨⟨Tks_r s1 (fun k hk => hx k (by simp only [List.mem_cons, List.not_mem_nil, or_false] at hk ⊢; (clear hx h2 h8 hg s1 s3 s4 g1 g2 e70; lia))) (fun _ _ => rfl), hg, by rw [h8]; exact s3, by rw [h2]; exact s4⟩, ?_, ?_⟩
  · unfold sgl9
    rw [hx 5 (by decide), hx 56 (by decide)]
    exact ⟨g1.1, fun k k0 k1 => ⟨nm9_r (g1.2 k k0 k1).1 e70, (g1.2 k k0 k1).2⟩⟩
  · unfold tpl9
    rw [hx 5 (by decide), hx 58 (by decide)]
    exact ⟨g2.1, fun k k0 k1 => ⟨nm9_r (g2.2 k k0 k1).1 e70, (g2.2 k k0 k1).2⟩⟩
theorem FL_i [Inhabited gh_] (h : FL M N a) : iX_ M := by
  have := h.1.2.1
  unfold iX_; rw [this.2]; exact ⟨this.1.1, this.1.2.1⟩
theorem FL_go [Inhabited gh_] (h : FL M N a) (h12 : a < 1200) (hk : M 70 a ≠ 102 ∧ M 70 a ≠ 103) : FL (nX_ M) N (a + 1) := by
  have g := h.1.2.1
  refine FL_c h (fun k hk => nX_ne (fun e => by rw [e] at hk; revert hk; decide)) (nX_1 (by decide)) (nX_1 (by decide)) ⟨⟨by have := g.1.1; omega, by omega, fun j j0 j1 => ?_⟩, ?_⟩
  · rw [nX_ne (by decide)]
    by_cases c : j = a
    · rw [c]; exact hk
    · exact g.1.2.2 j j0 (by (clear h h12 hk j0; omega))
  · unfold nX_; rw [up_at, g.2]
theorem FL_up [Inhabited gh_] {k : Nat} {i : Int} (hk : k ∈ [114, 115, 116, 117, 118, 119]) (h : FL M N a) : FL (up_ M k i v) N a := by
  have u : ∀ k' : Nat, k' ∉ [114, 115, 116, 117, 118, 119] → up_ M k i v k' = M k' := fun k' h' => up_ne (fun e => h' (by rw [e]; exact hk))
  exact FL_c h (fun k' hk' => u k' (by simp only [List.mem_cons, List.not_mem_nil, or_false] at hk' ⊢; omega)) (by rw [u 1 (by decide)]) (by rw [u 1 (by decide)]) ⟨gd_c (u 70 (by decide)) h.1.2.1.1, by rw [u 1 (by decide)]; exact h.1.2.1.2⟩
theorem RLF_nX [Inhabited gh_] : RLF 0 r M N (nX_ M) N := ⟨⟨fun k hk => nX_ne (fun e => hk (by rw [e]; decide)), fun i hi => nX_1 (nm_i hi (by decide)), fun k hk i _ => by rw [nX_ne (fun e => by rw [e] at hk; revert hk; decide)], fun i _ _ => by rw [nX_ne (by decide)]⟩, fun _ _ => rfl, fun _ _ => rfl, fun _ h => h⟩
theorem FLF_nX [Inhabited gh_] : FLF 0 r M N (nX_ M) N := ⟨RLF_nX, fun i hi => nX_1 hi⟩
theorem FLF_tr [Inhabited gh_] {M2 : mm_} (h : FLF 0 r M N M1 N) (g : FLF 0 r M1 N M2 N) : FLF 0 r M N M2 N := ⟨RLF_tr h.1 g.1, fun i hi => (g.2 i hi).trans (h.2 i hi)⟩
theorem FLF_up [Inhabited gh_] {k : Nat} {i : Int} (hk : k ∈ [115, 116, 117, 118, 119] ∧ i = r ∨ k = 114 ∧ (i = 2 * r ∨ i = 2 * r + 1)) : FLF 0 r M N (up_ M k i v) N := ⟨RLF_up hk, fun i' _ => by rw [up_ne (fun e => by rw [← e] at hk; revert hk; simp)]⟩
theorem f_side [Inhabited gh_] (h : FL M N a) (ho : sdO (M 70) a) (hK : FL (nX_ M) N (a + 1) → K (sdv M N a) (nX_ M)) : Tr_ wd0 pg0 (d + 5) 123 [.inr (.inr 1)] M (ri_ K) Qt := by
  have hi := FL_i h
  have e3 := h.1.2.1.2
  have F1 := FL_go h ho.2 (by rcases ho.1 with e | e <;> rw [e] <;> decide)
  refine t_123 fun V hV hW => b_123_0 (Tr_mono _) hV hW _ (x_103 hi (fun k1 => ?_) (fun k1 => ?_))
  · rw [if_neg (by decide)]
    rw [e3] at k1
    refine x_105 hi (fun _ => ?_) (fun e => by rw [e3] at e; have := ho.2; omega)
    have := hK F1
    unfold sdv at this
    rw [if_pos k1] at this
    exact ri_i this
  · rw [if_pos rfl]
    rw [e3] at k1
    have k2 : M 70 a = 100 := by have := ho.1; (clear h ho hK hi e3 F1 hV hW; lia)
    refine x_107 hi (fun _ _ => ?_) (fun e => by rw [e3] at e; (clear h ho hK hi e3 F1 hV hW k1; lia)) (fun _ e => by rw [e3] at e; have := ho.2; omega)
    rw [e3]
    have nmt : nm9_ (nX_ M) a := ⟨gd_c (nX_ne (by decide)) h.1.2.1.1, by rw [nX_ne (by decide)]; exact k2⟩
    refine x_115s F1.1.1 F1.1.2.2.2 F1.2.2 nmt ?_
    intro _
    rw [if_pos F1.1.2.2.1]
    have := hK F1
    unfold sdv at this
    rw [if_neg k1] at this
    exact ri_i this
theorem f_dly [Inhabited gh_] (h : FL M N a) (hr : 0 ≤ r ∧ r < 10) (hd : DLO (M 70) (M 73) a) (h12 : a < 1200) (h16 : dle (M 70) a ≤ 1200)
    (hK : ∀ M1, FL M1 N (dle (M 70) a) → FLF 0 r M N M1 N → DRW M M1 r a → z23 V Qt y1 y2 r M1) : z24 V Qt y1 y2 r M := by
  have hi := FL_i h
  have e3 := h.1.2.1.2
  have m12 := h.1.2.2.2
  have A : ∀ w : Int, FL (up_ (up_ (up_ (up_ M 117 r w) 115 r 0) 116 r 0) 118 r 0) N a ∧ FLF 0 r M N (up_ (up_ (up_ (up_ M 117 r w) 115 r 0) 116 r 0) 118 r 0) N := fun w => ⟨FL_up (by decide) (FL_up (by decide) (FL_up (by decide) (FL_up (by decide) h))), FLF_tr (FLF_tr (FLF_tr (FLF_up (.inl ⟨by decide, rfl⟩)) (FLF_up (.inl ⟨by decide, rfl⟩))) (FLF_up (.inl ⟨by decide, rfl⟩))) (FLF_up (.inl ⟨by decide, rfl⟩))⟩
  have A7 : ∀ w : Int, (up_ (up_ (up_ (up_ M 117 r w) 115 r 0) 116 r 0) 118 r 0) 117 r = w ∧ (up_ (up_ (up_ (up_ M 117 r w) 115 r 0) 116 r 0) 118 r 0) 115 r = 0 ∧ (up_ (up_ (up_ (up_ M 117 r w) 115 r 0) 116 r 0) 118 r 0) 116 r = 0 ∧ (up_ (up_ (up_ (up_ M 117 r w) 115 r 0) 116 r 0) 118 r 0) 118 r = 0 ∧ (up_ (up_ (up_ (up_ M 117 r w) 115 r 0) 116 r 0) 118 r 0) 114 = M 114 := fun w => by
    refine ⟨?_, ?_, ?_, up_at, ?_⟩
    · rw [up_ne (by decide), up_ne (by decide), up_ne (by decide), up_at]
    · rw [up_ne (by decide), up_ne (by decide), up_at]
    · rw [up_ne (by decide), up_at]
    · rw [up_ne (by decide), up_ne (by decide), up_ne (by decide), up_ne (by decide)]
  unfold z24
  refine x_103 hi (fun k1 => ?_) (fun k1 => ?_)
  · rw [e3] at k1
    obtain ⟨R0, F0⟩ := A 1
    obtain ⟨c7, c5, c6, c8, c4⟩ := A7 1
    refine ⟨⟨hr, .inr rfl⟩, m12, hr, m12, hr, m12, ⟨hr, .inl rfl⟩, m12, hr, fun _ => ?_⟩
    rw [up_at, if_neg (by decide)]
    generalize up_ (up_ (up_ (up_ M 117 r 1) 115 r 0) 116 r 0) 118 r 0 = M0 at *
    obtain ⟨f70, f73, f71⟩ := RLF_70 F0.1
    obtain ⟨⟨n1, m1, z1, h13⟩, hd2⟩ := hd k1
    have et : dlt (M 70) (M 73) a = M 73 (a + 1) := by unfold dlt; rw [if_pos k1]
    have eb : dlb (M 70) a = 1 := by unfold dlb; rw [if_pos k1]
    refine x_105 (FL_i R0) (fun _ => ?_) (fun e => by rw [R0.1.2.1.2] at e; (clear h hr hd h12 h16 hK hi m12 A A7 k1 R0 F0 c7 c5 c6 c8 c4 f70 f73 f71 hd2 n1 m1 z1 et eb; omega))
    have R1 := FL_go R0 h12 (by rw [f70, k1]; decide)
    have F1 : FLF 0 r M N (nX_ M0) N := FLF_tr F0 FLF_nX
    have g7 : nX_ M0 117 r = 1 ∧ nX_ M0 118 r = 0 ∧ nX_ M0 114 = M 114 := by rw [nX_ne (by decide), nX_ne (by decide), nX_ne (by decide)]; exact ⟨c7, c8, c4⟩
    refine ⟨R1.1.2.2.2, ?_⟩
    generalize nX_ M0 = Ma at *
    clear F0 c7 c5 c6 c8 c4 R0 f70 f73 f71
    obtain ⟨f70, f73, f71⟩ := RLF_70 F1.1
    have a3 := R1.1.2.1.2
    refine x_124 (FL_i R1) (fun _ _ _ => ?_) (fun e => by rw [a3, f70] at e; (clear h hr hd h12 h16 hK hi e3 m12 A A7 k1 hd2 m1 z1 h13 et eb R1 F1 g7 f70 f73 f71 a3; lia)) (fun _ e => by rw [a3, f73] at e; (clear h hr hd h12 h16 hK hi m12 A A7 k1 hd2 n1 eb R1 F1 g7 f70 f73 f71; omega))
    rw [a3, f73]
    have R2 := FL_go R1 h13 (by rw [f70, n1]; decide)
    have F2 : FLF 0 r M N (nX_ Ma) N := FLF_tr F1 FLF_nX
    refine ⟨hr, R2.1.2.2.2, R2.1.2.2.2, hr, hr, ?_⟩
    rw [up_at]
    have R3 : FL (up_ (up_ (nX_ Ma) 115 r (M 73 (a + 1))) 116 r (M 73 (a + 1))) N (a + 1 + 1) := FL_up (by decide) (FL_up (by decide) R2)
    have F3 : FLF 0 r M N (up_ (up_ (nX_ Ma) 115 r (M 73 (a + 1))) 116 r (M 73 (a + 1))) N := FLF_tr (FLF_tr F2 (FLF_up (.inl ⟨by decide, rfl⟩))) (FLF_up (.inl ⟨by decide, rfl⟩))
    have c5 : (up_ (up_ (nX_ Ma) 115 r (M 73 (a + 1))) 116 r (M 73 (a + 1))) 115 r = M 73 (a + 1) := by rw [up_ne (by decide), up_at]
    have c6 : (up_ (up_ (nX_ Ma) 115 r (M 73 (a + 1))) 116 r (M 73 (a + 1))) 116 r = M 73 (a + 1) := up_at
    have c7 : (up_ (up_ (nX_ Ma) 115 r (M 73 (a + 1))) 116 r (M 73 (a + 1))) 117 r = 1 := by rw [up_ne (by decide), up_ne (by decide), nX_ne (by decide)]; exact g7.1
    have c8 : (up_ (up_ (nX_ Ma) 115 r (M 73 (a + 1))) 116 r (M 73 (a + 1))) 118 r = 0 := by rw [up_ne (by decide), up_ne (by decide), nX_ne (by decide)]; exact g7.2.1
    have c4 : (up_ (up_ (nX_ Ma) 115 r (M 73 (a + 1))) 116 r (M 73 (a + 1))) 114 = M 114 := by rw [up_ne (by decide), up_ne (by decide), nX_ne (by decide)]; exact g7.2.2
    generalize up_ (up_ (nX_ Ma) 115 r (M 73 (a + 1))) 116 r (M 73 (a + 1)) = Mb at *
    clear g7 R2 F2 R1 F1 f70 f73 f71 a3
    obtain ⟨f70, f73, f71⟩ := RLF_70 F3.1
    rw [show a + 1 + 1 = a + 2 by omega] at R3
    have b3 := R3.1.2.1.2
    refine x_103 (FL_i R3) (fun k2 => ?_) (fun k2 => ?_)
    · rw [if_neg (by decide)]
      have k2' : M 70 (a + 2) = 115 := by rw [b3, f70] at k2; exact k2
      obtain ⟨n2, m2, z2, h14⟩ := hd2 k2'
      have em : dmt (M 70) (M 73) a = M 73 (a + 3) := by unfold dmt; rw [if_pos k1, if_pos k2']
      have ew : drw (M 70) a = 1 := by unfold drw; rw [if_pos k1, if_pos k2']
      have ee : dle (M 70) a = a + 4 := by unfold dle; rw [if_pos k1, if_pos k2']
      refine x_105 (FL_i R3) (fun _ => ?_) (fun e => by rw [b3] at e; (clear h hr hd h12 hK hi m12 A A7 k1 hd2 n1 m1 z1 h13 et eb R3 F3 c5 c6 c7 c8 c4 f70 f73 f71 k2 k2' n2 m2 z2 h14 em ew; omega))
      have R4 := FL_go R3 (by (clear h hr hd h12 hK hi m12 A A7 k1 hd2 n1 m1 z1 h13 et eb R3 F3 c5 c6 c7 c8 c4 f70 f73 f71 k2 k2' n2 m2 z2 h14 em ew; omega)) (by rw [f70, k2']; decide)
      have F4 : FLF 0 r M N (nX_ Mb) N := FLF_tr F3 FLF_nX
      refine ⟨R4.1.2.2.2, ⟨hr, .inr rfl⟩, R4.1.2.2.2, ?_⟩
      have R5 : FL (up_ (nX_ Mb) 118 r 1) N (a + 2 + 1) := FL_up (by decide) R4
      have F5 : FLF 0 r M N (up_ (nX_ Mb) 118 r 1) N := FLF_tr F4 (FLF_up (.inl ⟨by decide, rfl⟩))
      have g5 : up_ (nX_ Mb) 118 r 1 115 r = M 73 (a + 1) := by rw [up_ne (by decide), nX_ne (by decide)]; exact c5
      have g7 : up_ (nX_ Mb) 118 r 1 117 r = 1 := by rw [up_ne (by decide), nX_ne (by decide)]; exact c7
      have g8 : up_ (nX_ Mb) 118 r 1 118 r = 1 := up_at
      have g4 : up_ (nX_ Mb) 118 r 1 114 = M 114 := by rw [up_ne (by decide), nX_ne (by decide)]; exact c4
      generalize nX_ Mb 1 3 = p
      generalize up_ (nX_ Mb) 118 r 1 = Mc at *
      rw [show a + 2 + 1 = a + 3 by (clear h hr hd h12 h16 hK hi e3 m12 A A7 k1 hd2 n1 m1 z1 h13 et eb R3 F3 c5 c6 c7 c8 c4 f70 f73 f71 b3 k2 k2' n2 m2 z2 h14 em ew ee R4 F4 R5 F5 g5 g7 g8 g4; lia)] at R5
      obtain ⟨f70', f73', f71'⟩ := RLF_70 F5.1
      have c3 := R5.1.2.1.2
      refine x_124 (FL_i R5) (fun _ _ _ => ?_) (fun e => by rw [c3, f70'] at e; (clear h hr hd h12 h16 hK hi e3 m12 A A7 k1 hd2 n1 m1 z1 h13 et eb R3 F3 c5 c6 c7 c8 c4 f70 f73 f71 b3 k2 k2' m2 z2 h14 em ew ee R4 F4 R5 F5 g5 g7 g8 g4 f70' f73' f71' c3; lia)) (fun _ e => by rw [c3, f73'] at e; (clear h hr hd h12 hK hi m12 A A7 k1 hd2 n1 m1 z1 h13 et eb R3 F3 c5 c6 c7 c8 c4 f70 f73 f71 k2 k2' n2 h14 ew R4 F4 R5 F5 g5 g7 g8 g4 f70' f73' f71'; lia))
      rw [c3, f73']
      have R6 := FL_go R5 h14 (by rw [f70', n2]; decide)
      refine ⟨hr, fun _ => ?_⟩
      rw [if_pos R6.1.2.2.1]
      refine hK _ (by rw [ee, show a + 4 = a + 3 + 1 by (clear h hr hd h12 h16 hK hi e3 m12 A A7 k1 hd2 n1 m1 z1 h13 et eb R3 F3 c5 c6 c7 c8 c4 f70 f73 f71 b3 k2 k2' n2 m2 z2 h14 em ew ee R4 F4 R5 F5 g5 g7 g8 g4 f70' f73' f71' c3 R6; omega)]; exact FL_up (by decide) R6) (FLF_tr (FLF_tr F5 FLF_nX) (FLF_up (.inl ⟨by decide, rfl⟩))) ⟨⟨?_, ?_, ?_, ?_⟩, ?_⟩
      · rw [up_ne (by decide), nX_ne (by decide), et]; exact g5
      · rw [up_at, em]
      · rw [up_ne (by decide), nX_ne (by decide), eb]; exact g7
      · rw [up_ne (by decide), nX_ne (by decide), ew]; exact g8
      · rw [up_ne (by decide), nX_ne (by decide)]; exact g4
    · rw [if_pos rfl]
      have k2' : ¬ M 70 (a + 2) = 115 := by rw [b3, f70] at k2; exact k2
      have em : dmt (M 70) (M 73) a = M 73 (a + 1) := by unfold dmt; rw [if_pos k1, if_neg k2']
      have ew : drw (M 70) a = 0 := by unfold drw; rw [if_pos k1, if_neg k2']
      have ee : dle (M 70) a = a + 2 := by unfold dle; rw [if_pos k1, if_neg k2']
      exact hK Mb (by rw [ee]; exact R3) F3 ⟨⟨by rw [et]; exact c5, by rw [em]; exact c6, by rw [eb]; exact c7, by rw [ew]; exact c8⟩, c4⟩
  · rw [e3] at k1
    obtain ⟨R0, F0⟩ := A 0
    obtain ⟨c7, c5, c6, c8, c4⟩ := A7 0
    refine ⟨⟨hr, .inl rfl⟩, m12, hr, m12, hr, m12, ⟨hr, .inl rfl⟩, m12, hr, fun _ => ?_⟩
    rw [up_at, if_pos rfl]
    have ee : dle (M 70) a = a := by unfold dle; rw [if_neg k1]
    refine hK _ (by rw [ee]; exact R0) F0 ⟨⟨?_, ?_, ?_, ?_⟩, c4⟩
    · unfold dlt; rw [if_neg k1]; exact c5
    · unfold dmt; rw [if_neg k1]; exact c6
    · unfold dlb; rw [if_neg k1]; exact c7
    · unfold drw; rw [if_neg k1]; exact c8
theorem f_351 [Inhabited gh_] (hV : Cl_ wd0 (Tr_ wd0 pg0 130) V (rv_ Kv) Qt m_122) (hW : Wk_ V) (hr : 0 ≤ r ∧ r < 10) : ∀ (m : Nat) (a : Int) (M : mm_), FL M N a → LST (M 70) m a
    → (hK : ∀ M1, FL M1 N (a + 2 * m) → FLF 0 r M N M1 N → (M1 114 = M 114 ∧ M1 115 = M 115 ∧ M1 116 = M 116 ∧ M1 117 = M 117 ∧ M1 118 = M 118) → M1 119 r = lsv N m a (M 119 r) → Kv M1)
    → V 351 [rr 1, ii y1, ii y2, ii r, ii 1, none, none] [] M
  | 0, _, _, _, hm, _ => hm.elim
  | m + 1, a, M, h, hm, hK => by
    have e3 := h.1.2.1.2
    obtain ⟨⟨k1, h12⟩, ho⟩ := hm
    have h11 : a < 1200 := by omega
    refine b_122_351 (Tr_mono _) hV hW _ _ _ _ _ ?_
    rw [if_neg (by decide)]
    refine x_107 (FL_i h) (fun _ _ => ?_) (fun e => by rw [e3] at e; (clear hV hW hr h hK e3 ho h12 h11; lia)) (fun _ e => by rw [e3] at e; omega)
    rw [e3]
    have R1 := FL_go h h11 (by rw [k1]; decide)
    have nmt : nm9_ (nX_ M) a := ⟨gd_c (nX_ne (by decide)) h.1.2.1.1, by rw [nX_ne (by decide)]; exact k1⟩
    refine x_112s R1.1.1 R1.1.2.2.2 R1.2.1 nmt ?_
    intro _
    rw [if_pos R1.1.2.2.1]
    have tail : ∀ Mb, FL Mb N (a + 1) → FLF 0 r M N Mb N → (Mb 114 = M 114 ∧ Mb 115 = M 115 ∧ Mb 116 = M 116 ∧ Mb 117 = M 117 ∧ Mb 118 = M 118) → Mb 119 r = lsb N a (M 119 r) → Tr_ wd0 pg0 130 117 [.inr (.inr 1), .inl 44] Mb (ri_ fun w1 M1 =>
   (if w1 = 0 then
    V 351 [rr 1, ii y1, ii y2, ii r, ii w1, none, none] [] M1
   else
    Tr_ wd0 pg0 130 105 [.inr (.inr 1)] M1 (rv_ fun M2 =>
     V 351 [rr 1, ii y1, ii y2, ii r, ii w1, none, none] [] M2) Qt)) Qt := fun Mb Rb Fb rb bb => by
      have f70 := (RLF_70 Fb.1).1
      have b3 := Rb.1.2.1.2
      have xx : ∀ k : Nat, k ≠ 1 → nX_ Mb k = Mb k := fun k hk => nX_ne hk
      refine x_117 (FL_i Rb) (by decide) (by decide) (fun k2 => ?_) (fun k2 => ?_)
      · rw [if_neg (by decide)]
        have k2' : M 70 (a + 1) = 244 := by rw [b3, f70] at k2; exact k2
        rcases ho with c | ⟨_, c⟩
        · omega
        refine x_105 (FL_i Rb) (fun _ => ?_) (fun e => by rw [b3] at e; (clear hV hW hr h hK e3 k1 h11 R1 nmt Rb Fb rb bb f70 xx k2 k2' c; omega))
        have R2 := FL_go Rb h12 (by rw [f70, k2']; decide)
        rw [show a + 1 + 1 = a + 2 by omega] at R2
        refine f_351 hV hW hr m (a + 2) (nX_ Mb) R2 (by rw [xx 70 (by decide), f70]; exact c) (fun M1 R3 F3 w3 v3 => ?_)
        refine hK M1 (by rw [show a + 2 * ((m + 1 : Nat) : Int) = a + 2 + 2 * m by (clear hV hW hr h hK e3 k1 h12 h11 R1 nmt Rb Fb rb bb f70 b3 xx k2 k2' c R2 R3 F3 w3 v3; lia)]; exact R3) (FLF_tr (FLF_tr Fb FLF_nX) F3) ⟨by rw [w3.1, xx 114 (by decide)]; exact rb.1, by rw [w3.2.1, xx 115 (by decide)]; exact rb.2.1, by rw [w3.2.2.1, xx 116 (by decide)]; exact rb.2.2.1, by rw [w3.2.2.2.1, xx 117 (by decide)]; exact rb.2.2.2.1, by rw [w3.2.2.2.2, xx 118 (by decide)]; exact rb.2.2.2.2⟩ ?_
        rw [v3, xx 119 (by decide), bb]; rfl
      · rw [if_pos rfl]
        have k2' : ¬ M 70 (a + 1) = 244 := by rw [b3, f70] at k2; exact k2
        rcases ho with ⟨c, m0⟩ | ⟨c, _⟩
        · refine b_122_351 (Tr_mono _) hV hW _ _ _ _ _ ?_
          rw [if_pos rfl]
          refine x_121 (FL_i Rb) (by decide) (by decide) (fun _ _ => ?_) (fun e => by rw [b3, f70] at e; (clear hV hW hr h hK e3 k1 h12 h11 R1 nmt Rb Fb rb bb f70 b3 xx k2 k2' m0; lia)) (fun _ e => by rw [b3] at e; (clear hV hW hr h hK e3 k1 h11 R1 nmt Rb Fb rb bb f70 xx k2 k2' c m0; lia))
          have R2 := FL_go Rb h12 (by rw [f70, c]; decide)
          rw [m0] at hK
          exact rv_i (hK _ (by rw [show a + 2 * ((0 + 1 : Nat) : Int) = a + 1 + 1 by (clear hV hW hr h hK e3 k1 h12 h11 R1 nmt Rb Fb rb bb f70 b3 xx k2 k2' c m0 R2; lia)]; exact R2) (FLF_tr Fb FLF_nX) ⟨by rw [xx 114 (by decide)]; exact rb.1, by rw [xx 115 (by decide)]; exact rb.2.1, by rw [xx 116 (by decide)]; exact rb.2.2.1, by rw [xx 117 (by decide)]; exact rb.2.2.2.1, by rw [xx 118 (by decide)]; exact rb.2.2.2.2⟩ (by rw [xx 119 (by decide), bb]; rfl))
        · exact absurd c k2'
    have F1 : FLF 0 r M N (nX_ M) N := FLF_nX
    have fx : ∀ k : Nat, k ≠ 1 → nX_ M k = M k := fun k hk => nX_ne hk
    refine b_122_390 (Tr_mono _) hV hW _ _ _ _ _ _ _ ?_
    by_cases c : sgl N (N 151 a) = -1
    · rw [if_pos c]
      exact tail _ R1 F1 ⟨fx _ (by decide), fx _ (by decide), fx _ (by decide), fx _ (by decide), fx _ (by decide)⟩ (by rw [fx 119 (by decide)]; unfold lsb; rw [if_pos c])
    · rw [if_neg c]
      refine ⟨R1.1.2.2.2, hr, hr, ?_⟩
      refine tail _ (FL_up (by decide) R1) (FLF_tr F1 (FLF_up (.inl ⟨by decide, rfl⟩))) ⟨by rw [up_ne (by decide)]; exact fx _ (by decide), by rw [up_ne (by decide)]; exact fx _ (by decide), by rw [up_ne (by decide)]; exact fx _ (by decide), by rw [up_ne (by decide)]; exact fx _ (by decide), by rw [up_ne (by decide)]; exact fx _ (by decide)⟩ (by rw [up_at, fx 119 (by decide)]; unfold lsb; rw [if_neg c])
end FLa
end T288_fl
section T289_fl
/-! routes filled: a route whole, X alone; then all -/
section FLb
variable {d : Nat} {r t v y1 y2 x2 : Int} {K : Int → mm_ → Prop} {Kv : mm_ → Prop} {Qt : qt_} {V : vv_} {M N M1 N1 : mm_} {a a' : Int}
theorem f_122 [Inhabited gh_] {m : Nat} (h : FL M N a) (h9 : M 1 9 = 1) (h32 : M 1 32 = r) (hr : 0 ≤ r ∧ r < 10) (hk : M 70 a = 1) (hR : RTE (M 70) (M 73) a m)
    (hK : ∀ M1 a', FL M1 N a' → FLF 0 r (up_ M 1 32 (r + 1)) N M1 N → RTX M1 N r a → Kv M1) : Tr_ wd0 pg0 131 122 [.inr (.inr 1)] M (rv_ Kv) Qt := by
  obtain ⟨ho, o1, ⟨k2, h13⟩, o3, o4, ⟨k5, h15⟩, o8⟩ := hR
  have e3 := h.1.2.1.2
  have a0 := h.1.2.1.1.1
  have g := dle_le (κ := M 70) (a := a + 5)
  refine t_122 fun V hV hW => b_122_0 (Tr_mono _) hV hW _ (x_105 (FL_i h) (fun _ => ?_) (fun e => by rw [e3] at e; omega))
  have R1 := FL_go h (by (clear h h9 h32 hr hk hK ho o1 k2 o3 o4 o8 k5 h15 g hV hW; omega)) (by rw [hk]; decide)
  have b3 := R1.1.2.1.2
  have n70 : nX_ M 70 = M 70 := nX_ne (by decide)
  refine x_107 (FL_i R1) (fun _ _ => ?_) (fun e => by rw [b3, n70] at e; (clear h h9 h32 hr hk hK o1 k2 h13 o3 o4 o8 k5 h15 e3 a0 g hV hW R1 b3 n70; omega)) (fun _ e => by rw [b3] at e; (clear h h9 h32 hr hk hK ho o1 k2 o3 o4 o8 k5 h15 g hV hW R1 n70; lia))
  rw [b3, e3]
  have R2 := FL_go R1 ho.2 (by rw [n70, ho.1]; decide)
  intro _
  rw [if_pos R2.1.2.2.1]
  intro _
  have e9 : nX_ (nX_ M) 1 9 = 1 := by rw [nX_1 (by decide), nX_1 (by decide)]; exact h9
  have e32 : nX_ (nX_ M) 1 32 = r := by rw [nX_1 (by decide), nX_1 (by decide)]; exact h32
  rw [e9, if_neg (by decide)]
  refine b_122_103 (Tr_mono _) hV hW _ _ _ ?_
  rw [e32, w32_id (x := r + 1) (by (clear h h9 h32 hk hK ho o1 k2 h13 o3 o4 o8 k5 h15 e3 a0 g hV hW R1 b3 n70 R2 e9; lia)) (by omega), w32_id (x := 2 * r) (by (clear h h9 h32 hk hK ho o1 k2 h13 o3 o4 o8 k5 h15 e3 a0 g hV hW R1 b3 n70 R2 e9; lia)) (by omega), w32_id (x := 2 * r + 1) (by (clear h h9 h32 hk hK ho o1 k2 h13 o3 o4 o8 k5 h15 e3 a0 g hV hW R1 b3 n70 R2 e9; lia)) (by omega)]
  refine ⟨R2.1.2.2.2, ?_⟩
  have R0 : FL (up_ (nX_ (nX_ M)) 1 32 (r + 1)) N (a + 1 + 1) := FL_c R2 (fun k hk => up_ne (fun e => by rw [e] at hk; revert hk; decide)) (up_of2 (by decide)) (up_of2 (by decide)) ⟨gd_c (up_ne (by decide)) R2.1.2.1.1, by rw [up_of2 (by decide)]; exact R2.1.2.1.2⟩
  have F0 : FLF 0 r (up_ M 1 32 (r + 1)) N (up_ (nX_ (nX_ M)) 1 32 (r + 1)) N := by
    have x1 : ∀ i : Int, i ≠ 3 → up_ (nX_ (nX_ M)) 1 32 (r + 1) 1 i = up_ M 1 32 (r + 1) 1 i := fun i h3 => by
      by_cases c : i = 32
      · rw [c, up_at, up_at]
      · rw [up_of2 c, nX_1 h3, nX_1 h3, up_of2 c]
    refine ⟨⟨⟨fun k hk => ?_, fun i hi => x1 i (nm_i hi (by decide)), fun k hk i _ => ?_, fun i _ _ => ?_⟩, fun _ _ => rfl, fun _ _ => rfl, fun _ h => h⟩, x1⟩
    · have h1 : k ≠ 1 := fun e => hk (by rw [e]; decide)
      rw [up_ne h1, nX_ne h1, nX_ne h1, up_ne h1]
    · have h1 : k ≠ 1 := fun e => by rw [e] at hk; revert hk; decide
      rw [up_ne h1, nX_ne h1, nX_ne h1, up_ne h1]
    · rw [up_ne (by decide), nX_ne (by decide), nX_ne (by decide), up_ne (by decide)]
  rw [show a + 1 + 1 = a + 2 by omega] at R0
  have a70 : up_ M 1 32 (r + 1) 70 = M 70 := up_ne (by decide)
  have a73 : up_ M 1 32 (r + 1) 73 = M 73 := up_ne (by decide)
  generalize up_ (nX_ (nX_ M)) 1 32 (r + 1) = Ma at *
  generalize up_ M 1 32 (r + 1) = M0 at *
  have s70 : ∀ {M1}, FLF 0 r M0 N M1 N → M1 70 = M 70 ∧ M1 73 = M 73 := fun f => ⟨(RLF_70 f.1).1.trans a70, (RLF_70 f.1).2.1.trans a73⟩
  have sda : ∀ y, sdv M0 N y = sdv M N y := fun y => by unfold sdv; rw [a70]
  have s0 : ∀ {M1}, FLF 0 r M0 N M1 N → ∀ y, sdv M1 N y = sdv M N y := fun f y => (sdv_e f.1).1.trans (sda y)
  have b70 := (s70 F0).1
  refine f_side R0 (by rw [b70]; exact o1) (fun R3 => ?_)
  rw [s0 F0 (a + 2)]
  refine ⟨by (clear h h9 h32 hk ho o1 k2 h13 o3 o4 o8 k5 h15 e3 a0 g hV hW R1 b3 n70 R2 e9 R0 hK a70 a73 F0 s70 sda s0 b70 R3; lia), ?_⟩
  have R1' : FL (up_ (nX_ Ma) 114 (2 * r) (sdv M N (a + 2))) N (a + 2 + 1) := FL_up (by decide) R3
  have F1' : FLF 0 r M0 N (up_ (nX_ Ma) 114 (2 * r) (sdv M N (a + 2))) N := FLF_tr (FLF_tr F0 FLF_nX) (FLF_up (.inr ⟨rfl, .inl rfl⟩))
  have u1 : up_ (nX_ Ma) 114 (2 * r) (sdv M N (a + 2)) 114 (2 * r) = sdv M N (a + 2) := up_at
  generalize up_ (nX_ Ma) 114 (2 * r) (sdv M N (a + 2)) = Mb at *
  rw [show a + 2 + 1 = a + 3 by omega] at R1'
  clear R3 R0 F0 b70 b3 R2 R1
  have b70 := (s70 F1').1
  have b3 := R1'.1.2.1.2
  refine x_108 (FL_i R1') (fun _ _ => ?_) (fun e => by rw [b3, b70] at e; omega) (fun _ e => by rw [b3] at e; (clear h h9 h32 hr hk ho o1 k2 o3 o4 o8 k5 h15 g hV hW n70 e9 e32 hK a70 a73 s70 sda s0 R1' F1' u1 b70; omega))
  have R2 := FL_go R1' h13 (by rw [b70, k2]; decide)
  have F2 : FLF 0 r M0 N (nX_ Mb) N := FLF_tr F1' FLF_nX
  have u2 : nX_ Mb 114 (2 * r) = sdv M N (a + 2) := by rw [nX_ne (by decide)]; exact u1
  rw [show a + 3 + 1 = a + 4 by omega] at R2
  generalize nX_ Mb = Mc at *
  clear R1' F1' u1 b70 b3
  refine ⟨R2.1.2.2.2, ?_⟩
  have b70 := (s70 F2).1
  refine f_side R2 (by rw [b70]; exact o3) (fun R3 => ?_)
  rw [s0 F2 (a + 4)]
  have R3' : FL (up_ (nX_ Mc) 114 (2 * r + 1) (sdv M N (a + 4))) N (a + 4 + 1) := FL_up (by decide) R3
  have F3' : FLF 0 r M0 N (up_ (nX_ Mc) 114 (2 * r + 1) (sdv M N (a + 4))) N := FLF_tr (FLF_tr F2 FLF_nX) (FLF_up (.inr ⟨rfl, .inr rfl⟩))
  have u3 : up_ (nX_ Mc) 114 (2 * r + 1) (sdv M N (a + 4)) 114 (2 * r + 1) = sdv M N (a + 4) := up_at
  have u4 : up_ (nX_ Mc) 114 (2 * r + 1) (sdv M N (a + 4)) 114 (2 * r) = sdv M N (a + 2) := by rw [up_of2 (by omega), nX_ne (by decide)]; exact u2
  refine ⟨by (clear h h9 h32 hk ho o1 k2 h13 o3 o4 o8 k5 h15 e3 a0 g hV hW n70 e9 hK a70 a73 s70 sda s0 R2 F2 u2 b70 R3 R3' F3' u3 u4; lia), R3.1.2.2.2, ?_⟩
  generalize up_ (nX_ Mc) 114 (2 * r + 1) (sdv M N (a + 4)) = Md at *
  rw [show a + 4 + 1 = a + 5 by omega] at R3'
  clear R3 R2 F2 u2 b70
  obtain ⟨b70, b73⟩ := s70 F3'
  show z24 V Qt _ _ r Md
  refine f_dly R3' hr (by rw [b70, b73]; exact o4) (by omega) (by rw [b70]; omega) (fun M4 R4 F4 d4 => ?_)
  unfold DRW at d4
  rw [b70, b73] at d4
  rw [b70] at R4
  have F5 := FLF_tr F3' F4
  have u5 : M4 114 (2 * r + 1) = sdv M N (a + 4) := by rw [d4.2]; exact u3
  have u6 : M4 114 (2 * r) = sdv M N (a + 2) := by rw [d4.2]; exact u4
  replace d4 := d4.1
  clear F4 F3' R3' u3 u4 b70 b73
  obtain ⟨b70, b73⟩ := s70 F5
  generalize hde : dle (M 70) (a + 5) = e at *
  unfold z23
  have b3 := R4.1.2.1.2
  refine x_108 (FL_i R4) (fun _ _ => ?_) (fun e => by rw [b3, b70] at e; (clear h h9 h32 hr hk ho o1 k2 h13 o3 o4 e3 a0 hV hW n70 e9 e32 hK a70 a73 s70 sda s0 F5 u5 u6 d4 b70 b73 hde o8 h15 g R4 b3; lia)) (fun _ e => by rw [b3] at e; (clear h h9 h32 hr hk ho o1 k2 h13 o3 o4 e3 a0 hV hW n70 e9 e32 hK a70 a73 s70 sda s0 F5 u5 u6 d4 b70 b73 hde o8 k5 g R4; omega))
  have R5 := FL_go R4 h15 (by rw [b70, k5]; decide)
  refine ⟨R5.1.2.2.2, hr, ?_⟩
  have R6 : FL (up_ (nX_ M4) 119 r 0) N (e + 1) := FL_up (by decide) R5
  have F7 : FLF 0 r M0 N (up_ (nX_ M4) 119 r 0) N := FLF_tr (FLF_tr F5 FLF_nX) (FLF_up (.inl ⟨by decide, rfl⟩))
  have y : ∀ k : Nat, k ≠ 1 → k ≠ 119 → up_ (nX_ M4) 119 r 0 k = M4 k := fun k h1 h2 => by rw [up_ne h2, nX_ne h1]
  have y9 : up_ (nX_ M4) 119 r 0 119 r = 0 := up_at
  generalize up_ (nX_ M4) 119 r 0 = Me at *
  clear R5 R4 F5 b70 b73 b3
  obtain ⟨b70, b73⟩ := s70 F7
  refine f_351 hV hW hr m (e + 1) Me R6 (by rw [b70]; exact o8) (fun M1 R8 F8 w8 v8 => ?_)
  have F9 := FLF_tr F7 F8
  obtain ⟨c70, c73⟩ := s70 F9
  rw [y9] at v8
  refine hK M1 _ R8 F9 ⟨⟨?_, ?_⟩, ⟨?_, ?_, ?_, ?_⟩, fun m' hm' => ?_⟩
  · rw [w8.1, y 114 (by decide) (by decide), u6, s0 F9 (a + 2)]
  · rw [w8.1, y 114 (by decide) (by decide), u5, s0 F9 (a + 4)]
  · rw [w8.2.1, y 115 (by decide) (by decide), c70, c73]; exact d4.1
  · rw [w8.2.2.1, y 116 (by decide) (by decide), c70, c73]; exact d4.2.1
  · rw [w8.2.2.2.1, y 117 (by decide) (by decide), c70]; exact d4.2.2.1
  · rw [w8.2.2.2.2, y 118 (by decide) (by decide), c70]; exact d4.2.2.2
  · rw [c70, hde] at hm' ⊢
    rw [LST_u m' m _ hm' o8, v8]
end FLb
end T289_fl
section T290_rs
/-! Q's resolve (315) -/
def rs1 (N : mm_) (r : Int) (m : Nat) : mm_ := up_ (up_ (up_ N 160 r (if N 158 r = 0 then -1 else tpl N (N 158 r))) 161 r (if N 159 r = 0 then -1 else tpl N (N 159 r))) 164 r (lsv N m (N 165 r) 0)
def rsn (N : mm_) (mm : Int → Nat) : Nat → mm_
  | 0 => N
  | n + 1 => rs1 (rsn N mm n) n (mm n)
/-- a list in Q's tokens -/
def LSQ (N : mm_) : Nat → Int → Prop
  | 0, _ => False
  | m + 1, a => (N 149 a = 1 ∧ 0 ≤ a ∧ a + 1 < 1200) ∧ ((¬ (N 149 (a + 1) = 3 ∧ N 151 (a + 1) = 44) ∧ m = 0) ∨ ((N 149 (a + 1) = 3 ∧ N 151 (a + 1) = 44) ∧ LSQ N m (a + 2)))
section RSa
variable {d : Nat} {r t v w : Int} {Kv : mm_ → Prop} {Qt : qt_} {V : vv_} {M N M1 N1 : mm_} {a a' : Int}
theorem gd_s [Inhabited gh_] (h : gd_ M a) (h1 : a < 1200) (hk : M 70 a ≠ 102 ∧ M 70 a ≠ 103) : gd_ M (a + 1) := ⟨by have := h.1; (clear h hk; omega), by omega, fun j j0 j1 => by
  by_cases c : j = a
  · rw [c]; exact hk
  · exact h.2.2 j j0 (by (clear h h1 hk j0; lia))⟩
theorem LST_q [Inhabited gh_] (hT : Tks M N) : ∀ (m : Nat) (a : Int), gd_ M a → LST (M 70) m a → LSQ N m a
  | 0, _, _, h => h.elim
  | m + 1, a, hg, h => by
    obtain ⟨⟨k1, h12⟩, ho⟩ := h
    have g1 := gd_s hg (by omega) (by rw [k1]; decide)
    have q0 := (hT a hg).1
    have q1 := (hT (a + 1) g1).1
    unfold KQ at q0 q1
    refine ⟨⟨by omega, hg.1, h12⟩, ?_⟩
    rcases ho with ⟨c, m0⟩ | ⟨c, o⟩
    · exact .inl ⟨by omega, m0⟩
    · have g2 := gd_s g1 (by omega) (by rw [c]; decide)
      rw [show a + 1 + 1 = a + 2 by omega] at g2
      exact .inr ⟨by (clear hT hg k1 h12 g1 q0 o g2; omega), LST_q hT m (a + 2) g2 o⟩
theorem LSQ_e [Inhabited gh_] (h149 : N1 149 = N 149) (h151 : N1 151 = N 151) : ∀ (m : Nat) (a : Int), LSQ N m a → LSQ N1 m a
  | 0, _, h => h.elim
  | m + 1, a, h => by
    unfold LSQ
    rw [h149, h151]
    exact ⟨h.1, h.2.imp id fun c => ⟨c.1, LSQ_e h149 h151 m (a + 2) c.2⟩⟩
theorem l_86 [Inhabited gh_] (hV : Cl_ wd0 (Tr_ wd0 pg0 (d + 1)) V (rv_ Kv) Qt m_315) (hW : Wk_ V) (hr : 0 ≤ r ∧ r < 10) : ∀ (m : Nat) (a : Int) (N : mm_), sgl9 M N → LSQ N m a → V 2 [rr 6, ii (r + 1), none, none] [] (up_ N 164 r (lsv N m a (N 164 r))) → V 86 [rr 6, ii r, ii a, none] [] N
  | 0, _, _, _, h, _ => h.elim
  | m + 1, a, N, hs, h, hK => by
    obtain ⟨⟨k1, a0, h12⟩, ho⟩ := h
    refine b_315_86 (Tr_mono _) hV hW _ _ _ ⟨by omega, ?_⟩
    rw [if_pos k1]
    refine ⟨by omega, q_251t hs ?_⟩
    have fin : ∀ N1, (∀ k : Nat, k ≠ 164 → N1 k = N k) → N1 164 r = lsb N a (N 164 r) → (∀ i, i ≠ r → N1 164 i = N 164 i) → V 123 [rr 6, ii r, ii a, ii (sgl N (N 151 a))] [] N1 := fun N1 e1 e2 e3 => by
      refine b_315_123 (Tr_mono _) hV hW _ _ _ _ ?_
      rw [w32_id (x := a + 1) (by omega) (by (clear hV hW hr hs hK ho k1 e1 e2 e3; omega)), w32_id (x := a + 2) (by omega) (by omega), w32_id (x := r + 1) (by omega) (by omega), e1 149 (by decide), e1 151 (by decide)]
      have sg : sgl N1 = sgl N := sgl_e (by rw [e1 6 (by decide)]) (e1 152 (by decide))
      rcases ho with ⟨c, m0⟩ | ⟨c, o⟩
      · have kN : V 2 [rr 6, ii (r + 1), none, none] [] N1 := by
          rw [m0] at hK
          have : up_ N 164 r (lsv N 1 a (N 164 r)) = N1 := by
            funext k i
            by_cases ck : k = 164
            · rw [ck]
              by_cases ci : i = r
              · rw [ci, up_at, e2]; rfl
              · rw [up_of2 ci, e3 i ci]
            · rw [up_ne ck, e1 k ck]
          rw [this] at hK; exact hK
        refine ⟨by (clear hV hW hr hs hK k1 e1 e2 e3 sg c m0 kN; omega), ?_⟩
        by_cases c1 : N 149 (a + 1) = 3
        · rw [if_pos c1]
          refine ⟨by omega, ?_⟩
          have c2 : ¬ N 151 (a + 1) = 44 := fun e => c ⟨c1, e⟩
          rw [if_neg (by by_cases c3 : N 151 (a + 1) < 44
                         · rw [if_pos c3]; decide
                         · rw [if_neg c3, if_neg c2]; decide)]
          exact kN
        · rw [if_neg c1]; exact kN
      · refine ⟨by omega, ?_⟩
        rw [if_pos c.1]
        refine ⟨by omega, ?_⟩
        rw [if_pos (by rw [if_neg (by omega), if_pos c.2])]
        refine l_86 hV hW hr m (a + 2) N1 ?_ (LSQ_e (e1 149 (by decide)) (e1 151 (by decide)) m (a + 2) o) ?_
        · unfold sgl9
          rw [e1 6 (by decide), e1 152 (by decide), e1 151 (by decide)]; exact hs
        · rw [e2, lsv_e sg (e1 151 (by decide))]
          have : up_ N1 164 r (lsv N m (a + 2) (lsb N a (N 164 r))) = up_ N 164 r (lsv N (m + 1) a (N 164 r)) := by
            funext k i
            by_cases ck : k = 164
            · rw [ck]
              by_cases ci : i = r
              · rw [ci, up_at, up_at]; rfl
              · rw [up_of2 ci, up_of2 ci, e3 i ci]
            · rw [up_ne ck, up_ne ck, e1 k ck]
          rw [this]; exact hK
    have sr : sgl N (N 151 a) = -1 ∨ 0 ≤ sgl N (N 151 a) := by
      unfold sgl
      rcases fi_r (fun i => N 152 i) (N 151 a) (N 6 17).toNat 0 with e | e
      · exact .inl e
      · exact .inr e.1
    by_cases c : sgl N (N 151 a) < 0
    · rw [if_pos c]
      exact fin N (fun _ _ => rfl) (by unfold lsb; rw [if_pos (by (clear hV hW hr hs hK ho k1 a0 h12 fin; lia))]) (fun _ _ => rfl)
    · rw [if_neg c]
      refine ⟨hr, hr, fin _ (fun k hk => up_ne hk) ?_ (fun i hi => up_of2 hi)⟩
      rw [up_at]; unfold lsb; rw [if_neg (by omega)]
theorem rs1_r [Inhabited gh_] {m : Nat} {k : Nat} (h : k ≠ 160) (h1 : k ≠ 161) (h2 : k ≠ 164) : rs1 N r m k = N k := by unfold rs1; rw [up_ne h2, up_ne h1, up_ne h]
theorem rs1_o [Inhabited gh_] {m : Nat} {k : Nat} {i : Int} (h : i ≠ r) : rs1 N r m k i = N k i := by unfold rs1; rw [up_of2 h, up_of2 h, up_of2 h]
theorem rsn_r [Inhabited gh_] {mm : Int → Nat} {k : Nat} (h : k ≠ 160) (h1 : k ≠ 161) (h2 : k ≠ 164) : ∀ n : Nat, rsn N mm n k = N k
  | 0 => rfl
  | n + 1 => by unfold rsn; rw [rs1_r h h1 h2, rsn_r h h1 h2 n]
theorem rsn_k [Inhabited gh_] {mm : Int → Nat} : ∀ (n : Nat) (i : Int), 0 ≤ i → i < n → rsn N mm n 160 i = (if N 158 i = 0 then -1 else tpl N (N 158 i)) ∧ rsn N mm n 161 i = (if N 159 i = 0 then -1 else tpl N (N 159 i)) ∧ rsn N mm n 164 i = lsv N (mm i) (N 165 i) 0
  | 0, i, h0, h1 => by omega
  | n + 1, i, h0, h1 => by
    by_cases c : i = n
    · have e : ∀ k : Nat, k ≠ 160 → k ≠ 161 → k ≠ 164 → rsn N mm n k = N k := fun k h h1 h2 => rsn_r h h1 h2 n
      have tp : tpl (rsn N mm n) = tpl N := tpl_e (by rw [e 6 (by decide) (by decide) (by decide)]) (e 154 (by decide) (by decide) (by decide))
      have sg : sgl (rsn N mm n) = sgl N := sgl_e (by rw [e 6 (by decide) (by decide) (by decide)]) (e 152 (by decide) (by decide) (by decide))
      unfold rsn rs1
      rw [c]
      refine ⟨?_, ?_, ?_⟩
      · rw [up_ne (by decide), up_ne (by decide), up_at, e 158 (by decide) (by decide) (by decide), tp]
      · rw [up_ne (by decide), up_at, e 159 (by decide) (by decide) (by decide), tp]
      · rw [up_at, e 165 (by decide) (by decide) (by decide), lsv_e sg (e 151 (by decide) (by decide) (by decide))]
    · unfold rsn
      rw [rs1_o c, rs1_o c, rs1_o c]
      exact rsn_k n i h0 (by (clear h0; omega))
/-- one route -/
theorem l_315 [Inhabited gh_] (hV : Cl_ wd0 (Tr_ wd0 pg0 (d + 1)) V (rv_ Kv) Qt m_315) (hW : Wk_ V) {m : Nat} (hr : 0 ≤ r ∧ r < 10 ∧ r < N 6 18) (hs : sgl9 M N) (hp : tpl9 M N) (ho : LSQ N m (N 165 r)) (hK : V 2 [rr 6, ii (r + 1), none, none] [] (rs1 N r m)) : V 2 [rr 6, ii r, none, none] [] N := by
  have r9 : 0 ≤ r ∧ r < 10 := ⟨hr.1, hr.2.1⟩
  refine b_315_2 (Tr_mono _) hV hW _ _ ?_
  rw [if_pos hr.2.2]
  have z : ∀ x : Int, ((if x < 0 then (-1 : Int) else if x = 0 then 0 else 1) = 0) ↔ x = 0 := fun x => by
    constructor
    · intro h; split at h
      · (clear hV hW hr hs hp ho hK r9; lia)
      · split at h
        · assumption
        · omega
    · intro h; rw [h]; decide
  -- the second side and the list
  have fin : ∀ N1, (∀ k : Nat, k ≠ 160 → N1 k = N k) → (N1 = up_ N 160 r (if N 158 r = 0 then -1 else tpl N (N 158 r))) → V 41 [rr 6, ii r, none, none] [] N1 := fun N1 e1 e2 => by
    have hp1 : tpl9 M N1 := by unfold tpl9; rw [e1 6 (by decide), e1 154 (by decide), e1 151 (by decide)]; exact hp
    have tp : tpl N1 = tpl N := tpl_e (by rw [e1 6 (by decide)]) (e1 154 (by decide))
    have fin2 : ∀ N2, N2 = up_ (up_ N1 161 r (if N 159 r = 0 then -1 else tpl N (N 159 r))) 164 r 0 → V 86 [rr 6, ii r, ii (N 165 r), none] [] N2 := fun N2 e3 => by
      have e4 : ∀ k : Nat, k ≠ 160 → k ≠ 161 → k ≠ 164 → N2 k = N k := fun k h h1 h2 => by rw [e3, up_ne h2, up_ne h1, e1 k h]
      have sg : sgl N2 = sgl N := sgl_e (by rw [e4 6 (by decide) (by decide) (by decide)]) (e4 152 (by decide) (by decide) (by decide))
      refine l_86 (M := M) hV hW r9 m (N 165 r) N2 ?_ (LSQ_e (e4 149 (by decide) (by decide) (by decide)) (e4 151 (by decide) (by decide) (by decide)) m _ ho) ?_
      · unfold sgl9; rw [e4 6 (by decide) (by decide) (by decide), e4 152 (by decide) (by decide) (by decide), e4 151 (by decide) (by decide) (by decide)]; exact hs
      · have e5 : N2 164 r = 0 := by rw [e3, up_at]
        rw [e5, lsv_e sg (e4 151 (by decide) (by decide) (by decide)), e3, e2]
        have : up_ (up_ (up_ (up_ N 160 r (if N 158 r = 0 then -1 else tpl N (N 158 r))) 161 r (if N 159 r = 0 then -1 else tpl N (N 159 r))) 164 r 0) 164 r (lsv N m (N 165 r) 0) = rs1 N r m := by
          unfold rs1
          funext k i
          by_cases ck : k = 164
          · rw [ck]
            by_cases ci : i = r
            · rw [ci, up_at, up_at]
            · rw [up_of2 (M := up_ (up_ (up_ _ _ _ _) _ _ _) 164 r 0) ci, up_of2 (M := up_ (up_ _ _ _ _) 161 r _) ci, up_of2 (M := up_ (up_ _ _ _ _) 161 r _) ci]
          · rw [up_ne ck, up_ne ck, up_ne ck]
        rw [this]; exact hK
    refine b_315_41 (Tr_mono _) hV hW _ _ ⟨r9, ?_⟩
    rw [e1 159 (by decide)]
    by_cases c : N 159 r = 0
    · rw [if_pos ((z _).2 c), e1 165 (by decide)]
      exact ⟨r9, r9, r9, fin2 _ (by rw [if_pos c])⟩
    · rw [if_neg (fun e => c ((z _).1 e))]
      refine ⟨r9, q_247t (M := M) hp1 ?_⟩
      rw [tp, e1 165 (by decide)]
      exact ⟨r9, r9, r9, fin2 _ (by rw [if_neg c])⟩
  refine ⟨r9, ?_⟩
  by_cases c : N 158 r = 0
  · rw [if_pos ((z _).2 c)]
    exact ⟨r9, fin _ (fun k hk => up_ne hk) (by rw [if_pos c])⟩
  · rw [if_neg (fun e => c ((z _).1 e))]
    exact ⟨r9, q_247t (M := M) hp ⟨r9, fin _ (fun k hk => up_ne hk) (by rw [if_neg c])⟩⟩
/-- all routes -/
theorem q_315 [Inhabited gh_] {n : Nat} {mm : Int → Nat} (hn : N 6 18 = n) (hn1 : n ≤ 10) (hs : sgl9 M N) (hp : tpl9 M N) (ho : ∀ i, 0 ≤ i → i < n → LSQ N (mm i) (N 165 i)) (h : Kv (rsn N mm n)) : Tr_ wd0 pg0 (d + 2) 315 [.inr (.inr 6)] N (rv_ Kv) Qt := by
  refine t_315 fun V hV hW => b_315_0 (Tr_mono _) hV hW _ ?_
  have loop : ∀ (j : Nat) (k : Nat), k + j = n → V 2 [rr 6, ii (k : Int), none, none] [] (rsn N mm k) := fun j => by
    induction j with
    | zero =>
      intro k hk
      refine b_315_2 (Tr_mono _) hV hW _ _ ?_
      rw [rsn_r (by decide) (by decide) (by decide), hn, if_neg (by (clear hn hn1 hs hp ho h hV hW; omega))]
      rw [show k = n by omega]; exact rv_i h
    | succ j ih =>
      intro k hk
      have e : ∀ q : Nat, q ≠ 160 → q ≠ 161 → q ≠ 164 → rsn N mm k q = N q := fun q h h1 h2 => rsn_r h h1 h2 k
      refine l_315 (M := M) (m := mm k) hV hW ⟨by omega, by omega, by rw [e 6 (by decide) (by decide) (by decide), hn]; omega⟩ ?_ ?_ ?_ ?_
      · unfold sgl9; rw [e 6 (by decide) (by decide) (by decide), e 152 (by decide) (by decide) (by decide), e 151 (by decide) (by decide) (by decide)]; exact hs
      · unfold tpl9; rw [e 6 (by decide) (by decide) (by decide), e 154 (by decide) (by decide) (by decide), e 151 (by decide) (by decide) (by decide)]; exact hp
      · rw [e 165 (by decide) (by decide) (by decide)]
        exact LSQ_e (e 149 (by decide) (by decide) (by decide)) (e 151 (by decide) (by decide) (by decide)) _ _ (ho k (by omega) (by omega))
      · have := ih (k + 1) (by omega)
        exact this
  exact loop n 0 (by omega)
end RSa
end T290_rs
section T291_pf
/-! what a process keeps -/
def prX : List Nat := [1, 5, 58, 59, 60, 61, 62, 63, 64, 65, 66, 67, 68, 120, 121, 122, 123, 124, 125, 126, 127, 128, 129, 130, 131, 132, 133, 134, 135, 136, 137, 138, 139, 140, 141, 142]
def prQ : List Nat := [6, 154, 167, 168, 169, 170, 171, 172, 173, 174, 175, 176, 177, 178, 179, 180, 181, 182, 183, 184, 185, 186, 187, 188, 189, 190, 191, 192, 193, 194, 195, 196, 197, 198, 199, 200, 201, 202, 203, 204, 205, 206, 207, 208, 209, 210, 211, 212, 213, 214, 215, 216, 217, 218, 219, 220, 221, 222, 223, 224, 225, 226, 227, 228, 229, 230, 231, 232, 233, 234]
def PRF (M N M' N' : mm_) (np : Int) : Prop := (∀ k : Nat, k ∉ prX → M' k = M k) ∧ (∀ i : Int, i ∉ [2, 3, 4] → M' 5 i = M 5 i) ∧ (∀ i : Int, i ∈ [2, 9, 31, 32] → M' 1 i = M 1 i) ∧ (∀ k : Nat, k ∉ prQ → N' k = N k) ∧ ((∀ i : Int, i ∈ [17, 18] → N' 6 i = N 6 i) ∧ ∀ i : Int, i ∉ qpI → N' 6 i = N 6 i) ∧ ∀ T, 0 ≤ T → T ≠ np → ROW M N M' N' T ∧ M' 122 T = M 122 T ∧ N' 170 T = N 170 T
/-- pass 2: the tables of the types stay -/
def TYS (M N M' N' : mm_) (T : Int) : Prop := (TMT M' T = TMT M T ∧ DMs M' T = DMs M T) ∧ (M' 122 T = M 122 T ∧ LMs M' T = LMs M T) ∧ (SMs N' T = SMs N T ∧ M' 124 T = M 124 T) ∧ M' 128 T = M 128 T
section PFa
variable {b F F1 F' Fh : Int} {c T ns nr np t : Int} {M N M' N' M1 N1 M2 N2 Ma Na Mz Nz Mh Nh : mm_} {a a' : Int}
theorem sb_xbL [Inhabited gh_] : ∀ x ∈ xbL, x ∈ prX := by decide
theorem sb_vxL [Inhabited gh_] : ∀ x ∈ vxL, x ∈ prX := by decide
theorem sb_pzX [Inhabited gh_] : ∀ x ∈ pzX, x ∈ prX := by decide
theorem sb_qbL [Inhabited gh_] : ∀ x ∈ qbL, x ∈ prQ := by decide
theorem sb_vqL [Inhabited gh_] : ∀ x ∈ vqL, x ∈ prQ := by decide
theorem sb_pzQ [Inhabited gh_] : ∀ x ∈ pzQ, x ∈ prQ := by decide
theorem sb_qbI [Inhabited gh_] : ∀ x ∈ qbI, x ∈ qpI := by decide
theorem sb_5I [Inhabited gh_] : ∀ x ∈ [12, 13, 14, 19, 58], x ∈ qpI := by decide
theorem sb_xp [Inhabited gh_] : ∀ x ∈ prX, x ∈ xpL := by decide
theorem sb_qp [Inhabited gh_] : ∀ x ∈ prQ, x = 6 ∨ (152 ≤ x ∧ x ≤ 234) := by decide
theorem PRF_X [Inhabited gh_] (h : PRF M N M' N' np) : XPb M M' := fun k hk => h.1 k (fun e => hk (sb_xp k e))
theorem PRF_Q [Inhabited gh_] (h : PRF M N M' N' np) : QPb N N' := ⟨fun k hk => h.2.2.2.1 k (fun e => hk (sb_qp k e)), h.2.2.2.2.1.2⟩
theorem PRO_58 [Inhabited gh_] (hP : PRO b F F' M N M' N' np a a') : M' 58 np = a + 1 := by
  obtain ⟨F1, Mz, Nz, Ma, Na, Z, pz, k58, k52, ct, Ha, Mh, Nh, ah, c, Fh, Hh, ph, cb, cc, n170, S', P'', f', at'⟩ := hP
  rw [sB_r f' (by decide) (by decide), ph.1.1 58 (by decide) (by decide), up_ne (by decide), ct.1 58 (by decide) (by decide) (by decide), sT_r (by decide)]
  exact k58
theorem PRO_F [Inhabited gh_] (hP : PRO b F F' M N M' N' np a a') : F' ≤ F ∧ (b = 1 → F' = F) := by
  obtain ⟨F1, Mz, Nz, Ma, Na, Z, pz, k58, k52, ct, Ha, Mh, Nh, ah, c, Fh, Hh, ph, cb, cc, n170, S', P', f', at'⟩ := hP
  have h1 := f'.2.2.2.2.1
  have h2 := ph.2.2.2
  have h3 := pz.2.2.2.1
  refine ⟨by (clear Z pz k58 k52 ct Ha Hh ph cb cc n170 S' P' f' at'; omega), fun hb => ?_⟩
  rw [h1.2 hb, h2.2.1 hb, h3.2 hb]
theorem PRO_122 [Inhabited gh_] (hP : PRO b F F' M N M' N' np a a') (hb : b = 0) : M' 122 np = N' 170 np ∧ N' 170 np ≤ M' 124 np := by
  obtain ⟨F1, Mz, Nz, Ma, Na, Z, pz, k58, k52, ct, Ha, Mh, Nh, ah, c, Fh, Hh, ph, cb, cc, n170, S', P', f', at'⟩ := hP
  obtain ⟨e18, e19, e29, e33, e61⟩ := hd_18 ct
  rw [e18] at ph n170
  have z := n170 hb
  have m122 : M' 122 np = c := by rw [sB_r f' (by decide) (by decide), ph.1.1 122 (by decide) (by decide), up_at]
  have q170 : N' 170 np = c := by rw [sB_q f' (by decide) (by decide)]; exact z.1
  rw [m122, q170, sB_r f' (by decide) (by decide)]
  exact ⟨rfl, z.2⟩
theorem PRO_53 [Inhabited gh_] (hP : PRO b F F' M N M' N' np a a') (hb : b = 0) : M' 5 3 = M 5 3 ∧ M' 5 4 = M 5 4 := by
  obtain ⟨F1, Mz, Nz, Ma, Na, Z, pz, k58, k52, ct, Ha, Mh, Nh, ah, c, Fh, Hh, ph, cb, cc, n170, S', P', f', at'⟩ := hP
  have e := f'.2.2.2.2.2.2.2 hb
  have x5 : sBX Mh 5 = Mz 5 := by rw [sBX_r (by decide) (by decide), ph.1.1 5 (by decide) (by decide), up_ne (by decide), ct.1 5 (by decide) (by decide) (by decide), sT_r (by decide)]
  rw [e.1, e.2, x5, pz.1.2.2.1 3 (by decide), pz.1.2.2.1 4 (by decide)]
  exact ⟨rfl, rfl⟩
theorem PRO_f [Inhabited gh_] (h : SYS b F M N a ns nr np) (hP : PRO b F F' M N M' N' np a a') : PRF M N M' N' np := by
  obtain ⟨F1, Mz, Nz, Ma, Na, Z, pz, k58, k52, ct, Ha, Mh, Nh, ah, c, Fh, Hh, ph, cb, cc, n170, S', P', f', at'⟩ := hP
  obtain ⟨e18, e19, e29, e33, e61⟩ := hd_18 ct
  have hnp := h.2.1.2.1
  rw [e18] at ph
  have h18 : Mh 1 18 = np := by rw [ph.1.2.1 18 (by decide), up_ne (by decide)]; exact e18
  have xr : ∀ r : Nat, r ∉ xbL → r ∉ vxL → r ≠ 127 → r ≠ 122 → r ≠ 120 → r ≠ 121 → M' r = Mz r := fun r h1 h2 h3 h4 h5 h6 => by
    have r1 : r ≠ 1 := fun e => h1 (by rw [e]; decide)
    rw [sB_r f' h1 h3, ph.1.1 r r1 h2, up_ne h4, ct.1 r r1 h5 h6, sT_r r1]
  have qr : ∀ r : Nat, r ∉ qbL → r ∉ vqL → r ≠ 176 → r ≠ 168 → r ≠ 169 → N' r = Nz r := fun r h1 h2 h3 h4 h5 => by
    have r6 : r ≠ 6 := fun e => h1 (by rw [e]; decide)
    rw [sB_q f' h1 h3, ph.1.2.2.1 r r6 h2, ct.2.2.2.1 r r6 h4 h5, up_ne r6]
  have x5 : ∀ i : Int, i ≠ 3 → i ≠ 4 → M' 5 i = Mz 5 i := fun i h3 h4 => by
    rw [f'.1.2.2 i h3 h4, sBX_r (by decide) (by decide), ph.1.1 5 (by decide) (by decide), up_ne (by decide), ct.1 5 (by decide) (by decide) (by decide), sT_r (by decide)]
  have x1 : ∀ i : Int, i ∉ xbI → M' 1 i = sT_ Mz np 1 i := fun i hi => by
    rw [f'.1.2.1 i hi, sBX_1 (nm_i hi (by decide)), ph.1.2.1 i (fun e => hi (by revert e; unfold xbI; simp only [List.mem_cons, List.not_mem_nil, or_false]; (clear h Z pz k58 k52 ct Ha Hh ph cb cc n170 S' P' f' at' e18 e19 e29 e33 e61 hnp h18 xr qr x5 hi; lia))), up_ne (by decide), ct.2.2.1 i (nm_i hi (by decide)) (nm_i hi (by decide)) (nm_i hi (by decide)) (nm_i hi (by decide))]
  have q6 : ∀ i : Int, i ∉ qbI → i ≠ 61 → N' 6 i = Nz 6 i := fun i hi h61 => by
    rw [f'.2.1.2 i hi, sBQ_6 (nm_i hi (by decide)), ph.1.2.2.2 i (fun e => hi (by revert e; unfold qbI; simp only [List.mem_cons, List.not_mem_nil, or_false]; (clear h Z pz k58 k52 ct Ha Hh ph cb cc n170 S' P' f' at' e18 e19 e29 e33 e61 hnp h18 xr qr x5 x1 hi h61; lia))), ct.2.2.2.2.2.1 i (nm_i hi (by decide)) (nm_i hi (by decide)) (nm_i hi (by decide)), up_of2 h61]
  have m122 : ∀ T, T ≠ np → M' 122 T = Mz 122 T := fun T hT => by
    rw [sB_r f' (by decide) (by decide), ph.1.1 122 (by decide) (by decide), up_of2 hT, ct.1 122 (by decide) (by decide) (by decide), sT_r (by decide)]
  have row : ∀ T, 0 ≤ T → T ≠ np → ROW Mz Nz M' N' T := fun T T0 hT => by
    have b18 : sBX Mh 1 18 = np := by rw [sBX_1 (by decide)]; exact h18
    have c123 := Hh.1.1.2.2.2.1.1
    rw [h18] at c123
    have lcc : lc_ b (sBX Mh) = 0 := by
      unfold lc_
      rcases bl01 (TS_E S'.1) with hb | hb
      · rw [if_pos hb, b18, sBX_r (by decide) (by decide), ph.1.1 128 (by decide) (by decide), up_ne (by decide), ct.1 128 (by decide) (by decide) (by decide), sT_r (by decide)]
        exact (pz.2.2.2.2 hb).2.1.2.2.2
      · rw [if_neg (by (clear h Z pz k58 k52 ct Ha Hh ph cb cc n170 S' P' f' at' e18 e19 e29 e33 e61 hnp h18 xr qr x5 x1 q6 m122 T0 hT b18 c123; lia)), sBX_1 (by decide), ph.1.2.1 19 (by decide), up_ne (by decide)]; exact e19
    have r1 : ROW Mz Nz (sT_ Mz np) (up_ Nz 6 61 np) T := ROW_e (fun r hr => sT_r (fun e => by rw [e] at hr; revert hr; decide)) (fun r hr => up_ne (fun e => by rw [e] at hr; revert hr; decide))
    have r2 := ROW_ct ct hT
    have r3 : ROW Ma Na (up_ Ma 122 np c) Na T := ROW_e (fun r hr => up_ne (fun e => by rw [e] at hr; revert hr; decide)) (fun _ _ => rfl)
    have r4 := ROW_ph ph T0 (by rw [up_ne (by decide), e18]; exact hT)
    have r5 : ROW Mh Nh (sBX Mh) (sBQ Mh Nh) T := ROW_e (fun r hr => sBX_r (fun e => by rw [e] at hr; revert hr; decide) (fun e => by rw [e] at hr; revert hr; decide)) (fun r hr => sBQ_r (fun e => by rw [e] at hr; revert hr; decide) (fun e => by rw [e] at hr; revert hr; decide))
    have r6 := ROW_st f' T0 (by rw [b18]; exact hT) (by rw [b18, sBX_r (by decide) (by decide)]; (clear h Z pz k58 k52 ct Ha Hh ph cb cc n170 S' P' f' at' e18 e19 e29 e33 e61 hnp h18 xr qr x5 x1 q6 m122 T0 hT b18 lcc r1 r2 r3 r4 r5; lia)) (by rw [lcc]; decide)
    exact ROW_tr r1 (ROW_tr r2 (ROW_tr r3 (ROW_tr r4 (ROW_tr r5 r6))))
  refine ⟨fun k hk => ?_, fun i hi => ?_, fun i hi => ?_, fun k hk => ?_, ⟨fun i hi => ?_, fun i hi => ?_⟩, fun T T0 hT => ⟨ROW_tr (ROW_z pz hT) (row T T0 hT), ?_, ?_⟩⟩
  · rw [xr k (fun e => hk (sb_xbL k e)) (fun e => hk (sb_vxL k e)) (fun e => hk (by rw [e]; decide)) (fun e => hk (by rw [e]; decide)) (fun e => hk (by rw [e]; decide)) (fun e => hk (by rw [e]; decide)), pz.1.1 k (fun e => hk (sb_pzX k e))]
  · rw [x5 i (nm_i hi (by decide)) (nm_i hi (by decide)), pz.1.2.2.1 i (nm_i hi (by decide))]
  · have hj : i ∉ xbI ∧ i ∉ [3, 4, 5, 7] := ⟨fun e => by revert e hi; unfold xbI; simp only [List.mem_cons, List.not_mem_nil, or_false]; (clear h Z pz k58 k52 ct Ha Hh ph cb cc n170 S' P' f' at' e18 e19 e29 e33 e61 hnp h18 xr qr x5 x1 q6 m122 row; omega), fun e => by revert e hi; simp only [List.mem_cons, List.not_mem_nil, or_false]; (clear h Z pz k58 k52 ct Ha Hh ph cb cc n170 S' P' f' at' e18 e19 e29 e33 e61 hnp h18 xr qr x5 x1 q6 m122 row; lia)⟩
    simp only [List.mem_cons, List.not_mem_nil, or_false] at hi
    rw [x1 i hj.1, sT_1 (by (clear h Z pz k58 k52 ct Ha Hh ph cb cc n170 S' P' f' at' e18 e19 e29 e33 e61 hnp h18 xr qr x5 x1 q6 m122 row hj; lia)) (by (clear h Z pz k58 k52 ct Ha Hh ph cb cc n170 S' P' f' at' e18 e19 e29 e33 e61 hnp h18 xr qr x5 x1 q6 m122 row hj; lia)) (by omega) (by (clear h Z pz k58 k52 ct Ha Hh ph cb cc n170 S' P' f' at' e18 e19 e29 e33 e61 hnp h18 xr qr x5 x1 q6 m122 row hj; lia)) (by omega), pz.1.2.2.2 i hj.2]
  · rw [qr k (fun e => hk (sb_qbL k e)) (fun e => hk (sb_vqL k e)) (fun e => hk (by rw [e]; decide)) (fun e => hk (by rw [e]; decide)) (fun e => hk (by rw [e]; decide)), pz.2.1.1 k (fun e => hk (sb_pzQ k e))]
  · have hj : i ∉ qbI ∧ i ∉ [12, 13, 14, 19, 58] := ⟨fun e => by revert e hi; unfold qbI; simp only [List.mem_cons, List.not_mem_nil, or_false]; (clear h Z pz k58 k52 ct Ha Hh ph cb cc n170 S' P' f' at' e18 e19 e29 e33 e61 hnp h18 xr qr x5 x1 q6 m122 row; omega), fun e => by revert e hi; simp only [List.mem_cons, List.not_mem_nil, or_false]; (clear h Z pz k58 k52 ct Ha Hh ph cb cc n170 S' P' f' at' e18 e19 e29 e33 e61 hnp h18 xr qr x5 x1 q6 m122 row; lia)⟩
    simp only [List.mem_cons, List.not_mem_nil, or_false] at hi
    rw [q6 i hj.1 (by omega), pz.2.1.2.2 i hj.2]
  · rw [q6 i (fun e => hi (sb_qbI i e)) (fun e => hi (by rw [e]; decide)), pz.2.1.2.2 i (fun e => hi (sb_5I i e))]
  · rw [m122 T hT, pz.1.2.1 122 T (by decide) (by decide) hT]
  · have hT' : T ≠ up_ Ma 122 np c 1 18 := by rw [up_ne (by decide), e18]; exact hT
    rw [sB_q f' (by decide) (by decide), (ph.2.1.1 T hT').2.1, ct.2.2.2.1 170 (by decide) (by decide) (by decide), up_ne (by decide), pz.2.1.2.1 170 T (by decide) hT]
theorem LMT_8e [Inhabited gh_] (h : LMT M1 = LMT M) (h18 : M1 1 18 = M 1 18) (h0 : 0 ≤ M 128 (M 1 18)) (h1 : 0 ≤ M1 128 (M 1 18)) : M1 128 (M 1 18) = M 128 (M 1 18) := by
  have up : ∀ (A B : mm_), LMT A = LMT B → ∀ j, 0 ≤ j → j < A 128 (A 1 18) → j < B 128 (B 1 18) := fun A B e j j0 j1 => by
    have z : LMT A j (A 62 (10 * A 1 18 + j)) = true := by unfold LMT; exact decide_eq_true ⟨j0, j1, rfl⟩
    rw [e] at z
    unfold LMT at z
    exact (of_decide_eq_true z).2.1
  have a1 := up M1 M h (M 128 (M 1 18))
  have a2 := up M M1 h.symm (M1 128 (M 1 18))
  rw [h18] at a1 a2
  omega
theorem TYS_PRO [Inhabited gh_] (h : SYS b F M N a ns nr np) (hb : b = 1) (hP : PRO b F F' M N M' N' np a a') (hS' : SYS b F' M' N' a' ns nr (np + 1)) : (∀ T, 0 ≤ T → T < M 5 2 → TYS M N M' N' T) ∧ M' 5 2 = M 5 2 ∧ M' 58 = M 58 ∧ N' 154 = N 154 ∧ N' 6 19 = N 6 19 := by
  have pf := PRO_f h hP
  obtain ⟨F1, Mz, Nz, Ma, Na, Z, pz, k58, k52, ct, Ha, Mh, Nh, ah, c, Fh, Hh, ph, cb, cc, n170, S', P', f', at'⟩ := hP
  obtain ⟨e18, e19, e29, e33, e61⟩ := hd_18 ct
  have hnp := h.2.1.2.1
  rw [e18] at ph cb
  have z1 := pz.2.2.1 hb
  have p1 := ph.2.2.1 hb
  have h18 : Mh 1 18 = np := by rw [ph.1.2.1 18 (by decide), up_ne (by decide)]; exact e18
  have m122 : up_ Ma 122 np c = Ma := by rw [cb hb]; exact up_id
  rw [m122] at ph p1
  have xr : ∀ r : Nat, r ∉ xbL → r ≠ 127 → r ≠ 120 → r ≠ 121 → M' r = M r := fun r h1 h3 h5 h6 => by
    have r1 : r ≠ 1 := fun e => h1 (by rw [e]; decide)
    rw [sB_r f' h1 h3, p1.1 r r1, ct.1 r r1 h5 h6, sT_r r1, z1.1 r r1]
  have xm : ∀ r : Nat, r ≠ 1 → r ≠ 120 → r ≠ 121 → Mh r = M r := fun r r1 h5 h6 => by
    rw [p1.1 r r1, ct.1 r r1 h5 h6, sT_r r1, z1.1 r r1]
  have qm : ∀ r : Nat, r ≠ 6 → r ≠ 168 → r ≠ 169 → Nh r = N r := fun r r6 h4 h5 => by
    rw [p1.2.1 r r6, ct.2.2.2.1 r r6 h4 h5, up_ne r6, z1.2.1 r r6]
  have ns5 := f'.2.2.2.1.2.2.2.2 hb
  have q179 : N' 179 = N 179 := by rw [ns5.2.2.2.1, sBQ_r (by decide) (by decide), qm 179 (by decide) (by decide) (by decide)]
  have q174 : N' 174 = N 174 := by rw [ns5.2.2.1, sBQ_r (by decide) (by decide), qm 174 (by decide) (by decide) (by decide)]
  have e52 : M' 5 2 = M 5 2 := by
    rw [f'.1.2.2 2 (by decide) (by decide), sBX_r (by decide) (by decide), xm 5 (by decide) (by decide) (by decide)]
  have q154 : N' 154 = N 154 := by rw [sB_q f' (by decide) (by decide), qm 154 (by decide) (by decide) (by decide)]
  have q151 : N' 151 = N 151 := by rw [sB_q f' (by decide) (by decide), qm 151 (by decide) (by decide) (by decide)]
  have q19 : N' 6 19 = N 6 19 := by
    rw [f'.2.1.2 19 (by decide), sBQ_6 (by decide), ph.1.2.2.2 19 (by decide), ct.2.2.2.2.2.1 19 (by decide) (by decide) (by decide), up_of2 (by decide), z1.2.2.1 19 (by decide)]
  have l58 := xr 58 (by decide) (by decide) (by decide) (by decide)
  refine ⟨fun T T0 T1 => ⟨⟨?_, ?_⟩, ⟨?_, ?_⟩, ⟨?_, by rw [xr 124 (by decide) (by decide) (by decide) (by decide)]⟩, ?_⟩, e52, l58, q154, q19⟩
  · unfold TMT; rw [e52, l58]
  · have u1 : ∀ (A : mm_) (k : Nat), k ≠ 1 → up_ A 1 18 T k = A k := fun A k hk => up_ne hk
    unfold DMs DMT
    rw [u1 M' 60 (by decide), u1 M 60 (by decide), u1 M' 61 (by decide), u1 M 61 (by decide), u1 M' 124 (by decide), u1 M 124 (by decide), u1 M' 126 (by decide), u1 M 126 (by decide), up_at, up_at, xr 60 (by decide) (by decide) (by decide) (by decide), xr 61 (by decide) (by decide) (by decide) (by decide), xr 124 (by decide) (by decide) (by decide) (by decide), xr 126 (by decide) (by decide) (by decide) (by decide)]
  · rw [xr 122 (by decide) (by decide) (by decide) (by decide)]
  · by_cases cT : T = np
    · have lk := f'.2.2.1.2.2.2 hb
      have lk2 : LMT M' = LMT Mh := by
        rw [lk]; unfold LMT
        rw [sBX_1 (by decide), sBX_r (by decide) (by decide), sBX_r (by decide) (by decide)]
      have m18 : M' 1 18 = np := (sB_18 f').trans h18
      rw [cT]
      unfold LMs
      have a1 : LMT (up_ M' 1 18 np) = LMT M' := by rw [← m18, up_id]
      rw [a1, lk2]
      unfold LMT
      have u1 : ∀ (A : mm_) (k : Nat), k ≠ 1 → up_ A 1 18 np k = A k := fun A k hk => up_ne hk
      rw [h18, up_at, u1 M 128 (by decide), u1 M 62 (by decide), xm 128 (by decide) (by decide) (by decide), xm 62 (by decide) (by decide) (by decide)]
    · have rw0 := (pf.2.2.2.2.2 T T0 cT).1
      have c128 := (h.1.2.2.1 T T0 T1).2.2.2.2.1.1.1
      unfold LMs LMT
      have u1 : ∀ (A : mm_) (k : Nat), k ≠ 1 → up_ A 1 18 T k = A k := fun A k hk => up_ne hk
      rw [up_at, up_at, u1 M' 128 (by decide), u1 M 128 (by decide), u1 M' 62 (by decide), u1 M 62 (by decide)]
      funext j t
      rw [rw0.1.2.2.2.2.2.2.2]
      by_cases hj : 0 ≤ j ∧ j < M 128 T
      · rw [(rw0.2.2.2.2.2 j hj.1 (by (clear h hb hS' pf Z pz k58 k52 ct Ha Hh ph cb cc n170 S' P' f' at' e18 e19 e29 e33 e61 hnp z1 p1 h18 m122 xr xm qm ns5 q179 q174 e52 q154 q151 q19 l58 T0 T1 cT rw0 u1; omega))).1]
      · have d1 : ¬ (0 ≤ j ∧ j < M 128 T ∧ M' 62 (10 * T + j) = t) := fun e => hj ⟨e.1, e.2.1⟩
        have d2 : ¬ (0 ≤ j ∧ j < M 128 T ∧ M 62 (10 * T + j) = t) := fun e => hj ⟨e.1, e.2.1⟩
        rw [decide_eq_false d1, decide_eq_false d2]
  · unfold SMs SMT stt
    have u1 : ∀ (A : mm_) (k : Nat), k ≠ 6 → up_ A 6 61 T k = A k := fun A k hk => up_ne hk
    rw [u1 N' 151 (by decide), u1 N 151 (by decide), u1 N' 179 (by decide), u1 N 179 (by decide), u1 N' 174 (by decide), u1 N 174 (by decide), up_at, up_at, q151, q179, q174]
  · by_cases cT : T = np
    · have lk := f'.2.2.1.2.2.2 hb
      have lk2 : LMT M' = LMT Mh := by
        rw [lk]; unfold LMT
        rw [sBX_1 (by decide), sBX_r (by decide) (by decide), sBX_r (by decide) (by decide)]
      have m18 : M' 1 18 = np := (sB_18 f').trans h18
      have c1 := (h.1.2.2.1 T T0 T1).2.2.2.2.1.1.1.1
      have c2 := (hS'.1.2.2.1 T T0 (by rw [e52]; exact T1)).2.2.2.2.1.1.1.1
      have := LMT_8e lk2 (m18.trans h18.symm) (by rw [h18, xm 128 (by decide) (by decide) (by decide), ← cT]; exact c1) (by rw [h18, ← cT]; exact c2)
      rw [h18, xm 128 (by decide) (by decide) (by decide)] at this
      rw [cT]; exact this
    · exact (pf.2.2.2.2.2 T T0 cT).1.1.2.2.2.2.2.2.2
end PFa
end T291_pf
section T292_sl
/-! the system's items: what pass 1 leaves, their syntax with the final tables -/
def RRW (M N : mm_) (r : Int) : Prop := (gd_ M (M 55 r) ∧ M 70 (M 55 r) = 1 ∧ M 57 r = M 55 r + 1) ∧ (∃ m, RTE (M 70) (M 73) (M 55 r) m) ∧ RTQ M N r (M 55 r)
/-- what is kept by later items of pass 1 -/
def KEP (M N M1 N1 : mm_) (ns nr np : Int) : Prop := ((M1 70 = M 70 ∧ M1 71 = M 71 ∧ M1 73 = M 73) ∧ N1 151 = N 151) ∧ ((∀ i, 0 ≤ i → i < ns → M1 112 i = M 112 i ∧ M1 56 i = M 56 i) ∧ ∀ i, 0 ≤ i → i < 3 * ns → M1 113 i = M 113 i) ∧ (∀ i, 0 ≤ i → i < nr → M1 55 i = M 55 i ∧ M1 57 i = M 57 i) ∧ ∀ T, 0 ≤ T → T < np → ROW M N M1 N1 T ∧ M1 122 T = M 122 T
def SYG (M N : mm_) : Nat → Int → Int → Int → Int → Prop
  | 0, a, ns, nr, np => M 70 a = 102 ∧ ns = M 5 0 ∧ nr = M 5 1 ∧ np = M 5 2
  | n + 1, a, ns, nr, np => (M 70 a = 0 ∧ ∃ a' ns', SGS (M 70) (M 113) (M 112) (TSG M) (a, ns) = some (a', ns') ∧ SYG M N n a' ns' nr np)
    ∨ (M 70 a = 1 ∧ ∃ m, RTE (M 70) (M 73) a m ∧ (nr < M 5 1 ∧ M 57 nr = a + 1 ∧ M 55 nr = a) ∧ SYG M N n (dle (M 70) (a + 5) + 1 + 2 * (m : Nat)) ns (nr + 1) np)
    ∨ (M 70 a = 2 ∧ ∃ a', prcS (M 70) (M 73) (TMT M np) (DMs M np) (M 122 np) (LMs M np) (SMs N np) (M 128 np) a = some a' ∧ (np < M 5 2 ∧ ∃ ah, hdP (M 70) (M 73) (DMs M np) (M 122 np) (a + 5) = some ah ∧ ∀ u, DCL M np u → a + 5 ≤ u ∧ u < ah) ∧ SYG M N n a' ns nr (np + 1))
section SLa
variable {b F F1 F' : Int} {T ns nr np ns' nr' np' t r : Int} {M N M' N' M1 N1 M2 N2 : mm_} {a a' : Int}
theorem KEP_rf [Inhabited gh_] : KEP M N M N ns nr np := ⟨⟨⟨rfl, rfl, rfl⟩, rfl⟩, ⟨fun _ _ _ => ⟨rfl, rfl⟩, fun _ _ _ => rfl⟩, fun _ _ _ => ⟨rfl, rfl⟩, fun _ _ _ => ⟨ROW_rf, rfl⟩⟩
theorem KEP_tr [Inhabited gh_] (h : KEP M N M1 N1 ns nr np) (g : KEP M1 N1 M2 N2 ns' nr' np') (h1 : ns ≤ ns') (h2 : nr ≤ nr') (h3 : np ≤ np') : KEP M N M2 N2 ns nr np := by
  obtain ⟨⟨⟨a1, a2, a3⟩, a4⟩, ⟨b1, b2⟩, c1, d1⟩ := h
  obtain ⟨⟨⟨e1, e2, e3⟩, e4⟩, ⟨f1, f2⟩, g1, k1⟩ := g
  exact ⟨⟨⟨e1.trans a1, e2.trans a2, e3.trans a3⟩, e4.trans a4⟩, ⟨fun i i0 i1 => ⟨(f1 i i0 (by omega)).1.trans (b1 i i0 i1).1, (f1 i i0 (by omega)).2.trans (b1 i i0 i1).2⟩, fun i i0 i1 => (f2 i i0 (by omega)).trans (b2 i i0 i1)⟩, fun i i0 i1 => ⟨(g1 i i0 (by (clear h1 h3 a4 a1 a2 a3 b1 b2 c1 d1 e4 e1 e2 e3 f1 f2 g1 k1 i0; omega))).1.trans (c1 i i0 i1).1, (g1 i i0 (by omega)).2.trans (c1 i i0 i1).2⟩, fun T T0 T1 => ⟨ROW_tr (d1 T T0 T1).1 (k1 T T0 (by omega)).1, (k1 T T0 (by omega)).2.trans (d1 T T0 T1).2⟩⟩
theorem RTQ_c [Inhabited gh_] (h : RTQ M N r a) (h70 : M1 70 = M 70) (h73 : M1 73 = M 73) (h151 : N1 151 = N 151) (hq : ∀ k : Nat, k ∈ [158, 159, 162, 163, 165, 166] → N1 k r = N k r) : RTQ M1 N1 r a := by
  unfold RTQ sdq
  rw [h70, h73, h151, hq 158 (by decide), hq 159 (by decide), hq 162 (by decide), hq 163 (by decide), hq 165 (by decide), hq 166 (by decide)]
  exact h
theorem RRW_c [Inhabited gh_] (h : RRW M N r) (h70 : M1 70 = M 70) (h73 : M1 73 = M 73) (h151 : N1 151 = N 151) (h55 : M1 55 r = M 55 r) (h57 : M1 57 r = M 57 r) (hq : ∀ k : Nat, k ∈ [158, 159, 162, 163, 165, 166] → N1 k r = N k r) : RRW M1 N1 r := by
  obtain ⟨⟨a1, a2, a3⟩, a4, a5⟩ := h
  unfold RRW
  rw [h55, h57, h70, h73]
  exact ⟨⟨gd_c h70 a1, a2, a3⟩, a4, RTQ_c a5 h70 h73 h151 hq⟩
theorem DMT_of [Inhabited gh_] {t : Int} (h : DCL M T t) : DMs M T t = true := by
  have u1 : ∀ k : Nat, k ≠ 1 → up_ M 1 18 T k = M k := fun k hk => up_ne hk
  unfold DMs DMT
  rw [u1 60 (by decide), u1 61 (by decide), u1 124 (by decide), u1 126 (by decide), up_at]
  refine decide_eq_true ?_
  rcases h with ⟨k, hk, e⟩ | ⟨k, hk, e⟩
  · left; intro z
    exact fi_no _ _ _ _ z (Int.le_refl _) k hk.1 (by (clear u1 e z; omega)) e
  · right; intro z
    exact fi_no _ _ _ _ z (Int.le_refl _) k hk.1 (by omega) e
/-- a line of signals, with the final tables -/
theorem SGS_fin [Inhabited gh_] {Mf Nf : mm_} {nsf : Int} (S' : SYS 0 F' M' N' a' ns' nr np) (Sf : Mf 5 0 = nsf) (hl : ns' ≤ nsf) (h0 : 0 ≤ ns) (hk : KEP M' N' Mf Nf ns' nr np) : SGO 0 (Mf 113) (Mf 112) (TSG Mf) ns ns' M M' := by
  refine ⟨fun _ k k0 k1 => ?_, fun hb => by omega⟩
  have e := hk.2.1.1 k (by omega) k1
  have c := (S'.1.2.1.1.2 k (by (clear S' Sf hl hk k1 e; lia)) (by rw [(S'.2.1.2.2 rfl).1]; exact k1)).1
  refine ⟨e.1, ?_, fun i i0 i1 => ?_⟩
  · unfold TSG; exact decide_eq_true ⟨by omega, e.2⟩
  · rw [e.1] at i1
    exact hk.2.1.2 i (by (clear S' Sf hl hk k1 e; lia)) (by omega)
/-- a process, with the final tables -/
theorem POK_fin [Inhabited gh_] {Mf Nf : mm_} {npf : Int} (S' : SYS 0 F' M' N' a' ns nr (np + 1)) (h0 : 0 ≤ np) (Sf : Mf 5 2 = npf) (hl : np + 1 ≤ npf) (hk : KEP M' N' Mf Nf ns nr (np + 1)) : POK 0 (TMT Mf np) (DMs Mf np) (Mf 122 np) (LMs Mf np) (SMs Nf np) (Mf 128 np) np M N M' N' := by
  obtain ⟨rw0, m122⟩ := hk.2.2.2 np h0 (by omega)
  have ty := S'.1.2.2.1 np h0 (by rw [(S'.2.1.2.2 rfl).2.2]; omega)
  have c128 := ty.2.2.2.2.1.1.1
  have c174 := ty.2.2.1.1
  have u1 : ∀ (A : mm_) (k : Nat), k ≠ 1 → up_ A 1 18 np k = A k := fun A k hk => up_ne hk
  have u6 : ∀ (A : mm_) (k : Nat), k ≠ 6 → up_ A 6 61 np k = A k := fun A k hk => up_ne hk
  refine ⟨fun _ => ⟨rw0.1.2.2.2.2.2.2.2, ?_, fun t ht => ?_, m122, fun j j0 j1 => ?_, fun t ht => ?_⟩, fun hb => by omega⟩
  · unfold TMT; exact decide_eq_true ⟨by omega, rw0.1.1⟩
  · exact DMT_of ((DCL_row ty.1 rw0).2 ht)
  · unfold LMs LMT
    rw [u1 Mf 128 (by decide), u1 Mf 62 (by decide), up_at]
    exact decide_eq_true ⟨j0, by rw [rw0.1.2.2.2.2.2.2.2]; exact j1, (rw0.2.2.2.2.2 j j0 (by omega)).1⟩
  · unfold SMs SMT
    refine decide_eq_true ?_
    have e : stt (up_ Nf 6 61 np) (up_ Nf 6 61 np 151 t) = stt (up_ N' 6 61 np) (N' 151 t) := by
      unfold stt
      rw [u6 Nf 179 (by decide), u6 N' 179 (by decide), u6 Nf 174 (by decide), u6 N' 174 (by decide), u6 Nf 151 (by decide), up_at, up_at, hk.1.2, rw0.2.1.2.2.2.2.2.2.1]
      exact fi_cg _ _ (fun i i0 i1 => by rw [(rw0.2.2.2.2.1 i i0 (by (clear S' h0 Sf hl hk rw0 m122 ty c128 u1 u6 ht i0; lia))).2.1])
    rw [e]; exact ht
/-! names told twice -/
def DUM (M N : mm_) (T f : Int) : Prop := ∃ k i : Int, (0 ≤ i ∧ i < k ∧ k < M 128 T) ∧ N 151 (M 62 (10 * T + i)) = N 151 (M 62 (10 * T + k)) ∧ f = 8 * M 71 (M 62 (10 * T + k)) + 3
theorem DUL_M [Inhabited gh_] {f : Int} (h : LBt b F M N a T) : DUL M N T (M 128 T) f ↔ DUM M N T f := by
  constructor
  · rintro ⟨k, i, z1, z2, z3⟩
    exact ⟨k, i, z1, by rw [← (h.1.2 i (by omega) (by (clear h z2 z3; lia))).2, ← (h.1.2 k (by omega) (by omega)).2]; exact z2, z3⟩
  · rintro ⟨k, i, z1, z2, z3⟩
    exact ⟨k, i, z1, by rw [(h.1.2 i (by omega) (by omega)).2, (h.1.2 k (by omega) (by omega)).2]; exact z2, z3⟩
def G1A (F F' : Int) (M N : mm_) (np : Int) : Prop := F' = F ∨ GDU M N F' ∨ ∃ T, (0 ≤ T ∧ T < np) ∧ (DUN M N T F' ∨ DUM M N T F')
def G1S (F F1 : Int) (M N M1 N1 : mm_) (np1 : Int) : Prop := F1 = F ∨ GDU M1 N1 F1 ∨ (∃ u v, (GLM M u ∧ GLM M1 v ∧ u < v) ∧ N 151 u = N 151 v ∧ F1 = 8 * M 71 v + 3) ∨ ∃ T, (0 ≤ T ∧ T < np1) ∧ (DUN M1 N1 T F1 ∨ DUM M1 N1 T F1)
theorem GLM_K [Inhabited gh_] (k : KEP M N M1 N1 ns nr np) (h0 : M 5 0 = ns ∧ M 5 1 = nr ∧ M 5 2 = np) (h1 : ns ≤ M1 5 0 ∧ nr ≤ M1 5 1 ∧ np ≤ M1 5 2) {u : Int} (h : GLM M u) : GLM M1 u := by
  rcases h with ⟨i, hi, e⟩ | ⟨i, hi, e⟩ | ⟨i, hi, e⟩
  · exact .inl ⟨i, by (clear k e; omega), by rw [(k.2.1.1 i hi.1 (by omega)).2]; exact e⟩
  · exact .inr (.inl ⟨i, by omega, by rw [(k.2.2.1 i hi.1 (by omega)).2]; exact e⟩)
  · exact .inr (.inr ⟨i, by omega, by rw [(k.2.2.2 i hi.1 (by omega)).1.1.1]; exact e⟩)
theorem G1S_A [Inhabited gh_] (g : G1S F F1 M N M1 N1 np') (k : KEP M N M1 N1 ns nr np) (h0 : M 5 0 = ns ∧ M 5 1 = nr ∧ M 5 2 = np) (h1 : ns ≤ M1 5 0 ∧ nr ≤ M1 5 1 ∧ np ≤ M1 5 2) : G1A F F1 M1 N1 np' := by
  rcases g with z | z | ⟨u, v, ⟨z1, z2, z3⟩, z4, z5⟩ | z
  · exact .inl z
  · exact .inr (.inl z)
  · exact .inr (.inl ⟨u, v, ⟨GLM_K k h0 h1 z1, z2, z3⟩, by rw [k.1.2]; exact z4, by rw [k.1.1.2.1]; exact z5⟩)
  · exact .inr (.inr z)
theorem G1A_tr [Inhabited gh_] (g1 : G1A F F1 M1 N1 np) (S1 : SYS 0 F1 M1 N1 a ns nr np) (k : KEP M1 N1 M2 N2 ns nr np) (h1 : ns ≤ M2 5 0 ∧ nr ≤ M2 5 1 ∧ np ≤ M2 5 2) (hn : np ≤ np') (g2 : G1A F1 F' M2 N2 np') : G1A F F' M2 N2 np' := by
  rcases g2 with z | z
  · rcases g1 with y | y | ⟨T, hT, y⟩
    · exact .inl (z.trans y)
    · right; left; rw [z]; exact GDU_c y (fun u hu => GLM_K k (S1.2.1.2.2 rfl) h1 hu) k.1.1.2.1 k.1.2
    · right; right
      have ty := S1.1.2.2.1 T hT.1 (by rw [(S1.2.1.2.2 rfl).2.2]; exact hT.2)
      have rw0 := (k.2.2.2 T hT.1 hT.2).1
      rw [z]
      refine ⟨T, by (clear S1 k h1 z y ty rw0; lia), y.imp (fun y => DUN_c y (fun u hu => (DCL_row ty.1 rw0).2 hu) k.1.1.2.1 k.1.2) fun y => ?_⟩
      obtain ⟨j, i, y1, y2, y3⟩ := y
      have c := ty.2.2.2.2.1.1.1
      have r := rw0.2.2.2.2.2
      refine ⟨j, i, by rw [rw0.1.2.2.2.2.2.2.2]; exact y1, ?_, ?_⟩
      · rw [k.1.2, (r i (by omega) (by (clear S1 k h1 hn z hT y ty rw0 y2 y3 r; omega))).1, (r j (by (clear S1 k h1 hn z hT y ty rw0 y2 y3 c r; omega)) (by (clear S1 k h1 hn z hT y ty rw0 y2 y3 r; omega))).1]; exact y2
      · rw [k.1.1.2.1, (r j (by omega) (by omega)).1]; exact y3
  · exact .inr z
end SLa
end T292_sl
section T293_sl
/-! the system's loop (X 102 | Q 226): steps -/
def q73 (dq : Nat) (nr np x4 : Int) (N : mm_) (G : mm_ → Prop) (Qt : qt_) : Prop := ∀ V : vv_, Cl_ wd0 (Tr_ wd0 pg0 (dq + 19)) V (rv_ G) Qt m_226 → Wk_ V → V 73 [rr 6, ii 0, ii nr, ii np, ii x4] [] N
def q49 (dq : Nat) (nr np : Int) (N : mm_) (G : mm_ → Prop) (Qt : qt_) : Prop := ∀ V : vv_, Cl_ wd0 (Tr_ wd0 pg0 (dq + 19)) V (rv_ G) Qt m_226 → Wk_ V → V 49 [rr 6, ii 0, ii nr, ii np, ii 0] [] N
/-- X at an item's end -/
def z102 (V : vv_) (Kv : mm_ → Prop) (Qt : qt_) (M : mm_) : Prop := Tr_ wd0 pg0 131 103 [.inr (.inr 1), .inl 102] M (ri_ fun v5 M6 => (if v5 = 0 then V 25 [rr 1] [] M6 else rv_ Kv [] M6)) Qt
section SLb
variable {dq : Nat} {b F F1 F' : Int} {T ns nr np ns' nr' np' t r x4 : Int} {Kv G : mm_ → Prop} {Qt Qtq : qt_} {V V' : vv_} {M N Mx' M' N' M1 N1 M2 N2 : mm_} {a a' : Int}
theorem q49z [Inhabited gh_] (hs : sp_ N) (h : G N) : q49 dq nr np N G Qtq := fun V' hV' hW' => b_226_49 (Tr_mono _) hV' hW' _ _ _ _ _ (q_227s hs (by rw [if_neg (by decide)]; exact rv_i h))
theorem q49_g [Inhabited gh_] (hT : Tks M N) (hE : ER b F M N a 0) (hn : M 70 a ≠ 102) (h : q73 dq nr np 0 N G Qtq) : q49 dq nr np N G Qtq := fun V' hV' hW' => b_226_49 (Tr_mono _) hV' hW' _ _ _ _ _ (q_227g (ER_goq hE) (by
  have ha := ER_a hE
  have q := (hT a hE.1).1
  unfold KQ at q
  rw [if_pos rfl, if_pos rfl, hE.2.2.1]
  refine ⟨by omega, ?_⟩
  rw [if_neg (by omega)]
  exact h V' hV' hW'))
theorem q49_e [Inhabited gh_] (hT : Tks M N) (hE : ER b F M N a 0) (hn : M 70 a = 102) (h : G N) : q49 dq nr np N G Qtq := fun V' hV' hW' => b_226_49 (Tr_mono _) hV' hW' _ _ _ _ _ (q_227g (ER_goq hE) (by
  have ha := ER_a hE
  have q := (hT a hE.1).1
  unfold KQ at q
  rw [if_pos rfl, if_pos rfl, hE.2.2.1]
  refine ⟨by omega, ?_⟩
  rw [if_pos (by omega)]
  exact rv_i h))
theorem q73_sg [Inhabited gh_] (h : qSC dq N (fun N' => ∀ V' : vv_, Cl_ wd0 (Tr_ wd0 pg0 (dq + 19)) V' (rv_ G) Qtq m_226 → Wk_ V' → V' 49 [rr 6, ii 0, ii nr, ii np, ii 0] [] N') Qtq) : q73 dq nr np x4 N G Qtq := fun V' hV' hW' => b_226_73 (Tr_mono _) hV' hW' _ _ _ _ _ (Tr_ri h (fun v M1 hv => by
  by_cases c : v = 0
  · rw [if_pos c] at hv; exact hv.elim
  · rw [if_neg c] at hv ⊢
    exact Tr_rc hv (fun M2 h2 => h2 V' hV' hW')))
theorem q73_rt [Inhabited gh_] (hT : Tks M N) (hE : ER b F M N a 0) (hk : M 70 a = 1) (hr : 0 ≤ nr ∧ nr < 1000) (h : qRC dq nr N (fun N' => ∀ V' : vv_, Cl_ wd0 (Tr_ wd0 pg0 (dq + 19)) V' (rv_ G) Qtq m_226 → Wk_ V' → V' 49 [rr 6, ii 0, ii (nr + 1), ii np, ii 0] [] N') Qtq) : q73 dq nr np x4 N G Qtq := fun V' hV' hW' => b_226_73 (Tr_mono _) hV' hW' _ _ _ _ _ (j_228f hT hE (by decide) (by omega) (by
  rw [if_pos rfl]
  refine Tr_ri h (fun v M1 hv => ?_)
  by_cases c : v = 0
  · rw [if_pos c] at hv; exact hv.elim
  · rw [if_neg c] at hv ⊢
    rw [w32_id (x := nr + 1) (by omega) (by omega)]
    exact Tr_rc hv (fun M2 h2 => h2 V' hV' hW')))
theorem q73_pr [Inhabited gh_] (hT : Tks M N) (hE : ER b F M N a 0) (hk : M 70 a = 2) (hr : 0 ≤ np ∧ np < 1000) (h : qPC dq np N (fun N' => ∀ V' : vv_, Cl_ wd0 (Tr_ wd0 pg0 (dq + 19)) V' (rv_ G) Qtq m_226 → Wk_ V' → V' 49 [rr 6, ii 0, ii nr, ii (np + 1), ii 0] [] N') Qtq) : q73 dq nr np x4 N G Qtq := fun V' hV' hW' => b_226_73 (Tr_mono _) hV' hW' _ _ _ _ _ (j_228f hT hE (by decide) (by omega) (by
  rw [if_pos rfl]
  refine j_228f hT hE (by decide) (by omega) ?_
  rw [if_pos rfl]
  refine Tr_ri h (fun v M1 hv => ?_)
  by_cases c : v = 0
  · rw [if_pos c] at hv; exact hv.elim
  · rw [if_neg c] at hv ⊢
    rw [w32_id (x := np + 1) (by omega) (by omega)]
    exact Tr_rc hv (fun M2 h2 => h2 V' hV' hW')))
theorem q73_w [Inhabited gh_] (hT : Tks M N) (hE : ER b F M N a 0) (hb : b = 0) (hk : M 70 a ≠ 0 ∧ M 70 a ≠ 1 ∧ M 70 a ≠ 2) (h : ∀ M', SQp (flX_ M 1 a) N M' → G M') : q73 dq nr np x4 N G Qtq := fun V' hV' hW' => b_226_73 (Tr_mono _) hV' hW' _ _ _ _ _ (j_228f hT hE (by decide) hk.1 (by
  rw [if_pos rfl]
  refine j_228f hT hE (by decide) hk.2.1 ?_
  rw [if_pos rfl]
  refine j_228f hT hE (by decide) hk.2.2 ?_
  rw [if_pos rfl]
  have hsp := SQ_P (SQ_bf hE hb (k := 1) (by decide) (QA_rf (M := N)))
  exact j_234 hT hE hb (q49z hsp.1 (h _ hsp) V' hV' hW')))
/-- X: the kind of item -/
theorem x_25 [Inhabited gh_] (hV : Cl_ wd0 (Tr_ wd0 pg0 131) V (rv_ Kv) Qt m_102) (hW : Wk_ V) (hE : ER b F M N a 0) (h0 : M 70 a = 0 → Tr_ wd0 pg0 131 104 [.inr (.inr 1)] M (rv_ fun M9 => z102 V Kv Qt M9) Qt) (h1 : M 70 a = 1 → Tr_ wd0 pg0 131 122 [.inr (.inr 1)] M (rv_ fun M9 => z102 V Kv Qt M9) Qt) (h2 : M 70 a = 2 → Tr_ wd0 pg0 131 126 [.inr (.inr 1)] M (rv_ fun M9 => z102 V Kv Qt M9) Qt) (hw : M 70 a ≠ 0 → M 70 a ≠ 1 → M 70 a ≠ 2 → Qt 8 (flX_ M 1 a)) : V 25 [rr 1] [] M := by
  refine b_102_25 (Tr_mono _) hV hW _ (y_103 hE (fun c0 => ?_) (fun c0 => ?_))
  · rw [if_neg (by decide)]; exact h0 c0
  · rw [if_pos rfl]
    refine y_103 hE (fun c1 => ?_) (fun c1 => ?_)
    · rw [if_neg (by decide)]; exact h1 c1
    · rw [if_pos rfl]
      refine y_103 hE (fun c2 => ?_) (fun c2 => ?_)
      · rw [if_neg (by decide)]; exact h2 c2
      · rw [if_pos rfl]
        refine x_109 (ER_iX hE) ?_
        rw [if_neg (by decide), hE.2.1]
        exact hw c0 c1 c2
end SLb
end T293_sl
section T294_sl
/-! the system's loop, pass 1 -/
section SLc
variable {dq : Nat} {Kv : mm_ → Prop} {Qt : qt_} {V : vv_}
theorem l_25a [ig : Inhabited gh_] (hgh : GHP) (hV : Cl_ wd0 (Tr_ wd0 pg0 131) V (rv_ Kv) Qt m_102) (hW : Wk_ V) :
    ∀ (n : Nat) (a F ns nr np x4 : Int) (M N : mm_), 1201 - a ≤ (n : Int) → SYS 0 F M N a ns nr np → M 1 9 = 0 → (∀ r, 0 ≤ r → r < nr → RRW M N r) → (∀ T, 0 ≤ T → T < np → M 122 T = N 170 T ∧ N 170 T ≤ M 124 T) →
    (∀ F' M' N' a' ns' nr' np' m, SYS 0 F' M' N' a' ns' nr' np' → M' 70 a' = 102 → ((∀ r, 0 ≤ r → r < nr' → RRW M' N' r) ∧ ∀ T, 0 ≤ T → T < np' → M' 122 T = N' 170 T ∧ N' 170 T ≤ M' 124 T) → KEP M N M' N' ns nr np → (ns ≤ ns' ∧ nr ≤ nr' ∧ np ≤ np') → (XPb M M' ∧ QPb N N' ∧ M' 1 9 = 0 ∧ F' ≤ F ∧ M' 5 3 = M 5 3 ∧ M' 5 4 = M 5 4 ∧ M' 5 36 = M 5 36) → G1A F F' M' N' np' → SYG M' N' (m + 1) a ns nr np → (∀ (G : mm_ → Prop) (Qtq : qt_), G N' → q73 dq nr np x4 N G Qtq) → Kv M') →
    (∀ Mx', XPb M Mx' → (∀ (G : mm_ → Prop) (Qtq : qt_), (∀ M', SQp Mx' N M' → G M') → q73 dq nr np x4 N G Qtq) → Qt 8 Mx') →
    V 25 [rr 1] [] M
  | n, a, F, ns, nr, np, x4, M, N, hn, h, h9, hR, hP, hK, hQ => by
    have hE := h.1.1.2.1
    have hT := h.1.1.1
    have ha := ER_a hE
    have hpos := h.2.1.2.1
    have e5 := h.2.1.2.2 rfl
    have b51 := h.1.2.1.2.2.1.1
    have b52 := h.1.2.1.2.1.1.1
    -- behind an item
    have step : ∀ F1 M1 N1 a1 ns1 nr1 np1, SYS 0 F1 M1 N1 a1 ns1 nr1 np1 → a + 1 ≤ a1 → M1 1 9 = 0 → ((∀ r, 0 ≤ r → r < nr1 → RRW M1 N1 r) ∧ ∀ T, 0 ≤ T → T < np1 → M1 122 T = N1 170 T ∧ N1 170 T ≤ M1 124 T) → KEP M N M1 N1 ns nr np → (ns ≤ ns1 ∧ nr ≤ nr1 ∧ np ≤ np1) → (XPb M M1 ∧ QPb N N1 ∧ F1 ≤ F ∧ M1 5 3 = M 5 3 ∧ M1 5 4 = M 5 4 ∧ M1 5 36 = M 5 36) → G1S F F1 M N M1 N1 np1 → (∀ Mf Nf m, KEP M1 N1 Mf Nf ns1 nr1 np1 → ns1 ≤ Mf 5 0 → nr1 ≤ Mf 5 1 → np1 ≤ Mf 5 2 → SYG Mf Nf m a1 ns1 nr1 np1 → SYG Mf Nf (m + 1) a ns nr np) → (∀ (G : mm_ → Prop) (Qtq : qt_), q49 dq nr1 np1 N1 G Qtq → q73 dq nr np x4 N G Qtq) → z102 V Kv Qt M1 := fun F1 M1 N1 a1 ns1 nr1 np1 S1 ha1 h91 hR1 k1 l1 fr gs sy hq => by
      have q51 := S1.2.1.2.2 rfl
      have ga : G1A F F1 M1 N1 np1 := G1S_A gs k1 e5 (by omega)
      have hE1 := S1.1.1.2.1
      have hT1 := S1.1.1.1
      unfold z102
      refine y_103 hE1 (fun c => ?_) (fun c => ?_)
      · rw [if_neg (by decide)]
        have q5 := S1.2.1.2.2 rfl
        exact rv_i (hK F1 M1 N1 a1 ns1 nr1 np1 0 S1 c hR1 k1 l1 ⟨fr.1, fr.2.1, h91, fr.2.2⟩ ga (sy M1 N1 0 KEP_rf (by omega) (by omega) (by omega) ⟨c, q5.1.symm, q5.2.1.symm, q5.2.2.symm⟩) (fun G Qtq hg => hq G Qtq (q49_e hT1 hE1 c hg)))
      · rw [if_pos rfl]
        cases n with
        | zero => have := ER_a hE1; omega
        | succ n =>
          refine l_25a hgh hV hW n a1 F1 ns1 nr1 np1 0 M1 N1 (by omega) S1 h91 hR1.1 hR1.2 (fun F' M' N' a' ns' nr' np' m S' c' R' k' l' fr' ga' sy' hq' => ?_) (fun Mx' hx' hq' => ?_)
          · have q5 := S'.2.1.2.2 rfl
            exact hK F' M' N' a' ns' nr' np' (m + 1) S' c' R' (KEP_tr k1 k' l1.1 l1.2.1 l1.2.2) ⟨by omega, by omega, by omega⟩ ⟨XPb_tr fr.1 fr'.1, QPb_tr fr.2.1 fr'.2.1, fr'.2.2.1, by have := fr.2.2.1; have := fr'.2.2.2.1; omega, fr'.2.2.2.2.1.trans fr.2.2.2.1, fr'.2.2.2.2.2.1.trans fr.2.2.2.2.1, fr'.2.2.2.2.2.2.trans fr.2.2.2.2.2⟩ (G1A_tr ga S1 k' (by omega) (by omega) ga') (sy M' N' (m + 1) k' (by omega) (by omega) (by omega) sy') (fun G Qtq hg => hq G Qtq (q49_g hT1 hE1 c (hq' G Qtq hg)))
          · exact hQ Mx' (XPb_tr fr.1 hx') (fun G Qtq hg => hq G Qtq (q49_g hT1 hE1 c (hq' G Qtq fun M9 p => hg _ (SQp_tr fr.2.1 p))))
    refine x_25 hV hW hE (fun c => ?_) (fun c => ?_) (fun c => ?_) (fun c0 c1 c2 => ?_)
    · -- signals
      refine y_104 (dq := dq) h c (fun hb => by omega) (fun F1 M1 N1 a1 ns1 S1 ha1 hn1 xp sg r70 rw3 _ fF sy hq => ?_) (fun _ Mx' hx' hq' => ?_)
      · refine step F1 M1 N1 a1 ns1 nr np S1 (by omega) (by rw [sg.1.2.2 9 (by decide)]; exact h9) ⟨fun r r0 r1 => RRW_c (hR r r0 r1) r70 (sg.1.1 73 (by decide)) (sg.2.1 151 (by decide)) (by rw [sg.1.1 55 (by decide)]) (by rw [sg.1.1 57 (by decide)]) (fun k hk => by rw [sg.2.1 k (fun e => by simp only [List.mem_cons, List.not_mem_nil, or_false] at hk e; omega)]), fun T T0 T1 => by rw [sg.1.1 122 (by decide), sg.1.1 124 (by decide), sg.2.1 170 (by decide)]; exact hP T T0 T1⟩ ⟨⟨⟨r70, sg.1.1 71 (by decide), sg.1.1 73 (by decide)⟩, sg.2.1 151 (by decide)⟩, ⟨fun i _ i1 => rw3.1 i i1, fun i _ i1 => rw3.2 i i1⟩, fun i _ _ => by rw [sg.1.1 55 (by decide), sg.1.1 57 (by decide)]; exact ⟨rfl, rfl⟩, fun T _ _ => ⟨ROW_e (fun k hk => sg.1.1 k (fun e => by revert hk e; unfold rwX; simp only [List.mem_cons, List.not_mem_nil, or_false]; omega)) (fun k hk => sg.2.1 k (fun e => by revert hk e; unfold rwQ; simp only [List.mem_cons, List.not_mem_nil, or_false]; omega)), by rw [sg.1.1 122 (by decide)]⟩⟩ ⟨by omega, Int.le_refl _, Int.le_refl _⟩ ⟨xp, SGR_Q sg, fF.1, sg.1.2.1 3 (by decide), sg.1.2.1 4 (by decide), sg.1.2.1 36 (by decide)⟩ ((fF.2.2.1 rfl).imp id .inl) (fun Mf Nf m kf l0 l1 l2 sf => ?_) (fun G Qtq hg => q73_sg (hq _ _ hg))
        have e70 : Mf 70 = M 70 := kf.1.1.1.trans r70
        refine .inl ⟨by rw [e70]; exact c, a1, ns1, ?_, sf⟩
        rw [e70]
        exact sy _ _ _ (SGS_fin S1 rfl l0 hpos.1 kf)
      · exact hQ Mx' hx' (fun G Qtq hg => q73_sg (hq' _ _ fun M9 p => q49z p.1 (hg _ p)))
    · -- a route
      refine y_122 (dq := dq) h c (fun _ => h9) (fun hb => by omega) (fun F1 M1 N1 a1 m1 S1 E1 ea ro fF hq => ?_) (fun _ Mx' hx' hq' => ?_)
      · obtain ⟨⟨k57, k55, rq⟩, ⟨xr, xo, x5⟩, qr, qo, q6⟩ := ro.1 rfl
        have g5 := dle_le (κ := M 70) (a := a + 5)
        have e70 : M1 70 = M 70 := xr 70 (by decide)
        have e73 : M1 73 = M 73 := xr 73 (by decide)
        have e151 : N1 151 = N 151 := qr 151 (by decide)
        have xp : XPb M M1 := fun k hk => xr k (fun e => hk (by simp only [xpL, List.mem_cons, List.not_mem_nil, or_false] at e ⊢; omega))
        have qp : QPb N N1 := ⟨fun k hk => qr k (fun e => hk (by simp only [List.mem_cons, List.not_mem_nil, or_false] at e; unfold QPRr; omega)), fun i hi => q6 i (fun e => hi (by simp only [qpI, List.mem_cons, List.not_mem_nil, or_false] at e ⊢; omega))⟩
        · refine step F1 M1 N1 a1 ns (nr + 1) np S1 (by omega) (by rw [ro.2.2 9 (by decide)]; exact h9) ⟨fun r r0 r1 => ?_, fun T T0 T1 => by rw [xr 122 (by decide), xr 124 (by decide), qr 170 (by decide)]; exact hP T T0 T1⟩ ⟨⟨⟨e70, xr 71 (by decide), e73⟩, e151⟩, ⟨fun i _ i1 => by rw [xr 112 (by decide), xr 56 (by decide)]; exact ⟨rfl, rfl⟩, fun i _ i1 => by rw [xr 113 (by decide)]⟩, fun i _ i1 => xo i (by omega), fun T _ _ => ⟨ROW_e (fun k hk => xr k (fun e => by revert hk e; unfold rwX; simp only [List.mem_cons, List.not_mem_nil, or_false]; omega)) (fun k hk => qr k (fun e => by revert hk e; unfold rwQ; simp only [List.mem_cons, List.not_mem_nil, or_false]; omega)), by rw [xr 122 (by decide)]⟩⟩ ⟨Int.le_refl _, by omega, Int.le_refl _⟩ ⟨xp, qp, fF.1, x5 3 (by decide), x5 4 (by decide), x5 36 (by decide)⟩ ((fF.2.2.1 rfl).imp id fun z => .inr (.inl (by
            obtain ⟨⟨u, hu, he⟩, z⟩ := z
            have lt := h.1.2.2.2.1.2 rfl u hu
            exact ⟨u, a + 1, ⟨hu, .inr (.inl ⟨nr, by have := (S1.2.1.2.2 rfl).2.1; omega, k57⟩), by omega⟩, he, z⟩))) (fun Mf Nf m kf l0 l1 l2 sf => ?_) (fun G Qtq hg => q73_rt hT hE c (by omega) (hq _ _ hg))
          · by_cases cr : r = nr
            · rw [cr]
              unfold RRW
              rw [k55, k57, e70, e73]
              exact ⟨⟨gd_c e70 hE.1, c, rfl⟩, ⟨m1, E1⟩, rq⟩
            · exact RRW_c (hR r r0 (by omega)) e70 e73 e151 (xo r cr).1 (xo r cr).2 (fun k hk => qo k (by simp only [List.mem_cons, List.not_mem_nil, or_false] at hk ⊢; omega) r cr)
          · have f70 : Mf 70 = M 70 := kf.1.1.1.trans e70
            have f73 : Mf 73 = M 73 := kf.1.1.2.2.trans e73
            have kn := kf.2.2.1 nr (by omega) (by omega)
            refine .inr (.inl ⟨by rw [f70]; exact c, m1, by rw [f70, f73]; exact E1, ⟨by omega, by rw [kn.2]; exact k57, by rw [kn.1]; exact k55⟩, ?_⟩)
            rw [f70, ← ea]; exact sf
      · exact hQ Mx' hx' (fun G Qtq hg => q73_rt hT hE c (by omega) (hq' _ _ fun M9 p => q49z p.1 (hg _ p)))
    · -- a process
      refine y_126 (dq := dq) hgh h c (fun hb => by omega) (fun F1 M1 N1 Me a1 S1 P1 G1 ha1 eM _ sy hq => ?_) (fun _ Mx' hx' hq' => ?_)
      · have eM := eM rfl
        subst eM
        have pf := PRO_f h P1
        have e70 : Me 70 = M 70 := pf.1 70 (by decide)
        have e73 : Me 73 = M 73 := pf.1 73 (by decide)
        have e151 : N1 151 = N 151 := pf.2.2.2.1 151 (by decide)
        obtain ⟨g1, ah, g2, g3⟩ := G1.1 rfl
        have ty1 := S1.1.2.2.1 np hpos.2.2 (by rw [(S1.2.1.2.2 rfl).2.2]; omega)
        have gs1 : G1S F F1 M N Me N1 (np + 1) := by
          rcases g1 with z | ⟨⟨u, hu, he⟩, z⟩ | z | z
          · exact .inl z
          · have lt := h.1.2.2.2.1.2 rfl u hu
            have k58 : Me 58 np = a + 1 := PRO_58 P1
            exact .inr (.inr (.inl ⟨u, a + 1, ⟨hu, .inr (.inr ⟨np, by have := (S1.2.1.2.2 rfl).2.2; omega, k58⟩), by omega⟩, he, z⟩))
          · exact .inr (.inr (.inr ⟨np, by omega, .inl z⟩))
          · exact .inr (.inr (.inr ⟨np, by omega, .inr ((DUL_M ty1.2.2.2.2.1).1 z)⟩))
        refine step F1 Me N1 a1 ns nr (np + 1) S1 (by omega) (by rw [pf.2.2.1 9 (by decide)]; exact h9) ⟨fun r r0 r1 => RRW_c (hR r r0 r1) e70 e73 e151 (by rw [pf.1 55 (by decide)]) (by rw [pf.1 57 (by decide)]) (fun k hk => by rw [pf.2.2.2.1 k (fun e => by revert e hk; unfold prQ; simp only [List.mem_cons, List.not_mem_nil, or_false]; omega)]), fun T T0 T1 => by
          by_cases cT : T = np
          · rw [cT]; exact PRO_122 P1 rfl
          · have z := pf.2.2.2.2.2 T T0 cT
            rw [z.2.1, z.2.2, z.1.1.2.2.2.2.1]; exact hP T T0 (by omega)⟩ ⟨⟨⟨e70, pf.1 71 (by decide), e73⟩, e151⟩, ⟨fun i _ i1 => by rw [pf.1 112 (by decide), pf.1 56 (by decide)]; exact ⟨rfl, rfl⟩, fun i _ i1 => by rw [pf.1 113 (by decide)]⟩, fun i _ i1 => by rw [pf.1 55 (by decide), pf.1 57 (by decide)]; exact ⟨rfl, rfl⟩, fun T T0 T1 => ⟨(pf.2.2.2.2.2 T T0 (by omega)).1, (pf.2.2.2.2.2 T T0 (by omega)).2.1⟩⟩ ⟨Int.le_refl _, Int.le_refl _, by omega⟩ ⟨PRF_X pf, PRF_Q pf, (PRO_F P1).1, (PRO_53 P1 rfl).1, (PRO_53 P1 rfl).2, pf.2.1 36 (by decide)⟩ gs1 (fun Mf Nf m kf l0 l1 l2 sf => ?_) (fun G Qtq hg => q73_pr hT hE c (by omega) (hq _ _ hg))
        have f70 : Mf 70 = M 70 := kf.1.1.1.trans e70
        have f73 : Mf 73 = M 73 := kf.1.1.2.2.trans e73
        have ok := POK_fin (M := M) (N := N) S1 hpos.2.2 rfl l2 kf
        refine .inr (.inr ⟨by rw [f70]; exact c, a1, ?_, ⟨by omega, ah, ?_, fun u hu => g3 u ((DCL_row ty1.1 (kf.2.2.2 np hpos.2.2 (by omega)).1).1 hu)⟩, sf⟩)
        · rw [f70, f73]
          exact sy _ _ _ _ _ _ ok
        · rw [f70, f73]
          exact g2 _ _ _ _ _ _ ok
      · exact hQ Mx' hx' (fun G Qtq hg => q73_pr hT hE c (by omega) (hq' _ _ fun M9 p => q49z p.1 (hg _ p)))
    · exact hQ _ XPb_fl (fun G Qtq hg => q73_w hT hE rfl ⟨c0, c1, c2⟩ hg)
end SLc
end T294_sl
section T295_sl
/-! the system's loop, pass 2 -/
def fxX : List Nat := [55, 56, 57, 58, 69, 70, 71, 72, 73, 112, 113, 114, 115, 116, 117, 118, 119]
def fxQ : List Nat := [149, 150, 151, 152, 153, 154, 155, 156, 157, 158, 159, 160, 161, 162, 163, 164, 165, 166]
def FIX (M0 N0 M N : mm_) : Prop := (∀ k : Nat, k ∈ fxX → M k = M0 k) ∧ (M 5 0 = M0 5 0 ∧ M 5 1 = M0 5 1 ∧ M 5 2 = M0 5 2) ∧ (∀ k : Nat, k ∈ fxQ → N k = N0 k) ∧ (N 6 17 = N0 6 17 ∧ N 6 18 = N0 6 18 ∧ N 6 19 = N0 6 19) ∧ ∀ T, 0 ≤ T → T < M0 5 2 → TYS M0 N0 M N T
def IV1 (I : mm_ → mm_ → Int → Int → Prop) : Prop := ∀ M N M' N' np nr, I M N np nr → (∀ k : Nat, k ≠ 1 → M' k = M k) → (∀ i : Int, i ∉ [3, 4, 5, 7, 31, 32] → M' 1 i = M 1 i) → (∀ k : Nat, k ≠ 6 → N' k = N k) → (∀ i : Int, i ∉ [12, 13, 14] → N' 6 i = N 6 i) → (N' 6 13 = 0 → N 6 13 = 0) → I M' N' np nr
def IVR (I : mm_ → mm_ → Int → Int → Prop) : Prop := ∀ M N M' N' np nr, I M N np nr → (∀ k : Nat, k ≠ 1 → M' k = M k) → (∀ i : Int, i ∉ [3, 4, 5, 7, 31, 32] → M' 1 i = M 1 i) → (∀ k : Nat, k ≠ 6 → N' k = N k) → (∀ i : Int, i ∉ [12, 13, 14] → N' 6 i = N 6 i) → (N' 6 13 = 0 → N 6 13 = 0 ∧ M 114 (2 * nr) ≠ -1 ∧ M 114 (2 * nr + 1) ≠ -1 ∧ M 115 nr ≤ M 116 nr) → I M' N' np (nr + 1)
def IV2 [ig : Inhabited gh_] (I : mm_ → mm_ → Int → Int → Prop) : Prop := ∀ F F' M N M' N' Me a a' ns nr np, SYS 1 F M N a ns nr np → np < M 5 2 → I M N np nr → PRO 1 F F' M N M' N' np a a' → SYS 1 F' Me N' a' ns nr (np + 1) → (∃ f c j, Me = cmX M' f c j ∧ (N' 6 13 = 0 → ∃ n : Nat, CMD M' N' np (N 6 76) n c j ∧ N' 6 76 = N 6 76 + n)) → I Me N' (np + 1) nr
/-- names told twice are noted in pass 2 -/
def G1R (M N N1 N2 : mm_) (ns ns1 nr nr1 np np1 : Int) : Prop := kk_ (N2 6 13) (N2 6 14) ≤ kk_ (N1 6 13) (N1 6 14) ∧ (∀ k, ns ≤ k → k < ns1 → TDW M N (M 56 k) → kk_ (N2 6 13) (N2 6 14) ≤ 8 * M 71 (M 56 k) + 3) ∧ (∀ k, nr ≤ k → k < nr1 → TDW M N (M 57 k) → kk_ (N2 6 13) (N2 6 14) ≤ 8 * M 71 (M 57 k) + 3) ∧ (∀ k, np ≤ k → k < np1 → TDW M N (M 58 k) → kk_ (N2 6 13) (N2 6 14) ≤ 8 * M 71 (M 58 k) + 3) ∧ ∀ T, np ≤ T → T < np1 → ∀ f, (DUN M N T f ∨ DUM M N T f) → kk_ (N2 6 13) (N2 6 14) ≤ f
theorem G1R_tr [ig : Inhabited gh_] {M N N1 N2 N3 : mm_} {ns ns1 ns2 nr nr1 nr2 np np1 np2 : Int} (h : G1R M N N1 N2 ns ns1 nr nr1 np np1) (g : G1R M N N2 N3 ns1 ns2 nr1 nr2 np1 np2) : G1R M N N1 N3 ns ns2 nr nr2 np np2 := by
  obtain ⟨a1, a2, a3, a4, a5⟩ := h
  obtain ⟨b1, b2, b3, b4, b5⟩ := g
  refine ⟨by omega, fun k k0 k1 hk => ?_, fun k k0 k1 hk => ?_, fun k k0 k1 hk => ?_, fun T k0 k1 f hf => ?_⟩
  · by_cases c : k < ns1
    · have := a2 k k0 c hk; (clear a1 a2 a3 a4 a5 b2 b3 b4 b5 k0 k1 hk c; omega)
    · exact b2 k (by omega) k1 hk
  · by_cases c : k < nr1
    · have := a3 k k0 c hk; omega
    · exact b3 k (by omega) k1 hk
  · by_cases c : k < np1
    · have := a4 k k0 c hk; (clear a1 a2 a3 a4 a5 b2 b3 b4 b5 k0 k1 hk c; lia)
    · exact b4 k (by omega) k1 hk
  · by_cases c : T < np1
    · have := a5 T k0 c f hf; omega
    · exact b5 T (by omega) k1 f hf
section SLd
variable {dq : Nat} {Kv : mm_ → Prop} {Qt : qt_} {V : vv_} {M0 N0 M N M1 N1 M2 N2 : mm_} {T : Int}
theorem TYS_tr [ig : Inhabited gh_] (h : TYS M N M1 N1 T) (g : TYS M1 N1 M2 N2 T) : TYS M N M2 N2 T := ⟨⟨g.1.1.trans h.1.1, g.1.2.trans h.1.2⟩, ⟨g.2.1.1.trans h.2.1.1, g.2.1.2.trans h.2.1.2⟩, ⟨g.2.2.1.1.trans h.2.2.1.1, g.2.2.1.2.trans h.2.2.1.2⟩, g.2.2.2.trans h.2.2.2⟩
theorem TYS_e [ig : Inhabited gh_] (hx : ∀ k : Nat, k ∈ [5, 58, 60, 61, 62, 122, 124, 126, 128] → M1 k = M k) (hq : ∀ k : Nat, k ∈ [151, 174, 179] → N1 k = N k) : TYS M N M1 N1 T := by
  have u1 : ∀ (A : mm_) (k : Nat), k ≠ 1 → up_ A 1 18 T k = A k := fun A k hk => up_ne hk
  have u6 : ∀ (A : mm_) (k : Nat), k ≠ 6 → up_ A 6 61 T k = A k := fun A k hk => up_ne hk
  refine ⟨⟨?_, ?_⟩, ⟨by rw [hx 122 (by decide)], ?_⟩, ⟨?_, by rw [hx 124 (by decide)]⟩, by rw [hx 128 (by decide)]⟩
  · unfold TMT; rw [hx 5 (by decide), hx 58 (by decide)]
  · unfold DMs DMT
    rw [u1 M1 60 (by decide), u1 M 60 (by decide), u1 M1 61 (by decide), u1 M 61 (by decide), u1 M1 124 (by decide), u1 M 124 (by decide), u1 M1 126 (by decide), u1 M 126 (by decide), up_at, up_at, hx 60 (by decide), hx 61 (by decide), hx 124 (by decide), hx 126 (by decide)]
  · unfold LMs LMT
    rw [u1 M1 128 (by decide), u1 M 128 (by decide), u1 M1 62 (by decide), u1 M 62 (by decide), up_at, up_at, hx 128 (by decide), hx 62 (by decide)]
  · unfold SMs SMT stt
    rw [u6 N1 151 (by decide), u6 N 151 (by decide), u6 N1 174 (by decide), u6 N 174 (by decide), u6 N1 179 (by decide), u6 N 179 (by decide), up_at, up_at, hq 151 (by decide), hq 174 (by decide), hq 179 (by decide)]
theorem FIX_e [ig : Inhabited gh_] (h : FIX M0 N0 M N) (hx : ∀ k : Nat, k ≠ 1 → M1 k = M k) (hq : ∀ k : Nat, k ≠ 6 → N1 k = N k) (h6 : ∀ i : Int, i ∈ [17, 18, 19] → N1 6 i = N 6 i) : FIX M0 N0 M1 N1 := by
  obtain ⟨a1, a2, a3, a4, a5⟩ := h
  refine ⟨fun k hk => (hx k (fun e => by rw [e] at hk; revert hk; decide)).trans (a1 k hk), by rw [hx 5 (by decide)]; exact a2, fun k hk => (hq k (fun e => by rw [e] at hk; revert hk; decide)).trans (a3 k hk), by rw [h6 17 (by decide), h6 18 (by decide), h6 19 (by decide)]; exact a4, fun T T0 T1 => TYS_tr (a5 T T0 T1) (TYS_e (fun k hk => hx k (fun e => by rw [e] at hk; revert hk; decide)) (fun k hk => hq k (fun e => by rw [e] at hk; revert hk; decide)))⟩
theorem FIX_RTX [ig : Inhabited gh_] {r a : Int} (h : FIX M0 N0 M N) (hX : RTX M0 N0 r a) : RTX M N r a := by
  obtain ⟨a1, a2, a3, a4, a5⟩ := h
  have sg : sgl N = sgl N0 := sgl_e a4.1 (a3 152 (by decide))
  have tp : tpl N = tpl N0 := tpl_e a4.2.2 (a3 154 (by decide))
  unfold RTX sdv at hX ⊢
  rw [a1 114 (by decide), a1 115 (by decide), a1 116 (by decide), a1 117 (by decide), a1 118 (by decide), a1 119 (by decide), a1 70 (by decide), a1 73 (by decide), tp, a3 151 (by decide)]
  exact ⟨hX.1, hX.2.1, fun m hm => by rw [lsv_e sg (a3 151 (by decide))]; exact hX.2.2 m hm⟩
theorem FIX_TDW [ig : Inhabited gh_] {t : Int} (h : FIX M0 N0 M N) (g : TDW M0 N0 t) : TDW M N t := by
  obtain ⟨a1, ⟨b0, b1, b2⟩, a3, a4, a5⟩ := h
  unfold TDW GLM at g ⊢
  rw [b0, b1, b2, a1 56 (by decide), a1 57 (by decide), a1 58 (by decide), a3 151 (by decide)]
  exact g
theorem DMs_D [ig : Inhabited gh_] {t : Int} : DMs M T t = true ↔ DCL M T t := by
  refine ⟨fun h => ?_, DMT_of⟩
  unfold DMs at h
  have := DMT_D h
  rw [up_at] at this
  exact (DCL_c (up_ne (by decide)) (up_ne (by decide)) (up_ne (by decide)) (up_ne (by decide))).1 this
theorem FIX_DUN [ig : Inhabited gh_] {f : Int} (h : FIX M0 N0 M N) (ty : TYS M0 N0 M N T) (g : DUN M0 N0 T f) : DUN M N T f := DUN_c g (fun u hu => by rw [← DMs_D, ty.1.2, DMs_D]; exact hu) (h.1 71 (by decide)) (h.2.2.1 151 (by decide))
theorem LMs_e [ig : Inhabited gh_] {j t : Int} : LMs M T j t = true ↔ 0 ≤ j ∧ j < M 128 T ∧ M 62 (10 * T + j) = t := by
  unfold LMs LMT
  rw [decide_eq_true_eq, up_at, up_ne (by decide), up_ne (by decide)]
theorem FIX_DUM [ig : Inhabited gh_] {f : Int} (h : FIX M0 N0 M N) (ty : TYS M0 N0 M N T) (g : DUM M0 N0 T f) : DUM M N T f := by
  obtain ⟨k, i, z1, z2, z3⟩ := g
  have e : ∀ j, 0 ≤ j → j < M0 128 T → M 62 (10 * T + j) = M0 62 (10 * T + j) := fun j j0 j1 => by
    have := LMs_e.2 ⟨j0, j1, rfl⟩
    rw [← ty.2.1.2] at this
    exact (LMs_e.1 this).2.2
  exact ⟨k, i, by rw [ty.2.2.2]; exact z1, by rw [h.2.2.1 151 (by decide), e i (by (clear h ty z2 z3 e; omega)) (by omega), e k (by omega) (by omega)]; exact z2, by rw [h.1 71 (by decide), e k (by omega) (by omega)]; exact z3⟩
theorem l_25b [ig : Inhabited gh_] {I : mm_ → mm_ → Int → Int → Prop} (hgh : GHP) (hV : Cl_ wd0 (Tr_ wd0 pg0 131) V (rv_ Kv) Qt m_102) (hW : Wk_ V) (hX : ∀ r, 0 ≤ r → r < M0 5 1 → RTX M0 N0 r (M0 55 r)) (i1 : IV1 I) (i3 : IVR I) (i2 : IV2 I) :
    ∀ (n : Nat) (a F ns nr np x4 : Int) (M N : mm_), SYS 1 F M N a ns nr np → FIX M0 N0 M N → SYG M0 N0 (n + 1) a ns nr np → I M N np nr →
    (∀ M' N' a', SYS 1 F M' N' a' (M0 5 0) (M0 5 1) (M0 5 2) → M' 70 a' = 102 → FIX M0 N0 M' N' → I M' N' (M0 5 2) (M0 5 1) → G1R M0 N0 N N' ns (M0 5 0) nr (M0 5 1) np (M0 5 2) → (∀ (G : mm_ → Prop) (Qtq : qt_), G N' → q73 dq nr np x4 N G Qtq) → Kv M') →
    V 25 [rr 1] [] M
  | n, a, F, ns, nr, np, x4, M, N, h, hF, hG, hI, hK => by
    have hE := h.1.1.2.1
    have hT := h.1.1.1
    have ha := ER_a hE
    have hpos := h.2.1.2.1
    have b51 := h.1.2.1.2.2.1.1
    have b52 := h.1.2.1.2.1.1.1
    have e70 : M 70 = M0 70 := hF.1 70 (by decide)
    have e73 : M 73 = M0 73 := hF.1 73 (by decide)
    have step : ∀ M1 N1 a1 ns1 nr1 np1, SYS 1 F M1 N1 a1 ns1 nr1 np1 → FIX M0 N0 M1 N1 → SYG M0 N0 n a1 ns1 nr1 np1 → I M1 N1 np1 nr1 → G1R M0 N0 N N1 ns ns1 nr nr1 np np1 → (∀ (G : mm_ → Prop) (Qtq : qt_), q49 dq nr1 np1 N1 G Qtq → q73 dq nr np x4 N G Qtq) → z102 V Kv Qt M1 := fun M1 N1 a1 ns1 nr1 np1 S1 F1 G1 I1 gr hq => by
      have hE1 := S1.1.1.2.1
      have hT1 := S1.1.1.1
      have f70 : M1 70 = M0 70 := F1.1 70 (by decide)
      unfold z102
      refine y_103 hE1 (fun c => ?_) (fun c => ?_)
      · rw [if_neg (by decide)]
        cases n with
        | zero =>
          obtain ⟨_, q1, q2, q3⟩ := G1
          rw [q1, q2, q3] at S1
          rw [q2, q3] at I1
          rw [q1, q2, q3] at gr
          exact rv_i (hK M1 N1 a1 S1 c F1 I1 gr (fun G Qtq hg => hq G Qtq (q49_e hT1 hE1 c hg)))
        | succ n =>
          exfalso
          rw [f70] at c
          rcases G1 with ⟨e, _⟩ | ⟨e, _⟩ | ⟨e, _⟩ <;> omega
      · rw [if_pos rfl]
        cases n with
        | zero => exfalso; rw [f70] at c; exact c G1.1
        | succ n =>
          exact l_25b hgh hV hW hX i1 i3 i2 n a1 F ns1 nr1 np1 0 M1 N1 S1 F1 G1 I1 (fun M' N' a' S' c' F' I' gr' hq' => hK M' N' a' S' c' F' I' (G1R_tr gr gr') (fun G Qtq hg => hq G Qtq (q49_g hT1 hE1 c (hq' G Qtq hg))))
    refine x_25 hV hW hE (fun c => ?_) (fun c => ?_) (fun c => ?_) (fun c0 c1 c2 => ?_)
    · rw [e70] at c
      rcases hG with ⟨_, a1, ns1, sy, G1⟩ | ⟨e, _⟩ | ⟨e, _⟩
      · have tsg : TSG M = TSG M0 := by unfold TSG; rw [hF.2.1.1, hF.1 56 (by decide)]
        have sy' : SGS (M 70) (M 113) (M 112) (TSG M) (a, ns) = some (a1, ns1) := by rw [e70, hF.1 113 (by decide), hF.1 112 (by decide), tsg]; exact sy
        refine y_104 (dq := dq) h (by rw [e70]; exact c) (fun _ => by rw [sy']; exact fun e => by cases e) (fun F1 M1 N1 a2 ns2 S1 ha1 hn1 xp sg r70 rw3 rb fF sy2 hq => ?_) (fun hb => by omega)
        have s2 := sy2 _ _ _ ⟨fun hb => by omega, fun _ => ⟨rfl, rfl, rfl⟩⟩
        rw [sy'] at s2
        injection s2 with s2
        injection s2 with s3 s4
        have fe := fF.2.1 rfl
        have gg := fF.2.2.2 rfl
        subst s3
        subst s4
        subst fe
        have q := sg.2.2.2 rfl
        exact step M1 N1 a1 ns1 nr np S1 (FIX_e hF (rb rfl) q.1 (fun i hi => q.2.1 i (fun e => by simp only [List.mem_cons, List.not_mem_nil, or_false] at hi e; (clear hgh hV hW hX i1 i3 i2 hF hI hT ha hpos b51 b52 e70 e73 c sy G1 tsg sy' xp sg r70 rw3 rb hq ha1 hn1 gg S1 sy2 h hK hE step fF q; lia)))) G1 (i1 _ _ _ _ _ _ hI (rb rfl) (fun i hi => sg.1.2.2 i (fun e => hi (by simp only [List.mem_cons, List.not_mem_nil, or_false] at e ⊢; (clear hgh hV hW hX i1 i3 i2 hF hI hT ha hpos b51 b52 e70 e73 c sy G1 tsg sy' xp sg r70 rw3 rb hq ha1 hn1 gg S1 sy2 h hK hE step fF q hi; lia)))) q.1 q.2.1 q.2.2) ⟨gg.1, fun k k0 k1 hk => by
          have := gg.2 k k0 k1 (by rw [hF.1 56 (by decide)]; exact FIX_TDW hF hk)
          rw [hF.1 56 (by decide), hF.1 71 (by decide)] at this; exact this, fun k k0 k1 => by (clear hgh hV hW hX i1 i3 i2 hF hI hT ha hpos b51 b52 e70 e73 c sy G1 tsg sy' xp sg r70 rw3 rb hq ha1 hn1 gg S1 sy2 h hK hE step fF q; omega), fun k k0 k1 => by (clear hgh hV hW hX i1 i3 i2 hF hI hT ha hpos b51 b52 e70 e73 c sy G1 tsg sy' xp sg r70 rw3 rb hq ha1 hn1 gg S1 sy2 h hK hE step fF q; omega), fun k k0 k1 => by omega⟩ (fun G Qtq hg => q73_sg (hq _ _ hg))
      · (clear hgh hV hW hX i1 i3 i2 h hF hI hK hE hT ha hpos b51 b52 e70 e73 step; lia)
      · (clear hgh hV hW hX i1 i3 i2 h hF hI hK hE hT ha hpos b51 b52 e70 e73 step; lia)
    · rw [e70] at c
      rcases hG with ⟨e, _⟩ | ⟨_, m1, E1, ⟨n1, k57, k55⟩, G1⟩ | ⟨e, _⟩
      · (clear hgh hV hW hX i1 i3 i2 h hF hI hK hE hT ha hpos b51 b52 e70 e73 step; lia)
      · refine y_122 (dq := dq) h (by rw [e70]; exact c) (fun hb => by omega) (fun _ => ⟨⟨m1, by rw [e70, e73]; exact E1⟩, ⟨by rw [hF.2.1.2.1]; exact n1, by rw [hF.1 57 (by decide)]; exact k57⟩, FIX_RTX hF (by have := hX nr hpos.2.1 n1; rw [k55] at this; exact this)⟩) (fun F1 M1 N1 a1 m2 S1 E2 ea ro fF hq => ?_) (fun hb => by omega)
        have r1 := ro.2.1 rfl
        have fe := fF.2.1 rfl
        have gg := fF.2.2.2 rfl
        subst fe
        rw [e70, e73] at E2
        have mm := LST_u m2 m1 _ E2.2.2.2.2.2.2 E1.2.2.2.2.2.2
        subst mm
        rw [e70] at ea
        subst ea
        exact step M1 N1 _ ns (nr + 1) np S1 (FIX_e hF r1.1 r1.2.1 (fun i hi => r1.2.2.2 i (fun e => by simp only [List.mem_cons, List.not_mem_nil, or_false] at hi e; (clear hgh hV hW hX i1 i3 i2 hF hI hT ha hpos b51 b52 e70 e73 c n1 k57 k55 E2 ro hq r1 gg h hK hE step fF E1 G1 S1; lia)))) G1 (i3 _ _ _ _ _ _ hI r1.1 (fun i hi => ro.2.2 i (fun e => hi (by simp only [List.mem_cons, List.not_mem_nil, or_false] at e ⊢; (clear hgh hV hW hX i1 i3 i2 hF hI hT ha hpos b51 b52 e70 e73 c n1 k57 k55 E2 ro hq r1 gg h hK hE step fF E1 G1 S1 hi; lia)))) r1.2.1 r1.2.2.2 r1.2.2.1) ⟨gg.1, fun k k0 k1 => by (clear hgh hV hW hX i1 i3 i2 hF hI hT ha hpos b51 b52 e70 e73 c n1 k57 k55 E2 ro hq r1 gg h hK hE step fF E1 G1 S1; omega), fun k k0 k1 hk => by
          have ek : k = nr := by (clear hgh hV hW hX i1 i3 i2 hF hI hT ha hpos b51 b52 e70 e73 c n1 k57 k55 E2 ro hq r1 gg h hK hE step fF E1 G1 S1 hk; lia)
          rw [ek, k57] at hk ⊢
          have := gg.2 (FIX_TDW hF hk)
          rw [hF.1 71 (by decide)] at this; exact this, fun k k0 k1 => by (clear hgh hV hW hX i1 i3 i2 hF hI hT ha hpos b51 b52 e70 e73 c n1 k57 k55 E2 ro hq r1 gg h hK hE step fF E1 G1 S1; omega), fun k k0 k1 => by omega⟩ (fun G Qtq hg => q73_rt hT hE (by rw [e70]; exact c) (by have e1 := hF.2.1.2.1; rw [e1] at b51; omega) (hq _ _ hg))
      · (clear hgh hV hW hX i1 i3 i2 h hF hI hK hE hT ha hpos b51 b52 e70 e73 step; lia)
    · rw [e70] at c
      rcases hG with ⟨e, _⟩ | ⟨e, _⟩ | ⟨_, a1, sy, ⟨n1, ah, hah, hdc⟩, G1⟩
      · (clear hgh hV hW hX i1 i3 i2 h hF hI hK hE hT ha hpos b51 b52 e70 e73 step; lia)
      · (clear hgh hV hW hX i1 i3 i2 h hF hI hK hE hT ha hpos b51 b52 e70 e73 step; lia)
      · have ty := hF.2.2.2.2 np hpos.2.2 n1
        have sy' : prcS (M 70) (M 73) (TMT M np) (DMs M np) (M 122 np) (LMs M np) (SMs N np) (M 128 np) a = some a1 := by
          rw [e70, e73, ty.1.1, ty.1.2, ty.2.1.1, ty.2.1.2, ty.2.2.1.1, ty.2.2.2]; exact sy
        refine y_126 (dq := dq) hgh h (by rw [e70]; exact c) (fun _ => by rw [sy']; exact fun e => by cases e) (fun F1 M1 N1 Me a2 S1 P1 PG ha1 _ eM sy2 hq => ?_) (fun hb => by omega)
        have s2 := sy2 _ _ _ _ _ _ ⟨fun hb => by omega, fun _ => ⟨rfl, rfl, rfl, rfl, rfl, rfl⟩⟩
        rw [sy'] at s2
        injection s2 with s3
        subst s3
        have fe := (PRO_F P1).2 rfl
        subst fe
        have eM1 := eM rfl
        obtain ⟨f, cc, j, eq, cm⟩ := eM1
        have nM : np < M 5 2 := by rw [hF.2.1.2.2]; exact n1
        have pf := PRO_f h P1
        have S1' : SYS 1 F1 M1 N1 a1 ns nr (np + 1) := PRO_SYS h P1 (by (clear hgh hV hW hX i1 i3 i2 hF hI hT ha hpos b51 b52 e70 e73 c sy G1 n1 hah hdc ty sy' eM hq S1 sy2 h hK hE step PG P1 eq cm nM pf; omega))
        have tp := TYS_PRO h rfl P1 S1'
        have cr : ∀ k : Nat, k ≠ 63 → k ≠ 67 → k ≠ 68 → Me k = M1 k := fun k h1 h2 h3 => by rw [eq]; exact cmX_r h1 h2 h3
        have F1' : FIX M0 N0 Me N1 := by
          obtain ⟨b1, b2, b3, b4, b5⟩ := hF
          refine ⟨fun k hk => ?_, ?_, fun k hk => ?_, ?_, fun T T0 T1 => ?_⟩
          · rw [cr k (fun e => by rw [e] at hk; revert hk; decide) (fun e => by rw [e] at hk; revert hk; decide) (fun e => by rw [e] at hk; revert hk; decide)]
            by_cases c58 : k = 58
            · rw [c58, tp.2.2.1]; exact b1 58 (by decide)
            · rw [pf.1 k (fun e => by revert hk e; unfold fxX prX; simp only [List.mem_cons, List.not_mem_nil, or_false]; (clear hgh hV hW hX i1 i3 i2 hI hT ha hpos b51 b52 e70 e73 c sy G1 n1 hah hdc ty sy' eM hq S1 ha1 sy2 h hK hE step PG P1 eq cm nM pf S1' tp cr b1 b2 b3 b4 b5; omega))]
              exact b1 k hk
          · rw [cr 5 (by decide) (by decide) (by decide), pf.2.1 0 (by decide), pf.2.1 1 (by decide), tp.2.1]; exact b2
          · by_cases c154 : k = 154
            · rw [c154, tp.2.2.2.1]; exact b3 154 (by decide)
            · rw [pf.2.2.2.1 k (fun e => by revert hk e; unfold fxQ prQ; simp only [List.mem_cons, List.not_mem_nil, or_false]; (clear hgh hV hW hX i1 i3 i2 hI hT ha hpos b51 b52 e70 e73 c sy G1 n1 hah hdc ty sy' eM hq S1 ha1 sy2 h hK hE step PG P1 eq cm nM pf S1' tp cr b1 b2 b3 b4 b5; omega))]
              exact b3 k hk
          · rw [pf.2.2.2.2.1.1 17 (by decide), pf.2.2.2.2.1.1 18 (by decide), tp.2.2.2.2]; exact b4
          · exact TYS_tr (b5 T T0 T1) (TYS_tr (tp.1 T T0 (by rw [b2.2.2]; exact T1)) (TYS_e (fun k hk => cr k (fun e => by rw [e] at hk; revert hk; decide) (fun e => by rw [e] at hk; revert hk; decide) (fun e => by rw [e] at hk; revert hk; decide)) (fun _ _ => rfl)))
        have gr : G1R M0 N0 N N1 ns ns nr nr np (np + 1) := by
          obtain ⟨p1, p2, p3, p4⟩ := PG.2 rfl
          refine ⟨p1, fun k k0 k1 => by (clear hgh hV hW hX i1 i3 i2 hF hI hT ha hpos b51 b52 e70 e73 c sy G1 n1 hah hdc ty sy' eM hq S1 ha1 sy2 h hK hE step PG P1 eq cm nM pf S1' tp cr F1' p1 p2 p3 p4; omega), fun k k0 k1 => by (clear hgh hV hW hX i1 i3 i2 hF hI hT ha hpos b51 b52 e70 e73 c sy G1 n1 hah hdc ty sy' eM hq S1 ha1 sy2 h hK hE step PG P1 eq cm nM pf S1' tp cr F1' p1 p2 p3 p4; omega), fun k k0 k1 hk => ?_, fun T k0 k1 f hf => ?_⟩
          · have ek : k = np := by (clear hgh hV hW hX i1 i3 i2 hF hI hT ha hpos b51 b52 e70 e73 c sy G1 n1 hah hdc ty sy' eM hq S1 ha1 sy2 h hK hE step PG P1 eq cm nM pf S1' tp cr F1' p1 p2 p3 p4 hk; lia)
            have k58 : M0 58 np = a + 1 := by
              have := PRO_58 P1
              rw [tp.2.2.1, hF.1 58 (by decide)] at this; exact this
            rw [ek, k58] at hk ⊢
            have := p2 (FIX_TDW hF hk)
            rw [hF.1 71 (by decide)] at this; exact this
          · have ek : T = np := by omega
            rw [ek] at hf
            rcases hf with hf | hf
            · exact p3 ah (by rw [e70, e73, ty.1.2, ty.2.1.1]; exact hah) (fun u hu => hdc u (by rw [← DMs_D, ← ty.1.2, DMs_D]; exact hu)) f (FIX_DUN hF ty hf)
            · exact p4 f ((DUL_M (h.1.2.2.1 np hpos.2.2 nM).2.2.2.2.1).2 (FIX_DUM hF ty hf))
        exact step Me N1 a1 ns nr (np + 1) S1 F1' G1 (i2 _ _ _ _ _ _ _ _ _ _ _ _ h nM hI P1 S1 ⟨f, cc, j, eq, cm⟩) gr (fun G Qtq hg => q73_pr hT hE (by rw [e70]; exact c) (by have e1 := hF.2.1.2.2; rw [e1] at b52; (clear hgh hV hW hX i1 i3 i2 hF hI hT ha b51 e70 e73 c sy G1 hah hdc ty sy' eM hq S1 ha1 sy2 h hK hE step PG P1 eq cm nM pf S1' cr F1' gr hg e1; omega)) (hq _ _ hg))
    · exfalso
      rw [e70] at c0 c1 c2
      rcases hG with ⟨e, _⟩ | ⟨e, _⟩ | ⟨e, _⟩ <;> omega
end SLd
end T295_sl
section T296_gw
/-! growth at the system's level: what a process keeps, what it adds (pass 2) -/
def ttL : List Nat := [156, 157, 170, 171, 173, 174, 175, 182, 183, 184]
def OXS (lb ub : Int) (M M' : mm_) : Prop := (M 5 3 ≤ M' 5 3 ∧ M 5 4 ≤ M' 5 4) ∧ (∀ i, 0 ≤ i → i < M 5 3 → M' 142 i = M 142 i) ∧ (∀ r i, r ∈ st9L → 0 ≤ i → i < M 5 4 → M' r i = M r i) ∧ (∀ i, 0 ≤ i → i < 3 * M 5 4 → M' 137 i = M 137 i) ∧ (∀ i, i < lb ∨ ub ≤ i → M' 129 i = M 129 i)
def OQS (lb ub : Int) (N N' : mm_) : Prop := ((∀ r : Nat, r ∈ ttL → N' r = N r) ∧ (∀ i : Int, i ∈ [17, 18, 19] → N' 6 i = N 6 i)) ∧ (N 6 62 ≤ N' 6 62 ∧ N 6 63 ≤ N' 6 63 ∧ N 6 75 ≤ N' 6 75 ∧ N 6 76 ≤ N' 6 76 ∧ N 6 90 ≤ N' 6 90 ∧ N 6 104 ≤ N' 6 104)
  ∧ (∀ r i, r ∈ sq9L → 0 ≤ i → i < N 6 62 → N' r i = N r i) ∧ (∀ i, 0 ≤ i → i < N 6 63 → N' 200 i = N 200 i ∧ N' 201 i = N 201 i) ∧ (∀ i, 0 ≤ i → i < 3 * N 6 63 → N' 202 i = N 202 i) ∧ (∀ r i, r ∈ opL → 0 ≤ i → i < N 6 75 → N' r i = N r i) ∧ (∀ i, 0 ≤ i → i < 3 * N 6 75 → N' 209 i = N 209 i)
  ∧ (∀ r i, r ∈ rgR → 0 ≤ i → i < N 6 90 → N' r i = N r i) ∧ (∀ i, 0 ≤ i → i < N 6 104 → N' 227 i = N 227 i ∧ N' 228 i = N 228 i) ∧ (∀ r i, r ∈ tqL → 0 ≤ i → i < N 6 76 → N' r i = N r i) ∧ (∀ i, i < lb ∨ ub ≤ i → N' 188 i = N 188 i ∧ N' 189 i = N 189 i)
def SC2 (M N : mm_) : Prop := (0 ≤ N 6 62 ∧ 0 ≤ N 6 63 ∧ 0 ≤ N 6 75 ∧ 0 ≤ N 6 76) ∧ (∀ k, 0 ≤ k → k < N 6 62 → 0 ≤ N 198 k ∧ N 198 k ≤ N 199 k ∧ N 199 k ≤ N 6 63) ∧ xsf N (N 6 62).toNat = M 5 4
section GWa
variable {b F F' : Int} {M N M' N' M1 N1 : mm_} {lb ub T k c y i x me f a a' np ns nr : Int}
theorem OQS_tc [Inhabited gh_] (q : OQS lb ub N N1) : tc_ T N N1 := by
  have f := q.1.1
  have g := q.1.2
  exact ⟨⟨f 171 (by decide), f 173 (by decide), f 182 (by decide), f 183 (by decide), f 184 (by decide)⟩, f 156 (by decide), f 157 (by decide), f 170 (by decide), f 174 (by decide), by rw [f 175 (by decide)], g 17 (by decide), g 18 (by decide), g 19 (by decide)⟩
theorem ATP_S [Inhabited gh_] (h : ATP M N T k c) (o : OXS lb ub M M1) (q : OQS lb ub N N1) : ATP M1 N1 T k c := by
  obtain ⟨k0, k1, c0, c1, r0, r1, fe, px, L, h1, h2, h3, h4, h5, h6, h7, h8⟩ := h
  have tc := OQS_tc (T := T) q
  obtain ⟨m, a4, _⟩ := o
  obtain ⟨_, n, a3, _, _, a6, a7, a8, a9, _⟩ := q
  refine ⟨k0, k1, c0, c1, r0, r1, fe, px, L, by (clear h2 h3 h4 h5 h6 h7 h8 tc m a4 a3 a6 a7 a8 a9; omega), by omega, by (clear h1 h2 h4 h5 h6 h7 h8 tc m a4 a3 a6 a7 a8 a9; omega), by (clear h1 h2 h3 h5 h6 h7 h8 tc m a4 a3 a6 a7 a8 a9; omega), h5, h6, fun k x y => ?_, h8⟩
  exact OPX_c (h7 k x y) (Int.le_refl _) (Int.le_refl _) (Int.le_refl _) (Int.le_refl _) (Int.le_refl _) y (fun i p q => h5 i (by (clear h1 h2 h3 h4 h5 h6 h7 h8 tc m a4 n a3 a6 a7 a8 a9 y q; omega)) q) (fun _ _ _ => rfl) (fun _ h => h) (fun h => h) (fun i p q => a4 i (by (clear h1 h3 h4 h5 h6 h7 h8 tc m a4 n a3 a6 a7 a8 a9 x y q; omega)) (by (clear h1 h3 h4 h5 h6 h7 h8 tc m a4 n a3 a6 a7 a8 a9 x y p; omega))) (fun i p q => ⟨a8 216 i (by decide) (by (clear h1 h2 h4 h5 h6 h7 h8 tc m a4 n a3 a6 a7 a8 a9 x y q; omega)) (by (clear h1 h2 h4 h5 h6 h7 h8 tc m a4 n a3 a6 a7 a8 a9 x y p; omega)), a8 217 i (by decide) (by omega) (by omega), a8 218 i (by decide) (by omega) (by omega), a8 219 i (by decide) (by omega) (by omega)⟩) (fun r hr => a6 r k hr (by (clear h2 h3 h4 h5 h6 h7 h8 tc m a4 n a3 a6 a7 a8 a9 y hr; omega)) (by (clear h2 h3 h4 h5 h6 h7 h8 tc m a4 n a3 a6 a7 a8 a9 x hr; omega))) (fun i p q => a7 i (by (clear h2 h3 h4 h5 h6 h7 h8 tc m a4 n a3 a6 a7 a8 a9 y; omega)) (by (clear h2 h3 h4 h5 h6 h7 h8 tc m a4 n a3 a6 a7 a8 a9 x; omega))) (fun i p q => a9 i p (by (clear h1 h2 h3 h5 h6 h7 h8 tc m a4 n a3 a6 a7 a8 a9 x y p; omega))) tc (Int.le_refl _)
theorem ASK_S [Inhabited gh_] (h : ASK M N T c f) (o : OXS lb ub M M1) (q : OQS lb ub N N1) : ASK M1 N1 T c f := by
  obtain ⟨c1, fe, h1, h2, h3, h4⟩ := h
  have tc := (OQS_tc (T := T) q).1
  obtain ⟨m, a4, _⟩ := o
  obtain ⟨_, n, a3, _, _, a6, a7, a8, a9, _⟩ := q
  obtain ⟨l, e1, e2, e3, e4, e5, e6, e7⟩ := id h3
  exact ⟨c1, fe, by omega, by (clear h1 h3 h4 tc a4 n a3 a6 a7 a8 a9 e1 e2 e4 e5 e6 e7; omega), EXP_c h3 (fun i p q => a4 i (by (clear h1 h2 h3 h4 tc m a4 n a3 a6 a7 a8 a9 e1 e2 e3 e4 e5 e7 q; omega)) (by (clear h1 h3 h4 tc m a4 n a3 a6 a7 a8 a9 e1 e2 e4 e5 e6 e7 p; omega))) (fun i p q => a9 i (by (clear h1 h2 h3 h4 tc m a4 n a3 a6 a7 a8 a9 e1 e2 e3 e4 e6 e7 q; omega)) (by (clear h2 h3 h4 tc m a4 n a3 a6 a7 a8 a9 e1 e2 e3 e4 e5 e6 e7 p; omega))) tc (Int.le_refl _), by rw [a4 c1 (by (clear h1 h2 h3 h4 tc m a4 n a3 a6 a7 a8 a9 e1 e2 e4 e5 e7; omega)) (by (clear h1 h3 h4 tc m a4 n a3 a6 a7 a8 a9 e1 e2 e4 e5 e6 e7; omega))]; exact h4⟩
theorem RWI_S [Inhabited gh_] (h : RWI M N T c i) (o : OXS lb ub M M1) (q : OQS lb ub N N1) (hc : 0 ≤ c ∧ c < M 5 4) (hi : 0 ≤ i ∧ i < N 6 63) : RWI M1 N1 T c i := by
  obtain ⟨h0, h1, h2, h3, h4⟩ := h
  obtain ⟨m, a4, a5, a6, _⟩ := o
  obtain ⟨⟨f, _⟩, n, b3, b4, b5, _⟩ := q
  have u : UQI M1 c := fun y y0 y1 => by
    rw [a5 134 y (by decide) y0 (by omega), a5 133 y (by decide) y0 (by omega), a5 136 y (by decide) y0 (by omega), a5 135 y (by decide) y0 (by omega), a5 134 c (by decide) hc.1 hc.2, a5 136 c (by decide) hc.1 hc.2, a5 135 c (by decide) hc.1 hc.2]
    exact h0 y y0 y1
  unfold RWI
  rw [(b4 i hi.1 hi.2).1, (b4 i hi.1 hi.2).2, a5 138 c (by decide) hc.1 hc.2, f 171 (by decide), f 184 (by decide), f 183 (by decide), f 156 (by decide), f 157 (by decide), f 182 (by decide)]
  exact ⟨u, h1, h2, h3, fun v x y => by rw [a6 _ (by omega) (by omega), b5 _ (by (clear hc h0 h1 h2 h3 h4 m a4 a5 a6 f n b3 b4 b5 u y; omega)) (by omega)]; exact h4 v x y⟩
theorem SRO_S [Inhabited gh_] (h : SRO M N k y i) (o : OXS lb ub M M1) (q : OQS lb ub N N1) (hk : 0 ≤ k ∧ k < N 6 62) (hy : 0 ≤ y ∧ y < M 5 4) (hi : N 193 k < 2 → 0 ≤ i ∧ i < N 6 63) : SRO M1 N1 k y i := by
  have b3 := q.2.2.1
  have a5 := o.2.2.1
  obtain ⟨h1, h2, h3, h4⟩ := h
  unfold SRO
  rw [b3 193 k (by decide) hk.1 hk.2, b3 192 k (by decide) hk.1 hk.2, b3 197 k (by decide) hk.1 hk.2, b3 196 k (by decide) hk.1 hk.2, b3 195 k (by decide) hk.1 hk.2, a5 141 y (by decide) hy.1 hy.2, a5 139 y (by decide) hy.1 hy.2, a5 140 y (by decide) hy.1 hy.2]
  refine ⟨fun e => ATP_S (h1 e) o q, fun e => ?_, fun e => ⟨ASK_S (h3 e).1 o q, (h3 e).2⟩, fun e => RWI_S (h4 e) o q hy (hi e)⟩
  rcases h2 e with h | h
  · exact .inl h
  · exact .inr (ASK_S h o q)
theorem nsK_S [Inhabited gh_] (q : OQS lb ub N N1) (hk : 0 ≤ k ∧ k < N 6 62) : nsK N1 k = nsK N k := by
  have b3 := q.2.2.1
  unfold nsK
  rw [b3 193 k (by decide) hk.1 hk.2, b3 198 k (by decide) hk.1 hk.2, b3 199 k (by decide) hk.1 hk.2]
theorem xsf_S [Inhabited gh_] (q : OQS lb ub N N1) : ∀ n : Nat, (n : Int) ≤ N 6 62 → xsf N1 n = xsf N n
  | 0, _ => rfl
  | n + 1, h => by
    show xsf N1 n + nsK N1 n = xsf N n + nsK N n
    rw [xsf_S q n (by omega), nsK_S q ⟨by omega, by omega⟩]
theorem nsK_2 [Inhabited gh_] (h : SC2 M N) (hk : 0 ≤ k ∧ k < N 6 62) : 0 ≤ nsK N k := by
  have := h.2.1 k hk.1 hk.2
  unfold nsK; split <;> omega
theorem xsf_2 [Inhabited gh_] (h : SC2 M N) : ∀ n : Nat, (n : Int) ≤ N 6 62 → 0 ≤ xsf N n ∧ ∀ m : Nat, m ≤ n → xsf N m ≤ xsf N n
  | 0, _ => ⟨Int.le_refl _, fun m hm => by rw [show m = 0 by (clear h; lia)]; exact Int.le_refl _⟩
  | n + 1, hn => by
    obtain ⟨r1, r2⟩ := xsf_2 h n (by omega)
    have n0 := nsK_2 h (k := (n : Int)) ⟨by omega, by omega⟩
    have e : xsf N (n + 1) = xsf N n + nsK N n := rfl
    refine ⟨by (clear h hn r2; lia), fun m hm => ?_⟩
    by_cases c : m = n + 1
    · rw [c]; exact Int.le_refl _
    · have := r2 m (by (clear h hn r1 r2 n0 e; lia)); (clear h hn r1 r2 hm c; omega)
theorem xsf_l2 [Inhabited gh_] (h : SC2 M N) {j : Int} (hk : 0 ≤ k ∧ k < N 6 62) (hj : 0 ≤ j ∧ j < nsK N k) : 0 ≤ xsf N k.toNat + j ∧ xsf N k.toNat + j < M 5 4 := by
  have r1 := (xsf_2 h k.toNat (by omega)).1
  have r2 := (xsf_2 h (N 6 62).toNat (by omega)).2 (k.toNat + 1) (by (clear h hj r1; omega))
  have e : xsf N (k.toNat + 1) = xsf N k.toNat + nsK N k := by
    show xsf N k.toNat + nsK N (k.toNat : Int) = _
    rw [show ((k.toNat : Nat) : Int) = k by (clear h hj r1 r2; lia)]
  rw [h.2.2] at r2
  (clear h hk; omega)
theorem SYS_SC2 [Inhabited gh_] (h : SYS b F M N a ns nr np) (hb : b = 1) : SC2 M N := by
  have c := h.1.2.2.2.2.1
  obtain ⟨⟨xs, hs⟩, hl⟩ := h.1.2.2.2.2.2 hb
  refine ⟨⟨c.2.2.2.2.2.2.1.1, c.2.2.2.2.2.2.2.1, c.1.1.1, c.2.1.1⟩, fun k k0 k1 => ?_, ?_⟩
  · have r := (hs.2 k k0 k1).2.2.2.1
    have e : agT N k = N 199 k := by
      unfold agT
      by_cases c : k = N 6 62 - 1
      · rw [if_pos c, c, hl (by omega)]
      · rw [if_neg c]
    rw [e] at r
    exact r
  · have h0 := c.2.2.2.2.2.2.1.1
    rw [← SRW_x hs hl _ (by omega), show (((N 6 62).toNat : Nat) : Int) = N 6 62 by omega]; exact hs.1.2.2
/-- what a process adds -/
def PGR (M N M' N' : mm_) (np : Int) : Prop := (OXS (10 * np) (10 * np + 10) M M' ∧ OQS (10 * np) (10 * np + 10) N N') ∧ ((∀ T, T ≠ np → M' 127 T = M 127 T ∧ N' 176 T = N 176 T) ∧ M' 67 = M 67 ∧ M' 68 = M 68 ∧ M' 123 = M 123)
  ∧ (N' 6 13 = 0 → N 6 13 = 0 ∧ (∀ k, N 6 62 ≤ k → k < N' 6 62 → ∀ j, 0 ≤ j → j < nsK N' k → SRO M' N' k (xsf N' k.toNat + j) (N' 198 k + j))
    ∧ (∀ l, 0 ≤ l → l < M' 1 19 → ATP M' N' np (N' 188 (10 * np + l)) (M' 129 (10 * np + l))) ∧ ATP M' N' np (N' 176 np) (M' 127 np) ∧ SBS M M' N' (N 6 75) (N' 6 75) ∧ GTB M N M' N')
theorem PRO_G [Inhabited gh_] (h : SYS 1 F M N a ns nr np) (hP : PRO 1 F F' M N M' N' np a a') : PGR M N M' N' np := by
  obtain ⟨F1, Mz, Nz, Ma, Na, Z, pz, k58, k52, ct, Ha, Mh, Nh, ah, c, Fh, Hh, ph, cb, cc, n170, S', P', f', at'⟩ := hP
  obtain ⟨e18, e19, e29, e33, e61⟩ := hd_18 ct
  rw [e18] at ph cb
  have z1 := pz.2.2.1 rfl
  have h18 : Mh 1 18 = np := by rw [ph.1.2.1 18 (by decide), up_ne (by decide)]; exact e18
  have b18 : sBX Mh 1 18 = np := by rw [sBX_1 (by decide)]; exact h18
  have b19 : sBX Mh 1 19 = 0 := by rw [sBX_1 (by decide), ph.1.2.1 19 (by decide), up_ne (by decide)]; exact e19
  have b29 : sBX Mh 1 29 = 0 := by rw [sBX_1 (by decide), ph.1.2.1 29 (by decide), up_ne (by decide)]; exact e29
  have m122 : up_ Ma 122 np c = Ma := by rw [cb rfl]; exact up_id
  have ph1 := ph.1
  rw [m122] at ph ph1
  have p1 := ph.2.2.1 rfl
  have xm : ∀ r : Nat, r ≠ 1 → r ≠ 120 → r ≠ 121 → Mh r = M r := fun r r1 h5 h6 => by
    rw [p1.1 r r1, ct.1 r r1 h5 h6, sT_r r1, z1.1 r r1]
  have qm : ∀ r : Nat, r ≠ 6 → r ≠ 168 → r ≠ 169 → Nh r = N r := fun r r6 h4 h5 => by
    rw [p1.2.1 r r6, ct.2.2.2.1 r r6 h4 h5, up_ne r6, z1.2.1 r r6]
  have q6 : ∀ i : Int, i ∉ [12, 13, 14, 15, 61] → Nh 6 i = N 6 i := fun i hi => by
    rw [ph1.2.2.2 i (fun e => hi (by simp only [List.mem_cons, List.not_mem_nil, or_false] at e ⊢; (clear h Z pz k58 k52 ct Ha Hh ph cb cc n170 S' P' f' at' e18 e19 e29 e33 e61 z1 h18 b18 b19 b29 m122 ph1 p1 xm qm hi; lia))), ct.2.2.2.2.2.1 i (nm_i hi (by decide)) (nm_i hi (by decide)) (nm_i hi (by decide)), up_of2 (nm_i hi (by decide)), z1.2.2.1 i (fun e => hi (by simp only [List.mem_cons, List.not_mem_nil, or_false] at e ⊢; (clear h Z pz k58 k52 ct Ha Hh ph cb cc n170 S' P' f' at' e18 e19 e29 e33 e61 z1 h18 b18 b19 b29 m122 ph1 p1 xm qm hi; lia)))]
  have x1 : ∀ i : Int, i ∈ [21, 22, 23] → Mh 1 i = M 1 i := fun i hi => by
    simp only [List.mem_cons, List.not_mem_nil, or_false] at hi
    rw [ph1.2.1 i (by simp only [List.mem_cons, List.not_mem_nil, or_false]; (clear h Z pz k58 k52 ct Ha Hh ph cb cc n170 S' P' f' at' e18 e19 e29 e33 e61 z1 h18 b18 b19 b29 m122 ph1 p1 xm qm q6; lia)), ct.2.2.1 i (by (clear h Z pz k58 k52 ct Ha Hh ph cb cc n170 S' P' f' at' e18 e19 e29 e33 e61 z1 h18 b18 b19 b29 m122 ph1 p1 xm qm q6; lia)) (by (clear h Z pz k58 k52 ct Ha Hh ph cb cc n170 S' P' f' at' e18 e19 e29 e33 e61 z1 h18 b18 b19 b29 m122 ph1 p1 xm qm q6; lia)) (by (clear h Z pz k58 k52 ct Ha Hh ph cb cc n170 S' P' f' at' e18 e19 e29 e33 e61 z1 h18 b18 b19 b29 m122 ph1 p1 xm qm q6; lia)) (by (clear h Z pz k58 k52 ct Ha Hh ph cb cc n170 S' P' f' at' e18 e19 e29 e33 e61 z1 h18 b18 b19 b29 m122 ph1 p1 xm qm q6; lia)), sT_1 (by (clear h Z pz k58 k52 ct Ha Hh ph cb cc n170 S' P' f' at' e18 e19 e29 e33 e61 z1 h18 b18 b19 b29 m122 ph1 p1 xm qm q6; lia)) (by (clear h Z pz k58 k52 ct Ha Hh ph cb cc n170 S' P' f' at' e18 e19 e29 e33 e61 z1 h18 b18 b19 b29 m122 ph1 p1 xm qm q6; lia)) (by (clear h Z pz k58 k52 ct Ha Hh ph cb cc n170 S' P' f' at' e18 e19 e29 e33 e61 z1 h18 b18 b19 b29 m122 ph1 p1 xm qm q6; omega)) (by (clear h Z pz k58 k52 ct Ha Hh ph cb cc n170 S' P' f' at' e18 e19 e29 e33 e61 z1 h18 b18 b19 b29 m122 ph1 p1 xm qm q6; lia)) (by (clear h Z pz k58 k52 ct Ha Hh ph cb cc n170 S' P' f' at' e18 e19 e29 e33 e61 z1 h18 b18 b19 b29 m122 ph1 p1 xm qm q6; lia)), pz.1.2.2.2 i (by simp only [List.mem_cons, List.not_mem_nil, or_false]; (clear h Z pz k58 k52 ct Ha Hh ph cb cc n170 S' P' f' at' e18 e19 e29 e33 e61 z1 h18 b18 b19 b29 m122 ph1 p1 xm qm q6; lia))]
  have bx : ∀ r : Nat, r ≠ 1 → r ≠ 120 → r ≠ 121 → r ≠ 127 → sBX Mh r = M r := fun r r1 h5 h6 h7 => by rw [sBX_r h7 r1, xm r r1 h5 h6]
  have bq : ∀ r : Nat, r ≠ 6 → r ≠ 168 → r ≠ 169 → r ≠ 176 → sBQ Mh Nh r = N r := fun r r6 h4 h5 h7 => by rw [sBQ_r h7 r6, qm r r6 h4 h5]
  have bq6 : ∀ i : Int, i ∉ [12, 13, 14, 15, 61] → sBQ Mh Nh 6 i = N 6 i := fun i hi => by rw [sBQ_6 (nm_i hi (by decide)), q6 i hi]
  have bx1 : ∀ i : Int, i ∈ [21, 22, 23] → sBX Mh 1 i = M 1 i := fun i hi => by rw [sBX_1 (fun e => by rw [e] at hi; revert hi; decide), x1 i hi]
  have x5 : sBX Mh 5 = M 5 := bx 5 (by decide) (by decide) (by decide) (by decide)
  obtain ⟨⟨ox, oq⟩, d29, nw⟩ := P' rfl
  rw [b18, b19] at oq
  obtain ⟨o1, o2, o3, o4, o5, o6, o7⟩ := ox
  rw [b18, b19, bx 129 (by decide) (by decide) (by decide) (by decide)] at o7
  rw [x5] at o2 o3 o4 o5
  rw [bx 142 (by decide) (by decide) (by decide) (by decide)] at o3
  rw [bx 137 (by decide) (by decide) (by decide) (by decide)] at o5
  obtain ⟨⟨r1, r2⟩, r3, r4, r5, r6, r7, r8, r9, r10, r11, r12⟩ := oq
  have m176 : ∀ T, T ≠ np → N' 176 T = N 176 T := fun T hT => by
    rw [r1 176 (by decide)]
    unfold sBQ
    rw [h18, up_of2 hT, nx_ne (by decide), nx_ne (by decide), qm 176 (by decide) (by decide) (by decide)]
  have m127 : ∀ T, T ≠ np → M' 127 T = M 127 T := fun T hT => by
    rw [o1.1 127 (by decide)]
    unfold sBX
    rw [h18, up_of2 hT, nX_ne (by decide), nX_ne (by decide), xm 127 (by decide) (by decide) (by decide)]
  have l62 := bq6 62 (by decide)
  have l63 := bq6 63 (by decide)
  have l75 := bq6 75 (by decide)
  have l76 := bq6 76 (by decide)
  have l90 := bq6 90 (by decide)
  have l104 := bq6 104 (by decide)
  rw [l62, l63, l75, l76, l90, l104] at r3
  rw [l62] at r4
  rw [l63] at r5 r6
  rw [l75] at r7 r8
  rw [l90] at r9
  rw [l104] at r10
  rw [l76] at r11
  have ns5 := f'.2.2.2.1.2.2.2.2 rfl
  refine ⟨⟨⟨⟨o2.1, o2.2.1⟩, o3, fun r i hr i0 i1 => ?_, o5, fun i hi => o7 i (by (clear h Z pz k58 k52 ct Ha Hh ph cb cc n170 S' P' f' at' e19 e29 z1 b19 b29 m122 ph1 p1 xm qm q6 x1 bx bq bq6 bx1 x5 d29 nw o1 o2 o3 o4 o5 o6 o7 r1 r2 r3 r4 r5 r6 r7 r8 r9 r10 r11 r12 m176 m127 l62 l63 l75 l76 l90 l104 ns5; lia))⟩, ⟨fun r hr => ?_, fun i hi => ?_⟩, r3, fun r i hr i0 i1 => ?_, fun i i0 i1 => ?_, fun i i0 i1 => ?_, fun r i hr i0 i1 => ?_, fun i i0 i1 => ?_, fun r i hr i0 i1 => ?_, fun i i0 i1 => ?_, fun r i hr i0 i1 => ?_, fun i hi => ?_⟩, ⟨fun T hT => ⟨m127 T hT, m176 T hT⟩, ?_, ?_, ?_⟩, fun hz => ?_⟩
  · rw [o4 r i hr i0 i1, bx r (fun e => by rw [e] at hr; revert hr; decide) (fun e => by rw [e] at hr; revert hr; decide) (fun e => by rw [e] at hr; revert hr; decide) (fun e => by rw [e] at hr; revert hr; decide)]
  · rw [r1 r (fun e => by revert hr e; unfold ttL qeL; simp only [List.mem_cons, List.not_mem_nil, or_false]; (clear h Z pz k58 k52 ct Ha Hh ph cb cc n170 S' P' f' at' e18 e19 e29 e33 e61 z1 h18 b18 b19 b29 m122 ph1 p1 xm qm q6 x1 bx bq bq6 bx1 x5 d29 nw o1 o2 o3 o4 o5 o6 o7 r1 r2 r3 r4 r5 r6 r7 r8 r9 r10 r11 r12 m176 m127 l62 l63 l75 l76 l90 l104 ns5; omega)), bq r (fun e => by rw [e] at hr; revert hr; decide) (fun e => by rw [e] at hr; revert hr; decide) (fun e => by rw [e] at hr; revert hr; decide) (fun e => by rw [e] at hr; revert hr; decide)]
  · simp only [List.mem_cons, List.not_mem_nil, or_false] at hi
    rw [r2 i (by unfold qbI; simp only [List.mem_cons, List.not_mem_nil, or_false]; (clear h Z pz k58 k52 ct Ha Hh ph cb cc n170 S' P' f' at' e18 e19 e29 e33 e61 z1 h18 b18 b19 b29 m122 ph1 p1 xm qm q6 x1 bx bq bq6 bx1 x5 d29 nw o1 o2 o3 o4 o5 o6 o7 r1 r2 r3 r4 r5 r6 r7 r8 r9 r10 r11 r12 m176 m127 l62 l63 l75 l76 l90 l104 ns5; omega)), bq6 i (by simp only [List.mem_cons, List.not_mem_nil, or_false]; (clear h Z pz k58 k52 ct Ha Hh ph cb cc n170 S' P' f' at' e18 e19 e29 e33 e61 z1 h18 b18 b19 b29 m122 ph1 p1 xm qm q6 x1 bx bq bq6 bx1 x5 d29 nw o1 o2 o3 o4 o5 o6 o7 r1 r2 r3 r4 r5 r6 r7 r8 r9 r10 r11 r12 m176 m127 l62 l63 l75 l76 l90 l104 ns5; omega))]
  · rw [r4 r i hr i0 i1, bq r (fun e => by rw [e] at hr; revert hr; decide) (fun e => by rw [e] at hr; revert hr; decide) (fun e => by rw [e] at hr; revert hr; decide) (fun e => by rw [e] at hr; revert hr; decide)]
  · rw [(r5 i i0 i1).1, (r5 i i0 i1).2, bq 200 (by decide) (by decide) (by decide) (by decide), bq 201 (by decide) (by decide) (by decide) (by decide)]; exact ⟨rfl, rfl⟩
  · rw [r6 i i0 i1, bq 202 (by decide) (by decide) (by decide) (by decide)]
  · rw [r7 r i hr i0 i1, bq r (fun e => by rw [e] at hr; revert hr; decide) (fun e => by rw [e] at hr; revert hr; decide) (fun e => by rw [e] at hr; revert hr; decide) (fun e => by rw [e] at hr; revert hr; decide)]
  · rw [r8 i i0 i1, bq 209 (by decide) (by decide) (by decide) (by decide)]
  · rw [r9 r i hr i0 i1, bq r (fun e => by rw [e] at hr; revert hr; decide) (fun e => by rw [e] at hr; revert hr; decide) (fun e => by rw [e] at hr; revert hr; decide) (fun e => by rw [e] at hr; revert hr; decide)]
  · rw [(r10 i i0 i1).1, (r10 i i0 i1).2, bq 227 (by decide) (by decide) (by decide) (by decide), bq 228 (by decide) (by decide) (by decide) (by decide)]; exact ⟨rfl, rfl⟩
  · rw [r11 r i hr i0 i1, bq r (fun e => by rw [e] at hr; revert hr; decide) (fun e => by rw [e] at hr; revert hr; decide) (fun e => by rw [e] at hr; revert hr; decide) (fun e => by rw [e] at hr; revert hr; decide)]
  · rw [(r12 i (by (clear h Z pz k58 k52 ct Ha Hh ph cb cc n170 S' P' f' at' e19 e29 z1 b19 b29 m122 ph1 p1 xm qm q6 x1 bx bq bq6 bx1 x5 d29 nw o1 o2 o3 o4 o5 o6 o7 r1 r2 r3 r4 r5 r6 r7 r8 r9 r10 r11 r12 m176 m127 l62 l63 l75 l76 l90 l104 ns5; lia))).1, (r12 i (by omega)).2, bq 188 (by decide) (by decide) (by decide) (by decide), bq 189 (by decide) (by decide) (by decide) (by decide)]; exact ⟨rfl, rfl⟩
  · rw [o1.1 67 (by decide), bx 67 (by decide) (by decide) (by decide) (by decide)]
  · rw [o1.1 68 (by decide), bx 68 (by decide) (by decide) (by decide) (by decide)]
  · rw [ns5.2.1, bx 123 (by decide) (by decide) (by decide) (by decide)]
  · obtain ⟨z2, w1, w2, w3, w4, w5⟩ := nw hz
    have n0 : N 6 13 = 0 := by
      rw [sBQ_6 (by decide)] at z2
      have z3 := ct.2.2.2.2.2.2.2 rfl (p1.2.2 z2)
      rw [up_of2 (by decide)] at z3
      exact z1.2.2.2 z3
    rw [b18, b19] at w2
    rw [l62] at w1
    refine ⟨n0, w1, fun l l0 l1 => (w2 l l0 l1).1, ?_, ?_, ?_⟩
    · have := at' rfl hz
      rw [h18] at this
      have e1 : N' 176 np = Nh 6 75 := by
        rw [r1 176 (by decide)]; unfold sBQ; rw [h18, up_at]
      have e2 : M' 127 np = Mh 5 3 := by
        rw [o1.1 127 (by decide)]; unfold sBX; rw [h18, up_at]
      rw [e1, e2]; exact this
    · unfold SBS at w4 ⊢
      rw [bx1 21 (by decide), bx1 23 (by decide), l75] at w4
      exact w4
    · unfold GTB at w5 ⊢
      rw [bx1 22 (by decide), l62] at w5
      exact w5
end GWa
end T296_gw
section T297_gw
/-! growth at the system's level: the invariant of pass 2 -/
def WTY (M N : mm_) (T : Int) : Prop := ∃ (q0 : Int) (n : Nat) (c j : Int), (0 ≤ q0 ∧ q0 + n ≤ N 6 76) ∧ (M 67 T = xo_ c (-1) ∧ M 68 T = xo_ j (-1)) ∧ ((∀ s, 0 ≤ s → (bt_ c s ↔ CMS N T q0 (q0 + n) s)) ∧ 0 ≤ c ∧ c < wM (M 123 T)) ∧ ((∀ l, 0 ≤ l → (bt_ j l ↔ ∃ me, (q0 ≤ me ∧ me < q0 + n) ∧ bt_ (N 214 me) l)) ∧ 0 ≤ j ∧ j < 1024)
  ∧ (∀ me, 0 ≤ me → me < N 6 76 → (N 211 me = T ↔ q0 ≤ me ∧ me < q0 + n)) ∧ (∀ l, 0 ≤ l → l < N 175 T → q0 ≤ N 189 (10 * T + l) ∧ N 189 (10 * T + l) < q0 + n) ∧ ∀ me, q0 ≤ me → me < q0 + n → (0 ≤ N 213 me ∧ N 213 me < wM (M 123 T)) ∧ (0 ≤ N 214 me ∧ N 214 me < 1024) ∧ (N 215 me = 0 → 0 ≤ N 212 me ∧ N 212 me < 4096)
def GBT (M N : mm_) : Prop := ((∀ s, 0 ≤ s → s < 20 → (bt_ (M 1 21) s ↔ ∃ k, (0 ≤ k ∧ k < N 6 75) ∧ N 203 k = 2 ∧ N 205 k = s)) ∧ (∀ s, 0 ≤ s → s < 6 → (bt_ (M 1 23) s ↔ ∃ k, (0 ≤ k ∧ k < N 6 75) ∧ N 203 k = 5 ∧ N 205 k = s))) ∧ (0 ≤ M 1 22 ∧ M 1 22 < 1048576) ∧ ∀ s, 0 ≤ s → s < 20 → (bt_ (M 1 22) s ↔ ∃ k i, (0 ≤ k ∧ k < N 6 62) ∧ N 193 k = 0 ∧ (N 198 k ≤ i ∧ i < N 199 k) ∧ N 200 i = s)
def GRW (M N : mm_) (np : Int) : Prop := N 6 13 = 0 → (∀ k, 0 ≤ k → k < N 6 62 → ∀ j, 0 ≤ j → j < nsK N k → SRO M N k (xsf N k.toNat + j) (N 198 k + j)) ∧ (∀ T, 0 ≤ T → T < np → (ATP M N T (N 176 T) (M 127 T) ∧ ∀ l, 0 ≤ l → l < N 175 T → ATP M N T (N 188 (10 * T + l)) (M 129 (10 * T + l))) ∧ WTY M N T) ∧ (∀ me, 0 ≤ me → me < N 6 76 → 0 ≤ N 211 me ∧ N 211 me < np) ∧ GBT M N
/-- with the routes: their ends are known -/
def GRX (M N : mm_) (np nr : Int) : Prop := GRW M N np ∧ (N 6 13 = 0 → ∀ r, 0 ≤ r → r < nr → M 114 (2 * r) ≠ -1 ∧ M 114 (2 * r + 1) ≠ -1 ∧ M 115 r ≤ M 116 r)
section GWb
variable {b F F' : Int} {M N M' N' M1 N1 : mm_} {lb ub T k c y i x me f a a' np ns nr q0 q1 s : Int}
theorem j0_b [Inhabited gh_] : ∀ n : Nat, (∀ x, 0 ≤ x → x < (n : Int) → 0 ≤ M 65 x ∧ M 65 x < 1024) → (0 ≤ j0_ M n ∧ j0_ M n < 1024) ∧ ∀ l, 0 ≤ l → (bt_ (j0_ M n) l ↔ ∃ x, (0 ≤ x ∧ x < (n : Int)) ∧ bt_ (M 65 x) l)
  | 0, _ => ⟨⟨Int.le_refl _, by show (0 : Int) < 1024; decide⟩, fun l _ => ⟨fun h => absurd h bt_0, fun ⟨x, hx, _⟩ => by omega⟩⟩
  | n + 1, h => by
    obtain ⟨r1, r2⟩ := j0_b n (fun x x0 x1 => h x x0 (by omega))
    obtain ⟨o1, o2⟩ := or_b2 (m := 10) (by decide) (x := j0_ M n) (y := M 65 n) r1 (h n (by omega) (by omega))
    refine ⟨o1, fun l l0 => ?_⟩
    show bt_ (or_ (j0_ M n) (M 65 n)) l ↔ _
    rw [o2 l l0, r2 l l0]
    constructor
    · rintro (⟨x, hx, e⟩ | e)
      · exact ⟨x, by omega, e⟩
      · exact ⟨n, by omega, e⟩
    · rintro ⟨x, hx, e⟩
      by_cases c : x = n
      · rw [c] at e; exact .inr e
      · exact .inl ⟨x, by omega, e⟩
theorem CMS_c [Inhabited gh_] (hr : ∀ r me, r ∈ tqL → q0 ≤ me → me < q1 → N1 r me = N r me) (h175 : N1 175 T = N 175 T) (h189 : ∀ l, 0 ≤ l → l < N 175 T → N1 189 (10 * T + l) = N 189 (10 * T + l)) : CMS N1 T q0 q1 s ↔ CMS N T q0 q1 s := by
  have e : ∀ P C, CMC N1 T q0 q1 P C ↔ CMC N T q0 q1 P C := fun P C => by
    unfold CMC
    rw [h175]
    constructor
    · rintro ⟨a1, a2, a3, a4⟩
      refine ⟨fun me m0 m1 => ?_, fun me l m0 m1 p l0 l1 => ?_, fun me s m0 m1 => ?_, fun me s m0 m1 => ?_⟩
      · rw [← hr 215 me (by decide) m0 m1]; exact a1 me m0 m1
      · rw [← hr 214 me (by decide) m0 m1, ← h189 l l0 l1]; exact a2 me l m0 m1 p l0 l1
      · rw [← hr 213 me (by decide) m0 m1]; exact a3 me s m0 m1
      · rw [← hr 212 me (by decide) m0 m1, ← hr 215 me (by decide) m0 m1]; exact a4 me s m0 m1
    · rintro ⟨a1, a2, a3, a4⟩
      refine ⟨fun me m0 m1 => ?_, fun me l m0 m1 p l0 l1 => ?_, fun me s m0 m1 => ?_, fun me s m0 m1 => ?_⟩
      · rw [hr 215 me (by decide) m0 m1]; exact a1 me m0 m1
      · rw [hr 214 me (by decide) m0 m1, h189 l l0 l1]; exact a2 me l m0 m1 p l0 l1
      · rw [hr 213 me (by decide) m0 m1]; exact a3 me s m0 m1
      · rw [hr 212 me (by decide) m0 m1, hr 215 me (by decide) m0 m1]; exact a4 me s m0 m1
  unfold CMS
  exact ⟨fun h P C hc => h P C ((e P C).2 hc), fun h P C hc => h P C ((e P C).1 hc)⟩
/-- another type's facts stay -/
theorem WTY_c [Inhabited gh_] (h : WTY M N T) (h67 : M1 67 T = M 67 T) (h68 : M1 68 T = M 68 T) (h123 : M1 123 T = M 123 T) (h175 : N1 175 T = N 175 T) (h189 : ∀ l, 0 ≤ l → l < N 175 T → N1 189 (10 * T + l) = N 189 (10 * T + l)) (hm : N 6 76 ≤ N1 6 76) (hr : ∀ r i, r ∈ tqL → 0 ≤ i → i < N 6 76 → N1 r i = N r i) (hn : ∀ me, N 6 76 ≤ me → me < N1 6 76 → N1 211 me ≠ T) : WTY M1 N1 T := by
  obtain ⟨q0, n, c, j, w1, w2, ⟨w3, w4⟩, ⟨w5, w6⟩, w7, w8, w9⟩ := h
  have hr' : ∀ r me, r ∈ tqL → q0 ≤ me → me < q0 + n → N1 r me = N r me := fun r me hh m0 m1 => hr r me hh (by (clear h67 h68 h123 h175 h189 hm hr hn w2 w3 w4 w5 w6 w7 w8 w9 hh m1; lia)) (by (clear h67 h68 h123 h175 h189 hm hr hn w2 w3 w4 w5 w6 w7 w8 w9 hh m0; omega))
  refine ⟨q0, n, c, j, by (clear h67 h68 h123 h175 h189 hr hn w2 w3 w4 w5 w6 w7 w8 w9 hr'; omega), by rw [h67, h68]; exact w2, ⟨fun s s0 => by rw [w3 s s0, CMS_c hr' h175 h189], by rw [h123]; exact w4⟩, ⟨fun l l0 => ?_, w6⟩, fun me m0 m1 => ?_, fun l l0 l1 => ?_, fun me m0 m1 => ?_⟩
  · rw [w5 l l0]
    constructor
    · rintro ⟨me, hm, e⟩
      exact ⟨me, hm, by rw [hr' 214 me (by decide) hm.1 hm.2]; exact e⟩
    · rintro ⟨me, hm, e⟩
      exact ⟨me, hm, by rw [← hr' 214 me (by decide) hm.1 hm.2]; exact e⟩
  · by_cases c : me < N 6 76
    · rw [hr 211 me (by decide) m0 c]; exact w7 me m0 c
    · exact ⟨fun e => absurd e (hn me (by (clear h67 h68 h123 h175 h189 hm hr hn w1 w2 w3 w4 w5 w6 w7 w8 w9 hr' m0 m1 e; omega)) m1), fun e => by (clear h67 h68 h123 h175 h189 hm hr hn w2 w3 w4 w5 w6 w7 w8 w9 hr' m0 m1; omega)⟩
  · rw [h175] at l1
    rw [h189 l l0 l1]; exact w8 l l0 l1
  · rw [hr' 213 me (by decide) m0 m1, hr' 214 me (by decide) m0 m1, hr' 215 me (by decide) m0 m1, hr' 212 me (by decide) m0 m1, h123]
    exact w9 me m0 m1
theorem GRW_1 [Inhabited gh_] {M N M' N' : mm_} {np : Int} (h : GRW M N np) (hx : ∀ k : Nat, k ≠ 1 → M' k = M k) (h1 : ∀ i : Int, i ∉ [3, 4, 5, 7, 31, 32] → M' 1 i = M 1 i) (hq : ∀ k : Nat, k ≠ 6 → N' k = N k) (h6 : ∀ i : Int, i ∉ [12, 13, 14] → N' 6 i = N 6 i) (hz : N' 6 13 = 0 → N 6 13 = 0) : GRW M' N' np := by
  intro hc
  obtain ⟨g1, g2, g3, g4⟩ := h (hz hc)
  have e5 := hx 5 (by decide)
  have ox : OXS 0 0 M M' := ⟨by rw [e5]; exact ⟨Int.le_refl _, Int.le_refl _⟩, fun i _ _ => by rw [hx 142 (by decide)], fun r i hr _ _ => by rw [hx r (fun e => by rw [e] at hr; revert hr; decide)], fun i _ _ => by rw [hx 137 (by decide)], fun i _ => by rw [hx 129 (by decide)]⟩
  have l62 := h6 62 (by decide)
  have l63 := h6 63 (by decide)
  have l75 := h6 75 (by decide)
  have l76 := h6 76 (by decide)
  have l90 := h6 90 (by decide)
  have l104 := h6 104 (by decide)
  have oq : OQS 0 0 N N' := ⟨⟨fun r hr => hq r (fun e => by rw [e] at hr; revert hr; decide), fun i hi => h6 i (fun e => by simp only [List.mem_cons, List.not_mem_nil, or_false] at hi e; (clear h hx h1 hq h6 hz hc g1 g2 g3 g4 e5 ox l62 l63 l75 l76 l90 l104; lia))⟩, by rw [l62, l63, l75, l76, l90, l104]; (clear h hx h1 hq h6 hz hc g1 g2 g3 g4 e5 ox l62 l63 l75 l76 l90 l104; lia), fun r i hr _ _ => by rw [hq r (fun e => by rw [e] at hr; revert hr; decide)], fun i _ _ => by rw [hq 200 (by decide), hq 201 (by decide)]; exact ⟨rfl, rfl⟩, fun i _ _ => by rw [hq 202 (by decide)], fun r i hr _ _ => by rw [hq r (fun e => by rw [e] at hr; revert hr; decide)], fun i _ _ => by rw [hq 209 (by decide)], fun r i hr _ _ => by rw [hq r (fun e => by rw [e] at hr; revert hr; decide)], fun i _ _ => by rw [hq 227 (by decide), hq 228 (by decide)]; exact ⟨rfl, rfl⟩, fun r i hr _ _ => by rw [hq r (fun e => by rw [e] at hr; revert hr; decide)], fun i _ => by rw [hq 188 (by decide), hq 189 (by decide)]; exact ⟨rfl, rfl⟩⟩
  have ns : ∀ k, nsK N' k = nsK N k := fun k => by unfold nsK; rw [hq 193 (by decide), hq 198 (by decide), hq 199 (by decide)]
  have xs : ∀ n : Nat, xsf N' n = xsf N n := fun n => by
    induction n with
    | zero => rfl
    | succ n ih => show xsf N' n + nsK N' n = xsf N n + nsK N n; rw [ih, ns]
  refine ⟨fun k k0 k1 j j0 j1 => ?_, fun T T0 T1 => ⟨⟨?_, fun l l0 l1 => ?_⟩, ?_⟩, fun me m0 m1 => ?_, ?_⟩
  · rw [l62] at k1
    rw [ns] at j1
    rw [xs, hq 198 (by decide)]
    have g := g1 k k0 k1 j j0 j1
    obtain ⟨s1, s2, s3, s4⟩ := g
    unfold SRO
    rw [hq 193 (by decide), hq 192 (by decide), hq 197 (by decide), hq 196 (by decide), hq 195 (by decide), hx 141 (by decide), hx 139 (by decide), hx 140 (by decide)]
    refine ⟨fun e => ATP_S (s1 e) ox oq, fun e => ?_, fun e => ⟨ASK_S (s3 e).1 ox oq, (s3 e).2⟩, fun e => ?_⟩
    · rcases s2 e with h | h
      · exact .inl h
      · exact .inr (ASK_S h ox oq)
    · have s5 := s4 e
      unfold RWI UQI at s5 ⊢
      rw [hx 134 (by decide), hx 133 (by decide), hx 136 (by decide), hx 135 (by decide), hx 138 (by decide), hx 137 (by decide), hq 200 (by decide), hq 201 (by decide), hq 202 (by decide), hq 171 (by decide), hq 184 (by decide), hq 183 (by decide), hq 156 (by decide), hq 157 (by decide), hq 182 (by decide)]
      exact s5
  · rw [hq 176 (by decide), hx 127 (by decide)]; exact ATP_S (g2 T T0 T1).1.1 ox oq
  · rw [hq 175 (by decide)] at l1
    rw [hq 188 (by decide), hx 129 (by decide)]; exact ATP_S ((g2 T T0 T1).1.2 l l0 l1) ox oq
  · exact WTY_c (g2 T T0 T1).2 (by rw [hx 67 (by decide)]) (by rw [hx 68 (by decide)]) (by rw [hx 123 (by decide)]) (by rw [hq 175 (by decide)]) (fun l _ _ => by rw [hq 189 (by decide)]) (by omega) (fun r i hr _ _ => by rw [hq r (fun e => by rw [e] at hr; revert hr; decide)]) (fun me m0 m1 => by omega)
  · rw [l76] at m1
    rw [hq 211 (by decide)]; exact g3 me m0 m1
  · unfold GBT
    rw [h1 21 (by decide), h1 22 (by decide), h1 23 (by decide), l75, l62, hq 203 (by decide), hq 205 (by decide), hq 193 (by decide), hq 198 (by decide), hq 199 (by decide), hq 200 (by decide)]
    exact g4
theorem GRX_1 [Inhabited gh_] : IV1 GRX := fun M N M' N' np nr h hx h1 hq h6 hz => ⟨GRW_1 h.1 hx h1 hq h6 hz, fun hc r r0 r1 => by rw [hx 114 (by decide), hx 115 (by decide), hx 116 (by decide)]; exact h.2 (hz hc) r r0 r1⟩
theorem GRX_R [Inhabited gh_] : IVR GRX := fun M N M' N' np nr h hx h1 hq h6 hz => ⟨GRW_1 h.1 hx h1 hq h6 (fun e => (hz e).1), fun hc r r0 r1 => by
  rw [hx 114 (by decide), hx 115 (by decide), hx 116 (by decide)]
  by_cases c : r = nr
  · rw [c]; exact (hz hc).2
  · exact h.2 (hz hc).1 r r0 (by omega)⟩
end GWb
end T297_gw
