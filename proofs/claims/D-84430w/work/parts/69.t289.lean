section T289_fl
/-! routes filled: a route whole, X alone; then all -/
section FLb
variable {d : Nat} {r t v y1 y2 x2 : Int} {K : Int → mm_ → Prop} {Kv : mm_ → Prop} {Qt : qt_} {V : vv_} {M N M1 N1 : mm_} {a a' : Int}
theorem f_122 [Inhabited gh_] {m : Nat} (h : FL M N a) (h9 : M 1 9 = 1) (h32 : M 1 32 = r) (hr : 0 ≤ r ∧ r < 10) (hk : M 70 a = 1) (hR : RTE (M 70) (M 73) a m)
    (hK : ∀ M1 a', FL M1 N a' → FLF 0 r (up_ M 1 32 (r + 1)) N M1 N → RTX M1 N r a → Kv M1) : Tr_ wd0 pg0 131 122 [.inr (.inr 1)] M (rv_ Kv) Qt := by
  obtain ⟨ho, o1, ⟨k2, h13⟩, o3, o4, ⟨k5, h15⟩, o8⟩ := hR
  have e3 := h.1.2.1.2
  have a0 := h.1.2.1.1.1
  have g := dle_le (κ := M 70) (a := a + 5)
  refine t_122 fun V hV hW => b_122_0 (Tr_mono _) hV hW _ (x_105 (FL_i h) (fun _ => ?_) (fun e => by rw [e3] at e; omega))
  have R1 := FL_go h (by omega) (by rw [hk]; decide)
  have b3 := R1.1.2.1.2
  have n70 : nX_ M 70 = M 70 := nX_ne (by decide)
  refine x_107 (FL_i R1) (fun _ _ => ?_) (fun e => by rw [b3, n70] at e; omega) (fun _ e => by rw [b3] at e; omega)
  rw [b3, e3]
  have R2 := FL_go R1 ho.2 (by rw [n70, ho.1]; decide)
  intro _
  rw [if_pos R2.1.2.2.1]
  intro _
  have e9 : nX_ (nX_ M) 1 9 = 1 := by rw [nX_1 (by decide), nX_1 (by decide)]; exact h9
  have e32 : nX_ (nX_ M) 1 32 = r := by rw [nX_1 (by decide), nX_1 (by decide)]; exact h32
  rw [e9, if_neg (by decide)]
  refine b_122_103 (Tr_mono _) hV hW _ _ _ ?_
  rw [e32, w32_id (x := r + 1) (by omega) (by omega), w32_id (x := 2 * r) (by omega) (by omega), w32_id (x := 2 * r + 1) (by omega) (by omega)]
  refine ⟨R2.1.2.2.2, ?_⟩
  have R0 : FL (up_ (nX_ (nX_ M)) 1 32 (r + 1)) N (a + 1 + 1) := FL_c R2 (fun k hk => up_ne (fun e => by rw [e] at hk; revert hk; decide)) (up_of2 (by decide)) (up_of2 (by decide)) ⟨gd_c (up_ne (by decide)) R2.1.2.1.1, by rw [up_of2 (by decide)]; exact R2.1.2.1.2⟩
  have F0 : FLF 0 r (up_ M 1 32 (r + 1)) N (up_ (nX_ (nX_ M)) 1 32 (r + 1)) N := by
    have x1 : ∀ i : Int, i ≠ 3 → up_ (nX_ (nX_ M)) 1 32 (r + 1) 1 i = up_ M 1 32 (r + 1) 1 i := fun i h3 => by
      by_cases c : i = 32
      · rw [c, up_at, up_at]
      · rw [up_of2 c, nX_1 h3, nX_1 h3, up_of2 c]
    refine ⟨⟨⟨fun k hk => ?_, fun i hi => x1 i (nm_i hi (by decide)), fun k hk i _ => ?_, fun i _ _ => ?_⟩, fun _ _ => rfl, fun _ _ => rfl, fun _ h => h⟩, x1⟩
    · have h1 : k ≠ 1 := fun e => hk (by rw [e]; decide)
      rw [up_ne h1, nX_ne h1, nX_ne h1, up_ne h1]
    · have h1 : k ≠ 1 := fun e => by rw [e] at hk; revert hk; decide
      rw [up_ne h1, nX_ne h1, nX_ne h1, up_ne h1]
    · rw [up_ne (by decide), nX_ne (by decide), nX_ne (by decide), up_ne (by decide)]
  rw [show a + 1 + 1 = a + 2 by omega] at R0
  have a70 : up_ M 1 32 (r + 1) 70 = M 70 := up_ne (by decide)
  have a73 : up_ M 1 32 (r + 1) 73 = M 73 := up_ne (by decide)
  generalize up_ (nX_ (nX_ M)) 1 32 (r + 1) = Ma at *
  generalize up_ M 1 32 (r + 1) = M0 at *
  have s70 : ∀ {M1}, FLF 0 r M0 N M1 N → M1 70 = M 70 ∧ M1 73 = M 73 := fun f => ⟨(RLF_70 f.1).1.trans a70, (RLF_70 f.1).2.1.trans a73⟩
  have sda : ∀ y, sdv M0 N y = sdv M N y := fun y => by unfold sdv; rw [a70]
  have s0 : ∀ {M1}, FLF 0 r M0 N M1 N → ∀ y, sdv M1 N y = sdv M N y := fun f y => (sdv_e f.1).1.trans (sda y)
  have b70 := (s70 F0).1
  refine f_side R0 (by rw [b70]; exact o1) (fun R3 => ?_)
  rw [s0 F0 (a + 2)]
  refine ⟨by omega, ?_⟩
  have R1' : FL (up_ (nX_ Ma) 114 (2 * r) (sdv M N (a + 2))) N (a + 2 + 1) := FL_up (by decide) R3
  have F1' : FLF 0 r M0 N (up_ (nX_ Ma) 114 (2 * r) (sdv M N (a + 2))) N := FLF_tr (FLF_tr F0 FLF_nX) (FLF_up (.inr ⟨rfl, .inl rfl⟩))
  have u1 : up_ (nX_ Ma) 114 (2 * r) (sdv M N (a + 2)) 114 (2 * r) = sdv M N (a + 2) := up_at
  generalize up_ (nX_ Ma) 114 (2 * r) (sdv M N (a + 2)) = Mb at *
  rw [show a + 2 + 1 = a + 3 by omega] at R1'
  clear R3 R0 F0 b70 b3 R2 R1
  have b70 := (s70 F1').1
  have b3 := R1'.1.2.1.2
  refine x_108 (FL_i R1') (fun _ _ => ?_) (fun e => by rw [b3, b70] at e; omega) (fun _ e => by rw [b3] at e; omega)
  have R2 := FL_go R1' h13 (by rw [b70, k2]; decide)
  have F2 : FLF 0 r M0 N (nX_ Mb) N := FLF_tr F1' FLF_nX
  have u2 : nX_ Mb 114 (2 * r) = sdv M N (a + 2) := by rw [nX_ne (by decide)]; exact u1
  rw [show a + 3 + 1 = a + 4 by omega] at R2
  generalize nX_ Mb = Mc at *
  clear R1' F1' u1 b70 b3
  refine ⟨R2.1.2.2.2, ?_⟩
  have b70 := (s70 F2).1
  refine f_side R2 (by rw [b70]; exact o3) (fun R3 => ?_)
  rw [s0 F2 (a + 4)]
  have R3' : FL (up_ (nX_ Mc) 114 (2 * r + 1) (sdv M N (a + 4))) N (a + 4 + 1) := FL_up (by decide) R3
  have F3' : FLF 0 r M0 N (up_ (nX_ Mc) 114 (2 * r + 1) (sdv M N (a + 4))) N := FLF_tr (FLF_tr F2 FLF_nX) (FLF_up (.inr ⟨rfl, .inr rfl⟩))
  have u3 : up_ (nX_ Mc) 114 (2 * r + 1) (sdv M N (a + 4)) 114 (2 * r + 1) = sdv M N (a + 4) := up_at
  have u4 : up_ (nX_ Mc) 114 (2 * r + 1) (sdv M N (a + 4)) 114 (2 * r) = sdv M N (a + 2) := by rw [up_of2 (by omega), nX_ne (by decide)]; exact u2
  refine ⟨by omega, R3.1.2.2.2, ?_⟩
  generalize up_ (nX_ Mc) 114 (2 * r + 1) (sdv M N (a + 4)) = Md at *
  rw [show a + 4 + 1 = a + 5 by omega] at R3'
  clear R3 R2 F2 u2 b70
  obtain ⟨b70, b73⟩ := s70 F3'
  show z24 V Qt _ _ r Md
  refine f_dly R3' hr (by rw [b70, b73]; exact o4) (by omega) (by rw [b70]; omega) (fun M4 R4 F4 d4 => ?_)
  unfold DRW at d4
  rw [b70, b73] at d4
  rw [b70] at R4
  have F5 := FLF_tr F3' F4
  have u5 : M4 114 (2 * r + 1) = sdv M N (a + 4) := by rw [d4.2]; exact u3
  have u6 : M4 114 (2 * r) = sdv M N (a + 2) := by rw [d4.2]; exact u4
  replace d4 := d4.1
  clear F4 F3' R3' u3 u4 b70 b73
  obtain ⟨b70, b73⟩ := s70 F5
  generalize hde : dle (M 70) (a + 5) = e at *
  unfold z23
  have b3 := R4.1.2.1.2
  refine x_108 (FL_i R4) (fun _ _ => ?_) (fun e => by rw [b3, b70] at e; omega) (fun _ e => by rw [b3] at e; omega)
  have R5 := FL_go R4 h15 (by rw [b70, k5]; decide)
  refine ⟨R5.1.2.2.2, hr, ?_⟩
  have R6 : FL (up_ (nX_ M4) 119 r 0) N (e + 1) := FL_up (by decide) R5
  have F7 : FLF 0 r M0 N (up_ (nX_ M4) 119 r 0) N := FLF_tr (FLF_tr F5 FLF_nX) (FLF_up (.inl ⟨by decide, rfl⟩))
  have y : ∀ k : Nat, k ≠ 1 → k ≠ 119 → up_ (nX_ M4) 119 r 0 k = M4 k := fun k h1 h2 => by rw [up_ne h2, nX_ne h1]
  have y9 : up_ (nX_ M4) 119 r 0 119 r = 0 := up_at
  generalize up_ (nX_ M4) 119 r 0 = Me at *
  clear R5 R4 F5 b70 b73 b3
  obtain ⟨b70, b73⟩ := s70 F7
  refine f_351 hV hW hr m (e + 1) Me R6 (by rw [b70]; exact o8) (fun M1 R8 F8 w8 v8 => ?_)
  have F9 := FLF_tr F7 F8
  obtain ⟨c70, c73⟩ := s70 F9
  rw [y9] at v8
  refine hK M1 _ R8 F9 ⟨⟨?_, ?_⟩, ⟨?_, ?_, ?_, ?_⟩, fun m' hm' => ?_⟩
  · rw [w8.1, y 114 (by decide) (by decide), u6, s0 F9 (a + 2)]
  · rw [w8.1, y 114 (by decide) (by decide), u5, s0 F9 (a + 4)]
  · rw [w8.2.1, y 115 (by decide) (by decide), c70, c73]; exact d4.1
  · rw [w8.2.2.1, y 116 (by decide) (by decide), c70, c73]; exact d4.2.1
  · rw [w8.2.2.2.1, y 117 (by decide) (by decide), c70]; exact d4.2.2.1
  · rw [w8.2.2.2.2, y 118 (by decide) (by decide), c70]; exact d4.2.2.2
  · rw [c70, hde] at hm' ⊢
    rw [LST_u m' m _ hm' o8, v8]
end FLb
end T289_fl
section T290_rs
/-! Q's resolve (315) -/
def rs1 (N : mm_) (r : Int) (m : Nat) : mm_ := up_ (up_ (up_ N 160 r (if N 158 r = 0 then -1 else tpl N (N 158 r))) 161 r (if N 159 r = 0 then -1 else tpl N (N 159 r))) 164 r (lsv N m (N 165 r) 0)
def rsn (N : mm_) (mm : Int → Nat) : Nat → mm_
  | 0 => N
  | n + 1 => rs1 (rsn N mm n) n (mm n)
/-- a list in Q's tokens -/
def LSQ (N : mm_) : Nat → Int → Prop
  | 0, _ => False
  | m + 1, a => (N 149 a = 1 ∧ 0 ≤ a ∧ a + 1 < 1200) ∧ ((¬ (N 149 (a + 1) = 3 ∧ N 151 (a + 1) = 44) ∧ m = 0) ∨ ((N 149 (a + 1) = 3 ∧ N 151 (a + 1) = 44) ∧ LSQ N m (a + 2)))
section RSa
variable {d : Nat} {r t v w : Int} {Kv : mm_ → Prop} {Qt : qt_} {V : vv_} {M N M1 N1 : mm_} {a a' : Int}
theorem gd_s [Inhabited gh_] (h : gd_ M a) (h1 : a < 1200) (hk : M 70 a ≠ 102 ∧ M 70 a ≠ 103) : gd_ M (a + 1) := ⟨by have := h.1; omega, by omega, fun j j0 j1 => by
  by_cases c : j = a
  · rw [c]; exact hk
  · exact h.2.2 j j0 (by omega)⟩
theorem LST_q [Inhabited gh_] (hT : Tks M N) : ∀ (m : Nat) (a : Int), gd_ M a → LST (M 70) m a → LSQ N m a
  | 0, _, _, h => h.elim
  | m + 1, a, hg, h => by
    obtain ⟨⟨k1, h12⟩, ho⟩ := h
    have g1 := gd_s hg (by omega) (by rw [k1]; decide)
    have q0 := (hT a hg).1
    have q1 := (hT (a + 1) g1).1
    unfold KQ at q0 q1
    refine ⟨⟨by omega, hg.1, h12⟩, ?_⟩
    rcases ho with ⟨c, m0⟩ | ⟨c, o⟩
    · exact .inl ⟨by omega, m0⟩
    · have g2 := gd_s g1 (by omega) (by rw [c]; decide)
      rw [show a + 1 + 1 = a + 2 by omega] at g2
      exact .inr ⟨by omega, LST_q hT m (a + 2) g2 o⟩
theorem LSQ_e [Inhabited gh_] (h149 : N1 149 = N 149) (h151 : N1 151 = N 151) : ∀ (m : Nat) (a : Int), LSQ N m a → LSQ N1 m a
  | 0, _, h => h.elim
  | m + 1, a, h => by
    unfold LSQ
    rw [h149, h151]
    exact ⟨h.1, h.2.imp id fun c => ⟨c.1, LSQ_e h149 h151 m (a + 2) c.2⟩⟩
theorem l_86 [Inhabited gh_] (hV : Cl_ wd0 (Tr_ wd0 pg0 (d + 1)) V (rv_ Kv) Qt m_315) (hW : Wk_ V) (hr : 0 ≤ r ∧ r < 10) : ∀ (m : Nat) (a : Int) (N : mm_), sgl9 M N → LSQ N m a → V 2 [rr 6, ii (r + 1), none, none] [] (up_ N 164 r (lsv N m a (N 164 r))) → V 86 [rr 6, ii r, ii a, none] [] N
  | 0, _, _, _, h, _ => h.elim
  | m + 1, a, N, hs, h, hK => by
    obtain ⟨⟨k1, a0, h12⟩, ho⟩ := h
    refine b_315_86 (Tr_mono _) hV hW _ _ _ ⟨by omega, ?_⟩
    rw [if_pos k1]
    refine ⟨by omega, q_251t hs ?_⟩
    have fin : ∀ N1, (∀ k : Nat, k ≠ 164 → N1 k = N k) → N1 164 r = lsb N a (N 164 r) → (∀ i, i ≠ r → N1 164 i = N 164 i) → V 123 [rr 6, ii r, ii a, ii (sgl N (N 151 a))] [] N1 := fun N1 e1 e2 e3 => by
      refine b_315_123 (Tr_mono _) hV hW _ _ _ _ ?_
      rw [w32_id (x := a + 1) (by omega) (by omega), w32_id (x := a + 2) (by omega) (by omega), w32_id (x := r + 1) (by omega) (by omega), e1 149 (by decide), e1 151 (by decide)]
      have sg : sgl N1 = sgl N := sgl_e (by rw [e1 6 (by decide)]) (e1 152 (by decide))
      rcases ho with ⟨c, m0⟩ | ⟨c, o⟩
      · have kN : V 2 [rr 6, ii (r + 1), none, none] [] N1 := by
          rw [m0] at hK
          have : up_ N 164 r (lsv N 1 a (N 164 r)) = N1 := by
            funext k i
            by_cases ck : k = 164
            · rw [ck]
              by_cases ci : i = r
              · rw [ci, up_at, e2]; rfl
              · rw [up_of2 ci, e3 i ci]
            · rw [up_ne ck, e1 k ck]
          rw [this] at hK; exact hK
        refine ⟨by omega, ?_⟩
        by_cases c1 : N 149 (a + 1) = 3
        · rw [if_pos c1]
          refine ⟨by omega, ?_⟩
          have c2 : ¬ N 151 (a + 1) = 44 := fun e => c ⟨c1, e⟩
          rw [if_neg (by by_cases c3 : N 151 (a + 1) < 44
                         · rw [if_pos c3]; decide
                         · rw [if_neg c3, if_neg c2]; decide)]
          exact kN
        · rw [if_neg c1]; exact kN
      · refine ⟨by omega, ?_⟩
        rw [if_pos c.1]
        refine ⟨by omega, ?_⟩
        rw [if_pos (by rw [if_neg (by omega), if_pos c.2])]
        refine l_86 hV hW hr m (a + 2) N1 ?_ (LSQ_e (e1 149 (by decide)) (e1 151 (by decide)) m (a + 2) o) ?_
        · unfold sgl9
          rw [e1 6 (by decide), e1 152 (by decide), e1 151 (by decide)]; exact hs
        · rw [e2, lsv_e sg (e1 151 (by decide))]
          have : up_ N1 164 r (lsv N m (a + 2) (lsb N a (N 164 r))) = up_ N 164 r (lsv N (m + 1) a (N 164 r)) := by
            funext k i
            by_cases ck : k = 164
            · rw [ck]
              by_cases ci : i = r
              · rw [ci, up_at, up_at]; rfl
              · rw [up_of2 ci, up_of2 ci, e3 i ci]
            · rw [up_ne ck, up_ne ck, e1 k ck]
          rw [this]; exact hK
    have sr : sgl N (N 151 a) = -1 ∨ 0 ≤ sgl N (N 151 a) := by
      unfold sgl
      rcases fi_r (fun i => N 152 i) (N 151 a) (N 6 17).toNat 0 with e | e
      · exact .inl e
      · exact .inr e.1
    by_cases c : sgl N (N 151 a) < 0
    · rw [if_pos c]
      exact fin N (fun _ _ => rfl) (by unfold lsb; rw [if_pos (by omega)]) (fun _ _ => rfl)
    · rw [if_neg c]
      refine ⟨hr, hr, fin _ (fun k hk => up_ne hk) ?_ (fun i hi => up_of2 hi)⟩
      rw [up_at]; unfold lsb; rw [if_neg (by omega)]
theorem rs1_r [Inhabited gh_] {m : Nat} {k : Nat} (h : k ≠ 160) (h1 : k ≠ 161) (h2 : k ≠ 164) : rs1 N r m k = N k := by unfold rs1; rw [up_ne h2, up_ne h1, up_ne h]
theorem rs1_o [Inhabited gh_] {m : Nat} {k : Nat} {i : Int} (h : i ≠ r) : rs1 N r m k i = N k i := by unfold rs1; rw [up_of2 h, up_of2 h, up_of2 h]
theorem rsn_r [Inhabited gh_] {mm : Int → Nat} {k : Nat} (h : k ≠ 160) (h1 : k ≠ 161) (h2 : k ≠ 164) : ∀ n : Nat, rsn N mm n k = N k
  | 0 => rfl
  | n + 1 => by unfold rsn; rw [rs1_r h h1 h2, rsn_r h h1 h2 n]
theorem rsn_k [Inhabited gh_] {mm : Int → Nat} : ∀ (n : Nat) (i : Int), 0 ≤ i → i < n → rsn N mm n 160 i = (if N 158 i = 0 then -1 else tpl N (N 158 i)) ∧ rsn N mm n 161 i = (if N 159 i = 0 then -1 else tpl N (N 159 i)) ∧ rsn N mm n 164 i = lsv N (mm i) (N 165 i) 0
  | 0, i, h0, h1 => by omega
  | n + 1, i, h0, h1 => by
    by_cases c : i = n
    · have e : ∀ k : Nat, k ≠ 160 → k ≠ 161 → k ≠ 164 → rsn N mm n k = N k := fun k h h1 h2 => rsn_r h h1 h2 n
      have tp : tpl (rsn N mm n) = tpl N := tpl_e (by rw [e 6 (by decide) (by decide) (by decide)]) (e 154 (by decide) (by decide) (by decide))
      have sg : sgl (rsn N mm n) = sgl N := sgl_e (by rw [e 6 (by decide) (by decide) (by decide)]) (e 152 (by decide) (by decide) (by decide))
      unfold rsn rs1
      rw [c]
      refine ⟨?_, ?_, ?_⟩
      · rw [up_ne (by decide), up_ne (by decide), up_at, e 158 (by decide) (by decide) (by decide), tp]
      · rw [up_ne (by decide), up_at, e 159 (by decide) (by decide) (by decide), tp]
      · rw [up_at, e 165 (by decide) (by decide) (by decide), lsv_e sg (e 151 (by decide) (by decide) (by decide))]
    · unfold rsn
      rw [rs1_o c, rs1_o c, rs1_o c]
      exact rsn_k n i h0 (by omega)
/-- one route -/
theorem l_315 [Inhabited gh_] (hV : Cl_ wd0 (Tr_ wd0 pg0 (d + 1)) V (rv_ Kv) Qt m_315) (hW : Wk_ V) {m : Nat} (hr : 0 ≤ r ∧ r < 10 ∧ r < N 6 18) (hs : sgl9 M N) (hp : tpl9 M N) (ho : LSQ N m (N 165 r)) (hK : V 2 [rr 6, ii (r + 1), none, none] [] (rs1 N r m)) : V 2 [rr 6, ii r, none, none] [] N := by
  have r9 : 0 ≤ r ∧ r < 10 := ⟨hr.1, hr.2.1⟩
  refine b_315_2 (Tr_mono _) hV hW _ _ ?_
  rw [if_pos hr.2.2]
  have z : ∀ x : Int, ((if x < 0 then (-1 : Int) else if x = 0 then 0 else 1) = 0) ↔ x = 0 := fun x => by
    constructor
    · intro h; split at h
      · omega
      · split at h
        · assumption
        · omega
    · intro h; rw [h]; decide
  -- the second side and the list
  have fin : ∀ N1, (∀ k : Nat, k ≠ 160 → N1 k = N k) → (N1 = up_ N 160 r (if N 158 r = 0 then -1 else tpl N (N 158 r))) → V 41 [rr 6, ii r, none, none] [] N1 := fun N1 e1 e2 => by
    have hp1 : tpl9 M N1 := by unfold tpl9; rw [e1 6 (by decide), e1 154 (by decide), e1 151 (by decide)]; exact hp
    have tp : tpl N1 = tpl N := tpl_e (by rw [e1 6 (by decide)]) (e1 154 (by decide))
    have fin2 : ∀ N2, N2 = up_ (up_ N1 161 r (if N 159 r = 0 then -1 else tpl N (N 159 r))) 164 r 0 → V 86 [rr 6, ii r, ii (N 165 r), none] [] N2 := fun N2 e3 => by
      have e4 : ∀ k : Nat, k ≠ 160 → k ≠ 161 → k ≠ 164 → N2 k = N k := fun k h h1 h2 => by rw [e3, up_ne h2, up_ne h1, e1 k h]
      have sg : sgl N2 = sgl N := sgl_e (by rw [e4 6 (by decide) (by decide) (by decide)]) (e4 152 (by decide) (by decide) (by decide))
      refine l_86 (M := M) hV hW r9 m (N 165 r) N2 ?_ (LSQ_e (e4 149 (by decide) (by decide) (by decide)) (e4 151 (by decide) (by decide) (by decide)) m _ ho) ?_
      · unfold sgl9; rw [e4 6 (by decide) (by decide) (by decide), e4 152 (by decide) (by decide) (by decide), e4 151 (by decide) (by decide) (by decide)]; exact hs
      · have e5 : N2 164 r = 0 := by rw [e3, up_at]
        rw [e5, lsv_e sg (e4 151 (by decide) (by decide) (by decide)), e3, e2]
        have : up_ (up_ (up_ (up_ N 160 r (if N 158 r = 0 then -1 else tpl N (N 158 r))) 161 r (if N 159 r = 0 then -1 else tpl N (N 159 r))) 164 r 0) 164 r (lsv N m (N 165 r) 0) = rs1 N r m := by
          unfold rs1
          funext k i
          by_cases ck : k = 164
          · rw [ck]
            by_cases ci : i = r
            · rw [ci, up_at, up_at]
            · rw [up_of2 (M := up_ (up_ (up_ _ _ _ _) _ _ _) 164 r 0) ci, up_of2 (M := up_ (up_ _ _ _ _) 161 r _) ci, up_of2 (M := up_ (up_ _ _ _ _) 161 r _) ci]
          · rw [up_ne ck, up_ne ck, up_ne ck]
        rw [this]; exact hK
    refine b_315_41 (Tr_mono _) hV hW _ _ ⟨r9, ?_⟩
    rw [e1 159 (by decide)]
    by_cases c : N 159 r = 0
    · rw [if_pos ((z _).2 c), e1 165 (by decide)]
      exact ⟨r9, r9, r9, fin2 _ (by rw [if_pos c])⟩
    · rw [if_neg (fun e => c ((z _).1 e))]
      refine ⟨r9, q_247t (M := M) hp1 ?_⟩
      rw [tp, e1 165 (by decide)]
      exact ⟨r9, r9, r9, fin2 _ (by rw [if_neg c])⟩
  refine ⟨r9, ?_⟩
  by_cases c : N 158 r = 0
  · rw [if_pos ((z _).2 c)]
    exact ⟨r9, fin _ (fun k hk => up_ne hk) (by rw [if_pos c])⟩
  · rw [if_neg (fun e => c ((z _).1 e))]
    exact ⟨r9, q_247t (M := M) hp ⟨r9, fin _ (fun k hk => up_ne hk) (by rw [if_neg c])⟩⟩
/-- all routes -/
theorem q_315 [Inhabited gh_] {n : Nat} {mm : Int → Nat} (hn : N 6 18 = n) (hn1 : n ≤ 10) (hs : sgl9 M N) (hp : tpl9 M N) (ho : ∀ i, 0 ≤ i → i < n → LSQ N (mm i) (N 165 i)) (h : Kv (rsn N mm n)) : Tr_ wd0 pg0 (d + 2) 315 [.inr (.inr 6)] N (rv_ Kv) Qt := by
  refine t_315 fun V hV hW => b_315_0 (Tr_mono _) hV hW _ ?_
  have loop : ∀ (j : Nat) (k : Nat), k + j = n → V 2 [rr 6, ii (k : Int), none, none] [] (rsn N mm k) := fun j => by
    induction j with
    | zero =>
      intro k hk
      refine b_315_2 (Tr_mono _) hV hW _ _ ?_
      rw [rsn_r (by decide) (by decide) (by decide), hn, if_neg (by omega)]
      rw [show k = n by omega]; exact rv_i h
    | succ j ih =>
      intro k hk
      have e : ∀ q : Nat, q ≠ 160 → q ≠ 161 → q ≠ 164 → rsn N mm k q = N q := fun q h h1 h2 => rsn_r h h1 h2 k
      refine l_315 (M := M) (m := mm k) hV hW ⟨by omega, by omega, by rw [e 6 (by decide) (by decide) (by decide), hn]; omega⟩ ?_ ?_ ?_ ?_
      · unfold sgl9; rw [e 6 (by decide) (by decide) (by decide), e 152 (by decide) (by decide) (by decide), e 151 (by decide) (by decide) (by decide)]; exact hs
      · unfold tpl9; rw [e 6 (by decide) (by decide) (by decide), e 154 (by decide) (by decide) (by decide), e 151 (by decide) (by decide) (by decide)]; exact hp
      · rw [e 165 (by decide) (by decide) (by decide)]
        exact LSQ_e (e 149 (by decide) (by decide) (by decide)) (e 151 (by decide) (by decide) (by decide)) _ _ (ho k (by omega) (by omega))
      · have := ih (k + 1) (by omega)
        exact this
  exact loop n 0 (by omega)
end RSa
end T290_rs
section T291_pf
/-! what a process keeps -/
def prX : List Nat := [1, 5, 58, 59, 60, 61, 62, 63, 64, 65, 66, 67, 68, 120, 121, 122, 123, 124, 125, 126, 127, 128, 129, 130, 131, 132, 133, 134, 135, 136, 137, 138, 139, 140, 141, 142]
def prQ : List Nat := [6, 154, 167, 168, 169, 170, 171, 172, 173, 174, 175, 176, 177, 178, 179, 180, 181, 182, 183, 184, 185, 186, 187, 188, 189, 190, 191, 192, 193, 194, 195, 196, 197, 198, 199, 200, 201, 202, 203, 204, 205, 206, 207, 208, 209, 210, 211, 212, 213, 214, 215, 216, 217, 218, 219, 220, 221, 222, 223, 224, 225, 226, 227, 228, 229, 230, 231, 232, 233, 234]
def PRF (M N M' N' : mm_) (np : Int) : Prop := (∀ k : Nat, k ∉ prX → M' k = M k) ∧ (∀ i : Int, i ∉ [2, 3, 4] → M' 5 i = M 5 i) ∧ (∀ i : Int, i ∈ [2, 9, 31, 32] → M' 1 i = M 1 i) ∧ (∀ k : Nat, k ∉ prQ → N' k = N k) ∧ ((∀ i : Int, i ∈ [17, 18] → N' 6 i = N 6 i) ∧ ∀ i : Int, i ∉ qpI → N' 6 i = N 6 i) ∧ ∀ T, 0 ≤ T → T ≠ np → ROW M N M' N' T ∧ M' 122 T = M 122 T ∧ N' 170 T = N 170 T
/-- pass 2: the tables of the types stay -/
def TYS (M N M' N' : mm_) (T : Int) : Prop := (TMT M' T = TMT M T ∧ DMs M' T = DMs M T) ∧ (M' 122 T = M 122 T ∧ LMs M' T = LMs M T) ∧ (SMs N' T = SMs N T ∧ M' 124 T = M 124 T) ∧ M' 128 T = M 128 T
section PFa
variable {b F F1 F' Fh : Int} {c T ns nr np t : Int} {M N M' N' M1 N1 M2 N2 Ma Na Mz Nz Mh Nh : mm_} {a a' : Int}
theorem sb_xbL [Inhabited gh_] : ∀ x ∈ xbL, x ∈ prX := by decide
theorem sb_vxL [Inhabited gh_] : ∀ x ∈ vxL, x ∈ prX := by decide
theorem sb_pzX [Inhabited gh_] : ∀ x ∈ pzX, x ∈ prX := by decide
theorem sb_qbL [Inhabited gh_] : ∀ x ∈ qbL, x ∈ prQ := by decide
theorem sb_vqL [Inhabited gh_] : ∀ x ∈ vqL, x ∈ prQ := by decide
theorem sb_pzQ [Inhabited gh_] : ∀ x ∈ pzQ, x ∈ prQ := by decide
theorem sb_qbI [Inhabited gh_] : ∀ x ∈ qbI, x ∈ qpI := by decide
theorem sb_5I [Inhabited gh_] : ∀ x ∈ [12, 13, 14, 19, 58], x ∈ qpI := by decide
theorem sb_xp [Inhabited gh_] : ∀ x ∈ prX, x ∈ xpL := by decide
theorem sb_qp [Inhabited gh_] : ∀ x ∈ prQ, x = 6 ∨ (152 ≤ x ∧ x ≤ 234) := by decide
theorem PRF_X [Inhabited gh_] (h : PRF M N M' N' np) : XPb M M' := fun k hk => h.1 k (fun e => hk (sb_xp k e))
theorem PRF_Q [Inhabited gh_] (h : PRF M N M' N' np) : QPb N N' := ⟨fun k hk => h.2.2.2.1 k (fun e => hk (sb_qp k e)), h.2.2.2.2.1.2⟩
theorem PRO_58 [Inhabited gh_] (hP : PRO b F F' M N M' N' np a a') : M' 58 np = a + 1 := by
  obtain ⟨F1, Mz, Nz, Ma, Na, Z, pz, k58, k52, ct, Ha, Mh, Nh, ah, c, Fh, Hh, ph, cb, cc, n170, S', P'', f', at'⟩ := hP
  rw [sB_r f' (by decide) (by decide), ph.1.1 58 (by decide) (by decide), up_ne (by decide), ct.1 58 (by decide) (by decide) (by decide), sT_r (by decide)]
  exact k58
theorem PRO_F [Inhabited gh_] (hP : PRO b F F' M N M' N' np a a') : F' ≤ F ∧ (b = 1 → F' = F) := by
  obtain ⟨F1, Mz, Nz, Ma, Na, Z, pz, k58, k52, ct, Ha, Mh, Nh, ah, c, Fh, Hh, ph, cb, cc, n170, S', P', f', at'⟩ := hP
  have h1 := f'.2.2.2.2.1
  have h2 := ph.2.2.2
  have h3 := pz.2.2.2.1
  refine ⟨by omega, fun hb => ?_⟩
  rw [h1.2 hb, h2.2.1 hb, h3.2 hb]
theorem PRO_122 [Inhabited gh_] (hP : PRO b F F' M N M' N' np a a') (hb : b = 0) : M' 122 np = N' 170 np ∧ N' 170 np ≤ M' 124 np := by
  obtain ⟨F1, Mz, Nz, Ma, Na, Z, pz, k58, k52, ct, Ha, Mh, Nh, ah, c, Fh, Hh, ph, cb, cc, n170, S', P', f', at'⟩ := hP
  obtain ⟨e18, e19, e29, e33, e61⟩ := hd_18 ct
  rw [e18] at ph n170
  have z := n170 hb
  have m122 : M' 122 np = c := by rw [sB_r f' (by decide) (by decide), ph.1.1 122 (by decide) (by decide), up_at]
  have q170 : N' 170 np = c := by rw [sB_q f' (by decide) (by decide)]; exact z.1
  rw [m122, q170, sB_r f' (by decide) (by decide)]
  exact ⟨rfl, z.2⟩
theorem PRO_53 [Inhabited gh_] (hP : PRO b F F' M N M' N' np a a') (hb : b = 0) : M' 5 3 = M 5 3 ∧ M' 5 4 = M 5 4 := by
  obtain ⟨F1, Mz, Nz, Ma, Na, Z, pz, k58, k52, ct, Ha, Mh, Nh, ah, c, Fh, Hh, ph, cb, cc, n170, S', P', f', at'⟩ := hP
  have e := f'.2.2.2.2.2.2.2 hb
  have x5 : sBX Mh 5 = Mz 5 := by rw [sBX_r (by decide) (by decide), ph.1.1 5 (by decide) (by decide), up_ne (by decide), ct.1 5 (by decide) (by decide) (by decide), sT_r (by decide)]
  rw [e.1, e.2, x5, pz.1.2.2.1 3 (by decide), pz.1.2.2.1 4 (by decide)]
  exact ⟨rfl, rfl⟩
theorem PRO_f [Inhabited gh_] (h : SYS b F M N a ns nr np) (hP : PRO b F F' M N M' N' np a a') : PRF M N M' N' np := by
  obtain ⟨F1, Mz, Nz, Ma, Na, Z, pz, k58, k52, ct, Ha, Mh, Nh, ah, c, Fh, Hh, ph, cb, cc, n170, S', P', f', at'⟩ := hP
  obtain ⟨e18, e19, e29, e33, e61⟩ := hd_18 ct
  have hnp := h.2.1.2.1
  rw [e18] at ph
  have h18 : Mh 1 18 = np := by rw [ph.1.2.1 18 (by decide), up_ne (by decide)]; exact e18
  have xr : ∀ r : Nat, r ∉ xbL → r ∉ vxL → r ≠ 127 → r ≠ 122 → r ≠ 120 → r ≠ 121 → M' r = Mz r := fun r h1 h2 h3 h4 h5 h6 => by
    have r1 : r ≠ 1 := fun e => h1 (by rw [e]; decide)
    rw [sB_r f' h1 h3, ph.1.1 r r1 h2, up_ne h4, ct.1 r r1 h5 h6, sT_r r1]
  have qr : ∀ r : Nat, r ∉ qbL → r ∉ vqL → r ≠ 176 → r ≠ 168 → r ≠ 169 → N' r = Nz r := fun r h1 h2 h3 h4 h5 => by
    have r6 : r ≠ 6 := fun e => h1 (by rw [e]; decide)
    rw [sB_q f' h1 h3, ph.1.2.2.1 r r6 h2, ct.2.2.2.1 r r6 h4 h5, up_ne r6]
  have x5 : ∀ i : Int, i ≠ 3 → i ≠ 4 → M' 5 i = Mz 5 i := fun i h3 h4 => by
    rw [f'.1.2.2 i h3 h4, sBX_r (by decide) (by decide), ph.1.1 5 (by decide) (by decide), up_ne (by decide), ct.1 5 (by decide) (by decide) (by decide), sT_r (by decide)]
  have x1 : ∀ i : Int, i ∉ xbI → M' 1 i = sT_ Mz np 1 i := fun i hi => by
    rw [f'.1.2.1 i hi, sBX_1 (nm_i hi (by decide)), ph.1.2.1 i (fun e => hi (by revert e; unfold xbI; simp only [List.mem_cons, List.not_mem_nil, or_false]; omega)), up_ne (by decide), ct.2.2.1 i (nm_i hi (by decide)) (nm_i hi (by decide)) (nm_i hi (by decide)) (nm_i hi (by decide))]
  have q6 : ∀ i : Int, i ∉ qbI → i ≠ 61 → N' 6 i = Nz 6 i := fun i hi h61 => by
    rw [f'.2.1.2 i hi, sBQ_6 (nm_i hi (by decide)), ph.1.2.2.2 i (fun e => hi (by revert e; unfold qbI; simp only [List.mem_cons, List.not_mem_nil, or_false]; omega)), ct.2.2.2.2.2.1 i (nm_i hi (by decide)) (nm_i hi (by decide)) (nm_i hi (by decide)), up_of2 h61]
  have m122 : ∀ T, T ≠ np → M' 122 T = Mz 122 T := fun T hT => by
    rw [sB_r f' (by decide) (by decide), ph.1.1 122 (by decide) (by decide), up_of2 hT, ct.1 122 (by decide) (by decide) (by decide), sT_r (by decide)]
  have row : ∀ T, 0 ≤ T → T ≠ np → ROW Mz Nz M' N' T := fun T T0 hT => by
    have b18 : sBX Mh 1 18 = np := by rw [sBX_1 (by decide)]; exact h18
    have c123 := Hh.1.1.2.2.2.1.1
    rw [h18] at c123
    have lcc : lc_ b (sBX Mh) = 0 := by
      unfold lc_
      rcases bl01 (TS_E S'.1) with hb | hb
      · rw [if_pos hb, b18, sBX_r (by decide) (by decide), ph.1.1 128 (by decide) (by decide), up_ne (by decide), ct.1 128 (by decide) (by decide) (by decide), sT_r (by decide)]
        exact (pz.2.2.2.2 hb).2.1.2.2.2
      · rw [if_neg (by omega), sBX_1 (by decide), ph.1.2.1 19 (by decide), up_ne (by decide)]; exact e19
    have r1 : ROW Mz Nz (sT_ Mz np) (up_ Nz 6 61 np) T := ROW_e (fun r hr => sT_r (fun e => by rw [e] at hr; revert hr; decide)) (fun r hr => up_ne (fun e => by rw [e] at hr; revert hr; decide))
    have r2 := ROW_ct ct hT
    have r3 : ROW Ma Na (up_ Ma 122 np c) Na T := ROW_e (fun r hr => up_ne (fun e => by rw [e] at hr; revert hr; decide)) (fun _ _ => rfl)
    have r4 := ROW_ph ph T0 (by rw [up_ne (by decide), e18]; exact hT)
    have r5 : ROW Mh Nh (sBX Mh) (sBQ Mh Nh) T := ROW_e (fun r hr => sBX_r (fun e => by rw [e] at hr; revert hr; decide) (fun e => by rw [e] at hr; revert hr; decide)) (fun r hr => sBQ_r (fun e => by rw [e] at hr; revert hr; decide) (fun e => by rw [e] at hr; revert hr; decide))
    have r6 := ROW_st f' T0 (by rw [b18]; exact hT) (by rw [b18, sBX_r (by decide) (by decide)]; omega) (by rw [lcc]; decide)
    exact ROW_tr r1 (ROW_tr r2 (ROW_tr r3 (ROW_tr r4 (ROW_tr r5 r6))))
  refine ⟨fun k hk => ?_, fun i hi => ?_, fun i hi => ?_, fun k hk => ?_, ⟨fun i hi => ?_, fun i hi => ?_⟩, fun T T0 hT => ⟨ROW_tr (ROW_z pz hT) (row T T0 hT), ?_, ?_⟩⟩
  · rw [xr k (fun e => hk (sb_xbL k e)) (fun e => hk (sb_vxL k e)) (fun e => hk (by rw [e]; decide)) (fun e => hk (by rw [e]; decide)) (fun e => hk (by rw [e]; decide)) (fun e => hk (by rw [e]; decide)), pz.1.1 k (fun e => hk (sb_pzX k e))]
  · rw [x5 i (nm_i hi (by decide)) (nm_i hi (by decide)), pz.1.2.2.1 i (nm_i hi (by decide))]
  · have hj : i ∉ xbI ∧ i ∉ [3, 4, 5, 7] := ⟨fun e => by revert e hi; unfold xbI; simp only [List.mem_cons, List.not_mem_nil, or_false]; omega, fun e => by revert e hi; simp only [List.mem_cons, List.not_mem_nil, or_false]; omega⟩
    simp only [List.mem_cons, List.not_mem_nil, or_false] at hi
    rw [x1 i hj.1, sT_1 (by omega) (by omega) (by omega) (by omega) (by omega), pz.1.2.2.2 i hj.2]
  · rw [qr k (fun e => hk (sb_qbL k e)) (fun e => hk (sb_vqL k e)) (fun e => hk (by rw [e]; decide)) (fun e => hk (by rw [e]; decide)) (fun e => hk (by rw [e]; decide)), pz.2.1.1 k (fun e => hk (sb_pzQ k e))]
  · have hj : i ∉ qbI ∧ i ∉ [12, 13, 14, 19, 58] := ⟨fun e => by revert e hi; unfold qbI; simp only [List.mem_cons, List.not_mem_nil, or_false]; omega, fun e => by revert e hi; simp only [List.mem_cons, List.not_mem_nil, or_false]; omega⟩
    simp only [List.mem_cons, List.not_mem_nil, or_false] at hi
    rw [q6 i hj.1 (by omega), pz.2.1.2.2 i hj.2]
  · rw [q6 i (fun e => hi (sb_qbI i e)) (fun e => hi (by rw [e]; decide)), pz.2.1.2.2 i (fun e => hi (sb_5I i e))]
  · rw [m122 T hT, pz.1.2.1 122 T (by decide) (by decide) hT]
  · have hT' : T ≠ up_ Ma 122 np c 1 18 := by rw [up_ne (by decide), e18]; exact hT
    rw [sB_q f' (by decide) (by decide), (ph.2.1.1 T hT').2.1, ct.2.2.2.1 170 (by decide) (by decide) (by decide), up_ne (by decide), pz.2.1.2.1 170 T (by decide) hT]
theorem LMT_8e [Inhabited gh_] (h : LMT M1 = LMT M) (h18 : M1 1 18 = M 1 18) (h0 : 0 ≤ M 128 (M 1 18)) (h1 : 0 ≤ M1 128 (M 1 18)) : M1 128 (M 1 18) = M 128 (M 1 18) := by
  have up : ∀ (A B : mm_), LMT A = LMT B → ∀ j, 0 ≤ j → j < A 128 (A 1 18) → j < B 128 (B 1 18) := fun A B e j j0 j1 => by
    have z : LMT A j (A 62 (10 * A 1 18 + j)) = true := by unfold LMT; exact decide_eq_true ⟨j0, j1, rfl⟩
    rw [e] at z
    unfold LMT at z
    exact (of_decide_eq_true z).2.1
  have a1 := up M1 M h (M 128 (M 1 18))
  have a2 := up M M1 h.symm (M1 128 (M 1 18))
  rw [h18] at a1 a2
  omega
theorem TYS_PRO [Inhabited gh_] (h : SYS b F M N a ns nr np) (hb : b = 1) (hP : PRO b F F' M N M' N' np a a') (hS' : SYS b F' M' N' a' ns nr (np + 1)) : (∀ T, 0 ≤ T → T < M 5 2 → TYS M N M' N' T) ∧ M' 5 2 = M 5 2 ∧ M' 58 = M 58 ∧ N' 154 = N 154 ∧ N' 6 19 = N 6 19 := by
  have pf := PRO_f h hP
  obtain ⟨F1, Mz, Nz, Ma, Na, Z, pz, k58, k52, ct, Ha, Mh, Nh, ah, c, Fh, Hh, ph, cb, cc, n170, S', P', f', at'⟩ := hP
  obtain ⟨e18, e19, e29, e33, e61⟩ := hd_18 ct
  have hnp := h.2.1.2.1
  rw [e18] at ph cb
  have z1 := pz.2.2.1 hb
  have p1 := ph.2.2.1 hb
  have h18 : Mh 1 18 = np := by rw [ph.1.2.1 18 (by decide), up_ne (by decide)]; exact e18
  have m122 : up_ Ma 122 np c = Ma := by rw [cb hb]; exact up_id
  rw [m122] at ph p1
  have xr : ∀ r : Nat, r ∉ xbL → r ≠ 127 → r ≠ 120 → r ≠ 121 → M' r = M r := fun r h1 h3 h5 h6 => by
    have r1 : r ≠ 1 := fun e => h1 (by rw [e]; decide)
    rw [sB_r f' h1 h3, p1.1 r r1, ct.1 r r1 h5 h6, sT_r r1, z1.1 r r1]
  have xm : ∀ r : Nat, r ≠ 1 → r ≠ 120 → r ≠ 121 → Mh r = M r := fun r r1 h5 h6 => by
    rw [p1.1 r r1, ct.1 r r1 h5 h6, sT_r r1, z1.1 r r1]
  have qm : ∀ r : Nat, r ≠ 6 → r ≠ 168 → r ≠ 169 → Nh r = N r := fun r r6 h4 h5 => by
    rw [p1.2.1 r r6, ct.2.2.2.1 r r6 h4 h5, up_ne r6, z1.2.1 r r6]
  have ns5 := f'.2.2.2.1.2.2.2.2 hb
  have q179 : N' 179 = N 179 := by rw [ns5.2.2.2.1, sBQ_r (by decide) (by decide), qm 179 (by decide) (by decide) (by decide)]
  have q174 : N' 174 = N 174 := by rw [ns5.2.2.1, sBQ_r (by decide) (by decide), qm 174 (by decide) (by decide) (by decide)]
  have e52 : M' 5 2 = M 5 2 := by
    rw [f'.1.2.2 2 (by decide) (by decide), sBX_r (by decide) (by decide), xm 5 (by decide) (by decide) (by decide)]
  have q154 : N' 154 = N 154 := by rw [sB_q f' (by decide) (by decide), qm 154 (by decide) (by decide) (by decide)]
  have q151 : N' 151 = N 151 := by rw [sB_q f' (by decide) (by decide), qm 151 (by decide) (by decide) (by decide)]
  have q19 : N' 6 19 = N 6 19 := by
    rw [f'.2.1.2 19 (by decide), sBQ_6 (by decide), ph.1.2.2.2 19 (by decide), ct.2.2.2.2.2.1 19 (by decide) (by decide) (by decide), up_of2 (by decide), z1.2.2.1 19 (by decide)]
  have l58 := xr 58 (by decide) (by decide) (by decide) (by decide)
  refine ⟨fun T T0 T1 => ⟨⟨?_, ?_⟩, ⟨?_, ?_⟩, ⟨?_, by rw [xr 124 (by decide) (by decide) (by decide) (by decide)]⟩, ?_⟩, e52, l58, q154, q19⟩
  · unfold TMT; rw [e52, l58]
  · have u1 : ∀ (A : mm_) (k : Nat), k ≠ 1 → up_ A 1 18 T k = A k := fun A k hk => up_ne hk
    unfold DMs DMT
    rw [u1 M' 60 (by decide), u1 M 60 (by decide), u1 M' 61 (by decide), u1 M 61 (by decide), u1 M' 124 (by decide), u1 M 124 (by decide), u1 M' 126 (by decide), u1 M 126 (by decide), up_at, up_at, xr 60 (by decide) (by decide) (by decide) (by decide), xr 61 (by decide) (by decide) (by decide) (by decide), xr 124 (by decide) (by decide) (by decide) (by decide), xr 126 (by decide) (by decide) (by decide) (by decide)]
  · rw [xr 122 (by decide) (by decide) (by decide) (by decide)]
  · by_cases cT : T = np
    · have lk := f'.2.2.1.2.2.2 hb
      have lk2 : LMT M' = LMT Mh := by
        rw [lk]; unfold LMT
        rw [sBX_1 (by decide), sBX_r (by decide) (by decide), sBX_r (by decide) (by decide)]
      have m18 : M' 1 18 = np := (sB_18 f').trans h18
      rw [cT]
      unfold LMs
      have a1 : LMT (up_ M' 1 18 np) = LMT M' := by rw [← m18, up_id]
      rw [a1, lk2]
      unfold LMT
      have u1 : ∀ (A : mm_) (k : Nat), k ≠ 1 → up_ A 1 18 np k = A k := fun A k hk => up_ne hk
      rw [h18, up_at, u1 M 128 (by decide), u1 M 62 (by decide), xm 128 (by decide) (by decide) (by decide), xm 62 (by decide) (by decide) (by decide)]
    · have rw0 := (pf.2.2.2.2.2 T T0 cT).1
      have c128 := (h.1.2.2.1 T T0 T1).2.2.2.2.1.1.1
      unfold LMs LMT
      have u1 : ∀ (A : mm_) (k : Nat), k ≠ 1 → up_ A 1 18 T k = A k := fun A k hk => up_ne hk
      rw [up_at, up_at, u1 M' 128 (by decide), u1 M 128 (by decide), u1 M' 62 (by decide), u1 M 62 (by decide)]
      funext j t
      rw [rw0.1.2.2.2.2.2.2.2]
      by_cases hj : 0 ≤ j ∧ j < M 128 T
      · rw [(rw0.2.2.2.2.2 j hj.1 (by omega)).1]
      · have d1 : ¬ (0 ≤ j ∧ j < M 128 T ∧ M' 62 (10 * T + j) = t) := fun e => hj ⟨e.1, e.2.1⟩
        have d2 : ¬ (0 ≤ j ∧ j < M 128 T ∧ M 62 (10 * T + j) = t) := fun e => hj ⟨e.1, e.2.1⟩
        rw [decide_eq_false d1, decide_eq_false d2]
  · unfold SMs SMT stt
    have u1 : ∀ (A : mm_) (k : Nat), k ≠ 6 → up_ A 6 61 T k = A k := fun A k hk => up_ne hk
    rw [u1 N' 151 (by decide), u1 N 151 (by decide), u1 N' 179 (by decide), u1 N 179 (by decide), u1 N' 174 (by decide), u1 N 174 (by decide), up_at, up_at, q151, q179, q174]
  · by_cases cT : T = np
    · have lk := f'.2.2.1.2.2.2 hb
      have lk2 : LMT M' = LMT Mh := by
        rw [lk]; unfold LMT
        rw [sBX_1 (by decide), sBX_r (by decide) (by decide), sBX_r (by decide) (by decide)]
      have m18 : M' 1 18 = np := (sB_18 f').trans h18
      have c1 := (h.1.2.2.1 T T0 T1).2.2.2.2.1.1.1.1
      have c2 := (hS'.1.2.2.1 T T0 (by rw [e52]; exact T1)).2.2.2.2.1.1.1.1
      have := LMT_8e lk2 (m18.trans h18.symm) (by rw [h18, xm 128 (by decide) (by decide) (by decide), ← cT]; exact c1) (by rw [h18, ← cT]; exact c2)
      rw [h18, xm 128 (by decide) (by decide) (by decide)] at this
      rw [cT]; exact this
    · exact (pf.2.2.2.2.2 T T0 cT).1.1.2.2.2.2.2.2.2
end PFa
end T291_pf
section T292_sl
/-! the system's items: what pass 1 leaves, their syntax with the final tables -/
def RRW (M N : mm_) (r : Int) : Prop := (gd_ M (M 55 r) ∧ M 70 (M 55 r) = 1 ∧ M 57 r = M 55 r + 1) ∧ (∃ m, RTE (M 70) (M 73) (M 55 r) m) ∧ RTQ M N r (M 55 r)
/-- what is kept by later items of pass 1 -/
def KEP (M N M1 N1 : mm_) (ns nr np : Int) : Prop := ((M1 70 = M 70 ∧ M1 71 = M 71 ∧ M1 73 = M 73) ∧ N1 151 = N 151) ∧ ((∀ i, 0 ≤ i → i < ns → M1 112 i = M 112 i ∧ M1 56 i = M 56 i) ∧ ∀ i, 0 ≤ i → i < 3 * ns → M1 113 i = M 113 i) ∧ (∀ i, 0 ≤ i → i < nr → M1 55 i = M 55 i ∧ M1 57 i = M 57 i) ∧ ∀ T, 0 ≤ T → T < np → ROW M N M1 N1 T ∧ M1 122 T = M 122 T
def SYG (M N : mm_) : Nat → Int → Int → Int → Int → Prop
  | 0, a, ns, nr, np => M 70 a = 102 ∧ ns = M 5 0 ∧ nr = M 5 1 ∧ np = M 5 2
  | n + 1, a, ns, nr, np => (M 70 a = 0 ∧ ∃ a' ns', SGS (M 70) (M 113) (M 112) (TSG M) (a, ns) = some (a', ns') ∧ SYG M N n a' ns' nr np)
    ∨ (M 70 a = 1 ∧ ∃ m, RTE (M 70) (M 73) a m ∧ (nr < M 5 1 ∧ M 57 nr = a + 1 ∧ M 55 nr = a) ∧ SYG M N n (dle (M 70) (a + 5) + 1 + 2 * (m : Nat)) ns (nr + 1) np)
    ∨ (M 70 a = 2 ∧ ∃ a', prcS (M 70) (M 73) (TMT M np) (DMs M np) (M 122 np) (LMs M np) (SMs N np) (M 128 np) a = some a' ∧ (np < M 5 2 ∧ ∃ ah, hdP (M 70) (M 73) (DMs M np) (M 122 np) (a + 5) = some ah ∧ ∀ u, DCL M np u → a + 5 ≤ u ∧ u < ah) ∧ SYG M N n a' ns nr (np + 1))
section SLa
variable {b F F1 F' : Int} {T ns nr np ns' nr' np' t r : Int} {M N M' N' M1 N1 M2 N2 : mm_} {a a' : Int}
theorem KEP_rf [Inhabited gh_] : KEP M N M N ns nr np := ⟨⟨⟨rfl, rfl, rfl⟩, rfl⟩, ⟨fun _ _ _ => ⟨rfl, rfl⟩, fun _ _ _ => rfl⟩, fun _ _ _ => ⟨rfl, rfl⟩, fun _ _ _ => ⟨ROW_rf, rfl⟩⟩
theorem KEP_tr [Inhabited gh_] (h : KEP M N M1 N1 ns nr np) (g : KEP M1 N1 M2 N2 ns' nr' np') (h1 : ns ≤ ns') (h2 : nr ≤ nr') (h3 : np ≤ np') : KEP M N M2 N2 ns nr np := by
  obtain ⟨⟨⟨a1, a2, a3⟩, a4⟩, ⟨b1, b2⟩, c1, d1⟩ := h
  obtain ⟨⟨⟨e1, e2, e3⟩, e4⟩, ⟨f1, f2⟩, g1, k1⟩ := g
  exact ⟨⟨⟨e1.trans a1, e2.trans a2, e3.trans a3⟩, e4.trans a4⟩, ⟨fun i i0 i1 => ⟨(f1 i i0 (by omega)).1.trans (b1 i i0 i1).1, (f1 i i0 (by omega)).2.trans (b1 i i0 i1).2⟩, fun i i0 i1 => (f2 i i0 (by omega)).trans (b2 i i0 i1)⟩, fun i i0 i1 => ⟨(g1 i i0 (by omega)).1.trans (c1 i i0 i1).1, (g1 i i0 (by omega)).2.trans (c1 i i0 i1).2⟩, fun T T0 T1 => ⟨ROW_tr (d1 T T0 T1).1 (k1 T T0 (by omega)).1, (k1 T T0 (by omega)).2.trans (d1 T T0 T1).2⟩⟩
theorem RTQ_c [Inhabited gh_] (h : RTQ M N r a) (h70 : M1 70 = M 70) (h73 : M1 73 = M 73) (h151 : N1 151 = N 151) (hq : ∀ k : Nat, k ∈ [158, 159, 162, 163, 165, 166] → N1 k r = N k r) : RTQ M1 N1 r a := by
  unfold RTQ sdq
  rw [h70, h73, h151, hq 158 (by decide), hq 159 (by decide), hq 162 (by decide), hq 163 (by decide), hq 165 (by decide), hq 166 (by decide)]
  exact h
theorem RRW_c [Inhabited gh_] (h : RRW M N r) (h70 : M1 70 = M 70) (h73 : M1 73 = M 73) (h151 : N1 151 = N 151) (h55 : M1 55 r = M 55 r) (h57 : M1 57 r = M 57 r) (hq : ∀ k : Nat, k ∈ [158, 159, 162, 163, 165, 166] → N1 k r = N k r) : RRW M1 N1 r := by
  obtain ⟨⟨a1, a2, a3⟩, a4, a5⟩ := h
  unfold RRW
  rw [h55, h57, h70, h73]
  exact ⟨⟨gd_c h70 a1, a2, a3⟩, a4, RTQ_c a5 h70 h73 h151 hq⟩
theorem DMT_of [Inhabited gh_] {t : Int} (h : DCL M T t) : DMs M T t = true := by
  have u1 : ∀ k : Nat, k ≠ 1 → up_ M 1 18 T k = M k := fun k hk => up_ne hk
  unfold DMs DMT
  rw [u1 60 (by decide), u1 61 (by decide), u1 124 (by decide), u1 126 (by decide), up_at]
  refine decide_eq_true ?_
  rcases h with ⟨k, hk, e⟩ | ⟨k, hk, e⟩
  · left; intro z
    exact fi_no _ _ _ _ z (Int.le_refl _) k hk.1 (by omega) e
  · right; intro z
    exact fi_no _ _ _ _ z (Int.le_refl _) k hk.1 (by omega) e
/-- a line of signals, with the final tables -/
theorem SGS_fin [Inhabited gh_] {Mf Nf : mm_} {nsf : Int} (S' : SYS 0 F' M' N' a' ns' nr np) (Sf : Mf 5 0 = nsf) (hl : ns' ≤ nsf) (h0 : 0 ≤ ns) (hk : KEP M' N' Mf Nf ns' nr np) : SGO 0 (Mf 113) (Mf 112) (TSG Mf) ns ns' M M' := by
  refine ⟨fun _ k k0 k1 => ?_, fun hb => by omega⟩
  have e := hk.2.1.1 k (by omega) k1
  have c := (S'.1.2.1.1.2 k (by omega) (by rw [(S'.2.1.2.2 rfl).1]; exact k1)).1
  refine ⟨e.1, ?_, fun i i0 i1 => ?_⟩
  · unfold TSG; exact decide_eq_true ⟨by omega, e.2⟩
  · rw [e.1] at i1
    exact hk.2.1.2 i (by omega) (by omega)
/-- a process, with the final tables -/
theorem POK_fin [Inhabited gh_] {Mf Nf : mm_} {npf : Int} (S' : SYS 0 F' M' N' a' ns nr (np + 1)) (h0 : 0 ≤ np) (Sf : Mf 5 2 = npf) (hl : np + 1 ≤ npf) (hk : KEP M' N' Mf Nf ns nr (np + 1)) : POK 0 (TMT Mf np) (DMs Mf np) (Mf 122 np) (LMs Mf np) (SMs Nf np) (Mf 128 np) np M N M' N' := by
  obtain ⟨rw0, m122⟩ := hk.2.2.2 np h0 (by omega)
  have ty := S'.1.2.2.1 np h0 (by rw [(S'.2.1.2.2 rfl).2.2]; omega)
  have c128 := ty.2.2.2.2.1.1.1
  have c174 := ty.2.2.1.1
  have u1 : ∀ (A : mm_) (k : Nat), k ≠ 1 → up_ A 1 18 np k = A k := fun A k hk => up_ne hk
  have u6 : ∀ (A : mm_) (k : Nat), k ≠ 6 → up_ A 6 61 np k = A k := fun A k hk => up_ne hk
  refine ⟨fun _ => ⟨rw0.1.2.2.2.2.2.2.2, ?_, fun t ht => ?_, m122, fun j j0 j1 => ?_, fun t ht => ?_⟩, fun hb => by omega⟩
  · unfold TMT; exact decide_eq_true ⟨by omega, rw0.1.1⟩
  · exact DMT_of ((DCL_row ty.1 rw0).2 ht)
  · unfold LMs LMT
    rw [u1 Mf 128 (by decide), u1 Mf 62 (by decide), up_at]
    exact decide_eq_true ⟨j0, by rw [rw0.1.2.2.2.2.2.2.2]; exact j1, (rw0.2.2.2.2.2 j j0 (by omega)).1⟩
  · unfold SMs SMT
    refine decide_eq_true ?_
    have e : stt (up_ Nf 6 61 np) (up_ Nf 6 61 np 151 t) = stt (up_ N' 6 61 np) (N' 151 t) := by
      unfold stt
      rw [u6 Nf 179 (by decide), u6 N' 179 (by decide), u6 Nf 174 (by decide), u6 N' 174 (by decide), u6 Nf 151 (by decide), up_at, up_at, hk.1.2, rw0.2.1.2.2.2.2.2.2.1]
      exact fi_cg _ _ (fun i i0 i1 => by rw [(rw0.2.2.2.2.1 i i0 (by omega)).2.1])
    rw [e]; exact ht
/-! names told twice -/
def DUM (M N : mm_) (T f : Int) : Prop := ∃ k i : Int, (0 ≤ i ∧ i < k ∧ k < M 128 T) ∧ N 151 (M 62 (10 * T + i)) = N 151 (M 62 (10 * T + k)) ∧ f = 8 * M 71 (M 62 (10 * T + k)) + 3
theorem DUL_M [Inhabited gh_] {f : Int} (h : LBt b F M N a T) : DUL M N T (M 128 T) f ↔ DUM M N T f := by
  constructor
  · rintro ⟨k, i, z1, z2, z3⟩
    exact ⟨k, i, z1, by rw [← (h.1.2 i (by omega) (by omega)).2, ← (h.1.2 k (by omega) (by omega)).2]; exact z2, z3⟩
  · rintro ⟨k, i, z1, z2, z3⟩
    exact ⟨k, i, z1, by rw [(h.1.2 i (by omega) (by omega)).2, (h.1.2 k (by omega) (by omega)).2]; exact z2, z3⟩
def G1A (F F' : Int) (M N : mm_) (np : Int) : Prop := F' = F ∨ GDU M N F' ∨ ∃ T, (0 ≤ T ∧ T < np) ∧ (DUN M N T F' ∨ DUM M N T F')
def G1S (F F1 : Int) (M N M1 N1 : mm_) (np1 : Int) : Prop := F1 = F ∨ GDU M1 N1 F1 ∨ (∃ u v, (GLM M u ∧ GLM M1 v ∧ u < v) ∧ N 151 u = N 151 v ∧ F1 = 8 * M 71 v + 3) ∨ ∃ T, (0 ≤ T ∧ T < np1) ∧ (DUN M1 N1 T F1 ∨ DUM M1 N1 T F1)
theorem GLM_K [Inhabited gh_] (k : KEP M N M1 N1 ns nr np) (h0 : M 5 0 = ns ∧ M 5 1 = nr ∧ M 5 2 = np) (h1 : ns ≤ M1 5 0 ∧ nr ≤ M1 5 1 ∧ np ≤ M1 5 2) {u : Int} (h : GLM M u) : GLM M1 u := by
  rcases h with ⟨i, hi, e⟩ | ⟨i, hi, e⟩ | ⟨i, hi, e⟩
  · exact .inl ⟨i, by omega, by rw [(k.2.1.1 i hi.1 (by omega)).2]; exact e⟩
  · exact .inr (.inl ⟨i, by omega, by rw [(k.2.2.1 i hi.1 (by omega)).2]; exact e⟩)
  · exact .inr (.inr ⟨i, by omega, by rw [(k.2.2.2 i hi.1 (by omega)).1.1.1]; exact e⟩)
theorem G1S_A [Inhabited gh_] (g : G1S F F1 M N M1 N1 np') (k : KEP M N M1 N1 ns nr np) (h0 : M 5 0 = ns ∧ M 5 1 = nr ∧ M 5 2 = np) (h1 : ns ≤ M1 5 0 ∧ nr ≤ M1 5 1 ∧ np ≤ M1 5 2) : G1A F F1 M1 N1 np' := by
  rcases g with z | z | ⟨u, v, ⟨z1, z2, z3⟩, z4, z5⟩ | z
  · exact .inl z
  · exact .inr (.inl z)
  · exact .inr (.inl ⟨u, v, ⟨GLM_K k h0 h1 z1, z2, z3⟩, by rw [k.1.2]; exact z4, by rw [k.1.1.2.1]; exact z5⟩)
  · exact .inr (.inr z)
theorem G1A_tr [Inhabited gh_] (g1 : G1A F F1 M1 N1 np) (S1 : SYS 0 F1 M1 N1 a ns nr np) (k : KEP M1 N1 M2 N2 ns nr np) (h1 : ns ≤ M2 5 0 ∧ nr ≤ M2 5 1 ∧ np ≤ M2 5 2) (hn : np ≤ np') (g2 : G1A F1 F' M2 N2 np') : G1A F F' M2 N2 np' := by
  rcases g2 with z | z
  · rcases g1 with y | y | ⟨T, hT, y⟩
    · exact .inl (z.trans y)
    · right; left; rw [z]; exact GDU_c y (fun u hu => GLM_K k (S1.2.1.2.2 rfl) h1 hu) k.1.1.2.1 k.1.2
    · right; right
      have ty := S1.1.2.2.1 T hT.1 (by rw [(S1.2.1.2.2 rfl).2.2]; exact hT.2)
      have rw0 := (k.2.2.2 T hT.1 hT.2).1
      rw [z]
      refine ⟨T, by omega, y.imp (fun y => DUN_c y (fun u hu => (DCL_row ty.1 rw0).2 hu) k.1.1.2.1 k.1.2) fun y => ?_⟩
      obtain ⟨j, i, y1, y2, y3⟩ := y
      have c := ty.2.2.2.2.1.1.1
      have r := rw0.2.2.2.2.2
      refine ⟨j, i, by rw [rw0.1.2.2.2.2.2.2.2]; exact y1, ?_, ?_⟩
      · rw [k.1.2, (r i (by omega) (by omega)).1, (r j (by omega) (by omega)).1]; exact y2
      · rw [k.1.1.2.1, (r j (by omega) (by omega)).1]; exact y3
  · exact .inr z
end SLa
end T292_sl
section T293_sl
/-! the system's loop (X 102 | Q 226): steps -/
def q73 (dq : Nat) (nr np x4 : Int) (N : mm_) (G : mm_ → Prop) (Qt : qt_) : Prop := ∀ V : vv_, Cl_ wd0 (Tr_ wd0 pg0 (dq + 19)) V (rv_ G) Qt m_226 → Wk_ V → V 73 [rr 6, ii 0, ii nr, ii np, ii x4] [] N
def q49 (dq : Nat) (nr np : Int) (N : mm_) (G : mm_ → Prop) (Qt : qt_) : Prop := ∀ V : vv_, Cl_ wd0 (Tr_ wd0 pg0 (dq + 19)) V (rv_ G) Qt m_226 → Wk_ V → V 49 [rr 6, ii 0, ii nr, ii np, ii 0] [] N
/-- X at an item's end -/
def z102 (V : vv_) (Kv : mm_ → Prop) (Qt : qt_) (M : mm_) : Prop := Tr_ wd0 pg0 131 103 [.inr (.inr 1), .inl 102] M (ri_ fun v5 M6 => (if v5 = 0 then V 25 [rr 1] [] M6 else rv_ Kv [] M6)) Qt
section SLb
variable {dq : Nat} {b F F1 F' : Int} {T ns nr np ns' nr' np' t r x4 : Int} {Kv G : mm_ → Prop} {Qt Qtq : qt_} {V V' : vv_} {M N Mx' M' N' M1 N1 M2 N2 : mm_} {a a' : Int}
theorem q49z [Inhabited gh_] (hs : sp_ N) (h : G N) : q49 dq nr np N G Qtq := fun V' hV' hW' => b_226_49 (Tr_mono _) hV' hW' _ _ _ _ _ (q_227s hs (by rw [if_neg (by decide)]; exact rv_i h))
theorem q49_g [Inhabited gh_] (hT : Tks M N) (hE : ER b F M N a 0) (hn : M 70 a ≠ 102) (h : q73 dq nr np 0 N G Qtq) : q49 dq nr np N G Qtq := fun V' hV' hW' => b_226_49 (Tr_mono _) hV' hW' _ _ _ _ _ (q_227g (ER_goq hE) (by
  have ha := ER_a hE
  have q := (hT a hE.1).1
  unfold KQ at q
  rw [if_pos rfl, if_pos rfl, hE.2.2.1]
  refine ⟨by omega, ?_⟩
  rw [if_neg (by omega)]
  exact h V' hV' hW'))
theorem q49_e [Inhabited gh_] (hT : Tks M N) (hE : ER b F M N a 0) (hn : M 70 a = 102) (h : G N) : q49 dq nr np N G Qtq := fun V' hV' hW' => b_226_49 (Tr_mono _) hV' hW' _ _ _ _ _ (q_227g (ER_goq hE) (by
  have ha := ER_a hE
  have q := (hT a hE.1).1
  unfold KQ at q
  rw [if_pos rfl, if_pos rfl, hE.2.2.1]
  refine ⟨by omega, ?_⟩
  rw [if_pos (by omega)]
  exact rv_i h))
theorem q73_sg [Inhabited gh_] (h : qSC dq N (fun N' => ∀ V' : vv_, Cl_ wd0 (Tr_ wd0 pg0 (dq + 19)) V' (rv_ G) Qtq m_226 → Wk_ V' → V' 49 [rr 6, ii 0, ii nr, ii np, ii 0] [] N') Qtq) : q73 dq nr np x4 N G Qtq := fun V' hV' hW' => b_226_73 (Tr_mono _) hV' hW' _ _ _ _ _ (Tr_ri h (fun v M1 hv => by
  by_cases c : v = 0
  · rw [if_pos c] at hv; exact hv.elim
  · rw [if_neg c] at hv ⊢
    exact Tr_rc hv (fun M2 h2 => h2 V' hV' hW')))
theorem q73_rt [Inhabited gh_] (hT : Tks M N) (hE : ER b F M N a 0) (hk : M 70 a = 1) (hr : 0 ≤ nr ∧ nr < 1000) (h : qRC dq nr N (fun N' => ∀ V' : vv_, Cl_ wd0 (Tr_ wd0 pg0 (dq + 19)) V' (rv_ G) Qtq m_226 → Wk_ V' → V' 49 [rr 6, ii 0, ii (nr + 1), ii np, ii 0] [] N') Qtq) : q73 dq nr np x4 N G Qtq := fun V' hV' hW' => b_226_73 (Tr_mono _) hV' hW' _ _ _ _ _ (j_228f hT hE (by decide) (by omega) (by
  rw [if_pos rfl]
  refine Tr_ri h (fun v M1 hv => ?_)
  by_cases c : v = 0
  · rw [if_pos c] at hv; exact hv.elim
  · rw [if_neg c] at hv ⊢
    rw [w32_id (x := nr + 1) (by omega) (by omega)]
    exact Tr_rc hv (fun M2 h2 => h2 V' hV' hW')))
theorem q73_pr [Inhabited gh_] (hT : Tks M N) (hE : ER b F M N a 0) (hk : M 70 a = 2) (hr : 0 ≤ np ∧ np < 1000) (h : qPC dq np N (fun N' => ∀ V' : vv_, Cl_ wd0 (Tr_ wd0 pg0 (dq + 19)) V' (rv_ G) Qtq m_226 → Wk_ V' → V' 49 [rr 6, ii 0, ii nr, ii (np + 1), ii 0] [] N') Qtq) : q73 dq nr np x4 N G Qtq := fun V' hV' hW' => b_226_73 (Tr_mono _) hV' hW' _ _ _ _ _ (j_228f hT hE (by decide) (by omega) (by
  rw [if_pos rfl]
  refine j_228f hT hE (by decide) (by omega) ?_
  rw [if_pos rfl]
  refine Tr_ri h (fun v M1 hv => ?_)
  by_cases c : v = 0
  · rw [if_pos c] at hv; exact hv.elim
  · rw [if_neg c] at hv ⊢
    rw [w32_id (x := np + 1) (by omega) (by omega)]
    exact Tr_rc hv (fun M2 h2 => h2 V' hV' hW')))
theorem q73_w [Inhabited gh_] (hT : Tks M N) (hE : ER b F M N a 0) (hb : b = 0) (hk : M 70 a ≠ 0 ∧ M 70 a ≠ 1 ∧ M 70 a ≠ 2) (h : ∀ M', SQp (flX_ M 1 a) N M' → G M') : q73 dq nr np x4 N G Qtq := fun V' hV' hW' => b_226_73 (Tr_mono _) hV' hW' _ _ _ _ _ (j_228f hT hE (by decide) hk.1 (by
  rw [if_pos rfl]
  refine j_228f hT hE (by decide) hk.2.1 ?_
  rw [if_pos rfl]
  refine j_228f hT hE (by decide) hk.2.2 ?_
  rw [if_pos rfl]
  have hsp := SQ_P (SQ_bf hE hb (k := 1) (by decide) (QA_rf (M := N)))
  exact j_234 hT hE hb (q49z hsp.1 (h _ hsp) V' hV' hW')))
/-- X: the kind of item -/
theorem x_25 [Inhabited gh_] (hV : Cl_ wd0 (Tr_ wd0 pg0 131) V (rv_ Kv) Qt m_102) (hW : Wk_ V) (hE : ER b F M N a 0) (h0 : M 70 a = 0 → Tr_ wd0 pg0 131 104 [.inr (.inr 1)] M (rv_ fun M9 => z102 V Kv Qt M9) Qt) (h1 : M 70 a = 1 → Tr_ wd0 pg0 131 122 [.inr (.inr 1)] M (rv_ fun M9 => z102 V Kv Qt M9) Qt) (h2 : M 70 a = 2 → Tr_ wd0 pg0 131 126 [.inr (.inr 1)] M (rv_ fun M9 => z102 V Kv Qt M9) Qt) (hw : M 70 a ≠ 0 → M 70 a ≠ 1 → M 70 a ≠ 2 → Qt 8 (flX_ M 1 a)) : V 25 [rr 1] [] M := by
  refine b_102_25 (Tr_mono _) hV hW _ (y_103 hE (fun c0 => ?_) (fun c0 => ?_))
  · rw [if_neg (by decide)]; exact h0 c0
  · rw [if_pos rfl]
    refine y_103 hE (fun c1 => ?_) (fun c1 => ?_)
    · rw [if_neg (by decide)]; exact h1 c1
    · rw [if_pos rfl]
      refine y_103 hE (fun c2 => ?_) (fun c2 => ?_)
      · rw [if_neg (by decide)]; exact h2 c2
      · rw [if_pos rfl]
        refine x_109 (ER_iX hE) ?_
        rw [if_neg (by decide), hE.2.1]
        exact hw c0 c1 c2
end SLb
end T293_sl
section T294_sl
/-! the system's loop, pass 1 -/
section SLc
variable {dq : Nat} {Kv : mm_ → Prop} {Qt : qt_} {V : vv_}
theorem l_25a [ig : Inhabited gh_] (hgh : GHP) (hV : Cl_ wd0 (Tr_ wd0 pg0 131) V (rv_ Kv) Qt m_102) (hW : Wk_ V) :
    ∀ (n : Nat) (a F ns nr np x4 : Int) (M N : mm_), 1201 - a ≤ (n : Int) → SYS 0 F M N a ns nr np → M 1 9 = 0 → (∀ r, 0 ≤ r → r < nr → RRW M N r) → (∀ T, 0 ≤ T → T < np → M 122 T = N 170 T ∧ N 170 T ≤ M 124 T) →
    (∀ F' M' N' a' ns' nr' np' m, SYS 0 F' M' N' a' ns' nr' np' → M' 70 a' = 102 → ((∀ r, 0 ≤ r → r < nr' → RRW M' N' r) ∧ ∀ T, 0 ≤ T → T < np' → M' 122 T = N' 170 T ∧ N' 170 T ≤ M' 124 T) → KEP M N M' N' ns nr np → (ns ≤ ns' ∧ nr ≤ nr' ∧ np ≤ np') → (XPb M M' ∧ QPb N N' ∧ M' 1 9 = 0 ∧ F' ≤ F ∧ M' 5 3 = M 5 3 ∧ M' 5 4 = M 5 4 ∧ M' 5 36 = M 5 36) → G1A F F' M' N' np' → SYG M' N' (m + 1) a ns nr np → (∀ (G : mm_ → Prop) (Qtq : qt_), G N' → q73 dq nr np x4 N G Qtq) → Kv M') →
    (∀ Mx', XPb M Mx' → (∀ (G : mm_ → Prop) (Qtq : qt_), (∀ M', SQp Mx' N M' → G M') → q73 dq nr np x4 N G Qtq) → Qt 8 Mx') →
    V 25 [rr 1] [] M
  | n, a, F, ns, nr, np, x4, M, N, hn, h, h9, hR, hP, hK, hQ => by
    have hE := h.1.1.2.1
    have hT := h.1.1.1
    have ha := ER_a hE
    have hpos := h.2.1.2.1
    have e5 := h.2.1.2.2 rfl
    have b51 := h.1.2.1.2.2.1.1
    have b52 := h.1.2.1.2.1.1.1
    -- behind an item
    have step : ∀ F1 M1 N1 a1 ns1 nr1 np1, SYS 0 F1 M1 N1 a1 ns1 nr1 np1 → a + 1 ≤ a1 → M1 1 9 = 0 → ((∀ r, 0 ≤ r → r < nr1 → RRW M1 N1 r) ∧ ∀ T, 0 ≤ T → T < np1 → M1 122 T = N1 170 T ∧ N1 170 T ≤ M1 124 T) → KEP M N M1 N1 ns nr np → (ns ≤ ns1 ∧ nr ≤ nr1 ∧ np ≤ np1) → (XPb M M1 ∧ QPb N N1 ∧ F1 ≤ F ∧ M1 5 3 = M 5 3 ∧ M1 5 4 = M 5 4 ∧ M1 5 36 = M 5 36) → G1S F F1 M N M1 N1 np1 → (∀ Mf Nf m, KEP M1 N1 Mf Nf ns1 nr1 np1 → ns1 ≤ Mf 5 0 → nr1 ≤ Mf 5 1 → np1 ≤ Mf 5 2 → SYG Mf Nf m a1 ns1 nr1 np1 → SYG Mf Nf (m + 1) a ns nr np) → (∀ (G : mm_ → Prop) (Qtq : qt_), q49 dq nr1 np1 N1 G Qtq → q73 dq nr np x4 N G Qtq) → z102 V Kv Qt M1 := fun F1 M1 N1 a1 ns1 nr1 np1 S1 ha1 h91 hR1 k1 l1 fr gs sy hq => by
      have q51 := S1.2.1.2.2 rfl
      have ga : G1A F F1 M1 N1 np1 := G1S_A gs k1 e5 (by omega)
      have hE1 := S1.1.1.2.1
      have hT1 := S1.1.1.1
      unfold z102
      refine y_103 hE1 (fun c => ?_) (fun c => ?_)
      · rw [if_neg (by decide)]
        have q5 := S1.2.1.2.2 rfl
        exact rv_i (hK F1 M1 N1 a1 ns1 nr1 np1 0 S1 c hR1 k1 l1 ⟨fr.1, fr.2.1, h91, fr.2.2⟩ ga (sy M1 N1 0 KEP_rf (by omega) (by omega) (by omega) ⟨c, q5.1.symm, q5.2.1.symm, q5.2.2.symm⟩) (fun G Qtq hg => hq G Qtq (q49_e hT1 hE1 c hg)))
      · rw [if_pos rfl]
        cases n with
        | zero => have := ER_a hE1; omega
        | succ n =>
          refine l_25a hgh hV hW n a1 F1 ns1 nr1 np1 0 M1 N1 (by omega) S1 h91 hR1.1 hR1.2 (fun F' M' N' a' ns' nr' np' m S' c' R' k' l' fr' ga' sy' hq' => ?_) (fun Mx' hx' hq' => ?_)
          · have q5 := S'.2.1.2.2 rfl
            exact hK F' M' N' a' ns' nr' np' (m + 1) S' c' R' (KEP_tr k1 k' l1.1 l1.2.1 l1.2.2) ⟨by omega, by omega, by omega⟩ ⟨XPb_tr fr.1 fr'.1, QPb_tr fr.2.1 fr'.2.1, fr'.2.2.1, by have := fr.2.2.1; have := fr'.2.2.2.1; omega, fr'.2.2.2.2.1.trans fr.2.2.2.1, fr'.2.2.2.2.2.1.trans fr.2.2.2.2.1, fr'.2.2.2.2.2.2.trans fr.2.2.2.2.2⟩ (G1A_tr ga S1 k' (by omega) (by omega) ga') (sy M' N' (m + 1) k' (by omega) (by omega) (by omega) sy') (fun G Qtq hg => hq G Qtq (q49_g hT1 hE1 c (hq' G Qtq hg)))
          · exact hQ Mx' (XPb_tr fr.1 hx') (fun G Qtq hg => hq G Qtq (q49_g hT1 hE1 c (hq' G Qtq fun M9 p => hg _ (SQp_tr fr.2.1 p))))
    refine x_25 hV hW hE (fun c => ?_) (fun c => ?_) (fun c => ?_) (fun c0 c1 c2 => ?_)
    · -- signals
      refine y_104 (dq := dq) h c (fun hb => by omega) (fun F1 M1 N1 a1 ns1 S1 ha1 hn1 xp sg r70 rw3 _ fF sy hq => ?_) (fun _ Mx' hx' hq' => ?_)
      · refine step F1 M1 N1 a1 ns1 nr np S1 (by omega) (by rw [sg.1.2.2 9 (by decide)]; exact h9) ⟨fun r r0 r1 => RRW_c (hR r r0 r1) r70 (sg.1.1 73 (by decide)) (sg.2.1 151 (by decide)) (by rw [sg.1.1 55 (by decide)]) (by rw [sg.1.1 57 (by decide)]) (fun k hk => by rw [sg.2.1 k (fun e => by simp only [List.mem_cons, List.not_mem_nil, or_false] at hk e; omega)]), fun T T0 T1 => by rw [sg.1.1 122 (by decide), sg.1.1 124 (by decide), sg.2.1 170 (by decide)]; exact hP T T0 T1⟩ ⟨⟨⟨r70, sg.1.1 71 (by decide), sg.1.1 73 (by decide)⟩, sg.2.1 151 (by decide)⟩, ⟨fun i _ i1 => rw3.1 i i1, fun i _ i1 => rw3.2 i i1⟩, fun i _ _ => by rw [sg.1.1 55 (by decide), sg.1.1 57 (by decide)]; exact ⟨rfl, rfl⟩, fun T _ _ => ⟨ROW_e (fun k hk => sg.1.1 k (fun e => by revert hk e; unfold rwX; simp only [List.mem_cons, List.not_mem_nil, or_false]; omega)) (fun k hk => sg.2.1 k (fun e => by revert hk e; unfold rwQ; simp only [List.mem_cons, List.not_mem_nil, or_false]; omega)), by rw [sg.1.1 122 (by decide)]⟩⟩ ⟨by omega, Int.le_refl _, Int.le_refl _⟩ ⟨xp, SGR_Q sg, fF.1, sg.1.2.1 3 (by decide), sg.1.2.1 4 (by decide), sg.1.2.1 36 (by decide)⟩ ((fF.2.2.1 rfl).imp id .inl) (fun Mf Nf m kf l0 l1 l2 sf => ?_) (fun G Qtq hg => q73_sg (hq _ _ hg))
        have e70 : Mf 70 = M 70 := kf.1.1.1.trans r70
        refine .inl ⟨by rw [e70]; exact c, a1, ns1, ?_, sf⟩
        rw [e70]
        exact sy _ _ _ (SGS_fin S1 rfl l0 hpos.1 kf)
      · exact hQ Mx' hx' (fun G Qtq hg => q73_sg (hq' _ _ fun M9 p => q49z p.1 (hg _ p)))
    · -- a route
      refine y_122 (dq := dq) h c (fun _ => h9) (fun hb => by omega) (fun F1 M1 N1 a1 m1 S1 E1 ea ro fF hq => ?_) (fun _ Mx' hx' hq' => ?_)
      · obtain ⟨⟨k57, k55, rq⟩, ⟨xr, xo, x5⟩, qr, qo, q6⟩ := ro.1 rfl
        have g5 := dle_le (κ := M 70) (a := a + 5)
        have e70 : M1 70 = M 70 := xr 70 (by decide)
        have e73 : M1 73 = M 73 := xr 73 (by decide)
        have e151 : N1 151 = N 151 := qr 151 (by decide)
        have xp : XPb M M1 := fun k hk => xr k (fun e => hk (by simp only [xpL, List.mem_cons, List.not_mem_nil, or_false] at e ⊢; omega))
        have qp : QPb N N1 := ⟨fun k hk => qr k (fun e => hk (by simp only [List.mem_cons, List.not_mem_nil, or_false] at e; unfold QPRr; omega)), fun i hi => q6 i (fun e => hi (by simp only [qpI, List.mem_cons, List.not_mem_nil, or_false] at e ⊢; omega))⟩
        · refine step F1 M1 N1 a1 ns (nr + 1) np S1 (by omega) (by rw [ro.2.2 9 (by decide)]; exact h9) ⟨fun r r0 r1 => ?_, fun T T0 T1 => by rw [xr 122 (by decide), xr 124 (by decide), qr 170 (by decide)]; exact hP T T0 T1⟩ ⟨⟨⟨e70, xr 71 (by decide), e73⟩, e151⟩, ⟨fun i _ i1 => by rw [xr 112 (by decide), xr 56 (by decide)]; exact ⟨rfl, rfl⟩, fun i _ i1 => by rw [xr 113 (by decide)]⟩, fun i _ i1 => xo i (by omega), fun T _ _ => ⟨ROW_e (fun k hk => xr k (fun e => by revert hk e; unfold rwX; simp only [List.mem_cons, List.not_mem_nil, or_false]; omega)) (fun k hk => qr k (fun e => by revert hk e; unfold rwQ; simp only [List.mem_cons, List.not_mem_nil, or_false]; omega)), by rw [xr 122 (by decide)]⟩⟩ ⟨Int.le_refl _, by omega, Int.le_refl _⟩ ⟨xp, qp, fF.1, x5 3 (by decide), x5 4 (by decide), x5 36 (by decide)⟩ ((fF.2.2.1 rfl).imp id fun z => .inr (.inl (by
            obtain ⟨⟨u, hu, he⟩, z⟩ := z
            have lt := h.1.2.2.2.1.2 rfl u hu
            exact ⟨u, a + 1, ⟨hu, .inr (.inl ⟨nr, by have := (S1.2.1.2.2 rfl).2.1; omega, k57⟩), by omega⟩, he, z⟩))) (fun Mf Nf m kf l0 l1 l2 sf => ?_) (fun G Qtq hg => q73_rt hT hE c (by omega) (hq _ _ hg))
          · by_cases cr : r = nr
            · rw [cr]
              unfold RRW
              rw [k55, k57, e70, e73]
              exact ⟨⟨gd_c e70 hE.1, c, rfl⟩, ⟨m1, E1⟩, rq⟩
            · exact RRW_c (hR r r0 (by omega)) e70 e73 e151 (xo r cr).1 (xo r cr).2 (fun k hk => qo k (by simp only [List.mem_cons, List.not_mem_nil, or_false] at hk ⊢; omega) r cr)
          · have f70 : Mf 70 = M 70 := kf.1.1.1.trans e70
            have f73 : Mf 73 = M 73 := kf.1.1.2.2.trans e73
            have kn := kf.2.2.1 nr (by omega) (by omega)
            refine .inr (.inl ⟨by rw [f70]; exact c, m1, by rw [f70, f73]; exact E1, ⟨by omega, by rw [kn.2]; exact k57, by rw [kn.1]; exact k55⟩, ?_⟩)
            rw [f70, ← ea]; exact sf
      · exact hQ Mx' hx' (fun G Qtq hg => q73_rt hT hE c (by omega) (hq' _ _ fun M9 p => q49z p.1 (hg _ p)))
    · -- a process
      refine y_126 (dq := dq) hgh h c (fun hb => by omega) (fun F1 M1 N1 Me a1 S1 P1 G1 ha1 eM _ sy hq => ?_) (fun _ Mx' hx' hq' => ?_)
      · have eM := eM rfl
        subst eM
        have pf := PRO_f h P1
        have e70 : Me 70 = M 70 := pf.1 70 (by decide)
        have e73 : Me 73 = M 73 := pf.1 73 (by decide)
        have e151 : N1 151 = N 151 := pf.2.2.2.1 151 (by decide)
        obtain ⟨g1, ah, g2, g3⟩ := G1.1 rfl
        have ty1 := S1.1.2.2.1 np hpos.2.2 (by rw [(S1.2.1.2.2 rfl).2.2]; omega)
        have gs1 : G1S F F1 M N Me N1 (np + 1) := by
          rcases g1 with z | ⟨⟨u, hu, he⟩, z⟩ | z | z
          · exact .inl z
          · have lt := h.1.2.2.2.1.2 rfl u hu
            have k58 : Me 58 np = a + 1 := PRO_58 P1
            exact .inr (.inr (.inl ⟨u, a + 1, ⟨hu, .inr (.inr ⟨np, by have := (S1.2.1.2.2 rfl).2.2; omega, k58⟩), by omega⟩, he, z⟩))
          · exact .inr (.inr (.inr ⟨np, by omega, .inl z⟩))
          · exact .inr (.inr (.inr ⟨np, by omega, .inr ((DUL_M ty1.2.2.2.2.1).1 z)⟩))
        refine step F1 Me N1 a1 ns nr (np + 1) S1 (by omega) (by rw [pf.2.2.1 9 (by decide)]; exact h9) ⟨fun r r0 r1 => RRW_c (hR r r0 r1) e70 e73 e151 (by rw [pf.1 55 (by decide)]) (by rw [pf.1 57 (by decide)]) (fun k hk => by rw [pf.2.2.2.1 k (fun e => by revert e hk; unfold prQ; simp only [List.mem_cons, List.not_mem_nil, or_false]; omega)]), fun T T0 T1 => by
          by_cases cT : T = np
          · rw [cT]; exact PRO_122 P1 rfl
          · have z := pf.2.2.2.2.2 T T0 cT
            rw [z.2.1, z.2.2, z.1.1.2.2.2.2.1]; exact hP T T0 (by omega)⟩ ⟨⟨⟨e70, pf.1 71 (by decide), e73⟩, e151⟩, ⟨fun i _ i1 => by rw [pf.1 112 (by decide), pf.1 56 (by decide)]; exact ⟨rfl, rfl⟩, fun i _ i1 => by rw [pf.1 113 (by decide)]⟩, fun i _ i1 => by rw [pf.1 55 (by decide), pf.1 57 (by decide)]; exact ⟨rfl, rfl⟩, fun T T0 T1 => ⟨(pf.2.2.2.2.2 T T0 (by omega)).1, (pf.2.2.2.2.2 T T0 (by omega)).2.1⟩⟩ ⟨Int.le_refl _, Int.le_refl _, by omega⟩ ⟨PRF_X pf, PRF_Q pf, (PRO_F P1).1, (PRO_53 P1 rfl).1, (PRO_53 P1 rfl).2, pf.2.1 36 (by decide)⟩ gs1 (fun Mf Nf m kf l0 l1 l2 sf => ?_) (fun G Qtq hg => q73_pr hT hE c (by omega) (hq _ _ hg))
        have f70 : Mf 70 = M 70 := kf.1.1.1.trans e70
        have f73 : Mf 73 = M 73 := kf.1.1.2.2.trans e73
        have ok := POK_fin (M := M) (N := N) S1 hpos.2.2 rfl l2 kf
        refine .inr (.inr ⟨by rw [f70]; exact c, a1, ?_, ⟨by omega, ah, ?_, fun u hu => g3 u ((DCL_row ty1.1 (kf.2.2.2 np hpos.2.2 (by omega)).1).1 hu)⟩, sf⟩)
        · rw [f70, f73]
          exact sy _ _ _ _ _ _ ok
        · rw [f70, f73]
          exact g2 _ _ _ _ _ _ ok
      · exact hQ Mx' hx' (fun G Qtq hg => q73_pr hT hE c (by omega) (hq' _ _ fun M9 p => q49z p.1 (hg _ p)))
    · exact hQ _ XPb_fl (fun G Qtq hg => q73_w hT hE rfl ⟨c0, c1, c2⟩ hg)
end SLc
end T294_sl
section T295_sl
/-! the system's loop, pass 2 -/
def fxX : List Nat := [55, 56, 57, 58, 69, 70, 71, 72, 73, 112, 113, 114, 115, 116, 117, 118, 119]
def fxQ : List Nat := [149, 150, 151, 152, 153, 154, 155, 156, 157, 158, 159, 160, 161, 162, 163, 164, 165, 166]
def FIX (M0 N0 M N : mm_) : Prop := (∀ k : Nat, k ∈ fxX → M k = M0 k) ∧ (M 5 0 = M0 5 0 ∧ M 5 1 = M0 5 1 ∧ M 5 2 = M0 5 2) ∧ (∀ k : Nat, k ∈ fxQ → N k = N0 k) ∧ (N 6 17 = N0 6 17 ∧ N 6 18 = N0 6 18 ∧ N 6 19 = N0 6 19) ∧ ∀ T, 0 ≤ T → T < M0 5 2 → TYS M0 N0 M N T
def IV1 (I : mm_ → mm_ → Int → Int → Prop) : Prop := ∀ M N M' N' np nr, I M N np nr → (∀ k : Nat, k ≠ 1 → M' k = M k) → (∀ i : Int, i ∉ [3, 4, 5, 7, 31, 32] → M' 1 i = M 1 i) → (∀ k : Nat, k ≠ 6 → N' k = N k) → (∀ i : Int, i ∉ [12, 13, 14] → N' 6 i = N 6 i) → (N' 6 13 = 0 → N 6 13 = 0) → I M' N' np nr
def IVR (I : mm_ → mm_ → Int → Int → Prop) : Prop := ∀ M N M' N' np nr, I M N np nr → (∀ k : Nat, k ≠ 1 → M' k = M k) → (∀ i : Int, i ∉ [3, 4, 5, 7, 31, 32] → M' 1 i = M 1 i) → (∀ k : Nat, k ≠ 6 → N' k = N k) → (∀ i : Int, i ∉ [12, 13, 14] → N' 6 i = N 6 i) → (N' 6 13 = 0 → N 6 13 = 0 ∧ M 114 (2 * nr) ≠ -1 ∧ M 114 (2 * nr + 1) ≠ -1 ∧ M 115 nr ≤ M 116 nr) → I M' N' np (nr + 1)
def IV2 [ig : Inhabited gh_] (I : mm_ → mm_ → Int → Int → Prop) : Prop := ∀ F F' M N M' N' Me a a' ns nr np, SYS 1 F M N a ns nr np → np < M 5 2 → I M N np nr → PRO 1 F F' M N M' N' np a a' → SYS 1 F' Me N' a' ns nr (np + 1) → (∃ f c j, Me = cmX M' f c j ∧ (N' 6 13 = 0 → ∃ n : Nat, CMD M' N' np (N 6 76) n c j ∧ N' 6 76 = N 6 76 + n)) → I Me N' (np + 1) nr
/-- names told twice are noted in pass 2 -/
def G1R (M N N1 N2 : mm_) (ns ns1 nr nr1 np np1 : Int) : Prop := kk_ (N2 6 13) (N2 6 14) ≤ kk_ (N1 6 13) (N1 6 14) ∧ (∀ k, ns ≤ k → k < ns1 → TDW M N (M 56 k) → kk_ (N2 6 13) (N2 6 14) ≤ 8 * M 71 (M 56 k) + 3) ∧ (∀ k, nr ≤ k → k < nr1 → TDW M N (M 57 k) → kk_ (N2 6 13) (N2 6 14) ≤ 8 * M 71 (M 57 k) + 3) ∧ (∀ k, np ≤ k → k < np1 → TDW M N (M 58 k) → kk_ (N2 6 13) (N2 6 14) ≤ 8 * M 71 (M 58 k) + 3) ∧ ∀ T, np ≤ T → T < np1 → ∀ f, (DUN M N T f ∨ DUM M N T f) → kk_ (N2 6 13) (N2 6 14) ≤ f
theorem G1R_tr [ig : Inhabited gh_] {M N N1 N2 N3 : mm_} {ns ns1 ns2 nr nr1 nr2 np np1 np2 : Int} (h : G1R M N N1 N2 ns ns1 nr nr1 np np1) (g : G1R M N N2 N3 ns1 ns2 nr1 nr2 np1 np2) : G1R M N N1 N3 ns ns2 nr nr2 np np2 := by
  obtain ⟨a1, a2, a3, a4, a5⟩ := h
  obtain ⟨b1, b2, b3, b4, b5⟩ := g
  refine ⟨by omega, fun k k0 k1 hk => ?_, fun k k0 k1 hk => ?_, fun k k0 k1 hk => ?_, fun T k0 k1 f hf => ?_⟩
  · by_cases c : k < ns1
    · have := a2 k k0 c hk; omega
    · exact b2 k (by omega) k1 hk
  · by_cases c : k < nr1
    · have := a3 k k0 c hk; omega
    · exact b3 k (by omega) k1 hk
  · by_cases c : k < np1
    · have := a4 k k0 c hk; omega
    · exact b4 k (by omega) k1 hk
  · by_cases c : T < np1
    · have := a5 T k0 c f hf; omega
    · exact b5 T (by omega) k1 f hf
section SLd
variable {dq : Nat} {Kv : mm_ → Prop} {Qt : qt_} {V : vv_} {M0 N0 M N M1 N1 M2 N2 : mm_} {T : Int}
theorem TYS_tr [ig : Inhabited gh_] (h : TYS M N M1 N1 T) (g : TYS M1 N1 M2 N2 T) : TYS M N M2 N2 T := ⟨⟨g.1.1.trans h.1.1, g.1.2.trans h.1.2⟩, ⟨g.2.1.1.trans h.2.1.1, g.2.1.2.trans h.2.1.2⟩, ⟨g.2.2.1.1.trans h.2.2.1.1, g.2.2.1.2.trans h.2.2.1.2⟩, g.2.2.2.trans h.2.2.2⟩
theorem TYS_e [ig : Inhabited gh_] (hx : ∀ k : Nat, k ∈ [5, 58, 60, 61, 62, 122, 124, 126, 128] → M1 k = M k) (hq : ∀ k : Nat, k ∈ [151, 174, 179] → N1 k = N k) : TYS M N M1 N1 T := by
  have u1 : ∀ (A : mm_) (k : Nat), k ≠ 1 → up_ A 1 18 T k = A k := fun A k hk => up_ne hk
  have u6 : ∀ (A : mm_) (k : Nat), k ≠ 6 → up_ A 6 61 T k = A k := fun A k hk => up_ne hk
  refine ⟨⟨?_, ?_⟩, ⟨by rw [hx 122 (by decide)], ?_⟩, ⟨?_, by rw [hx 124 (by decide)]⟩, by rw [hx 128 (by decide)]⟩
  · unfold TMT; rw [hx 5 (by decide), hx 58 (by decide)]
  · unfold DMs DMT
    rw [u1 M1 60 (by decide), u1 M 60 (by decide), u1 M1 61 (by decide), u1 M 61 (by decide), u1 M1 124 (by decide), u1 M 124 (by decide), u1 M1 126 (by decide), u1 M 126 (by decide), up_at, up_at, hx 60 (by decide), hx 61 (by decide), hx 124 (by decide), hx 126 (by decide)]
  · unfold LMs LMT
    rw [u1 M1 128 (by decide), u1 M 128 (by decide), u1 M1 62 (by decide), u1 M 62 (by decide), up_at, up_at, hx 128 (by decide), hx 62 (by decide)]
  · unfold SMs SMT stt
    rw [u6 N1 151 (by decide), u6 N 151 (by decide), u6 N1 174 (by decide), u6 N 174 (by decide), u6 N1 179 (by decide), u6 N 179 (by decide), up_at, up_at, hq 151 (by decide), hq 174 (by decide), hq 179 (by decide)]
theorem FIX_e [ig : Inhabited gh_] (h : FIX M0 N0 M N) (hx : ∀ k : Nat, k ≠ 1 → M1 k = M k) (hq : ∀ k : Nat, k ≠ 6 → N1 k = N k) (h6 : ∀ i : Int, i ∈ [17, 18, 19] → N1 6 i = N 6 i) : FIX M0 N0 M1 N1 := by
  obtain ⟨a1, a2, a3, a4, a5⟩ := h
  refine ⟨fun k hk => (hx k (fun e => by rw [e] at hk; revert hk; decide)).trans (a1 k hk), by rw [hx 5 (by decide)]; exact a2, fun k hk => (hq k (fun e => by rw [e] at hk; revert hk; decide)).trans (a3 k hk), by rw [h6 17 (by decide), h6 18 (by decide), h6 19 (by decide)]; exact a4, fun T T0 T1 => TYS_tr (a5 T T0 T1) (TYS_e (fun k hk => hx k (fun e => by rw [e] at hk; revert hk; decide)) (fun k hk => hq k (fun e => by rw [e] at hk; revert hk; decide)))⟩
theorem FIX_RTX [ig : Inhabited gh_] {r a : Int} (h : FIX M0 N0 M N) (hX : RTX M0 N0 r a) : RTX M N r a := by
  obtain ⟨a1, a2, a3, a4, a5⟩ := h
  have sg : sgl N = sgl N0 := sgl_e a4.1 (a3 152 (by decide))
  have tp : tpl N = tpl N0 := tpl_e a4.2.2 (a3 154 (by decide))
  unfold RTX sdv at hX ⊢
  rw [a1 114 (by decide), a1 115 (by decide), a1 116 (by decide), a1 117 (by decide), a1 118 (by decide), a1 119 (by decide), a1 70 (by decide), a1 73 (by decide), tp, a3 151 (by decide)]
  exact ⟨hX.1, hX.2.1, fun m hm => by rw [lsv_e sg (a3 151 (by decide))]; exact hX.2.2 m hm⟩
theorem FIX_TDW [ig : Inhabited gh_] {t : Int} (h : FIX M0 N0 M N) (g : TDW M0 N0 t) : TDW M N t := by
  obtain ⟨a1, ⟨b0, b1, b2⟩, a3, a4, a5⟩ := h
  unfold TDW GLM at g ⊢
  rw [b0, b1, b2, a1 56 (by decide), a1 57 (by decide), a1 58 (by decide), a3 151 (by decide)]
  exact g
theorem DMs_D [ig : Inhabited gh_] {t : Int} : DMs M T t = true ↔ DCL M T t := by
  refine ⟨fun h => ?_, DMT_of⟩
  unfold DMs at h
  have := DMT_D h
  rw [up_at] at this
  exact (DCL_c (up_ne (by decide)) (up_ne (by decide)) (up_ne (by decide)) (up_ne (by decide))).1 this
theorem FIX_DUN [ig : Inhabited gh_] {f : Int} (h : FIX M0 N0 M N) (ty : TYS M0 N0 M N T) (g : DUN M0 N0 T f) : DUN M N T f := DUN_c g (fun u hu => by rw [← DMs_D, ty.1.2, DMs_D]; exact hu) (h.1 71 (by decide)) (h.2.2.1 151 (by decide))
theorem LMs_e [ig : Inhabited gh_] {j t : Int} : LMs M T j t = true ↔ 0 ≤ j ∧ j < M 128 T ∧ M 62 (10 * T + j) = t := by
  unfold LMs LMT
  rw [decide_eq_true_eq, up_at, up_ne (by decide), up_ne (by decide)]
theorem FIX_DUM [ig : Inhabited gh_] {f : Int} (h : FIX M0 N0 M N) (ty : TYS M0 N0 M N T) (g : DUM M0 N0 T f) : DUM M N T f := by
  obtain ⟨k, i, z1, z2, z3⟩ := g
  have e : ∀ j, 0 ≤ j → j < M0 128 T → M 62 (10 * T + j) = M0 62 (10 * T + j) := fun j j0 j1 => by
    have := LMs_e.2 ⟨j0, j1, rfl⟩
    rw [← ty.2.1.2] at this
    exact (LMs_e.1 this).2.2
  exact ⟨k, i, by rw [ty.2.2.2]; exact z1, by rw [h.2.2.1 151 (by decide), e i (by omega) (by omega), e k (by omega) (by omega)]; exact z2, by rw [h.1 71 (by decide), e k (by omega) (by omega)]; exact z3⟩
theorem l_25b [ig : Inhabited gh_] {I : mm_ → mm_ → Int → Int → Prop} (hgh : GHP) (hV : Cl_ wd0 (Tr_ wd0 pg0 131) V (rv_ Kv) Qt m_102) (hW : Wk_ V) (hX : ∀ r, 0 ≤ r → r < M0 5 1 → RTX M0 N0 r (M0 55 r)) (i1 : IV1 I) (i3 : IVR I) (i2 : IV2 I) :
    ∀ (n : Nat) (a F ns nr np x4 : Int) (M N : mm_), SYS 1 F M N a ns nr np → FIX M0 N0 M N → SYG M0 N0 (n + 1) a ns nr np → I M N np nr →
    (∀ M' N' a', SYS 1 F M' N' a' (M0 5 0) (M0 5 1) (M0 5 2) → M' 70 a' = 102 → FIX M0 N0 M' N' → I M' N' (M0 5 2) (M0 5 1) → G1R M0 N0 N N' ns (M0 5 0) nr (M0 5 1) np (M0 5 2) → (∀ (G : mm_ → Prop) (Qtq : qt_), G N' → q73 dq nr np x4 N G Qtq) → Kv M') →
    V 25 [rr 1] [] M
  | n, a, F, ns, nr, np, x4, M, N, h, hF, hG, hI, hK => by
    have hE := h.1.1.2.1
    have hT := h.1.1.1
    have ha := ER_a hE
    have hpos := h.2.1.2.1
    have b51 := h.1.2.1.2.2.1.1
    have b52 := h.1.2.1.2.1.1.1
    have e70 : M 70 = M0 70 := hF.1 70 (by decide)
    have e73 : M 73 = M0 73 := hF.1 73 (by decide)
    have step : ∀ M1 N1 a1 ns1 nr1 np1, SYS 1 F M1 N1 a1 ns1 nr1 np1 → FIX M0 N0 M1 N1 → SYG M0 N0 n a1 ns1 nr1 np1 → I M1 N1 np1 nr1 → G1R M0 N0 N N1 ns ns1 nr nr1 np np1 → (∀ (G : mm_ → Prop) (Qtq : qt_), q49 dq nr1 np1 N1 G Qtq → q73 dq nr np x4 N G Qtq) → z102 V Kv Qt M1 := fun M1 N1 a1 ns1 nr1 np1 S1 F1 G1 I1 gr hq => by
      have hE1 := S1.1.1.2.1
      have hT1 := S1.1.1.1
      have f70 : M1 70 = M0 70 := F1.1 70 (by decide)
      unfold z102
      refine y_103 hE1 (fun c => ?_) (fun c => ?_)
      · rw [if_neg (by decide)]
        cases n with
        | zero =>
          obtain ⟨_, q1, q2, q3⟩ := G1
          rw [q1, q2, q3] at S1
          rw [q2, q3] at I1
          rw [q1, q2, q3] at gr
          exact rv_i (hK M1 N1 a1 S1 c F1 I1 gr (fun G Qtq hg => hq G Qtq (q49_e hT1 hE1 c hg)))
        | succ n =>
          exfalso
          rw [f70] at c
          rcases G1 with ⟨e, _⟩ | ⟨e, _⟩ | ⟨e, _⟩ <;> omega
      · rw [if_pos rfl]
        cases n with
        | zero => exfalso; rw [f70] at c; exact c G1.1
        | succ n =>
          exact l_25b hgh hV hW hX i1 i3 i2 n a1 F ns1 nr1 np1 0 M1 N1 S1 F1 G1 I1 (fun M' N' a' S' c' F' I' gr' hq' => hK M' N' a' S' c' F' I' (G1R_tr gr gr') (fun G Qtq hg => hq G Qtq (q49_g hT1 hE1 c (hq' G Qtq hg))))
    refine x_25 hV hW hE (fun c => ?_) (fun c => ?_) (fun c => ?_) (fun c0 c1 c2 => ?_)
    · rw [e70] at c
      rcases hG with ⟨_, a1, ns1, sy, G1⟩ | ⟨e, _⟩ | ⟨e, _⟩
      · have tsg : TSG M = TSG M0 := by unfold TSG; rw [hF.2.1.1, hF.1 56 (by decide)]
        have sy' : SGS (M 70) (M 113) (M 112) (TSG M) (a, ns) = some (a1, ns1) := by rw [e70, hF.1 113 (by decide), hF.1 112 (by decide), tsg]; exact sy
        refine y_104 (dq := dq) h (by rw [e70]; exact c) (fun _ => by rw [sy']; exact fun e => by cases e) (fun F1 M1 N1 a2 ns2 S1 ha1 hn1 xp sg r70 rw3 rb fF sy2 hq => ?_) (fun hb => by omega)
        have s2 := sy2 _ _ _ ⟨fun hb => by omega, fun _ => ⟨rfl, rfl, rfl⟩⟩
        rw [sy'] at s2
        injection s2 with s2
        injection s2 with s3 s4
        have fe := fF.2.1 rfl
        have gg := fF.2.2.2 rfl
        subst s3
        subst s4
        subst fe
        have q := sg.2.2.2 rfl
        exact step M1 N1 a1 ns1 nr np S1 (FIX_e hF (rb rfl) q.1 (fun i hi => q.2.1 i (fun e => by simp only [List.mem_cons, List.not_mem_nil, or_false] at hi e; omega))) G1 (i1 _ _ _ _ _ _ hI (rb rfl) (fun i hi => sg.1.2.2 i (fun e => hi (by simp only [List.mem_cons, List.not_mem_nil, or_false] at e ⊢; omega))) q.1 q.2.1 q.2.2) ⟨gg.1, fun k k0 k1 hk => by
          have := gg.2 k k0 k1 (by rw [hF.1 56 (by decide)]; exact FIX_TDW hF hk)
          rw [hF.1 56 (by decide), hF.1 71 (by decide)] at this; exact this, fun k k0 k1 => by omega, fun k k0 k1 => by omega, fun k k0 k1 => by omega⟩ (fun G Qtq hg => q73_sg (hq _ _ hg))
      · omega
      · omega
    · rw [e70] at c
      rcases hG with ⟨e, _⟩ | ⟨_, m1, E1, ⟨n1, k57, k55⟩, G1⟩ | ⟨e, _⟩
      · omega
      · refine y_122 (dq := dq) h (by rw [e70]; exact c) (fun hb => by omega) (fun _ => ⟨⟨m1, by rw [e70, e73]; exact E1⟩, ⟨by rw [hF.2.1.2.1]; exact n1, by rw [hF.1 57 (by decide)]; exact k57⟩, FIX_RTX hF (by have := hX nr hpos.2.1 n1; rw [k55] at this; exact this)⟩) (fun F1 M1 N1 a1 m2 S1 E2 ea ro fF hq => ?_) (fun hb => by omega)
        have r1 := ro.2.1 rfl
        have fe := fF.2.1 rfl
        have gg := fF.2.2.2 rfl
        subst fe
        rw [e70, e73] at E2
        have mm := LST_u m2 m1 _ E2.2.2.2.2.2.2 E1.2.2.2.2.2.2
        subst mm
        rw [e70] at ea
        subst ea
        exact step M1 N1 _ ns (nr + 1) np S1 (FIX_e hF r1.1 r1.2.1 (fun i hi => r1.2.2.2 i (fun e => by simp only [List.mem_cons, List.not_mem_nil, or_false] at hi e; omega))) G1 (i3 _ _ _ _ _ _ hI r1.1 (fun i hi => ro.2.2 i (fun e => hi (by simp only [List.mem_cons, List.not_mem_nil, or_false] at e ⊢; omega))) r1.2.1 r1.2.2.2 r1.2.2.1) ⟨gg.1, fun k k0 k1 => by omega, fun k k0 k1 hk => by
          have ek : k = nr := by omega
          rw [ek, k57] at hk ⊢
          have := gg.2 (FIX_TDW hF hk)
          rw [hF.1 71 (by decide)] at this; exact this, fun k k0 k1 => by omega, fun k k0 k1 => by omega⟩ (fun G Qtq hg => q73_rt hT hE (by rw [e70]; exact c) (by have e1 := hF.2.1.2.1; rw [e1] at b51; omega) (hq _ _ hg))
      · omega
    · rw [e70] at c
      rcases hG with ⟨e, _⟩ | ⟨e, _⟩ | ⟨_, a1, sy, ⟨n1, ah, hah, hdc⟩, G1⟩
      · omega
      · omega
      · have ty := hF.2.2.2.2 np hpos.2.2 n1
        have sy' : prcS (M 70) (M 73) (TMT M np) (DMs M np) (M 122 np) (LMs M np) (SMs N np) (M 128 np) a = some a1 := by
          rw [e70, e73, ty.1.1, ty.1.2, ty.2.1.1, ty.2.1.2, ty.2.2.1.1, ty.2.2.2]; exact sy
        refine y_126 (dq := dq) hgh h (by rw [e70]; exact c) (fun _ => by rw [sy']; exact fun e => by cases e) (fun F1 M1 N1 Me a2 S1 P1 PG ha1 _ eM sy2 hq => ?_) (fun hb => by omega)
        have s2 := sy2 _ _ _ _ _ _ ⟨fun hb => by omega, fun _ => ⟨rfl, rfl, rfl, rfl, rfl, rfl⟩⟩
        rw [sy'] at s2
        injection s2 with s3
        subst s3
        have fe := (PRO_F P1).2 rfl
        subst fe
        have eM1 := eM rfl
        obtain ⟨f, cc, j, eq, cm⟩ := eM1
        have nM : np < M 5 2 := by rw [hF.2.1.2.2]; exact n1
        have pf := PRO_f h P1
        have S1' : SYS 1 F1 M1 N1 a1 ns nr (np + 1) := PRO_SYS h P1 (by omega)
        have tp := TYS_PRO h rfl P1 S1'
        have cr : ∀ k : Nat, k ≠ 63 → k ≠ 67 → k ≠ 68 → Me k = M1 k := fun k h1 h2 h3 => by rw [eq]; exact cmX_r h1 h2 h3
        have F1' : FIX M0 N0 Me N1 := by
          obtain ⟨b1, b2, b3, b4, b5⟩ := hF
          refine ⟨fun k hk => ?_, ?_, fun k hk => ?_, ?_, fun T T0 T1 => ?_⟩
          · rw [cr k (fun e => by rw [e] at hk; revert hk; decide) (fun e => by rw [e] at hk; revert hk; decide) (fun e => by rw [e] at hk; revert hk; decide)]
            by_cases c58 : k = 58
            · rw [c58, tp.2.2.1]; exact b1 58 (by decide)
            · rw [pf.1 k (fun e => by revert hk e; unfold fxX prX; simp only [List.mem_cons, List.not_mem_nil, or_false]; omega)]
              exact b1 k hk
          · rw [cr 5 (by decide) (by decide) (by decide), pf.2.1 0 (by decide), pf.2.1 1 (by decide), tp.2.1]; exact b2
          · by_cases c154 : k = 154
            · rw [c154, tp.2.2.2.1]; exact b3 154 (by decide)
            · rw [pf.2.2.2.1 k (fun e => by revert hk e; unfold fxQ prQ; simp only [List.mem_cons, List.not_mem_nil, or_false]; omega)]
              exact b3 k hk
          · rw [pf.2.2.2.2.1.1 17 (by decide), pf.2.2.2.2.1.1 18 (by decide), tp.2.2.2.2]; exact b4
          · exact TYS_tr (b5 T T0 T1) (TYS_tr (tp.1 T T0 (by rw [b2.2.2]; exact T1)) (TYS_e (fun k hk => cr k (fun e => by rw [e] at hk; revert hk; decide) (fun e => by rw [e] at hk; revert hk; decide) (fun e => by rw [e] at hk; revert hk; decide)) (fun _ _ => rfl)))
        have gr : G1R M0 N0 N N1 ns ns nr nr np (np + 1) := by
          obtain ⟨p1, p2, p3, p4⟩ := PG.2 rfl
          refine ⟨p1, fun k k0 k1 => by omega, fun k k0 k1 => by omega, fun k k0 k1 hk => ?_, fun T k0 k1 f hf => ?_⟩
          · have ek : k = np := by omega
            have k58 : M0 58 np = a + 1 := by
              have := PRO_58 P1
              rw [tp.2.2.1, hF.1 58 (by decide)] at this; exact this
            rw [ek, k58] at hk ⊢
            have := p2 (FIX_TDW hF hk)
            rw [hF.1 71 (by decide)] at this; exact this
          · have ek : T = np := by omega
            rw [ek] at hf
            rcases hf with hf | hf
            · exact p3 ah (by rw [e70, e73, ty.1.2, ty.2.1.1]; exact hah) (fun u hu => hdc u (by rw [← DMs_D, ← ty.1.2, DMs_D]; exact hu)) f (FIX_DUN hF ty hf)
            · exact p4 f ((DUL_M (h.1.2.2.1 np hpos.2.2 nM).2.2.2.2.1).2 (FIX_DUM hF ty hf))
        exact step Me N1 a1 ns nr (np + 1) S1 F1' G1 (i2 _ _ _ _ _ _ _ _ _ _ _ _ h nM hI P1 S1 ⟨f, cc, j, eq, cm⟩) gr (fun G Qtq hg => q73_pr hT hE (by rw [e70]; exact c) (by have e1 := hF.2.1.2.2; rw [e1] at b52; omega) (hq _ _ hg))
    · exfalso
      rw [e70] at c0 c1 c2
      rcases hG with ⟨e, _⟩ | ⟨e, _⟩ | ⟨e, _⟩ <;> omega
end SLd
end T295_sl
section T296_gw
/-! growth at the system's level: what a process keeps, what it adds (pass 2) -/
def ttL : List Nat := [156, 157, 170, 171, 173, 174, 175, 182, 183, 184]
def OXS (lb ub : Int) (M M' : mm_) : Prop := (M 5 3 ≤ M' 5 3 ∧ M 5 4 ≤ M' 5 4) ∧ (∀ i, 0 ≤ i → i < M 5 3 → M' 142 i = M 142 i) ∧ (∀ r i, r ∈ st9L → 0 ≤ i → i < M 5 4 → M' r i = M r i) ∧ (∀ i, 0 ≤ i → i < 3 * M 5 4 → M' 137 i = M 137 i) ∧ (∀ i, i < lb ∨ ub ≤ i → M' 129 i = M 129 i)
def OQS (lb ub : Int) (N N' : mm_) : Prop := ((∀ r : Nat, r ∈ ttL → N' r = N r) ∧ (∀ i : Int, i ∈ [17, 18, 19] → N' 6 i = N 6 i)) ∧ (N 6 62 ≤ N' 6 62 ∧ N 6 63 ≤ N' 6 63 ∧ N 6 75 ≤ N' 6 75 ∧ N 6 76 ≤ N' 6 76 ∧ N 6 90 ≤ N' 6 90 ∧ N 6 104 ≤ N' 6 104)
  ∧ (∀ r i, r ∈ sq9L → 0 ≤ i → i < N 6 62 → N' r i = N r i) ∧ (∀ i, 0 ≤ i → i < N 6 63 → N' 200 i = N 200 i ∧ N' 201 i = N 201 i) ∧ (∀ i, 0 ≤ i → i < 3 * N 6 63 → N' 202 i = N 202 i) ∧ (∀ r i, r ∈ opL → 0 ≤ i → i < N 6 75 → N' r i = N r i) ∧ (∀ i, 0 ≤ i → i < 3 * N 6 75 → N' 209 i = N 209 i)
  ∧ (∀ r i, r ∈ rgR → 0 ≤ i → i < N 6 90 → N' r i = N r i) ∧ (∀ i, 0 ≤ i → i < N 6 104 → N' 227 i = N 227 i ∧ N' 228 i = N 228 i) ∧ (∀ r i, r ∈ tqL → 0 ≤ i → i < N 6 76 → N' r i = N r i) ∧ (∀ i, i < lb ∨ ub ≤ i → N' 188 i = N 188 i ∧ N' 189 i = N 189 i)
def SC2 (M N : mm_) : Prop := (0 ≤ N 6 62 ∧ 0 ≤ N 6 63 ∧ 0 ≤ N 6 75 ∧ 0 ≤ N 6 76) ∧ (∀ k, 0 ≤ k → k < N 6 62 → 0 ≤ N 198 k ∧ N 198 k ≤ N 199 k ∧ N 199 k ≤ N 6 63) ∧ xsf N (N 6 62).toNat = M 5 4
section GWa
variable {b F F' : Int} {M N M' N' M1 N1 : mm_} {lb ub T k c y i x me f a a' np ns nr : Int}
theorem OQS_tc [Inhabited gh_] (q : OQS lb ub N N1) : tc_ T N N1 := by
  have f := q.1.1
  have g := q.1.2
  exact ⟨⟨f 171 (by decide), f 173 (by decide), f 182 (by decide), f 183 (by decide), f 184 (by decide)⟩, f 156 (by decide), f 157 (by decide), f 170 (by decide), f 174 (by decide), by rw [f 175 (by decide)], g 17 (by decide), g 18 (by decide), g 19 (by decide)⟩
theorem ATP_S [Inhabited gh_] (h : ATP M N T k c) (o : OXS lb ub M M1) (q : OQS lb ub N N1) : ATP M1 N1 T k c := by
  obtain ⟨k0, k1, c0, c1, r0, r1, fe, px, L, h1, h2, h3, h4, h5, h6, h7, h8⟩ := h
  have tc := OQS_tc (T := T) q
  obtain ⟨m, a4, _⟩ := o
  obtain ⟨_, n, a3, _, _, a6, a7, a8, a9, _⟩ := q
  refine ⟨k0, k1, c0, c1, r0, r1, fe, px, L, by omega, by omega, by omega, by omega, h5, h6, fun k x y => ?_, h8⟩
  exact OPX_c (h7 k x y) (Int.le_refl _) (Int.le_refl _) (Int.le_refl _) (Int.le_refl _) (Int.le_refl _) y (fun i p q => h5 i (by omega) q) (fun _ _ _ => rfl) (fun _ h => h) (fun h => h) (fun i p q => a4 i (by omega) (by omega)) (fun i p q => ⟨a8 216 i (by decide) (by omega) (by omega), a8 217 i (by decide) (by omega) (by omega), a8 218 i (by decide) (by omega) (by omega), a8 219 i (by decide) (by omega) (by omega)⟩) (fun r hr => a6 r k hr (by omega) (by omega)) (fun i p q => a7 i (by omega) (by omega)) (fun i p q => a9 i p (by omega)) tc (Int.le_refl _)
theorem ASK_S [Inhabited gh_] (h : ASK M N T c f) (o : OXS lb ub M M1) (q : OQS lb ub N N1) : ASK M1 N1 T c f := by
  obtain ⟨c1, fe, h1, h2, h3, h4⟩ := h
  have tc := (OQS_tc (T := T) q).1
  obtain ⟨m, a4, _⟩ := o
  obtain ⟨_, n, a3, _, _, a6, a7, a8, a9, _⟩ := q
  obtain ⟨l, e1, e2, e3, e4, e5, e6, e7⟩ := id h3
  exact ⟨c1, fe, by omega, by omega, EXP_c h3 (fun i p q => a4 i (by omega) (by omega)) (fun i p q => a9 i (by omega) (by omega)) tc (Int.le_refl _), by rw [a4 c1 (by omega) (by omega)]; exact h4⟩
theorem RWI_S [Inhabited gh_] (h : RWI M N T c i) (o : OXS lb ub M M1) (q : OQS lb ub N N1) (hc : 0 ≤ c ∧ c < M 5 4) (hi : 0 ≤ i ∧ i < N 6 63) : RWI M1 N1 T c i := by
  obtain ⟨h0, h1, h2, h3, h4⟩ := h
  obtain ⟨m, a4, a5, a6, _⟩ := o
  obtain ⟨⟨f, _⟩, n, b3, b4, b5, _⟩ := q
  have u : UQI M1 c := fun y y0 y1 => by
    rw [a5 134 y (by decide) y0 (by omega), a5 133 y (by decide) y0 (by omega), a5 136 y (by decide) y0 (by omega), a5 135 y (by decide) y0 (by omega), a5 134 c (by decide) hc.1 hc.2, a5 136 c (by decide) hc.1 hc.2, a5 135 c (by decide) hc.1 hc.2]
    exact h0 y y0 y1
  unfold RWI
  rw [(b4 i hi.1 hi.2).1, (b4 i hi.1 hi.2).2, a5 138 c (by decide) hc.1 hc.2, f 171 (by decide), f 184 (by decide), f 183 (by decide), f 156 (by decide), f 157 (by decide), f 182 (by decide)]
  exact ⟨u, h1, h2, h3, fun v x y => by rw [a6 _ (by omega) (by omega), b5 _ (by omega) (by omega)]; exact h4 v x y⟩
theorem SRO_S [Inhabited gh_] (h : SRO M N k y i) (o : OXS lb ub M M1) (q : OQS lb ub N N1) (hk : 0 ≤ k ∧ k < N 6 62) (hy : 0 ≤ y ∧ y < M 5 4) (hi : N 193 k < 2 → 0 ≤ i ∧ i < N 6 63) : SRO M1 N1 k y i := by
  have b3 := q.2.2.1
  have a5 := o.2.2.1
  obtain ⟨h1, h2, h3, h4⟩ := h
  unfold SRO
  rw [b3 193 k (by decide) hk.1 hk.2, b3 192 k (by decide) hk.1 hk.2, b3 197 k (by decide) hk.1 hk.2, b3 196 k (by decide) hk.1 hk.2, b3 195 k (by decide) hk.1 hk.2, a5 141 y (by decide) hy.1 hy.2, a5 139 y (by decide) hy.1 hy.2, a5 140 y (by decide) hy.1 hy.2]
  refine ⟨fun e => ATP_S (h1 e) o q, fun e => ?_, fun e => ⟨ASK_S (h3 e).1 o q, (h3 e).2⟩, fun e => RWI_S (h4 e) o q hy (hi e)⟩
  rcases h2 e with h | h
  · exact .inl h
  · exact .inr (ASK_S h o q)
theorem nsK_S [Inhabited gh_] (q : OQS lb ub N N1) (hk : 0 ≤ k ∧ k < N 6 62) : nsK N1 k = nsK N k := by
  have b3 := q.2.2.1
  unfold nsK
  rw [b3 193 k (by decide) hk.1 hk.2, b3 198 k (by decide) hk.1 hk.2, b3 199 k (by decide) hk.1 hk.2]
theorem xsf_S [Inhabited gh_] (q : OQS lb ub N N1) : ∀ n : Nat, (n : Int) ≤ N 6 62 → xsf N1 n = xsf N n
  | 0, _ => rfl
  | n + 1, h => by
    show xsf N1 n + nsK N1 n = xsf N n + nsK N n
    rw [xsf_S q n (by omega), nsK_S q ⟨by omega, by omega⟩]
theorem nsK_2 [Inhabited gh_] (h : SC2 M N) (hk : 0 ≤ k ∧ k < N 6 62) : 0 ≤ nsK N k := by
  have := h.2.1 k hk.1 hk.2
  unfold nsK; split <;> omega
theorem xsf_2 [Inhabited gh_] (h : SC2 M N) : ∀ n : Nat, (n : Int) ≤ N 6 62 → 0 ≤ xsf N n ∧ ∀ m : Nat, m ≤ n → xsf N m ≤ xsf N n
  | 0, _ => ⟨Int.le_refl _, fun m hm => by rw [show m = 0 by omega]; exact Int.le_refl _⟩
  | n + 1, hn => by
    obtain ⟨r1, r2⟩ := xsf_2 h n (by omega)
    have n0 := nsK_2 h (k := (n : Int)) ⟨by omega, by omega⟩
    have e : xsf N (n + 1) = xsf N n + nsK N n := rfl
    refine ⟨by omega, fun m hm => ?_⟩
    by_cases c : m = n + 1
    · rw [c]; exact Int.le_refl _
    · have := r2 m (by omega); omega
theorem xsf_l2 [Inhabited gh_] (h : SC2 M N) {j : Int} (hk : 0 ≤ k ∧ k < N 6 62) (hj : 0 ≤ j ∧ j < nsK N k) : 0 ≤ xsf N k.toNat + j ∧ xsf N k.toNat + j < M 5 4 := by
  have r1 := (xsf_2 h k.toNat (by omega)).1
  have r2 := (xsf_2 h (N 6 62).toNat (by omega)).2 (k.toNat + 1) (by omega)
  have e : xsf N (k.toNat + 1) = xsf N k.toNat + nsK N k := by
    show xsf N k.toNat + nsK N (k.toNat : Int) = _
    rw [show ((k.toNat : Nat) : Int) = k by omega]
  rw [h.2.2] at r2
  omega
theorem SYS_SC2 [Inhabited gh_] (h : SYS b F M N a ns nr np) (hb : b = 1) : SC2 M N := by
  have c := h.1.2.2.2.2.1
  obtain ⟨⟨xs, hs⟩, hl⟩ := h.1.2.2.2.2.2 hb
  refine ⟨⟨c.2.2.2.2.2.2.1.1, c.2.2.2.2.2.2.2.1, c.1.1.1, c.2.1.1⟩, fun k k0 k1 => ?_, ?_⟩
  · have r := (hs.2 k k0 k1).2.2.2.1
    have e : agT N k = N 199 k := by
      unfold agT
      by_cases c : k = N 6 62 - 1
      · rw [if_pos c, c, hl (by omega)]
      · rw [if_neg c]
    rw [e] at r
    exact r
  · have h0 := c.2.2.2.2.2.2.1.1
    rw [← SRW_x hs hl _ (by omega), show (((N 6 62).toNat : Nat) : Int) = N 6 62 by omega]; exact hs.1.2.2
/-- what a process adds -/
def PGR (M N M' N' : mm_) (np : Int) : Prop := (OXS (10 * np) (10 * np + 10) M M' ∧ OQS (10 * np) (10 * np + 10) N N') ∧ ((∀ T, T ≠ np → M' 127 T = M 127 T ∧ N' 176 T = N 176 T) ∧ M' 67 = M 67 ∧ M' 68 = M 68 ∧ M' 123 = M 123)
  ∧ (N' 6 13 = 0 → N 6 13 = 0 ∧ (∀ k, N 6 62 ≤ k → k < N' 6 62 → ∀ j, 0 ≤ j → j < nsK N' k → SRO M' N' k (xsf N' k.toNat + j) (N' 198 k + j))
    ∧ (∀ l, 0 ≤ l → l < M' 1 19 → ATP M' N' np (N' 188 (10 * np + l)) (M' 129 (10 * np + l))) ∧ ATP M' N' np (N' 176 np) (M' 127 np) ∧ SBS M M' N' (N 6 75) (N' 6 75) ∧ GTB M N M' N')
theorem PRO_G [Inhabited gh_] (h : SYS 1 F M N a ns nr np) (hP : PRO 1 F F' M N M' N' np a a') : PGR M N M' N' np := by
  obtain ⟨F1, Mz, Nz, Ma, Na, Z, pz, k58, k52, ct, Ha, Mh, Nh, ah, c, Fh, Hh, ph, cb, cc, n170, S', P', f', at'⟩ := hP
  obtain ⟨e18, e19, e29, e33, e61⟩ := hd_18 ct
  rw [e18] at ph cb
  have z1 := pz.2.2.1 rfl
  have h18 : Mh 1 18 = np := by rw [ph.1.2.1 18 (by decide), up_ne (by decide)]; exact e18
  have b18 : sBX Mh 1 18 = np := by rw [sBX_1 (by decide)]; exact h18
  have b19 : sBX Mh 1 19 = 0 := by rw [sBX_1 (by decide), ph.1.2.1 19 (by decide), up_ne (by decide)]; exact e19
  have b29 : sBX Mh 1 29 = 0 := by rw [sBX_1 (by decide), ph.1.2.1 29 (by decide), up_ne (by decide)]; exact e29
  have m122 : up_ Ma 122 np c = Ma := by rw [cb rfl]; exact up_id
  have ph1 := ph.1
  rw [m122] at ph ph1
  have p1 := ph.2.2.1 rfl
  have xm : ∀ r : Nat, r ≠ 1 → r ≠ 120 → r ≠ 121 → Mh r = M r := fun r r1 h5 h6 => by
    rw [p1.1 r r1, ct.1 r r1 h5 h6, sT_r r1, z1.1 r r1]
  have qm : ∀ r : Nat, r ≠ 6 → r ≠ 168 → r ≠ 169 → Nh r = N r := fun r r6 h4 h5 => by
    rw [p1.2.1 r r6, ct.2.2.2.1 r r6 h4 h5, up_ne r6, z1.2.1 r r6]
  have q6 : ∀ i : Int, i ∉ [12, 13, 14, 15, 61] → Nh 6 i = N 6 i := fun i hi => by
    rw [ph1.2.2.2 i (fun e => hi (by simp only [List.mem_cons, List.not_mem_nil, or_false] at e ⊢; omega)), ct.2.2.2.2.2.1 i (nm_i hi (by decide)) (nm_i hi (by decide)) (nm_i hi (by decide)), up_of2 (nm_i hi (by decide)), z1.2.2.1 i (fun e => hi (by simp only [List.mem_cons, List.not_mem_nil, or_false] at e ⊢; omega))]
  have x1 : ∀ i : Int, i ∈ [21, 22, 23] → Mh 1 i = M 1 i := fun i hi => by
    simp only [List.mem_cons, List.not_mem_nil, or_false] at hi
    rw [ph1.2.1 i (by simp only [List.mem_cons, List.not_mem_nil, or_false]; omega), ct.2.2.1 i (by omega) (by omega) (by omega) (by omega), sT_1 (by omega) (by omega) (by omega) (by omega) (by omega), pz.1.2.2.2 i (by simp only [List.mem_cons, List.not_mem_nil, or_false]; omega)]
  have bx : ∀ r : Nat, r ≠ 1 → r ≠ 120 → r ≠ 121 → r ≠ 127 → sBX Mh r = M r := fun r r1 h5 h6 h7 => by rw [sBX_r h7 r1, xm r r1 h5 h6]
  have bq : ∀ r : Nat, r ≠ 6 → r ≠ 168 → r ≠ 169 → r ≠ 176 → sBQ Mh Nh r = N r := fun r r6 h4 h5 h7 => by rw [sBQ_r h7 r6, qm r r6 h4 h5]
  have bq6 : ∀ i : Int, i ∉ [12, 13, 14, 15, 61] → sBQ Mh Nh 6 i = N 6 i := fun i hi => by rw [sBQ_6 (nm_i hi (by decide)), q6 i hi]
  have bx1 : ∀ i : Int, i ∈ [21, 22, 23] → sBX Mh 1 i = M 1 i := fun i hi => by rw [sBX_1 (fun e => by rw [e] at hi; revert hi; decide), x1 i hi]
  have x5 : sBX Mh 5 = M 5 := bx 5 (by decide) (by decide) (by decide) (by decide)
  obtain ⟨⟨ox, oq⟩, d29, nw⟩ := P' rfl
  rw [b18, b19] at oq
  obtain ⟨o1, o2, o3, o4, o5, o6, o7⟩ := ox
  rw [b18, b19, bx 129 (by decide) (by decide) (by decide) (by decide)] at o7
  rw [x5] at o2 o3 o4 o5
  rw [bx 142 (by decide) (by decide) (by decide) (by decide)] at o3
  rw [bx 137 (by decide) (by decide) (by decide) (by decide)] at o5
  obtain ⟨⟨r1, r2⟩, r3, r4, r5, r6, r7, r8, r9, r10, r11, r12⟩ := oq
  have m176 : ∀ T, T ≠ np → N' 176 T = N 176 T := fun T hT => by
    rw [r1 176 (by decide)]
    unfold sBQ
    rw [h18, up_of2 hT, nx_ne (by decide), nx_ne (by decide), qm 176 (by decide) (by decide) (by decide)]
  have m127 : ∀ T, T ≠ np → M' 127 T = M 127 T := fun T hT => by
    rw [o1.1 127 (by decide)]
    unfold sBX
    rw [h18, up_of2 hT, nX_ne (by decide), nX_ne (by decide), xm 127 (by decide) (by decide) (by decide)]
  have l62 := bq6 62 (by decide)
  have l63 := bq6 63 (by decide)
  have l75 := bq6 75 (by decide)
  have l76 := bq6 76 (by decide)
  have l90 := bq6 90 (by decide)
  have l104 := bq6 104 (by decide)
  rw [l62, l63, l75, l76, l90, l104] at r3
  rw [l62] at r4
  rw [l63] at r5 r6
  rw [l75] at r7 r8
  rw [l90] at r9
  rw [l104] at r10
  rw [l76] at r11
  have ns5 := f'.2.2.2.1.2.2.2.2 rfl
  refine ⟨⟨⟨⟨o2.1, o2.2.1⟩, o3, fun r i hr i0 i1 => ?_, o5, fun i hi => o7 i (by omega)⟩, ⟨fun r hr => ?_, fun i hi => ?_⟩, r3, fun r i hr i0 i1 => ?_, fun i i0 i1 => ?_, fun i i0 i1 => ?_, fun r i hr i0 i1 => ?_, fun i i0 i1 => ?_, fun r i hr i0 i1 => ?_, fun i i0 i1 => ?_, fun r i hr i0 i1 => ?_, fun i hi => ?_⟩, ⟨fun T hT => ⟨m127 T hT, m176 T hT⟩, ?_, ?_, ?_⟩, fun hz => ?_⟩
  · rw [o4 r i hr i0 i1, bx r (fun e => by rw [e] at hr; revert hr; decide) (fun e => by rw [e] at hr; revert hr; decide) (fun e => by rw [e] at hr; revert hr; decide) (fun e => by rw [e] at hr; revert hr; decide)]
  · rw [r1 r (fun e => by revert hr e; unfold ttL qeL; simp only [List.mem_cons, List.not_mem_nil, or_false]; omega), bq r (fun e => by rw [e] at hr; revert hr; decide) (fun e => by rw [e] at hr; revert hr; decide) (fun e => by rw [e] at hr; revert hr; decide) (fun e => by rw [e] at hr; revert hr; decide)]
  · simp only [List.mem_cons, List.not_mem_nil, or_false] at hi
    rw [r2 i (by unfold qbI; simp only [List.mem_cons, List.not_mem_nil, or_false]; omega), bq6 i (by simp only [List.mem_cons, List.not_mem_nil, or_false]; omega)]
  · rw [r4 r i hr i0 i1, bq r (fun e => by rw [e] at hr; revert hr; decide) (fun e => by rw [e] at hr; revert hr; decide) (fun e => by rw [e] at hr; revert hr; decide) (fun e => by rw [e] at hr; revert hr; decide)]
  · rw [(r5 i i0 i1).1, (r5 i i0 i1).2, bq 200 (by decide) (by decide) (by decide) (by decide), bq 201 (by decide) (by decide) (by decide) (by decide)]; exact ⟨rfl, rfl⟩
  · rw [r6 i i0 i1, bq 202 (by decide) (by decide) (by decide) (by decide)]
  · rw [r7 r i hr i0 i1, bq r (fun e => by rw [e] at hr; revert hr; decide) (fun e => by rw [e] at hr; revert hr; decide) (fun e => by rw [e] at hr; revert hr; decide) (fun e => by rw [e] at hr; revert hr; decide)]
  · rw [r8 i i0 i1, bq 209 (by decide) (by decide) (by decide) (by decide)]
  · rw [r9 r i hr i0 i1, bq r (fun e => by rw [e] at hr; revert hr; decide) (fun e => by rw [e] at hr; revert hr; decide) (fun e => by rw [e] at hr; revert hr; decide) (fun e => by rw [e] at hr; revert hr; decide)]
  · rw [(r10 i i0 i1).1, (r10 i i0 i1).2, bq 227 (by decide) (by decide) (by decide) (by decide), bq 228 (by decide) (by decide) (by decide) (by decide)]; exact ⟨rfl, rfl⟩
  · rw [r11 r i hr i0 i1, bq r (fun e => by rw [e] at hr; revert hr; decide) (fun e => by rw [e] at hr; revert hr; decide) (fun e => by rw [e] at hr; revert hr; decide) (fun e => by rw [e] at hr; revert hr; decide)]
  · rw [(r12 i (by omega)).1, (r12 i (by omega)).2, bq 188 (by decide) (by decide) (by decide) (by decide), bq 189 (by decide) (by decide) (by decide) (by decide)]; exact ⟨rfl, rfl⟩
  · rw [o1.1 67 (by decide), bx 67 (by decide) (by decide) (by decide) (by decide)]
  · rw [o1.1 68 (by decide), bx 68 (by decide) (by decide) (by decide) (by decide)]
  · rw [ns5.2.1, bx 123 (by decide) (by decide) (by decide) (by decide)]
  · obtain ⟨z2, w1, w2, w3, w4, w5⟩ := nw hz
    have n0 : N 6 13 = 0 := by
      rw [sBQ_6 (by decide)] at z2
      have z3 := ct.2.2.2.2.2.2.2 rfl (p1.2.2 z2)
      rw [up_of2 (by decide)] at z3
      exact z1.2.2.2 z3
    rw [b18, b19] at w2
    rw [l62] at w1
    refine ⟨n0, w1, fun l l0 l1 => (w2 l l0 l1).1, ?_, ?_, ?_⟩
    · have := at' rfl hz
      rw [h18] at this
      have e1 : N' 176 np = Nh 6 75 := by
        rw [r1 176 (by decide)]; unfold sBQ; rw [h18, up_at]
      have e2 : M' 127 np = Mh 5 3 := by
        rw [o1.1 127 (by decide)]; unfold sBX; rw [h18, up_at]
      rw [e1, e2]; exact this
    · unfold SBS at w4 ⊢
      rw [bx1 21 (by decide), bx1 23 (by decide), l75] at w4
      exact w4
    · unfold GTB at w5 ⊢
      rw [bx1 22 (by decide), l62] at w5
      exact w5
end GWa
end T296_gw
