section T283_rt
/-! routes: the list of signals (X 122 V 351 | Q 245 V 155) -/
def LST (κ : Int → Int) : Nat → Int → Prop
  | 0, _ => False
  | m + 1, a => (κ a = 100 ∧ a + 1 < 1200) ∧ ((κ (a + 1) = 259 ∧ m = 0) ∨ (κ (a + 1) = 244 ∧ LST κ m (a + 2)))
def lsb (N : mm_) (a w : Int) : Int := if sgl N (N 151 a) = -1 then w else or_ w (sl_ 1 (sgl N (N 151 a)))
def lsv (N : mm_) : Nat → Int → Int → Int
  | 0, _, w => w
  | m + 1, a, w => lsv N m (a + 2) (lsb N a w)
def rqw (N : mm_) (r t v1 v2 x7 x8 x9 x10 : Int) : mm_ := up_ (up_ (up_ (up_ (up_ (up_ (up_ (up_ N 153 r (N 151 t)) 158 r v1) 159 r v2) 162 r x7) 163 r x8) 166 r x9) 165 r x10) 6 18 (N 6 18 + 1)
def q55 (dq : Nat) (r t v1 v2 x7 x8 x9 x10 : Int) (N : mm_) (G : mm_ → Prop) (Qt : qt_) : Prop := ∀ V : vv_, Cl_ wd0 (Tr_ wd0 pg0 (dq + 18)) V (rv_ G) Qt m_245 → Wk_ V → V 155 [rr 6, ii r, ii t, jj v1, none, jj v2, none, ii x7, ii x8, ii x9, ii x10, ii 1, none] [] N
section RTe
variable {d dq : Nat} {b F r t kk tk v x1 x2 x3 x5 x7 x8 x9 x10 x11 v1 v2 y1 y2 : Int} {K : Int → mm_ → Prop} {Kv G : mm_ → Prop} {Qt Qtq : qt_} {V V' : vv_} {M N Mx' M' N' M1 N1 M2 N2 : mm_} {a a' : Int}
theorem lsv_e [Inhabited gh_] (hs : sgl N1 = sgl N) (h151 : N1 151 = N 151) : ∀ (m : Nat) (a w : Int), lsv N1 m a w = lsv N m a w
  | 0, _, _ => rfl
  | m + 1, a, w => by
    unfold lsv
    rw [lsv_e hs h151 m, show lsb N1 a w = lsb N a w by unfold lsb; rw [hs, h151]]
theorem LST_u [Inhabited gh_] {κ : Int → Int} : ∀ (m m' : Nat) (a : Int), LST κ m a → LST κ m' a → m = m'
  | 0, _, _, h, _ => h.elim
  | _ + 1, 0, _, _, h => h.elim
  | m + 1, m' + 1, a, h, h' => by
    rcases h.2 with c | c
    · rcases h'.2 with c' | c'
      · omega
      · omega
    · rcases h'.2 with c' | c'
      · omega
      · rw [LST_u m m' (a + 2) c.2 c'.2]
theorem RLF_s [Inhabited gh_] (h : RLF b r M N M1 N1) : sgl N1 = sgl N ∧ N1 151 = N 151 ∧ tpl N1 = tpl N := ⟨sgl_e (h.2.2.1 17 (by decide)) (h.2.1 152 (by decide)), h.2.1 151 (by decide), tpl_e (h.2.2.1 19 (by decide)) (h.2.1 154 (by decide))⟩
theorem l_351 [Inhabited gh_] (hV : Cl_ wd0 (Tr_ wd0 pg0 130) V (rv_ Kv) Qt m_122) (hW : Wk_ V) (hr : 0 ≤ r ∧ r < 10) (hr1 : 0 ≤ x1 ∧ x1 < 10) (h9 : bl_ x9) (ht : 0 ≤ t ∧ t < 1202) : ∀ (n : Nat) (a : Int) (M N : mm_), 1201 - a ≤ (n : Int) → RL b F M N a → (b = 1 → ∃ m, LST (M 70) m a) → (b = 0 → 0 ≤ N 6 18 ∧ N 6 18 < 10)
    → (hK : ∀ M1 N1 a' m, RL b F M1 N1 a' → RLF b r M N M1 N1 → (M1 114 = M 114 ∧ M1 115 = M 115 ∧ M1 116 = M 116 ∧ M1 117 = M 117 ∧ M1 118 = M 118) → M1 119 r = lsv N m a (M 119 r) → LST (M 70) m a → a' = a + 2 * m → (∀ (G : mm_ → Prop) (Qtq : qt_), (b = 0 → G (rqw N1 x1 t v1 v2 x7 x8 x9 x10)) → (b = 1 → G N1) → q55 dq x1 t v1 v2 x7 x8 x9 x10 N G Qtq) → Kv M1)
    → (hQ : b = 0 → ∀ Mx', XPb M Mx' → (∀ (G : mm_ → Prop) (Qtq : qt_), (∀ M', SQp Mx' N M' → G M') → q55 dq x1 t v1 v2 x7 x8 x9 x10 N G Qtq) → Qt 8 Mx')
    → V 351 [rr 1, ii y1, ii y2, ii r, ii 1, none, none] [] M
  | n, a, M, N, hn, h, hS, h18, hK, hQ => by
    have hE := h.1.2.1
    have hT := h.1.1
    have ha := ER_a hE
    have h01 := bl01 hE
    refine b_122_351 (Tr_mono _) hV hW _ _ _ _ _ ?_
    rw [if_neg (by decide)]
    have hS1 : b = 1 → M 70 a = 100 ∧ a + 1 < 1200 := fun hb => by
      obtain ⟨m, hm⟩ := hS hb
      cases m with
      | zero => exact hm.elim
      | succ m => exact hm.1
    have toQ : ∀ {G : mm_ → Prop} {Qtq : qt_}, (∀ V' : vv_, Cl_ wd0 (Tr_ wd0 pg0 (dq + 18)) V' (rv_ G) Qtq m_245 → Wk_ V' → Tr_ wd0 pg0 (dq + 18) 233 [.inr (.inr 6)] N (ri_ fun v2' M2 =>
     (bl_ (M2 6 16) → (if M2 6 16 = 0 then
      V' 206 [rr 6, ii x1, ii t, jj v1, none, jj v2, none, ii x7, ii x8, ii x9, ii x10, ii 1, ii v2'] [] M2
     else
      (0 ≤ v2' ∧ v2' < 1202) ∧
       Tr_ wd0 pg0 (dq + 18) 251 [.inr (.inr 6), .inr (.inl (M2 151 v2'))] M2 (ri_ fun v3 M3 =>
       (if v3 < 0 then
        (0 ≤ v2' ∧ v2' < 1202) ∧
         Tr_ wd0 pg0 (dq + 18) 236 [.inr (.inr 6), .inl 4, .inl (M3 150 v2')] M3 (rv_ fun M4 =>
         V' 206 [rr 6, ii x1, ii t, jj v1, none, jj v2, none, ii x7, ii x8, ii x9, ii x10, ii 1, ii v2'] [] M4) Qtq
       else
        V' 206 [rr 6, ii x1, ii t, jj v1, none, jj v2, none, ii x7, ii x8, ii x9, ii x10, ii 1, ii v2'] [] M3)) Qtq))) Qtq) → q55 dq x1 t v1 v2 x7 x8 x9 x10 N G Qtq := fun hq V' hV' hW' => b_245_155 (Tr_mono _) hV' hW' _ _ _ _ _ _ _ _ _ _ (by
        rw [if_neg (by decide)]
        refine q_227g (ER_goq hE) ?_
        rw [if_pos rfl]
        exact hq V' hV' hW')
    have st206 : ∀ {G : mm_ → Prop} {Qtq : qt_} {V' : vv_} {N' : mm_} {y : Int}, Cl_ wd0 (Tr_ wd0 pg0 (dq + 18)) V' (rv_ G) Qtq m_245 → Wk_ V' → sp_ N' → G N' → V' 206 [rr 6, ii x1, ii t, jj v1, none, jj v2, none, ii x7, ii x8, ii x9, ii x10, ii 1, ii y] [] N' := fun hV' hW' hs hg => b_245_206 (Tr_mono _) hV' hW' _ _ _ _ _ _ _ _ _ _ _ (q_242s hs (q155_s hV' hW' hs hg))
    refine y_107 hE (fun hb => tS_o (hS1 hb).1 (by have := hS1 hb; omega)) (fun k1 h12 hE1 => ?_) (fun hb k1 h12 => ?_) (fun hb k1 => ?_)
    rotate_left
    · have hsp := SQ_bf hE hb (k := 2) (by decide) QA_rf
      exact hQ hb _ XPb_fl (fun G Qtq hg => toQ fun V' hV' hW' => j_233r hT hE hb k1 h12 (fun _ => by rw [if_pos hsp.1.2]; exact st206 hV' hW' hsp.1 (hg _ (SQ_P hsp))))
    · have hsp := SQ_bf hE hb (k := 1) (by decide) QA_rf
      exact hQ hb _ XPb_fl (fun G Qtq hg => toQ fun V' hV' hW' => j_233w hT hE hb k1 (fun _ => by rw [if_pos hsp.1.2]; exact st206 hV' hW' hsp.1 (hg _ (SQ_P hsp))))
    have R1 := RL_go h hE1
    have nmt : nm9_ (nX_ M) a := ⟨gd_c (nX_ne (by decide)) hE.1, by rw [nX_ne (by decide)]; exact k1⟩
    have e16 : nx_ N 6 16 = b := hE1.2.2.2.2.2.2.2.1
    have e8 : nX_ M 1 8 = b := hE1.2.2.2.2.2.2.1
    have q151 : nx_ N 151 = N 151 := nx_ne (by decide)
    have sge : sgl (nx_ N) = sgl N := sgl_e (nx_6 (by decide)) (nx_ne (by decide))
    have p15 : nx_ N 150 a = M 71 a := by rw [nx_ne (by decide)]; exact ((hT a hE.1).2.1).symm
    have sr : sgl N (N 151 a) = -1 ∨ (0 ≤ sgl N (N 151 a) ∧ sgl N (N 151 a) < 20) := by
      have c0 := h.2.1.1.1
      unfold sgl
      rcases fi_r (fun i => N 152 i) (N 151 a) (N 6 17).toNat 0 with e | e
      · exact .inl e
      · right; omega
    have b7 := R1.2.2
    -- behind the name
    have fin : ∀ Ma Na, RL b F Ma Na (a + 1) → RLN b M N Ma Na → (∀ (G : mm_ → Prop) (Qtq : qt_), (∀ V' : vv_, Cl_ wd0 (Tr_ wd0 pg0 (dq + 18)) V' (rv_ G) Qtq m_245 → Wk_ V' → V' 206 [rr 6, ii x1, ii t, jj v1, none, jj v2, none, ii x7, ii x8, ii x9, ii x10, ii 1, ii a] [] Na) → q55 dq x1 t v1 v2 x7 x8 x9 x10 N G Qtq) → V 390 [rr 1, ii y1, ii y2, ii r, ii 1, ii a, ii (sgl N (N 151 a))] [] Ma := fun Ma Na Ra fa hqa => by
      have Fa := RLN_F (r := r) fa
      have a119 : Ma 119 = M 119 := fa.1.1 119 (by decide)
      -- with the bit
      have tail : ∀ Mb, RL b F Mb Na (a + 1) → RLF b r M N Mb Na → (Mb 114 = M 114 ∧ Mb 115 = M 115 ∧ Mb 116 = M 116 ∧ Mb 117 = M 117 ∧ Mb 118 = M 118) → Mb 119 r = lsb N a (M 119 r) → Tr_ wd0 pg0 130 117 [.inr (.inr 1), .inl 44] Mb (ri_ fun w1 M1 =>
   (if w1 = 0 then
    V 351 [rr 1, ii y1, ii y2, ii r, ii w1, none, none] [] M1
   else
    Tr_ wd0 pg0 130 105 [.inr (.inr 1)] M1 (rv_ fun M2 =>
     V 351 [rr 1, ii y1, ii y2, ii r, ii w1, none, none] [] M2) Qt)) Qt := fun Mb Rb Fb rb bb => by
        have hEb := Rb.1.2.1
        have hTb := Rb.1.1
        obtain ⟨f70, f73, f71⟩ := RLF_70 Fb
        obtain ⟨s1, s2, _⟩ := RLF_s Fb
        refine y_117 hEb (by decide) (fun k2 => ?_) (fun k2 => ?_)
        · rw [if_neg (by decide)]
          have k2' : M 70 (a + 1) = 244 := by rw [← f70]; exact k2
          refine y_105 hEb (by rw [f70, k2']; decide) (fun hb => gS_o (hS1 hb).2) (fun h13 hE2 => ?_) (fun hb h13 => ?_)
          · cases n with
            | zero => omega
            | succ n' =>
              have R2 := RL_go Rb hE2
              have g2 : RLN b Mb Na (nX_ Mb) (nx_ Na) := RLN_go
              have F2 := RLF_tr Fb (RLN_F (r := r) g2)
              obtain ⟨t1, t2, _⟩ := RLF_s F2
              have x70 : nX_ Mb 70 = M 70 := (RLF_70 F2).1
              have e119 : nX_ Mb 119 r = lsb N a (M 119 r) := by rw [nX_ne (by decide)]; exact bb
              rw [show a + 1 + 1 = a + 2 by omega] at R2
              refine l_351 hV hW hr hr1 h9 ht n' (a + 2) (nX_ Mb) (nx_ Na) (by omega) R2 (fun hb => ?_) (fun hb => by rw [F2.2.2.1 18 (by decide)]; exact h18 hb) (fun M1 N1 a' m R3 F3 w3 v3 o3 a3 hq3 => ?_) (fun hb Mx' hx' hq' => ?_)
              · obtain ⟨m, hm⟩ := hS hb
                cases m with
                | zero => exact hm.elim
                | succ m =>
                  rcases hm.2 with c | c
                  · omega
                  · exact ⟨m, by rw [x70]; exact c.2⟩
              · rw [x70] at o3
                rw [lsv_e t1 t2, e119] at v3
                have xx : ∀ k : Nat, k ≠ 1 → nX_ Mb k = Mb k := fun k hk => nX_ne hk
                refine hK M1 N1 a' (m + 1) R3 (RLF_tr F2 F3) ⟨by rw [w3.1, xx 114 (by decide)]; exact rb.1, by rw [w3.2.1, xx 115 (by decide)]; exact rb.2.1, by rw [w3.2.2.1, xx 116 (by decide)]; exact rb.2.2.1, by rw [w3.2.2.2.1, xx 117 (by decide)]; exact rb.2.2.2.1, by rw [w3.2.2.2.2, xx 118 (by decide)]; exact rb.2.2.2.2⟩ v3 ⟨⟨k1, h13⟩, .inr ⟨k2', o3⟩⟩ (by rw [a3]; omega) (fun G Qtq g0 g1 => hqa G Qtq fun V' hV' hW' => b_245_206 (Tr_mono _) hV' hW' _ _ _ _ _ _ _ _ _ _ _ (j_242t hTb hEb (by decide) k2 h13 ?_))
                exact hq3 G Qtq g0 g1 V' hV' hW'
              · exact hQ hb Mx' (XPb_tr (RLF_X F2) hx') (fun G Qtq hg => hqa G Qtq fun V' hV' hW' => b_245_206 (Tr_mono _) hV' hW' _ _ _ _ _ _ _ _ _ _ _ (j_242t hTb hEb (by decide) k2 h13 (hq' G Qtq (fun M9 p => hg _ (SQp_tr (RLF_Q F2) p)) V' hV' hW')))
          · have hsp := SQ_bf hEb hb (k := 2) (by decide) QA_rf
            exact hQ hb _ (XPb_tr (RLF_X Fb) XPb_fl) (fun G Qtq hg => hqa G Qtq fun V' hV' hW' => b_245_206 (Tr_mono _) hV' hW' _ _ _ _ _ _ _ _ _ _ _ (j_242r hTb hEb hb (by decide) k2 h13 (q155_s hV' hW' hsp.1 (hg _ (SQp_tr (RLF_Q Fb) (SQ_P hsp))))))
        · rw [if_pos rfl]
          refine b_122_351 (Tr_mono _) hV hW _ _ _ _ _ ?_
          rw [if_pos rfl]
          have k2' : ¬ M 70 (a + 1) = 244 := by rw [← f70]; exact k2
          have toQ1 : ∀ {G : mm_ → Prop} {Qtq : qt_}, (∀ V' : vv_, Cl_ wd0 (Tr_ wd0 pg0 (dq + 18)) V' (rv_ G) Qtq m_245 → Wk_ V' → Tr_ wd0 pg0 (dq + 18) 244 [.inr (.inr 6), .inl 59] Na (rv_ fun M1 =>
  (bl_ (M1 6 16) → (if M1 6 16 = 0 then
   Tr_ wd0 pg0 (dq + 18) 227 [.inr (.inr 6)] M1 (ri_ fun w1 M2 =>
    (if w1 = 0 then
     (0 ≤ t ∧ t < 1202) ∧
      (0 ≤ x1 ∧ x1 < 10) ∧
      (0 ≤ x1 ∧ x1 < 10) ∧
      (0 ≤ x1 ∧ x1 < 10) ∧
      (0 ≤ x1 ∧ x1 < 10) ∧
      (0 ≤ x1 ∧ x1 < 10) ∧
      ((0 ≤ x1 ∧ x1 < 10) ∧ bl_ x9) ∧
      (0 ≤ x1 ∧ x1 < 10) ∧
      rv_ G [] (up_ (up_ (up_ (up_ (up_ (up_ (up_ (up_ M2 153 x1 (M2 151 t)) 158 x1 v1) 159 x1 v2) 162 x1 x7) 163 x1 x8) 166 x1 x9) 165 x1 x10) 6 18 (w32 ((M2 6 18) + 1)))
    else
     rv_ G [] M2)) Qtq
  else
   rv_ G [] M1))) Qtq) → q55 dq x1 t v1 v2 x7 x8 x9 x10 N G Qtq := fun {G Qtq} hq => hqa G Qtq fun V' hV' hW' => b_245_206 (Tr_mono _) hV' hW' _ _ _ _ _ _ _ _ _ _ _ (j_242f hTb hEb (by decide) k2 (b_245_155 (Tr_mono _) hV' hW' _ _ _ _ _ _ _ _ _ _ (by
            rw [if_pos rfl]
            exact b_245_217 (Tr_mono _) hV' hW' _ _ _ _ _ _ _ _ _ _ (hq V' hV' hW'))))
          have sfin : ∀ {G : mm_ → Prop} {Qtq : qt_} {N' : mm_}, sp_ N' → G N' → (bl_ (N' 6 16) → (if N' 6 16 = 0 then
   Tr_ wd0 pg0 (dq + 18) 227 [.inr (.inr 6)] N' (ri_ fun w1 M2 =>
    (if w1 = 0 then
     (0 ≤ t ∧ t < 1202) ∧
      (0 ≤ x1 ∧ x1 < 10) ∧
      (0 ≤ x1 ∧ x1 < 10) ∧
      (0 ≤ x1 ∧ x1 < 10) ∧
      (0 ≤ x1 ∧ x1 < 10) ∧
      (0 ≤ x1 ∧ x1 < 10) ∧
      ((0 ≤ x1 ∧ x1 < 10) ∧ bl_ x9) ∧
      (0 ≤ x1 ∧ x1 < 10) ∧
      rv_ G [] (up_ (up_ (up_ (up_ (up_ (up_ (up_ (up_ M2 153 x1 (M2 151 t)) 158 x1 v1) 159 x1 v2) 162 x1 x7) 163 x1 x8) 166 x1 x9) 165 x1 x10) 6 18 (w32 ((M2 6 18) + 1)))
    else
     rv_ G [] M2)) Qtq
  else
   rv_ G [] N')) := fun hs hg _ => by
            rw [if_pos hs.2]
            refine q_227s hs ?_
            rw [if_neg (by decide)]; exact rv_i hg
          refine y_121 hEb (by decide) (fun hb => ?_) (fun k3 h13 hE2 => ?_) (fun hb k3 h13 => ?_) (fun hb k3 => ?_)
          · obtain ⟨m, hm⟩ := hS hb
            cases m with
            | zero => exact hm.elim
            | succ m =>
              rcases hm.2 with c | c
              · rw [f70]; exact tS_o c.1 hm.1.2
              · exact absurd c.1 k2'
          · have R2 := RL_go Rb hE2
            have g2 : RLN b Mb Na (nX_ Mb) (nx_ Na) := RLN_go
            have F2 := RLF_tr Fb (RLN_F (r := r) g2)
            have k3' : M 70 (a + 1) = 259 := by rw [← f70]; exact k3
            have xx : ∀ k : Nat, k ≠ 1 → nX_ Mb k = Mb k := fun k hk => nX_ne hk
            refine rv_i (hK (nX_ Mb) (nx_ Na) (a + 1 + 1) 1 R2 F2 ⟨by rw [xx 114 (by decide)]; exact rb.1, by rw [xx 115 (by decide)]; exact rb.2.1, by rw [xx 116 (by decide)]; exact rb.2.2.1, by rw [xx 117 (by decide)]; exact rb.2.2.2.1, by rw [xx 118 (by decide)]; exact rb.2.2.2.2⟩ (by rw [xx 119 (by decide), bb]; rfl) ⟨⟨k1, h13⟩, .inl ⟨k3', rfl⟩⟩ (by omega) (fun G Qtq g0 g1 => toQ1 fun V' hV' hW' => j_244t hTb hEb (by decide) k3 h13 (fun _ => ?_)))
            have z16 : nx_ Na 6 16 = b := hE2.2.2.2.2.2.2.2.1
            have z18 : nx_ Na 6 18 = N 6 18 := F2.2.2.1 18 (by decide)
            rw [z16]
            rcases h01 with hb | hb
            · rw [if_pos hb]
              refine q_227g (ER_goq hE2) ?_
              rw [if_pos rfl, w32_id (x := nx_ Na 6 18 + 1) (by rw [z18]; have := h18 hb; omega) (by rw [z18]; have := h18 hb; omega)]
              exact ⟨ht, hr1, hr1, hr1, hr1, hr1, ⟨hr1, h9⟩, hr1, rv_i (g0 hb)⟩
            · rw [if_neg (by omega)]; exact rv_i (g1 hb)
          · have hsp := SQ_bf hEb hb (k := 2) (by decide) QA_rf
            exact hQ hb _ (XPb_tr (RLF_X Fb) XPb_fl) (fun G Qtq hg => toQ1 fun V' hV' hW' => j_244r hTb hEb hb (by decide) k3 h13 (sfin hsp.1 (hg _ (SQp_tr (RLF_Q Fb) (SQ_P hsp)))))
          · have hsp := SQ_bf hEb hb (k := 1) (by decide) QA_rf
            exact hQ hb _ (XPb_tr (RLF_X Fb) XPb_fl) (fun G Qtq hg => toQ1 fun V' hV' hW' => j_244w hTb hEb hb (by decide) k3 (sfin hsp.1 (hg _ (SQp_tr (RLF_Q Fb) (SQ_P hsp)))))
      have fx : ∀ k : Nat, k ≠ 1 → Ma k = M k := fa.1.1
      refine b_122_390 (Tr_mono _) hV hW _ _ _ _ _ _ _ ?_
      by_cases c : sgl N (N 151 a) = -1
      · rw [if_pos c]
        exact tail Ma Ra Fa ⟨fx _ (by decide), fx _ (by decide), fx _ (by decide), fx _ (by decide), fx _ (by decide)⟩ (by rw [a119]; unfold lsb; rw [if_pos c])
      · rw [if_neg c]
        refine ⟨Ra.1.2.2, hr, hr, ?_⟩
        refine tail _ (RL_up (by decide) Ra) (RLF_tr Fa (RLF_up (.inl ⟨by decide, rfl⟩))) ⟨by rw [up_ne (by decide)]; exact fx _ (by decide), by rw [up_ne (by decide)]; exact fx _ (by decide), by rw [up_ne (by decide)]; exact fx _ (by decide), by rw [up_ne (by decide)]; exact fx _ (by decide), by rw [up_ne (by decide)]; exact fx _ (by decide)⟩ (by rw [up_at, a119]; unfold lsb; rw [if_neg c])
    refine x_112s R1.1.1 R1.1.2.2 R1.2.1.1 nmt ?_
    rw [sge, q151]
    intro _
    rw [e8]
    rcases h01 with hb | hb
    · rw [if_pos hb]
      refine fin (nX_ M) (nx_ N) R1 RLN_go (fun G Qtq hq => toQ fun V' hV' hW' => j_233t hT hE k1 h12 (fun _ => ?_))
      rw [e16, if_pos hb]
      exact hq V' hV' hW'
    · rw [if_neg (by omega)]
      by_cases c : sgl N (N 151 a) = -1
      · rw [if_pos c]
        obtain ⟨R2, f2, _⟩ := RL_n (kk := 4) (tk := a) h hE1 (.inr (by decide)) hE.1
        have ex : Xn_ (nX_ M) b 4 a = nt1_ (nX_ M) 4 a := by unfold Xn_; rw [if_neg (by omega)]
        have eq : Qn_ (nx_ N) b 4 (M 71 a) = nt_ (nx_ N) 4 (M 71 a) := by unfold Qn_; rw [if_neg (by omega)]
        rw [ex, eq] at R2 f2
        refine x_116 (by omega) (by omega) hE1.2.2.2.2.2.2.2.2.2.2.2.1 (by omega) (fin _ _ R2 f2 (fun G Qtq hq => toQ fun V' hV' hW' => j_233t hT hE k1 h12 (fun _ => ?_)))
        rw [e16, if_neg (by omega)]
        refine ⟨by omega, q_251t (M := nX_ M) R1.2.1.1 ?_⟩
        rw [sge, q151, if_pos (by omega), p15]
        exact ⟨by omega, q_236 (hq V' hV' hW')⟩
      · rw [if_neg c]
        refine fin (nX_ M) (nx_ N) R1 RLN_go (fun G Qtq hq => toQ fun V' hV' hW' => j_233t hT hE k1 h12 (fun _ => ?_))
        rw [e16, if_neg (by omega)]
        refine ⟨by omega, q_251t (M := nX_ M) R1.2.1.1 ?_⟩
        rw [sge, q151, if_neg (by omega)]
        exact hq V' hV' hW'
end RTe
end T283_rt
section T284_rt
/-! a route more (pass 1) -/
def rx1_ (M : mm_) (t f : Int) : mm_ := up_ (up_ (up_ M 57 (M 5 1) t) 55 (M 5 1) f) 5 1 (M 5 1 + 1)
def rqv (N : mm_) (r t : Int) : mm_ := up_ (up_ N 153 r (N 151 t)) 6 18 (N 6 18 + 1)
section RTf
variable {b F F1 : Int} {M N M1 N1 : mm_} {a a1 T t f ns nr np r : Int}
theorem rx1_r [Inhabited gh_] {k : Nat} (h : k ≠ 5) (h1 : k ≠ 57) (h2 : k ≠ 55) : rx1_ M t f k = M k := by unfold rx1_; rw [up_ne h, up_ne h2, up_ne h1]
theorem rx1_k [Inhabited gh_] : rx1_ M t f 5 1 = M 5 1 + 1 ∧ rx1_ M t f 57 (M 5 1) = t ∧ rx1_ M t f 55 (M 5 1) = f := by
  unfold rx1_; exact ⟨up_at, by rw [up_ne (by decide), up_ne (by decide), up_at], by rw [up_ne (by decide), up_at]⟩
theorem rx1_5 [Inhabited gh_] {i : Int} (h : i ≠ 1) : rx1_ M t f 5 i = M 5 i := by unfold rx1_; rw [up_of2 h, up_ne (by decide), up_ne (by decide)]
theorem rx1_o [Inhabited gh_] {i : Int} (h : i ≠ M 5 1) : rx1_ M t f 57 i = M 57 i ∧ rx1_ M t f 55 i = M 55 i := by
  unfold rx1_; exact ⟨by rw [up_ne (by decide), up_ne (by decide), up_of2 h], by rw [up_ne (by decide), up_of2 h, up_ne (by decide)]⟩
theorem rqv_r [Inhabited gh_] {k : Nat} (h : k ≠ 6) (h1 : k ≠ 153) : rqv N r t k = N k := by unfold rqv; rw [up_ne h, up_ne h1]
theorem rqv_6 [Inhabited gh_] {i : Int} (h : i ≠ 18) : rqv N r t 6 i = N 6 i := by unfold rqv; rw [up_of2 h, up_ne (by decide)]
theorem rqv_o [Inhabited gh_] {i : Int} (hi : i ≠ r) : rqv N r t 153 i = N 153 i := by unfold rqv; rw [up_ne (by decide), up_of2 hi]
theorem rqv_k [Inhabited gh_] : rqv N r t 6 18 = N 6 18 + 1 ∧ rqv N r t 153 r = N 151 t := by
  unfold rqv
  exact ⟨up_at, by rw [up_ne (by decide), up_at]⟩
theorem SY_rt [Inhabited gh_] (h : SY0 b F M N a) (hb : b = 0) (ht : nm9_ M t) (hta : t < a) (hlt : ∀ u, GLM M u → u < t) (h6 : M 5 1 < 10) (hf : M 1 7 + 1 + 8 * (1201 - a) ≤ 1000000000 - (gg_ : Int)) : SY0 b (Fg_ F M N t) (rx1_ (gd1_ M N t) t f) (rqv (gq_ N t) (M 5 1) t) a := by
  obtain ⟨⟨s1, s2, s3⟩, ⟨g1, g2, g3, g4, g5⟩, ty, ⟨tp, gl⟩, ⟨⟨c1, c2, c3⟩, c4, c5, c6, c7, c8, c9, c10⟩, sr⟩ := h
  obtain ⟨⟨a1, a1'⟩, a2⟩ := g1
  obtain ⟨⟨a3, a3'⟩, a4, a5⟩ := g2
  obtain ⟨a6, a6'⟩ := g3
  obtain ⟨⟨u1, u2⟩, u3, u4, u5⟩ := g5
  have hpl := (s1 t ht.1).2.2.2.1
  have hp15 : N 150 t = M 71 t := (s1 t ht.1).2.1.symm
  have hF : Fg_ F M N t ≤ F := Fg_le
  have e50 : gd1_ M N t 5 1 = M 5 1 := by rw [gd1_r (by decide)]
  have x : ∀ k : Nat, k ∉ [1, 5, 55, 57] → rx1_ (gd1_ M N t) t f k = M k := fun k h => by rw [rx1_r (fun e => h (by rw [e]; decide)) (fun e => h (by rw [e]; decide)) (fun e => h (by rw [e]; decide)), gd1_r (fun e => h (by rw [e]; decide))]
  have xo : ∀ i : Int, i ≠ M 5 1 → rx1_ (gd1_ M N t) t f 57 i = M 57 i := fun i hi => by rw [(rx1_o (by rw [e50]; exact hi)).1, gd1_r (by decide)]
  have x5 : ∀ i : Int, i ≠ 1 → rx1_ (gd1_ M N t) t f 5 i = M 5 i := fun i h => by rw [rx1_5 h, gd1_r (by decide)]
  have x1 : rx1_ (gd1_ M N t) t f 1 = gd1_ M N t 1 := by rw [rx1_r (by decide) (by decide) (by decide)]
  have x1i : ∀ i : Int, i ≠ 4 → i ≠ 5 → i ≠ 7 → rx1_ (gd1_ M N t) t f 1 i = M 1 i := fun i h4 h5 h7 => by rw [x1]; exact gd1_1 h4 h5 h7
  have k50 : rx1_ (gd1_ M N t) t f 5 1 = M 5 1 + 1 := by rw [rx1_k.1, e50]
  have k57 : rx1_ (gd1_ M N t) t f 57 (M 5 1) = t := by
    have := (rx1_k (M := gd1_ M N t) (t := t) (f := f)).2.1
    rw [e50] at this; exact this
  have q : ∀ k : Nat, k ∉ [6, 153, 190, 191] → rqv (gq_ N t) (M 5 1) t k = N k := fun k h => by
    rw [rqv_r (fun e => h (by rw [e]; decide)) (fun e => h (by rw [e]; decide)), gq_r (fun e => h (by rw [e]; decide)) (fun e => h (by rw [e]; decide)) (fun e => h (by rw [e]; decide))]
  have qo : ∀ i : Int, i ≠ M 5 1 → rqv (gq_ N t) (M 5 1) t 153 i = N 153 i := fun i hi => by rw [rqv_o hi, gq_r (by decide) (by decide) (by decide)]
  have q6 : ∀ i : Int, i ≠ 18 → i ≠ 58 → rqv (gq_ N t) (M 5 1) t 6 i = N 6 i := fun i h h' => by rw [rqv_6 h, gq_6 h']
  have q58 : rqv (gq_ N t) (M 5 1) t 6 58 = N 6 58 + 1 := by rw [rqv_6 (by decide)]; exact gq_k.1
  have q190 : ∀ (k : Nat) (i : Int), k = 190 ∨ k = 191 → i ≠ N 6 58 → rqv (gq_ N t) (M 5 1) t k i = N k i := fun k i hr hi => by rw [rqv_r (by rcases hr with e | e <;> rw [e] <;> decide) (by rcases hr with e | e <;> rw [e] <;> decide), gq_o (by omega) hi]
  have q190k : rqv (gq_ N t) (M 5 1) t 190 (N 6 58) = N 151 t ∧ rqv (gq_ N t) (M 5 1) t 191 (N 6 58) = N 150 t := by rw [rqv_r (by decide) (by decide), rqv_r (by decide) (by decide)]; exact gq_k.2
  obtain ⟨l18, l153⟩ := rqv_k (N := gq_ N t) (r := M 5 1) (t := t)
  rw [gq_6 (by decide), a6.2.2] at l18
  rw [gq_r (by decide) (by decide) (by decide)] at l153
  have hE : ER b (Fg_ F M N t) (rx1_ (gd1_ M N t) t f) (rqv (gq_ N t) (M 5 1) t) a 0 := ER_1 (ER_gd (t := t) s2 hb (by omega) (by omega)) (by rw [rx1_r (by decide) (by decide) (by decide)]) (by rw [rx1_5 (by decide)]) (fun i _ => by rw [x1]) (fun i hi => q6 i (fun e => by rw [e] at hi; revert hi; decide) (fun e => by rw [e] at hi; revert hi; decide))
  have f7 := gd1_7 (M := M) (N := N) (t := t)
  rw [← x1] at f7
  clear x1
  generalize eM : rx1_ (gd1_ M N t) t f = M9 at *
  generalize eN : rqv (gq_ N t) (M 5 1) t = N9 at *
  have e70 := x 70 (by decide)
  have e71 := x 71 (by decide)
  have e151 := q 151 (by decide)
  have nm : ∀ u, nm9_ M u → nm9_ M9 u := fun u hu => nm9_r hu e70
  have hTk : Tks M9 N9 := Tks_r s1 (fun k hr => x k (fun e => by simp only [List.mem_cons, List.not_mem_nil, or_false] at hr e; omega)) (fun k hr => q k (fun e => by simp only [List.mem_cons, List.not_mem_nil, or_false] at hr e; omega))
  have glm : ∀ u, GLM M9 u ↔ GLM M u ∨ u = t := fun u => by
    unfold GLM
    rw [x5 2 (by decide), x5 0 (by decide), x 58 (by decide), x 56 (by decide), k50]
    constructor
    · rintro (h | ⟨k, hk, e⟩ | h)
      · exact .inl (.inl h)
      · by_cases c : k = M 5 1
        · rw [c, k57] at e; exact .inr e.symm
        · rw [xo k c] at e
          exact .inl (.inr (.inl ⟨k, by omega, e⟩))
      · exact .inl (.inr (.inr h))
    · rintro ((h | ⟨k, hk, e⟩ | h) | h)
      · exact .inl h
      · exact .inr (.inl ⟨k, by omega, by rw [xo k (by omega)]; exact e⟩)
      · exact .inr (.inr h)
      · exact .inr (.inl ⟨M 5 1, by omega, by rw [k57]; exact h.symm⟩)
  refine ⟨⟨hTk, hE, by rw [x1i 2 (by decide) (by decide) (by decide)]; exact s3⟩, ⟨?_, ?_, ?_, fun hb1 => by omega, ?_⟩, fun T T0 T1 => ?_, ⟨by rw [x5 2 (by decide), x 58 (by decide)]; exact tp, fun _ u hu => ?_⟩, ⟨⟨by rw [q6 75 (by decide) (by decide)]; exact c1, by rw [q6 104 (by decide) (by decide)]; exact c2, by rw [x5 3 (by decide)]; exact c3⟩, by rw [q6 76 (by decide) (by decide)]; exact c4, by omega, by rw [q6 90 (by decide) (by decide)]; exact c6, by rw [x1i 21 (by decide) (by decide) (by decide), x1i 23 (by decide) (by decide) (by decide)]; exact c7, by rw [x5 4 (by decide)]; exact c8, by rw [q6 62 (by decide) (by decide)]; exact c9, by rw [q6 63 (by decide) (by decide)]; exact c10⟩, fun hb1 => by omega⟩
  · unfold SGT sgl9
    rw [x5 0 (by decide), q6 17 (by decide) (by decide), x 56 (by decide), q 152 (by decide), e151, x 112 (by decide), x 113 (by decide), q 156 (by decide), q 157 (by decide)]
    exact ⟨⟨a1, fun k k0 k1 => ⟨nm _ (a1' k k0 k1).1, (a1' k k0 k1).2⟩⟩, a2⟩
  · unfold PRT tpl9
    rw [x5 2 (by decide), q6 19 (by decide) (by decide), x 58 (by decide), q 154 (by decide), e151, q 170 (by decide), q 182 (by decide), q 183 (by decide), x 122 (by decide), x 130 (by decide)]
    exact ⟨⟨a3, fun k k0 k1 => ⟨nm _ (a3' k k0 k1).1, (a3' k k0 k1).2⟩⟩, a4, a5⟩
  · unfold rtl9
    rw [k50, l18, e151]
    refine ⟨by omega, fun k k0 k1 => ?_⟩
    by_cases c : k = M 5 1
    · rw [c, k57, l153]; exact ⟨nm _ ht, rfl⟩
    · rw [xo k c, qo k c]
      have z := a6' k k0 (by omega)
      exact ⟨nm _ z.1, z.2⟩
  · unfold GLT
    rw [q58, x5 2 (by decide), x5 0 (by decide), k50, e151, e71, q 155 (by decide), x 56 (by decide)]
    refine ⟨by omega, fun i i0 i1 => ?_, fun u v hu hv he hl => ?_, u5.1, fun u hu => ?_⟩
    · by_cases c : i = N 6 58
      · rw [c, q190k.1, q190k.2]
        exact ⟨t, ⟨nm _ ht, (glm t).2 (.inr rfl)⟩, rfl, hp15⟩
      · rw [q190 190 i (.inl rfl) c, q190 191 i (.inr rfl) c]
        obtain ⟨u, hu, w⟩ := u3 i i0 (by omega)
        exact ⟨u, ⟨nm _ hu.1, (glm u).2 (.inl hu.2)⟩, w⟩
    · rcases (glm u).1 hu with hu | hu
      · rcases (glm v).1 hv with hv | hv
        · have := u4 u v hu hv he hl; omega
        · rw [hv] at he ⊢
          have told := GLM_told ⟨a1, a1'⟩ ⟨a6, a6'⟩ ⟨a3, a3'⟩ hu he
          unfold Fg_
          rw [if_neg told]; omega
      · rcases (glm v).1 hv with hv | hv
        · have := hlt v hv; omega
        · omega
    · rcases (glm u).1 hu with hu | hu
      · obtain ⟨i, hi, w⟩ := u5.2 u hu
        exact ⟨i, by omega, by rw [q190 190 i (.inl rfl) (by omega), q190 191 i (.inr rfl) (by omega)]; exact w⟩
      · rw [hu]; exact ⟨N 6 58, by omega, by rw [q190k.1, q190k.2]; exact ⟨rfl, hp15⟩⟩
  · rw [x5 2 (by decide)] at T1
    exact TYP_c (ty T T0 T1) (ROW_e (fun k hr => x k (fun e => by revert hr e; unfold rwX; simp only [List.mem_cons, List.not_mem_nil, or_false]; omega)) (fun k hr => q k (fun e => by revert hr e; unfold rwQ; simp only [List.mem_cons, List.not_mem_nil, or_false]; omega))) e70 e71 e151 hF (Int.le_refl _)
  · rcases (glm u).1 hu with h | h
    · exact gl hb u h
    · omega
/-- pass 1: rows that SY0 does not read -/
theorem SY_rl [Inhabited gh_] (h : SY0 b F M N a) (hb0 : b = 0) (hE : ER b F M1 N1 a1 0) (ha : a ≤ a1) (hx : ∀ r : Nat, r ∉ [1, 55, 114, 115, 116, 117, 118, 119] → M1 r = M r) (h1 : ∀ i : Int, i ∈ [2, 21, 23] → M1 1 i = M 1 i) (h7 : M1 1 7 + 8 * (1201 - a1) ≤ 1000000000 - (gg_ : Int)) (hq : ∀ r : Nat, r ∉ [6, 158, 159, 160, 161, 162, 163, 164, 165, 166] → N1 r = N r) (h6 : ∀ i : Int, i ∈ [17, 18, 19, 58, 62, 63, 75, 76, 90, 104] → N1 6 i = N 6 i) : SY0 b F M1 N1 a1 := by
  obtain ⟨⟨s1, s2, s3⟩, ⟨g1, g2, g3, g4, g5⟩, ty, ⟨tp, gl⟩, ⟨⟨c1, c2, c3⟩, c4, c5, c6, c7, c8, c9, c10⟩, sr⟩ := h
  have e5 := hx 5 (by decide)
  have e70 := hx 70 (by decide)
  have e71 := hx 71 (by decide)
  have e151 := hq 151 (by decide)
  have nm : ∀ u, nm9_ M u → nm9_ M1 u := fun u hu => nm9_r hu e70
  have glm : ∀ u, GLM M1 u ↔ GLM M u := fun u => by
    unfold GLM
    rw [e5, hx 56 (by decide), hx 57 (by decide), hx 58 (by decide)]
  obtain ⟨⟨a1', a1''⟩, a2⟩ := g1
  obtain ⟨⟨a3, a3'⟩, a4, a5⟩ := g2
  obtain ⟨a6, a6'⟩ := g3
  obtain ⟨u1, u3, u4, u5⟩ := g5
  refine ⟨⟨Tks_r s1 (fun r hr => hx r (fun e => by simp only [List.mem_cons, List.not_mem_nil, or_false] at hr e; omega)) (fun r hr => hq r (fun e => by simp only [List.mem_cons, List.not_mem_nil, or_false] at hr e; omega)), hE, by rw [h1 2 (by decide)]; exact s3⟩, ⟨?_, ?_, ?_, fun hb => by omega, ?_⟩, fun T T0 T1 => ?_, ⟨by rw [e5, hx 58 (by decide)]; exact tp, fun hb u hu => by have := gl hb u ((glm u).1 hu); omega⟩, ⟨⟨by rw [h6 75 (by decide)]; omega, by rw [h6 104 (by decide)]; omega, by rw [e5]; omega⟩, by rw [h6 76 (by decide)]; omega, h7, by rw [h6 90 (by decide)]; omega, by rw [h1 21 (by decide), h1 23 (by decide)]; exact c7, by rw [e5]; omega, by rw [h6 62 (by decide)]; omega, by rw [h6 63 (by decide)]; omega⟩, fun hb => by omega⟩
  · unfold SGT sgl9
    rw [e5, h6 17 (by decide), hx 56 (by decide), hq 152 (by decide), e151, hx 112 (by decide), hx 113 (by decide), hq 156 (by decide), hq 157 (by decide)]
    exact ⟨⟨a1', fun k k0 k1 => ⟨nm _ (a1'' k k0 k1).1, (a1'' k k0 k1).2⟩⟩, a2⟩
  · unfold PRT tpl9
    rw [e5, h6 19 (by decide), hx 58 (by decide), hq 154 (by decide), e151, hq 170 (by decide), hq 182 (by decide), hq 183 (by decide), hx 122 (by decide), hx 130 (by decide)]
    exact ⟨⟨a3, fun k k0 k1 => ⟨nm _ (a3' k k0 k1).1, (a3' k k0 k1).2⟩⟩, a4, a5⟩
  · unfold rtl9
    rw [e5, h6 18 (by decide), hx 57 (by decide), hq 153 (by decide), e151]
    exact ⟨a6, fun k k0 k1 => ⟨nm _ (a6' k k0 k1).1, (a6' k k0 k1).2⟩⟩
  · unfold GLT
    rw [h6 58 (by decide), e5, hq 190 (by decide), hq 191 (by decide), e151, e71, hq 155 (by decide), hx 56 (by decide)]
    refine ⟨u1, fun i i0 i1 => ?_, fun u v hu hv => u4 u v ((glm u).1 hu) ((glm v).1 hv), u5.1, fun u hu => u5.2 u ((glm u).1 hu)⟩
    obtain ⟨u, hu, w⟩ := u3 i i0 i1
    exact ⟨u, ⟨nm _ hu.1, (glm u).2 hu.2⟩, w⟩
  · rw [e5] at T1
    exact TYP_c (ty T T0 T1) (ROW_e (fun r hr => hx r (fun e => by revert hr e; unfold rwX; simp only [List.mem_cons, List.not_mem_nil, or_false]; omega)) (fun r hr => hq r (fun e => by revert hr e; unfold rwQ; simp only [List.mem_cons, List.not_mem_nil, or_false]; omega))) e70 e71 e151 (Int.le_refl _) ha
/-- from SYS to SYS, with a route more -/
theorem SYS_rt [Inhabited gh_] (h : SYS b F M N a ns nr np) (hY : SY0 b F1 M1 N1 a1) (h1 : M1 1 31 = M 1 31 ∧ M1 1 32 = nr + 1 ∧ M1 1 33 = M 1 33) (h5 : b = 0 → M1 5 0 = M 5 0 ∧ M1 5 1 = nr + 1) (h52 : M1 5 2 = M 5 2) (hx : ∀ r : Nat, r ∈ rwX → M1 r = M r) (hq : ∀ r : Nat, r ∈ rwQ → N1 r = N r) : SYS b F1 M1 N1 a1 ns (nr + 1) np := by
  obtain ⟨g1, ⟨⟨c1, c2, c3⟩, ⟨d1, d2, d3⟩, d4⟩, g3⟩ := h
  refine ⟨hY, ⟨⟨by rw [h1.1]; exact c1, h1.2.1, by rw [h1.2.2]; exact c3⟩, ⟨d1, by omega, d3⟩, fun hb => ⟨by rw [(h5 hb).1]; exact (d4 hb).1, (h5 hb).2, by rw [h52]; exact (d4 hb).2.2⟩⟩, fun T T0 T1 => ?_⟩
  rw [h52] at T1
  exact CNT_c (g3 T T0 T1) (ROW_e hx hq)
end RTf
end T284_rt
section T285_rt
/-! a route's name (X 122 V 0 | Q 228 [1] + 245 V 0) -/
def q46 (dq : Nat) (r t : Int) (N : mm_) (G : mm_ → Prop) (Qt : qt_) : Prop := ∀ V : vv_, Cl_ wd0 (Tr_ wd0 pg0 (dq + 18)) V (rv_ G) Qt m_245 → Wk_ V → Tr_ wd0 pg0 (dq + 18) 246 [.inr (.inr 6)] N (rl_ fun v1 M2 =>
   Tr_ wd0 pg0 (dq + 18) 244 [.inr (.inr 6), .inl 260] M2 (rv_ fun M3 =>
    Tr_ wd0 pg0 (dq + 18) 246 [.inr (.inr 6)] M3 (rl_ fun v2 M4 => q28V dq r t v1 v2 M4 V Qt) Qt) Qt) Qt
def qRC (dq : Nat) (nr : Int) (N : mm_) (G : mm_ → Prop) (Qt : qt_) : Prop := Tr_ wd0 pg0 (dq + 19) 228 [.inr (.inr 6), .inl 1] N (ri_ fun v M3 => if v = 0 then False else Tr_ wd0 pg0 (dq + 19) 245 [.inr (.inr 6), .inl nr] M3 (rv_ G) Qt) Qt
section RTg
variable {dq : Nat} {b F F1 : Int} {ns nr np t : Int} {Kv G : mm_ → Prop} {Qt Qtq : qt_} {V V' : vv_} {M N Mx' M' N' M1 N1 : mm_} {a a' : Int}
theorem SY_RL [Inhabited gh_] (h : SY0 b F M N a) : RL b F M N a := ⟨h.1, ⟨h.2.1.1.1, h.2.1.2.1.1⟩, h.2.2.2.2.1.2.2.1⟩
theorem q245z [Inhabited gh_] {x : Int} (hs : sp_ N) (h : G N) : Tr_ wd0 pg0 (dq + 19) 245 [.inr (.inr 6), .inl x] N (rv_ G) Qtq := t_245 fun V hV hW => b_245_0 (Tr_mono _) hV hW _ _ (q_233s hs (q_227s hs (by rw [if_neg (by decide)]; exact rv_i h)))
theorem y_rnm [Inhabited gh_] (hV : Cl_ wd0 (Tr_ wd0 pg0 130) V (rv_ Kv) Qt m_122) (hW : Wk_ V) (h : SYS b F M N a ns nr np) (hk : M 70 a = 1) (h9 : b = 0 → M 1 9 = 0) (hS : b = 1 → (M 70 (a + 1) = 100 ∧ a + 1 < 1200) ∧ nr < M 5 1 ∧ M 57 nr = a + 1)
    (hK : ∀ F1 Mz Nz, (b = 0 → SY0 b F1 Mz (rqv Nz nr (a + 1)) (a + 2) ∧ Mz = rx1_ (gd1_ (nX_ (nX_ M)) (nx_ (nx_ N)) (a + 1)) (a + 1) a ∧ Nz = gq_ (nx_ (nx_ N)) (a + 1) ∧ N 6 18 = nr ∧ M 5 1 = nr) → (b = 1 → SY0 b F1 Mz Nz (a + 2) ∧ Mz = nX_ (nX_ M) ∧ GWI (nx_ (nx_ N)) (a + 1) Nz) → RL b F1 Mz Nz (a + 2) → Mz 57 nr = a + 1 → (0 ≤ nr ∧ nr < Mz 5 1 ∧ nr < 10) → (F1 ≤ F ∧ (b = 1 → F1 = F) ∧ GNO b F F1 M N Nz (a + 1)) → (M 70 (a + 1) = 100 ∧ a + 1 < 1200) → (∀ (G : mm_ → Prop) (Qtq : qt_), q46 dq nr (a + 1) Nz G Qtq → qRC dq nr N G Qtq) → V 103 [rr 1, ii a, ii (a + 1), none, none, none, none] [] Mz)
    (hQ : b = 0 → ∀ Mx', XPb M Mx' → (∀ (G : mm_ → Prop) (Qtq : qt_), (∀ M', SQp Mx' N M' → G M') → qRC dq nr N G Qtq) → Qt 8 Mx') :
    V 0 [rr 1, none, none, none, none, none, none] [] M := by
  have hE := h.1.1.2.1
  have hT := h.1.1.1
  have ha := ER_a hE
  have h01 := bl01 hE
  have hnr := h.2.1.2.1.2.1
  have fl := h.1.2.2.2.2.1.2.2.1
  refine b_122_0 (Tr_mono _) hV hW _ ?_
  refine y_105 hE (by omega) (fun hb => gS_o (by have := hS hb; omega)) (fun h12 hE1 => ?_) (fun hb h12 => ?_)
  rotate_left
  · have hsp := SQ_bf hE hb (k := 2) (by decide) QA_rf
    exact hQ hb _ XPb_fl (fun G Qtq hg => j_228r hT hE hb (by decide) hk h12 (by rw [if_neg (by decide)]; exact q245z hsp.1 (hg _ (SQ_P hsp))))
  have S1 := SYS_go h hE1
  have hT1 := S1.1.1.1
  have x70 : nX_ M 70 = M 70 := nX_ne (by decide)
  have toQ : ∀ {G : mm_ → Prop} {Qtq : qt_}, (∀ V' : vv_, Cl_ wd0 (Tr_ wd0 pg0 (dq + 18)) V' (rv_ G) Qtq m_245 → Wk_ V' → Tr_ wd0 pg0 (dq + 18) 233 [.inr (.inr 6)] (nx_ N) (ri_ fun v1 M1 =>
  Tr_ wd0 pg0 (dq + 18) 227 [.inr (.inr 6)] M1 (ri_ fun v2 M2 =>
   (if v2 = 0 then
    (bl_ (M2 6 16) → (if M2 6 16 = 0 then
     (if nr = 10 then
      (0 ≤ v1 ∧ v1 < 1202) ∧
       Tr_ wd0 pg0 (dq + 18) 231 [.inr (.inr 6), .inl 2, .inl (M2 150 v1)] M2 (rv_ fun M3 =>
       rv_ G [] M3) Qtq
     else
      V' 38 [rr 6, ii nr, ii v1, none, none, none, none, none, none, none, none, none, none] [] M2)
    else
     V' 38 [rr 6, ii nr, ii v1, none, none, none, none, none, none, none, none, none, none] [] M2))
   else
    rv_ G [] M2)) Qtq) Qtq) → qRC dq nr N G Qtq := fun hq => j_228t hT hE (by decide) hk h12 (by
      rw [if_neg (by decide)]
      exact t_245 fun V' hV' hW' => b_245_0 (Tr_mono _) hV' hW' _ _ (hq V' hV' hW'))
  refine y_107 hE1 (fun hb => by rw [x70]; exact tS_o (hS hb).1.1 (hS hb).1.2) (fun k1 h13 hE2 => ?_) (fun hb k1 h13 => ?_) (fun hb k1 => ?_)
  rotate_left
  · have hsp := SQ_bf hE1 hb (k := 2) (by decide) QA_rf
    exact hQ hb _ (XPb_tr XPb_nX XPb_fl) (fun G Qtq hg => toQ fun V' hV' hW' => j_233r hT1 hE1 hb k1 h13 (q_227s hsp.1 (by rw [if_neg (by decide)]; exact rv_i (hg _ (SQp_tr QPb_nx (SQ_P hsp))))))
  · have hsp := SQ_bf hE1 hb (k := 1) (by decide) QA_rf
    exact hQ hb _ (XPb_tr XPb_nX XPb_fl) (fun G Qtq hg => toQ fun V' hV' hW' => j_233w hT1 hE1 hb k1 (q_227s hsp.1 (by rw [if_neg (by decide)]; exact rv_i (hg _ (SQp_tr QPb_nx (SQ_P hsp))))))
  have S2 := SYS_go S1 hE2
  have hT2 := S2.1.1.1
  have k1' : M 70 (a + 1) = 100 := by rw [← x70]; exact k1
  have r2 : ∀ r : Nat, r ≠ 1 → nX_ (nX_ M) r = M r := fun r h => by rw [nX_ne h, nX_ne h]
  have nmt : nm9_ (nX_ (nX_ M)) (a + 1) := ⟨gd_c (nX_ne (by decide)) hE1.1, by rw [r2 70 (by decide)]; exact k1'⟩
  have e8 : nX_ (nX_ M) 1 8 = b := hE2.2.2.2.2.2.2.1
  have e16 : nx_ (nx_ N) 6 16 = b := hE2.2.2.2.2.2.2.2.1
  have e12 : nX_ (nX_ M) 1 2 = 5 := S2.1.1.2.2
  have e5 : nX_ (nX_ M) 5 = M 5 := r2 5 (by decide)
  have e13 : M 1 3 = a := hE.2.1
  have glu := S2.1.2.1.2.2.2.2
  have s5 := S2.1.2.1.1.1.1
  have r5 := S2.1.2.1.2.2.1.1
  have p5 := S2.1.2.1.2.1.1.1
  have g1 := glu.1
  rw [e5] at s5 r5 p5 g1
  have f7 : nX_ (nX_ M) 1 7 = M 1 7 := by rw [nX_1 (by decide), nX_1 (by decide)]
  have toQ2 : ∀ {G : mm_ → Prop} {Qtq : qt_}, (b = 0 → nr ≠ 10) → (∀ V' : vv_, Cl_ wd0 (Tr_ wd0 pg0 (dq + 18)) V' (rv_ G) Qtq m_245 → Wk_ V' → V' 38 [rr 6, ii nr, ii (a + 1), none, none, none, none, none, none, none, none, none, none] [] (nx_ (nx_ N))) → qRC dq nr N G Qtq := fun h6 hq => toQ fun V' hV' hW' => j_233t hT1 hE1 k1 h13 (q_227g (ER_goq hE2) (by
    rw [if_pos rfl]
    intro _
    rw [e16]
    rcases h01 with hb | hb
    · rw [if_pos hb, if_neg (h6 hb)]; exact hq V' hV' hW'
    · rw [if_neg (by omega)]; exact hq V' hV' hW'))
  intro _
  rw [e8, e13]
  rcases h01 with hb | hb
  · rw [if_pos hb]
    intro _
    have e51 : M 5 1 = nr := (h.2.1.2.2 hb).2.1
    have e9 : nX_ (nX_ M) 1 9 = 0 := by rw [nX_1 (by decide), nX_1 (by decide)]; exact h9 hb
    rw [if_pos e9]
    refine ⟨e12, ?_⟩
    rw [e5, e51]
    by_cases c6 : nr = 10
    · rw [if_pos c6]
      refine x_110 (by omega) (by omega) (fun e => absurd e (by decide)) (fun _ => ?_)
      have e150 : nx_ (nx_ N) 150 (a + 1) = nX_ (nX_ M) 71 (a + 1) := ((hT2 (a + 1) nmt.1).2.1).symm
      have sp2 : sp_ (bf_ (nx_ (nx_ N)) 2 (nX_ (nX_ M) 71 (a + 1))) := bf_sp (e16.trans hb) (by decide)
      refine hQ hb _ (XPb_tr (XPb_tr XPb_nX XPb_nX) XPb_fl) (fun G Qtq hg => toQ fun V' hV' hW' => j_233t hT1 hE1 k1 h13 (q_227g (ER_goq hE2) ?_))
      rw [if_pos rfl]
      intro _
      rw [e16, if_pos hb, if_pos c6]
      refine ⟨by omega, q_231o (hE2.2.2.2.2.2.2.2.2.2.1 hb) ?_⟩
      rw [e150]
      refine rv_i (hg _ ⟨sp2, ?_, ?_, ?_, QPb_tr (QPb_tr QPb_nx QPb_nx) (QF_P bf_QF)⟩)
      · unfold in9_; rw [bf_6 (by decide) (by decide), hE2.2.2.1]; omega
      · unfold bf_ flX_; rw [up_off (by decide), up_at, up_off (by decide), up_at]
      · refine ⟨?_, fl_b7 (by assumption)⟩; unfold bf_ flX_; rw [up_at, up_at]
    rw [if_neg c6]
    have n6 : nr < 10 := by omega
    have glt : ∀ u, GLM (nX_ (nX_ M)) u → u < a + 1 := fun u hu => by
      have : GLM M u := by
        unfold GLM at hu ⊢
        rw [r2 5 (by decide), r2 56 (by decide), r2 57 (by decide), r2 58 (by decide)] at hu
        exact hu
      have := h.1.2.2.2.1.2 hb u this
      omega
    have Z := SY_rt (t := a + 1) (f := a) S2.1 hb nmt (by omega) glt (by rw [e5, e51]; exact n6) (by rw [f7]; omega)
    rw [e5, e51, show a + 1 + 1 = a + 2 by omega] at Z
    have g51 : gd1_ (nX_ (nX_ M)) (nx_ (nx_ N)) (a + 1) 5 1 = nr := by rw [gd1_r (by decide), e5]; exact e51
    have g12 : gd1_ (nX_ (nX_ M)) (nx_ (nx_ N)) (a + 1) 1 2 = 5 := by rw [gd1_1 (by decide) (by decide) (by decide)]; exact e12
    have kk := rx1_k (M := gd1_ (nX_ (nX_ M)) (nx_ (nx_ N)) (a + 1)) (t := a + 1) (f := a)
    rw [g51] at kk
    have RV := SY_RL Z
    have ez : gq_ (nx_ (nx_ N)) (a + 1) 6 18 = N 6 18 := by rw [gq_6 (by decide), nx_6 (by decide), nx_6 (by decide)]
    have Rz : RL b (Fg_ F (nX_ (nX_ M)) (nx_ (nx_ N)) (a + 1)) (rx1_ (gd1_ (nX_ (nX_ M)) (nx_ (nx_ N)) (a + 1)) (a + 1) a) (gq_ (nx_ (nx_ N)) (a + 1)) (a + 2) := RL_c RV (ER_1 RV.1.2.1 rfl rfl (fun _ _ => rfl) (fun i hi => (rqv_6 (fun e => by rw [e] at hi; revert hi; decide)).symm)) (fun _ _ => rfl) rfl RV.2.2 (fun k hk => (rqv_r (fun e => by rw [e] at hk; revert hk; decide) (fun e => by rw [e] at hk; revert hk; decide)).symm) ⟨(rqv_6 (by decide)).symm, (rqv_6 (by decide)).symm⟩
    have fin : V 64 [rr 1, ii a, ii (a + 1), none, none, none, none] [] (gd1_ (nX_ (nX_ M)) (nx_ (nx_ N)) (a + 1)) := by
      refine b_122_64 (Tr_mono _) hV hW _ _ _ ?_
      have b6 : 0 ≤ gd1_ (nX_ (nX_ M)) (nx_ (nx_ N)) (a + 1) 5 1 ∧ gd1_ (nX_ (nX_ M)) (nx_ (nx_ N)) (a + 1) 5 1 < 10 := by rw [g51]; omega
      refine ⟨g12, b6, g12, b6, g12, ?_⟩
      rw [w32_id (x := gd1_ (nX_ (nX_ M)) (nx_ (nx_ N)) (a + 1) 5 1 + 1) (by omega) (by omega)]
      refine hK _ (rx1_ (gd1_ (nX_ (nX_ M)) (nx_ (nx_ N)) (a + 1)) (a + 1) a) _ (fun _ => ⟨Z, rfl, rfl, by have e := r5.2.2; rw [nx_6 (by decide), nx_6 (by decide)] at e; rw [e]; exact e51, e51⟩) (fun hb1 => by omega) Rz kk.2.1 ⟨hnr, by rw [kk.1]; omega, n6⟩ ⟨Fg_le, fun hb1 => by omega, (GNO_c (M2 := M) (N2 := N) (by rw [hb]; exact GNO_0 S2.1.2.1.1.1 S2.1.2.1.2.2.1 S2.1.2.1.2.1.1) (fun r hr => (r2 r (fun e => by rw [e] at hr; revert hr; decide)).symm) (by rw [nx_ne (by decide), nx_ne (by decide)]) (by rw [nx_6 (by decide), nx_6 (by decide)]) (by rw [nx_6 (by decide), nx_6 (by decide)]))⟩ ⟨k1', h13⟩ (fun G Qtq hq => toQ2 (fun _ => c6) fun V' hV' hW' => b_245_38 (Tr_mono _) hV' hW' _ _ _ (q_235n (ER_goq hE2) (e16.trans hb) (by omega) (by omega) ?_))
      exact hq V' hV' hW'
    refine x_110 (by omega) (by omega) (fun _ => ?_) (fun e => absurd rfl e)
    refine x_111s hT2 e12 S2.1.2.1.1.1 S2.1.2.1.2.2.1 S2.1.2.1.2.1.1 nmt (fun c => ?_) (fun c => ?_)
    · rw [if_pos rfl]
      unfold gd1_ at fin
      rw [if_pos c] at fin; exact fin
    · rw [if_neg (by decide)]
      unfold gd1_ at fin
      rw [if_neg c] at fin
      exact x_116 (by omega) (by omega) (by rw [f7]; exact hE.2.2.2.2.2.2.2.2.2.2.2.1) (by rw [f7]; omega) fin
  · rw [if_neg (by omega)]
    have tm2 := (hS hb).2
    obtain ⟨Nz, ⟨hw, hwn⟩, hq⟩ := q_235j (N := nx_ (nx_ N)) (t := a + 1) (e16.trans hb) (by omega) (by omega)
    have gm : GLM (nX_ (nX_ M)) (a + 1) := .inr (.inl ⟨nr, by rw [e5]; exact ⟨hnr, tm2.1⟩, by rw [r2 57 (by decide)]; exact tm2.2⟩)
    have Z := SY_gw S2.1 hb nmt gm hw
    rw [show a + 1 + 1 = a + 2 by omega] at Z
    refine hK F (nX_ (nX_ M)) Nz (fun hb0 => by omega) (fun _ => ⟨Z, rfl, hw⟩) (SY_RL Z) (by rw [r2 57 (by decide)]; exact tm2.2) ⟨hnr, by rw [e5]; exact tm2.1, by omega⟩ ⟨Int.le_refl _, fun _ => rfl, (GNO_c (M2 := M) (N2 := N) (by rw [hb]; exact GNO_1 S2.1.2.1.1.1 S2.1.2.1.2.2.1 S2.1.2.1.2.1.1 hT2 S2.1.2.1.2.2.2.2 nmt (e16.trans hb) hE2.2.2.2.2.2.2.2.2.2.2.1.2.1 ⟨hw, hwn⟩) (fun r hr => (r2 r (fun e => by rw [e] at hr; revert hr; decide)).symm) (by rw [nx_ne (by decide), nx_ne (by decide)]) (by rw [nx_6 (by decide), nx_6 (by decide)]) (by rw [nx_6 (by decide), nx_6 (by decide)]))⟩ ⟨k1', h13⟩ (fun G Qtq hg => toQ2 (fun hb0 => by omega) fun V' hV' hW' => b_245_38 (Tr_mono _) hV' hW' _ _ _ (hq _ _ _ ?_))
    exact hg V' hV' hW'
end RTg
end T285_rt
section T286_rt
/-! a route whole (X 122 | Q 228 [1] + 245) -/
def RTE (κ ν : Int → Int) (a : Int) (m : Nat) : Prop := (κ (a + 1) = 100 ∧ a + 1 < 1200) ∧ sdO κ (a + 2) ∧ (κ (a + 3) = 114 ∧ a + 3 < 1200) ∧ sdO κ (a + 4) ∧ DLO κ ν (a + 5) ∧ (κ (dle κ (a + 5)) = 23 ∧ dle κ (a + 5) < 1200) ∧ LST κ m (dle κ (a + 5) + 1)
/-- X's row of a route, from its tokens -/
def RTX (M N : mm_) (r a : Int) : Prop := (M 114 (2 * r) = sdv M N (a + 2) ∧ M 114 (2 * r + 1) = sdv M N (a + 4)) ∧ (M 115 r = dlt (M 70) (M 73) (a + 5) ∧ M 116 r = dmt (M 70) (M 73) (a + 5) ∧ M 117 r = dlb (M 70) (a + 5) ∧ M 118 r = drw (M 70) (a + 5)) ∧ ∀ m, LST (M 70) m (dle (M 70) (a + 5) + 1) → M 119 r = lsv N m (dle (M 70) (a + 5) + 1) 0
/-- Q's row of a route, from its tokens -/
def RTQ (M N : mm_) (r a : Int) : Prop := (N 158 r = sdq M N (a + 2) ∧ N 159 r = sdq M N (a + 4)) ∧ (N 162 r = dl7 (M 70) (M 73) (a + 5) ∧ N 163 r = dl8 (M 70) (M 73) (a + 5) ∧ N 166 r = drw (M 70) (a + 5)) ∧ N 165 r = dle (M 70) (a + 5) + 1
section RTh
variable {dq : Nat} {b F F1 r v x : Int} {ns nr np t : Int} {Kv G : mm_ → Prop} {Qt Qtq : qt_} {V V' : vv_} {M N Mx' M' N' M1 N1 : mm_} {a a' : Int}
theorem dle_le [ig : Inhabited gh_] {κ : Int → Int} : a ≤ dle κ a ∧ dle κ a ≤ a + 4 := by
  unfold dle
  split
  · split <;> omega
  · omega
theorem drw_b [ig : Inhabited gh_] {κ : Int → Int} : bl_ (drw κ a) := by
  unfold drw
  split
  · split
    · exact .inr rfl
    · exact .inl rfl
  · exact .inl rfl
theorem RL_32 [ig : Inhabited gh_] (h : RL b F M N a) : RL b F (up_ M 1 32 x) N a := RL_c h (ER_1 h.1.2.1 (up_ne (by decide)) (by rw [up_ne (by decide)]) (fun i hi => up_of2 (fun e => by rw [e] at hi; revert hi; decide)) (fun _ _ => rfl)) (fun k hk => up_ne (fun e => by rw [e] at hk; revert hk; decide)) (up_of2 (by decide)) (by rw [up_of2 (by decide)]; exact h.2.2) (fun _ _ => rfl) ⟨rfl, rfl⟩
theorem sdv_e [ig : Inhabited gh_] (f : RLF b r M N M1 N1) : sdv M1 N1 a = sdv M N a ∧ sdq M1 N1 a = sdq M N a := by
  obtain ⟨_, s2, s3⟩ := RLF_s f
  unfold sdv sdq
  rw [(RLF_70 f).1, s2, s3]; exact ⟨rfl, rfl⟩
/-- from V 103 on -/
theorem y_r103 [ig : Inhabited gh_] {y1 y2 : Int} (hV : Cl_ wd0 (Tr_ wd0 pg0 130) V (rv_ Kv) Qt m_122) (hW : Wk_ V) (ha0 : 0 ≤ a) (h : RL b F M N (a + 2)) (h32 : M 1 32 = nr) (hr : 0 ≤ nr ∧ nr < 10) (h18 : b = 0 → N 6 18 = nr) (hS : b = 1 → ∃ m, RTE (M 70) (M 73) a m) (ho : M 70 (a + 1) = 100 ∧ a + 1 < 1200)
    (hK : ∀ M1 N1 a' m, RL b F M1 N1 a' → RLF b nr (up_ M 1 32 (nr + 1)) N M1 N1 → RTX M1 N1 nr a → RTE (M 70) (M 73) a m → a' = dle (M 70) (a + 5) + 1 + 2 * m → (b = 1 → N1 6 13 = 0 → sdv M N (a + 2) ≠ -1 ∧ sdv M N (a + 4) ≠ -1 ∧ dlt (M 70) (M 73) (a + 5) ≤ dmt (M 70) (M 73) (a + 5)) → (∀ (G : mm_ → Prop) (Qtq : qt_), (b = 0 → G (rqw N1 nr (a + 1) (sdq M N (a + 2)) (sdq M N (a + 4)) (dl7 (M 70) (M 73) (a + 5)) (dl8 (M 70) (M 73) (a + 5)) (drw (M 70) (a + 5)) (dle (M 70) (a + 5) + 1))) → (b = 1 → G N1) → q46 dq nr (a + 1) N G Qtq) → Kv M1)
    (hQ : b = 0 → ∀ Mx', XPb M Mx' → (∀ (G : mm_ → Prop) (Qtq : qt_), (∀ M', SQp Mx' N M' → G M') → q46 dq nr (a + 1) N G Qtq) → Qt 8 Mx') :
    V 103 [rr 1, ii y1, ii y2, none, none, none, none] [] M := by
  have h0 := ER_a h.1.2.1
  refine b_122_103 (Tr_mono _) hV hW _ _ _ ?_
  rw [h32, w32_id (x := nr + 1) (by omega) (by omega), w32_id (x := 2 * nr) (by omega) (by omega), w32_id (x := 2 * nr + 1) (by omega) (by omega)]
  refine ⟨h.1.2.2, ?_⟩
  have R0 := RL_32 (x := nr + 1) h
  have xp : XPb M (up_ M 1 32 (nr + 1)) := fun r hr => up_ne (fun e => hr (by rw [e]; decide))
  have a70 : up_ M 1 32 (nr + 1) 70 = M 70 := up_ne (by decide)
  have a73 : up_ M 1 32 (nr + 1) 73 = M 73 := up_ne (by decide)
  have sda : ∀ y, sdv (up_ M 1 32 (nr + 1)) N y = sdv M N y ∧ sdq (up_ M 1 32 (nr + 1)) N y = sdq M N y := fun y => by unfold sdv sdq; rw [a70]; exact ⟨rfl, rfl⟩
  generalize up_ M 1 32 (nr + 1) = Ma at *
  have s70 : ∀ {M1 N1}, RLF b nr Ma N M1 N1 → M1 70 = M 70 ∧ M1 73 = M 73 := fun f => ⟨(RLF_70 f).1.trans a70, (RLF_70 f).2.1.trans a73⟩
  have s0 : ∀ {M1 N1}, RLF b nr Ma N M1 N1 → ∀ y, sdv M1 N1 y = sdv M N y ∧ sdq M1 N1 y = sdq M N y := fun f y => ⟨(sdv_e f).1.trans (sda y).1, (sdv_e f).2.trans (sda y).2⟩
  have F0 : RLF b nr Ma N Ma N := RLF_rf
  have hS1 : b = 1 → sdO (M 70) (a + 2) ∧ (M 70 (a + 3) = 114 ∧ a + 3 < 1200) ∧ sdO (M 70) (a + 4) ∧ DLO (M 70) (M 73) (a + 5) ∧ (M 70 (dle (M 70) (a + 5)) = 23 ∧ dle (M 70) (a + 5) < 1200) ∧ ∃ m, LST (M 70) m (dle (M 70) (a + 5) + 1) := fun hb => by
    obtain ⟨m, hm⟩ := hS hb
    exact ⟨hm.2.1, hm.2.2.1, hm.2.2.2.1, hm.2.2.2.2.1, hm.2.2.2.2.2.1, m, hm.2.2.2.2.2.2⟩
  clear hS h
  -- the first side
  refine y_123 (dq := dq) R0 (fun hb => by rw [a70]; exact (hS1 hb).1) (fun M1 N1 R1 f1 o1 z1 hq1 => ?_) (fun hb Mx' hx' hq' => ?_)
  rotate_left
  · exact hQ hb Mx' (XPb_tr xp hx') (fun G Qtq hg V' hV' hW' => hq' _ _ fun v M9 p => q_244s p.1 (q_246s p.1 p.2.1 fun v2 => q28_s hV' hW' p.1 (hg _ p)))
  rw [(sda (a + 2)).1]
  rw [(sda (a + 2)).2] at hq1
  rw [(sda (a + 2)).1] at z1
  rw [a70] at o1
  refine ⟨by omega, ?_⟩
  have F1 := RLF_tr F0 (RLN_F (r := nr) f1)
  have R1' : RL b F (up_ M1 114 (2 * nr) (sdv M N (a + 2))) N1 (a + 2 + 1) := RL_up (by decide) R1
  have F1' : RLF b nr Ma N (up_ M1 114 (2 * nr) (sdv M N (a + 2))) N1 := RLF_tr F1 (RLF_up (.inr ⟨rfl, .inl rfl⟩))
  have u1 : up_ M1 114 (2 * nr) (sdv M N (a + 2)) 114 (2 * nr) = sdv M N (a + 2) := up_at
  generalize up_ M1 114 (2 * nr) (sdv M N (a + 2)) = Mb at *
  rw [show a + 2 + 1 = a + 3 by omega] at R1'
  clear R1 F1 f1 R0 F0
  have b70 := (s70 F1').1
  have hE1 := R1'.1.2.1
  have hT1 := R1'.1.1
  -- the arrow
  refine y_108 hE1 (by decide) (fun hb => by rw [b70]; exact tS_o (hS1 hb).2.1.1 (hS1 hb).2.1.2) (fun k2 h13 hE2 => ?_) (fun hb k2 h13 => ?_) (fun hb k2 => ?_)
  rotate_left
  · have hsp := SQ_P (SQ_bf hE1 hb (k := 2) (by decide) (QA_rf (M := N1)))
    exact hQ hb _ (XPb_tr xp (XPb_tr (RLF_X F1') XPb_fl)) (fun G Qtq hg V' hV' hW' => hq1 _ _ (j_244r hT1 hE1 hb (by decide) k2 h13 (q_246s hsp.1 hsp.2.1 fun v2 => q28_s hV' hW' hsp.1 (hg _ (SQp_tr (RLF_Q F1') hsp)))))
  · have hsp := SQ_P (SQ_bf hE1 hb (k := 1) (by decide) (QA_rf (M := N1)))
    exact hQ hb _ (XPb_tr xp (XPb_tr (RLF_X F1') XPb_fl)) (fun G Qtq hg V' hV' hW' => hq1 _ _ (j_244w hT1 hE1 hb (by decide) k2 (q_246s hsp.1 hsp.2.1 fun v2 => q28_s hV' hW' hsp.1 (hg _ (SQp_tr (RLF_Q F1') hsp)))))
  have R2 := RL_go R1' hE2
  have F2 := RLF_tr F1' (RLN_F (r := nr) (RLN_go (b := b) (M := Mb) (N := N1)))
  have u2 : nX_ Mb 114 (2 * nr) = sdv M N (a + 2) := by rw [nX_ne (by decide)]; exact u1
  have k2' : M 70 (a + 3) = 114 := by rw [← b70]; exact k2
  have z2 : b = 1 → nx_ N1 6 13 = 0 → sdv M N (a + 2) ≠ -1 := fun hb hz => z1 hb (by rw [nx_6 (by decide)] at hz; exact hz)
  have toQ1 : ∀ {G : mm_ → Prop} {Qtq : qt_}, (∀ V' : vv_, Cl_ wd0 (Tr_ wd0 pg0 (dq + 18)) V' (rv_ G) Qtq m_245 → Wk_ V' → Tr_ wd0 pg0 (dq + 18) 246 [.inr (.inr 6)] (nx_ N1) (rl_ fun v2 M4 => q28V dq nr (a + 1) (sdq M N (a + 2)) v2 M4 V' Qtq) Qtq) → q46 dq nr (a + 1) N G Qtq := fun hq V' hV' hW' => hq1 _ _ (j_244t hT1 hE1 (by decide) k2 h13 (hq V' hV' hW'))
  rw [show a + 3 + 1 = a + 4 by omega] at R2
  clear hE2
  generalize nX_ Mb = Mc at *
  generalize nx_ N1 = N2 at *
  clear hq1 R1' F1' u1 b70 hE1 hT1 k2 z1
  refine ⟨R2.1.2.2, ?_⟩
  have b70 := (s70 F2).1
  -- the second side
  refine y_123 (dq := dq) R2 (fun hb => by rw [b70]; exact (hS1 hb).2.2.1) (fun M3 N3 R3 f3 o3 z3 hq3 => ?_) (fun hb Mx' hx' hq' => ?_)
  rotate_left
  · exact hQ hb Mx' (XPb_tr xp (XPb_tr (RLF_X F2) hx')) (fun G Qtq hg => toQ1 fun V' hV' hW' => hq' _ _ fun v M9 p => q28_s hV' hW' p.1 (hg _ (SQp_tr (RLF_Q F2) p)))
  rw [(s0 F2 (a + 4)).1]
  rw [(s0 F2 (a + 4)).2] at hq3
  rw [(s0 F2 (a + 4)).1] at z3
  have z4 : b = 1 → N3 6 13 = 0 → sdv M N (a + 2) ≠ -1 ∧ sdv M N (a + 4) ≠ -1 := fun hb hz => ⟨z2 hb (f3.2.2.2 hb hz), z3 hb hz⟩
  rw [b70] at o3
  have F3 := RLF_tr F2 (RLN_F (r := nr) f3)
  have R3' : RL b F (up_ M3 114 (2 * nr + 1) (sdv M N (a + 4))) N3 (a + 4 + 1) := RL_up (by decide) R3
  have F3' : RLF b nr Ma N (up_ M3 114 (2 * nr + 1) (sdv M N (a + 4))) N3 := RLF_tr F3 (RLF_up (.inr ⟨rfl, .inr rfl⟩))
  have u3 : up_ M3 114 (2 * nr + 1) (sdv M N (a + 4)) 114 (2 * nr + 1) = sdv M N (a + 4) := up_at
  have u4 : up_ M3 114 (2 * nr + 1) (sdv M N (a + 4)) 114 (2 * nr) = sdv M N (a + 2) := by rw [up_of2 (by omega), f3.1.1 114 (by decide)]; exact u2
  refine ⟨by omega, R3.1.2.2, ?_⟩
  generalize up_ M3 114 (2 * nr + 1) (sdv M N (a + 4)) = Md at *
  rw [show a + 4 + 1 = a + 5 by omega] at R3'
  have toQ2 : ∀ (G : mm_ → Prop) (Qtq : qt_), q28 dq nr (a + 1) (sdq M N (a + 2)) (sdq M N (a + 4)) N3 G Qtq → q46 dq nr (a + 1) N G Qtq := fun G Qtq hq => toQ1 fun V' hV' hW' => hq3 _ _ (hq V' hV' hW')
  clear R3 F3 f3 R2 F2 u2 b70 hq3 toQ1
  obtain ⟨b70, b73⟩ := s70 F3'
  -- DELAY
  show z24 V Qt y1 y2 nr Md
  refine y_dly (dq := dq) (x1 := nr) (x2 := a + 1) (v1 := sdq M N (a + 2)) (v2 := sdq M N (a + 4)) R3' hr (fun hb => ?_) (fun M4 N4 R4 F4 d4 o4 l4 hq4 => ?_) (fun hb Mx' hx' hq' => ?_)
  · have g := dle_le (κ := M 70) (a := a + 5)
    have := (hS1 hb).2.2.2.2.1
    rw [b70, b73]; exact ⟨(hS1 hb).2.2.2.1, by omega⟩
  rotate_left
  · exact hQ hb Mx' (XPb_tr xp (XPb_tr (RLF_X F3') hx')) (fun G Qtq hg => toQ2 G Qtq (hq' G Qtq (fun M9 p => hg _ (SQp_tr (RLF_Q F3') p))))
  unfold DRW at d4
  rw [b70, b73] at d4 o4 hq4 l4
  rw [b70] at R4
  have F5 := RLF_tr F3' F4
  have z5 : b = 1 → nx_ N4 6 13 = 0 → sdv M N (a + 2) ≠ -1 ∧ sdv M N (a + 4) ≠ -1 ∧ dlt (M 70) (M 73) (a + 5) ≤ dmt (M 70) (M 73) (a + 5) := fun hb hz => by
    rw [nx_6 (by decide)] at hz
    have := z4 hb (F4.2.2.2 hb hz)
    exact ⟨this.1, this.2, l4 hb hz⟩
  have toQ3 : ∀ (G : mm_ → Prop) (Qtq : qt_), q40 dq nr (a + 1) (sdq M N (a + 2)) (sdq M N (a + 4)) (dl7 (M 70) (M 73) (a + 5)) (dl8 (M 70) (M 73) (a + 5)) (drw (M 70) (a + 5)) N4 G Qtq → q46 dq nr (a + 1) N G Qtq := fun G Qtq hq => toQ2 G Qtq (hq4 G Qtq hq)
  have u5 : M4 114 (2 * nr + 1) = sdv M N (a + 4) := by rw [d4.2]; exact u3
  have u6 : M4 114 (2 * nr) = sdv M N (a + 2) := by rw [d4.2]; exact u4
  replace d4 := d4.1
  clear hq4 toQ2 F4 F3' R3' u3 u4 b70 b73
  obtain ⟨b70, b73⟩ := s70 F5
  have hE4 := R4.1.2.1
  have hT4 := R4.1.1
  generalize hde : dle (M 70) (a + 5) = e at *
  -- WITH
  unfold z23
  refine y_108 hE4 (by decide) (fun hb => by rw [b70]; exact tS_o (hS1 hb).2.2.2.2.1.1 (hS1 hb).2.2.2.2.1.2) (fun k5 h15 hE5 => ?_) (fun hb k5 h15 => ?_) (fun hb k5 => ?_)
  rotate_left
  · have hsp := SQ_P (SQ_bf hE4 hb (k := 2) (by decide) (QA_rf (M := N4)))
    exact hQ hb _ (XPb_tr xp (XPb_tr (RLF_X F5) XPb_fl)) (fun G Qtq hg => toQ3 G Qtq fun V' hV' hW' => b_245_140 (Tr_mono _) hV' hW' _ _ _ _ _ _ _ _ (j_250r hT4 hE4 hb (by decide) k5 h15 (q155_s hV' hW' hsp.1 (hg _ (SQp_tr (RLF_Q F5) hsp)))))
  · have hsp := SQ_P (SQ_bf hE4 hb (k := 1) (by decide) (QA_rf (M := N4)))
    exact hQ hb _ (XPb_tr xp (XPb_tr (RLF_X F5) XPb_fl)) (fun G Qtq hg => toQ3 G Qtq fun V' hV' hW' => b_245_140 (Tr_mono _) hV' hW' _ _ _ _ _ _ _ _ (j_250w hT4 hE4 hb (by decide) k5 (q155_s hV' hW' hsp.1 (hg _ (SQp_tr (RLF_Q F5) hsp)))))
  have R5 := RL_go R4 hE5
  have F6 := RLF_tr F5 (RLN_F (r := nr) (RLN_go (b := b) (M := M4) (N := N4)))
  have R6 : RL b F (up_ (nX_ M4) 119 nr 0) (nx_ N4) (e + 1) := RL_up (by decide) R5
  have F7 : RLF b nr Ma N (up_ (nX_ M4) 119 nr 0) (nx_ N4) := RLF_tr F6 (RLF_up (.inl ⟨by decide, rfl⟩))
  have y : ∀ k : Nat, k ≠ 1 → k ≠ 119 → up_ (nX_ M4) 119 nr 0 k = M4 k := fun k h1 h2 => by rw [up_ne h2, nX_ne h1]
  have y9 : up_ (nX_ M4) 119 nr 0 119 nr = 0 := up_at
  have e12 : nx_ N4 6 12 = e + 1 := hE5.2.2.1
  have k5' : M 70 e = 23 := by rw [← b70]; exact k5
  have toQ4 : ∀ (G : mm_ → Prop) (Qtq : qt_), q55 dq nr (a + 1) (sdq M N (a + 2)) (sdq M N (a + 4)) (dl7 (M 70) (M 73) (a + 5)) (dl8 (M 70) (M 73) (a + 5)) (drw (M 70) (a + 5)) (e + 1) (nx_ N4) G Qtq → q46 dq nr (a + 1) N G Qtq := fun G Qtq hq => toQ3 G Qtq fun V' hV' hW' => b_245_140 (Tr_mono _) hV' hW' _ _ _ _ _ _ _ _ (j_250t hT4 hE4 (by decide) k5 h15 (by rw [e12]; exact hq V' hV' hW'))
  refine ⟨R5.1.2.2, hr, ?_⟩
  generalize up_ (nX_ M4) 119 nr 0 = Me at *
  generalize nx_ N4 = N5 at *
  clear toQ3 hE5 R5 F6 R4 F5 hE4 hT4 b70 b73
  obtain ⟨b70, b73⟩ := s70 F7
  -- the list
  refine l_351 (dq := dq) (x1 := nr) (t := a + 1) (v1 := sdq M N (a + 2)) (v2 := sdq M N (a + 4)) (x7 := dl7 (M 70) (M 73) (a + 5)) (x8 := dl8 (M 70) (M 73) (a + 5)) (x9 := drw (M 70) (a + 5)) (x10 := e + 1) hV hW hr hr drw_b (by omega) 1201 (e + 1) Me N5 (by have := R6.1.2.1.1.1; omega) R6 (fun hb => by rw [b70]; exact (hS1 hb).2.2.2.2.2) (fun hb => by rw [F7.2.2.1 18 (by decide), h18 hb]; exact hr) (fun M1 N1 a' m R8 F8 w8 v8 o8 a8 hq8 => ?_) (fun hb Mx' hx' hq' => ?_)
  · rw [b70] at o8
    have F9 := RLF_tr F7 F8
    obtain ⟨c70, c73⟩ := s70 F9
    obtain ⟨t1, t2, _⟩ := RLF_s F8
    rw [y9] at v8
    refine hK M1 N1 a' m R8 F9 ⟨⟨?_, ?_⟩, ⟨?_, ?_, ?_, ?_⟩, fun m' hm' => ?_⟩ ⟨ho, o1, ⟨k2', h13⟩, o3, o4, ⟨by rw [hde]; exact k5', by rw [hde]; exact h15⟩, by rw [hde]; exact o8⟩ (by rw [a8]) (fun hb hz => z5 hb (F8.2.2.2 hb hz)) (fun G Qtq g0 g1 => toQ4 G Qtq (hq8 G Qtq g0 g1))
    · rw [w8.1, y 114 (by decide) (by decide), u6, (s0 F9 (a + 2)).1]
    · rw [w8.1, y 114 (by decide) (by decide), u5, (s0 F9 (a + 4)).1]
    · rw [w8.2.1, y 115 (by decide) (by decide), c70, c73]; exact d4.1
    · rw [w8.2.2.1, y 116 (by decide) (by decide), c70, c73]; exact d4.2.1
    · rw [w8.2.2.2.1, y 117 (by decide) (by decide), c70]; exact d4.2.2.1
    · rw [w8.2.2.2.2, y 118 (by decide) (by decide), c70]; exact d4.2.2.2
    · rw [c70, hde] at hm' ⊢
      rw [LST_u m' m _ hm' o8, v8, lsv_e t1 t2]
  · exact hQ hb Mx' (XPb_tr xp (XPb_tr (RLF_X F7) hx')) (fun G Qtq hg => toQ4 G Qtq (hq' G Qtq (fun M9 p => hg _ (SQp_tr (RLF_Q F7) p))))
end RTh
end T286_rt
section T287_rt
/-! a route whole, from SYS to SYS -/
def RTo (b nr a : Int) (M N M' N' : mm_) : Prop := (b = 0 → (M' 57 nr = a + 1 ∧ M' 55 nr = a ∧ RTQ M' N' nr a) ∧ ((∀ k : Nat, k ∉ [1, 5, 55, 57, 114, 115, 116, 117, 118, 119] → M' k = M k) ∧ (∀ i, i ≠ nr → M' 55 i = M 55 i ∧ M' 57 i = M 57 i) ∧ ∀ i : Int, i ≠ 1 → M' 5 i = M 5 i) ∧ (∀ k : Nat, k ∉ [6, 153, 158, 159, 162, 163, 165, 166, 190, 191] → N' k = N k) ∧ (∀ k : Nat, k ∈ [153, 158, 159, 162, 163, 165, 166] → ∀ i, i ≠ nr → N' k i = N k i) ∧ ∀ i : Int, i ∉ [12, 13, 14, 18, 58] → N' 6 i = N 6 i)
  ∧ (b = 1 → (∀ k : Nat, k ≠ 1 → M' k = M k) ∧ (∀ k : Nat, k ≠ 6 → N' k = N k) ∧ (N' 6 13 = 0 → N 6 13 = 0 ∧ M 114 (2 * nr) ≠ -1 ∧ M 114 (2 * nr + 1) ≠ -1 ∧ M 115 nr ≤ M 116 nr) ∧ ∀ i : Int, i ∉ [12, 13, 14] → N' 6 i = N 6 i) ∧ ∀ i : Int, i ∉ [3, 4, 5, 7, 32] → M' 1 i = M 1 i
section RTi
variable {dq : Nat} {b F F1 r v x : Int} {ns nr np t v1 v2 x7 x8 x9 x10 : Int} {Kv G : mm_ → Prop} {Qt Qtq : qt_} {V V' : vv_} {M N Mx' M' N' M1 N1 Mz Nz : mm_} {a a' : Int}
theorem rqw_r [ig : Inhabited gh_] {k : Nat} (h : k ∉ [6, 153, 158, 159, 162, 163, 165, 166]) : rqw N r t v1 v2 x7 x8 x9 x10 k = N k := by
  unfold rqw
  rw [up_ne (fun e => h (by rw [e]; decide)), up_ne (fun e => h (by rw [e]; decide)), up_ne (fun e => h (by rw [e]; decide)), up_ne (fun e => h (by rw [e]; decide)), up_ne (fun e => h (by rw [e]; decide)), up_ne (fun e => h (by rw [e]; decide)), up_ne (fun e => h (by rw [e]; decide)), up_ne (fun e => h (by rw [e]; decide))]
theorem rqw_o [ig : Inhabited gh_] {k : Nat} {i : Int} (h : k ≠ 6) (hi : i ≠ r) : rqw N r t v1 v2 x7 x8 x9 x10 k i = N k i := by
  unfold rqw
  rw [up_ne h, up_of2 hi, up_of2 hi, up_of2 hi, up_of2 hi, up_of2 hi, up_of2 hi, up_of2 hi]
theorem rqw_6 [ig : Inhabited gh_] {i : Int} (h : i ≠ 18) : rqw N r t v1 v2 x7 x8 x9 x10 6 i = N 6 i := by
  unfold rqw
  rw [up_of2 h, up_ne (by decide), up_ne (by decide), up_ne (by decide), up_ne (by decide), up_ne (by decide), up_ne (by decide), up_ne (by decide)]
theorem rqw_k [ig : Inhabited gh_] : (rqw N r t v1 v2 x7 x8 x9 x10 6 18 = N 6 18 + 1 ∧ rqw N r t v1 v2 x7 x8 x9 x10 153 r = N 151 t) ∧ (rqw N r t v1 v2 x7 x8 x9 x10 158 r = v1 ∧ rqw N r t v1 v2 x7 x8 x9 x10 159 r = v2) ∧ (rqw N r t v1 v2 x7 x8 x9 x10 162 r = x7 ∧ rqw N r t v1 v2 x7 x8 x9 x10 163 r = x8 ∧ rqw N r t v1 v2 x7 x8 x9 x10 166 r = x9) ∧ rqw N r t v1 v2 x7 x8 x9 x10 165 r = x10 := by
  unfold rqw
  refine ⟨⟨up_at, ?_⟩, ⟨?_, ?_⟩, ⟨?_, ?_, ?_⟩, ?_⟩
  · rw [up_ne (by decide), up_ne (by decide), up_ne (by decide), up_ne (by decide), up_ne (by decide), up_ne (by decide), up_ne (by decide), up_at]
  · rw [up_ne (by decide), up_ne (by decide), up_ne (by decide), up_ne (by decide), up_ne (by decide), up_ne (by decide), up_at]
  · rw [up_ne (by decide), up_ne (by decide), up_ne (by decide), up_ne (by decide), up_ne (by decide), up_at]
  · rw [up_ne (by decide), up_ne (by decide), up_ne (by decide), up_ne (by decide), up_at]
  · rw [up_ne (by decide), up_ne (by decide), up_ne (by decide), up_at]
  · rw [up_ne (by decide), up_ne (by decide), up_at]
  · rw [up_ne (by decide), up_at]
/-- pass 2: the row is as it was -/
theorem RTX_same [ig : Inhabited gh_] {m : Nat} (f : RLF b r M N M1 N1) (h : RTX M N r a) (h1 : RTX M1 N1 r a) (hm : LST (M 70) m (dle (M 70) (a + 5) + 1)) : ∀ k : Nat, k ≠ 1 → M1 k = M k := by
  intro k hk
  obtain ⟨e70, e73, _⟩ := RLF_70 f
  have s := fun y => sdv_e (a := y) f
  obtain ⟨t1, t2, _⟩ := RLF_s f
  obtain ⟨⟨a1, a2⟩, ⟨a3, a4, a5, a6⟩, a7⟩ := h
  obtain ⟨⟨b1, b2⟩, ⟨b3, b4, b5, b6⟩, b7⟩ := h1
  rw [e70, e73] at b3 b4
  rw [e70] at b5 b6 b7
  rw [(s _).1] at b1 b2
  have c7 := b7 m hm
  rw [lsv_e t1 t2] at c7
  by_cases c : k ∈ [114, 115, 116, 117, 118, 119]
  · have rows : ∀ k : Nat, k ∈ [115, 116, 117, 118, 119] → M1 k r = M k r → M1 k = M k := fun k hk e => by
      funext i
      by_cases ci : i = r
      · rw [ci]; exact e
      · exact f.1.2.2.1 k hk i ci
    simp only [List.mem_cons, List.not_mem_nil, or_false] at c
    rcases c with c | c | c | c | c | c <;> rw [c]
    · funext i
      by_cases c1 : i = 2 * r
      · rw [c1, b1, a1]
      · by_cases c2 : i = 2 * r + 1
        · rw [c2, b2, a2]
        · exact f.1.2.2.2 i c1 c2
    · exact rows 115 (by decide) (by rw [b3, a3])
    · exact rows 116 (by decide) (by rw [b4, a4])
    · exact rows 117 (by decide) (by rw [b5, a5])
    · exact rows 118 (by decide) (by rw [b6, a6])
    · exact rows 119 (by decide) (by rw [c7, a7 m hm])
  · exact f.1.1 k (fun e => c (by simp only [List.mem_cons, List.not_mem_nil, or_false] at e ⊢; omega))
theorem RL_i [ig : Inhabited gh_] (i1 i2 : Inhabited gh_) (h : @RL i1 b F M N a) (hg : @gg_ i2 = @gg_ i1) (hk : b = 1 → kk_ (N 6 13) (N 6 14) ≤ @bb_ i2 (M 1 19)) : @RL i2 b F M N a := ⟨⟨h.1.1, ER_i i1 i2 h.1.2.1 hg hk, h.1.2.2⟩, h.2.1, by rw [hg]; exact h.2.2⟩
theorem y_122 [ig : Inhabited gh_] (h : SYS b F M N a ns nr np) (hk : M 70 a = 1) (h9 : b = 0 → M 1 9 = 0) (hS : b = 1 → (∃ m, RTE (M 70) (M 73) a m) ∧ (nr < M 5 1 ∧ M 57 nr = a + 1) ∧ RTX M N nr a)
    (hK : ∀ F' M' N' a' m, SYS b F' M' N' a' ns (nr + 1) np → RTE (M 70) (M 73) a m → a' = dle (M 70) (a + 5) + 1 + 2 * m → RTo b nr a M N M' N' → (F' ≤ F ∧ (b = 1 → F' = F) ∧ GNO b F F' M N N' (a + 1)) → (∀ (G : mm_ → Prop) (Qtq : qt_), G N' → qRC dq nr N G Qtq) → Kv M')
    (hQ : b = 0 → ∀ Mx', XPb M Mx' → (∀ (G : mm_ → Prop) (Qtq : qt_), (∀ M', SQp Mx' N M' → G M') → qRC dq nr N G Qtq) → Qt 8 Mx') :
    Tr_ wd0 pg0 131 122 [.inr (.inr 1)] M (rv_ Kv) Qt := by
  have hE := h.1.1.2.1
  have ha := ER_a hE
  have h01 := bl01 hE
  refine t_122 fun V hV hW => y_rnm (dq := dq) hV hW h hk h9 (fun hb => ?_) (fun F1 Mz Nz z0 z1 R k57 hr fF ho hq => ?_) hQ
  · obtain ⟨⟨m, hm⟩, h2, _⟩ := hS hb
    exact ⟨hm.1, h2⟩
  have nX2 : ∀ k : Nat, k ≠ 1 → nX_ (nX_ M) k = M k := fun k h => by rw [nX_ne h, nX_ne h]
  have xr : ∀ k : Nat, k ≠ 1 → k ≠ 5 → k ≠ 55 → k ≠ 57 → Mz k = M k := fun k e1 e5 e6 e7 => by
    rcases h01 with hb | hb
    · rw [(z0 hb).2.1, rx1_r e5 e7 e6, gd1_r e1, nX2 k e1]
    · rw [(z1 hb).2.1, nX2 k e1]
  have x5 : ∀ i : Int, i ≠ 1 → Mz 5 i = M 5 i := fun i hi => by
    rcases h01 with hb | hb
    · rw [(z0 hb).2.1, rx1_5 hi, gd1_r (by decide), nX2 5 (by decide)]
    · rw [(z1 hb).2.1, nX2 5 (by decide)]
  have x1 : ∀ i : Int, i ∉ [3, 4, 5, 7] → Mz 1 i = M 1 i := fun i hi => by
    have h3 : i ≠ 3 := nm_i hi (by decide)
    rcases h01 with hb | hb
    · rw [(z0 hb).2.1, rx1_r (by decide) (by decide) (by decide), gd1_1 (nm_i hi (by decide)) (nm_i hi (by decide)) (nm_i hi (by decide)), nX_1 h3, nX_1 h3]
    · rw [(z1 hb).2.1, nX_1 h3, nX_1 h3]
  have qr : ∀ k : Nat, k ≠ 6 → k ≠ 190 → k ≠ 191 → Nz k = N k := fun k e1 e2 e3 => by
    rcases h01 with hb | hb
    · rw [(z0 hb).2.2.1, gq_r e1 e2 e3, nx_ne e1, nx_ne e1]
    · rw [GWI_r (z1 hb).2.2 e1, nx_ne e1, nx_ne e1]
  have q6 : ∀ i : Int, i ∉ [12, 13, 14, 58] → Nz 6 i = N 6 i := fun i hi => by
    have h2 : i ≠ 12 := nm_i hi (by decide)
    rcases h01 with hb | hb
    · rw [(z0 hb).2.2.1, gq_6 (nm_i hi (by decide)), nx_6 h2, nx_6 h2]
    · rw [GWI_6 (z1 hb).2.2 (nm_i hi (by decide)) (nm_i hi (by decide)), nx_6 h2, nx_6 h2]
  have e70 : Mz 70 = M 70 := xr 70 (by decide) (by decide) (by decide) (by decide)
  have e73 : Mz 73 = M 73 := xr 73 (by decide) (by decide) (by decide) (by decide)
  have xp : XPb M Mz := fun k hk => xr k (fun e => hk (by rw [e]; decide)) (fun e => hk (by rw [e]; decide)) (fun e => hk (by rw [e]; decide)) (fun e => hk (by rw [e]; decide))
  have qp : QPb N Nz := ⟨fun k hk => qr k (fun e => hk (by unfold QPRr; omega)) (fun e => hk (by unfold QPRr; omega)) (fun e => hk (by unfold QPRr; omega)), fun i hi => q6 i (fun e => hi (by simp only [qpI, List.mem_cons, List.not_mem_nil, or_false] at e ⊢; omega))⟩
  have h32 : Mz 1 32 = nr := by rw [x1 32 (by decide)]; exact h.2.1.1.2.1
  refine y_r103 (ig := ih_ gg_ (fun _ => kk_ (Nz 6 13) (Nz 6 14)) 0 0) (dq := dq) (y1 := a) (y2 := a + 1) hV hW ha.1 (RL_i ig _ R rfl fun _ => Int.le_refl _) h32 ⟨hr.1, hr.2.2⟩ (fun hb => by rw [q6 18 (by decide)]; exact (z0 hb).2.2.2.1) (fun hb => by rw [e70, e73]; exact (hS hb).1) (by rw [e70]; exact ho) (fun M1 N1 a' m R1i F1' X1 E1 a1 z9 hq1 => ?_) (fun hb Mx' hx' hq' => ?_)
  rotate_left
  · exact hQ hb Mx' (XPb_tr xp hx') (fun G Qtq hg => hq G Qtq (hq' G Qtq fun M9 p => hg _ (SQp_tr qp p)))
  rw [e70, e73] at E1
  rw [e70] at a1
  have u1 : ∀ i : Int, i ≠ 32 → up_ Mz 1 32 (nr + 1) 1 i = Mz 1 i := fun i h => up_of2 h
  have u : ∀ k : Nat, k ≠ 1 → up_ Mz 1 32 (nr + 1) k = Mz k := fun k h => up_ne h
  have u32 : up_ Mz 1 32 (nr + 1) 1 32 = nr + 1 := up_at
  have sde : ∀ y, sdq (up_ Mz 1 32 (nr + 1)) Nz y = sdq Mz Nz y ∧ sdv (up_ Mz 1 32 (nr + 1)) Nz y = sdv Mz Nz y := fun y => by unfold sdq sdv; rw [u 70 (by decide)]; exact ⟨rfl, rfl⟩
  have y1 : ∀ i : Int, i ∉ [3, 4, 5, 7, 32] → M1 1 i = M 1 i := fun i hi => by
    have h4 : i ∉ [3, 4, 5, 7] := fun e => hi (by simp only [List.mem_cons, List.not_mem_nil, or_false] at e ⊢; omega)
    rw [F1'.1.2.1 i h4, u1 i (nm_i hi (by decide)), x1 i h4]
  have y32 : M1 1 32 = nr + 1 := by rw [F1'.1.2.1 32 (by decide)]; exact u32
  have ye : ∀ k : Nat, k ∉ [1, 5, 55, 57, 114, 115, 116, 117, 118, 119] → M1 k = M k := fun k hk => by
    rw [F1'.1.1 k (fun e => hk (by simp only [List.mem_cons, List.not_mem_nil, or_false] at e ⊢; omega)), u k (fun e => hk (by rw [e]; decide)), xr k (fun e => hk (by rw [e]; decide)) (fun e => hk (by rw [e]; decide)) (fun e => hk (by rw [e]; decide)) (fun e => hk (by rw [e]; decide))]
  have kz : b = 1 → kk_ (N1 6 13) (N1 6 14) ≤ kk_ (Nz 6 13) (Nz 6 14) := fun hb => ER_ki _ R1i.1.2.1 hb
  have R1 : @RL ig b F1 M1 N1 a' := RL_i _ ig R1i rfl (fun hb => by have k0 := kz hb; have k1 := (fF.2.2.2 hb).1; have k2 := ER_kk hE hb; rw [y1 19 (by decide)]; omega)
  have y5 : M1 5 = Mz 5 := by rw [F1'.1.1 5 (by decide), u 5 (by decide)]
  have hg := dle_le (κ := M 70) (a := a + 5)
  have am : a + 2 ≤ a' := by omega
  rcases h01 with hb | hb
  · obtain ⟨Z, eM, eN, e18, e51⟩ := z0 hb
    have kk := rx1_k (M := gd1_ (nX_ (nX_ M)) (nx_ (nx_ N)) (a + 1)) (t := a + 1) (f := a)
    have g51 : gd1_ (nX_ (nX_ M)) (nx_ (nx_ N)) (a + 1) 5 1 = nr := by rw [gd1_r (by decide), nX2 5 (by decide)]; exact e51
    rw [g51, ← eM] at kk
    obtain ⟨⟨w1, w2⟩, w3, w4, w5⟩ := rqw_k (N := N1) (r := nr) (t := a + 1) (v1 := sdq Mz Nz (a + 2)) (v2 := sdq Mz Nz (a + 4)) (x7 := dl7 (Mz 70) (Mz 73) (a + 5)) (x8 := dl8 (Mz 70) (Mz 73) (a + 5)) (x9 := drw (Mz 70) (a + 5)) (x10 := dle (Mz 70) (a + 5) + 1)
    have wr : ∀ k : Nat, k ∉ [6, 153, 158, 159, 162, 163, 165, 166] → rqw N1 nr (a + 1) (sdq Mz Nz (a + 2)) (sdq Mz Nz (a + 4)) (dl7 (Mz 70) (Mz 73) (a + 5)) (dl8 (Mz 70) (Mz 73) (a + 5)) (drw (Mz 70) (a + 5)) (dle (Mz 70) (a + 5) + 1) k = N1 k := fun k hk => rqw_r hk
    have wo : ∀ (k : Nat) (i : Int), k ≠ 6 → i ≠ nr → rqw N1 nr (a + 1) (sdq Mz Nz (a + 2)) (sdq Mz Nz (a + 4)) (dl7 (Mz 70) (Mz 73) (a + 5)) (dl8 (Mz 70) (Mz 73) (a + 5)) (drw (Mz 70) (a + 5)) (dle (Mz 70) (a + 5) + 1) k i = N1 k i := fun k i h h' => rqw_o h h'
    have w6 : ∀ i : Int, i ≠ 18 → rqw N1 nr (a + 1) (sdq Mz Nz (a + 2)) (sdq Mz Nz (a + 4)) (dl7 (Mz 70) (Mz 73) (a + 5)) (dl8 (Mz 70) (Mz 73) (a + 5)) (drw (Mz 70) (a + 5)) (dle (Mz 70) (a + 5) + 1) 6 i = N1 6 i := fun i h => rqw_6 h
    have hq2 : ∀ (G : mm_ → Prop) (Qtq : qt_), G (rqw N1 nr (a + 1) (sdq Mz Nz (a + 2)) (sdq Mz Nz (a + 4)) (dl7 (Mz 70) (Mz 73) (a + 5)) (dl8 (Mz 70) (Mz 73) (a + 5)) (drw (Mz 70) (a + 5)) (dle (Mz 70) (a + 5) + 1)) → qRC dq nr N G Qtq := fun G Qtq hg => hq G Qtq (hq1 G Qtq (fun _ => hg) (fun hb1 => by omega))
    generalize rqw N1 nr (a + 1) (sdq Mz Nz (a + 2)) (sdq Mz Nz (a + 4)) (dl7 (Mz 70) (Mz 73) (a + 5)) (dl8 (Mz 70) (Mz 73) (a + 5)) (drw (Mz 70) (a + 5)) (dle (Mz 70) (a + 5) + 1) = N2 at *
    have n151 : N1 151 = Nz 151 := F1'.2.1 151 (by decide)
    have N2r : ∀ k : Nat, k ∉ [6, 153, 158, 159, 162, 163, 165, 166] → N2 k = Nz k := fun k hk => by rw [wr k hk, F1'.2.1 k (fun e => hk (by rw [e]; decide))]
    have n153 : N2 153 = rqv Nz nr (a + 1) 153 := by
      funext i
      by_cases c : i = nr
      · rw [c, w2, rqv_k.2, n151]
      · rw [wo 153 i (by decide) c, rqv_o c, F1'.2.1 153 (by decide)]
    have hE2 : ER b F1 M1 N2 a' 0 := ER_1 R1.1.2.1 rfl rfl (fun _ _ => rfl) (fun i hi => w6 i (fun e => by rw [e] at hi; revert hi; decide))
    have Y : SY0 b F1 M1 N2 a' := by
      refine SY_rl Z hb hE2 am (fun k hk => ?_) (fun i hi => ?_) R1.2.2 (fun k hk => ?_) (fun i hi => ?_)
      · rw [F1'.1.1 k (fun e => hk (by simp only [List.mem_cons, List.not_mem_nil, or_false] at e ⊢; omega)), u k (fun e => hk (by rw [e]; decide))]
      · have h4 : i ∉ [3, 4, 5, 7] := fun e => by simp only [List.mem_cons, List.not_mem_nil, or_false] at e hi; omega
        rw [F1'.1.2.1 i h4, u1 i (fun e => by rw [e] at hi; revert hi; decide)]
      · by_cases c : k = 153
        · rw [c]; exact n153
        · rw [N2r k (fun e => hk (by simp only [List.mem_cons, List.not_mem_nil, or_false] at e ⊢; omega)), rqv_r (fun e => hk (by rw [e]; decide)) c]
      · by_cases c : i = 18
        · rw [c, w1, rqv_k.1, F1'.2.2.1 18 (by decide)]
        · rw [w6 i c, rqv_6 c, F1'.2.2.1 i (fun e => by simp only [List.mem_cons, List.not_mem_nil, or_false] at e hi; omega)]
    have d51 : M1 5 1 = nr + 1 := by rw [y5]; exact kk.1
    have S' : SYS b F1 M1 N2 a' ns (nr + 1) np := SYS_rt h Y ⟨y1 31 (by decide), y32, y1 33 (by decide)⟩ (fun _ => ⟨by rw [y5, x5 0 (by decide)], d51⟩) (by rw [y5, x5 2 (by decide)]) (fun k hk => ye k (fun e => by simp only [rwX, List.mem_cons, List.not_mem_nil, or_false] at e hk; omega)) (fun k hk => by
      simp only [rwQ, List.mem_cons, List.not_mem_nil, or_false] at hk
      rw [N2r k (by simp only [List.mem_cons, List.not_mem_nil, or_false]; omega), qr k (by omega) (by omega) (by omega)])
    have f70 : M1 70 = Mz 70 := by rw [F1'.1.1 70 (by decide), u 70 (by decide)]
    have f73 : M1 73 = Mz 73 := by rw [F1'.1.1 73 (by decide), u 73 (by decide)]
    have sq : ∀ y, sdq M1 N2 y = sdq Mz Nz y := fun y => by unfold sdq; rw [f70, wr 151 (by decide), n151]
    refine hK F1 M1 N2 a' m S' E1 a1 ⟨fun _ => ⟨⟨?_, ?_, ⟨?_, ?_⟩, ?_, ?_⟩, ⟨ye, fun i hi => ?_, fun i hi => by rw [y5, x5 i hi]⟩, fun k hk => ?_, fun k hk i hi => ?_, fun i hi => by rw [w6 i (nm_i hi (by decide)), F1'.2.2.1 i (fun e => hi (by simp only [List.mem_cons, List.not_mem_nil, or_false] at e ⊢; omega)), q6 i (fun e => hi (by simp only [List.mem_cons, List.not_mem_nil, or_false] at e ⊢; omega))]⟩, fun hb1 => by omega, y1⟩ ⟨fF.1, fF.2.1, GNO_le fF.2.2 fun hb1 => by omega⟩ hq2
    · rw [F1'.1.1 57 (by decide), u 57 (by decide)]; exact k57
    · rw [F1'.1.1 55 (by decide), u 55 (by decide)]; exact kk.2.2
    · rw [w3.1, sq]
    · rw [w3.2, sq]
    · rw [f70, f73]; exact w4
    · rw [f70]; exact w5
    · rw [F1'.1.1 57 (by decide), u 57 (by decide), F1'.1.1 55 (by decide), u 55 (by decide), eM, (rx1_o (by rw [g51]; exact hi)).1, (rx1_o (by rw [g51]; exact hi)).2, gd1_r (by decide), gd1_r (by decide), nX2 55 (by decide), nX2 57 (by decide)]
      exact ⟨rfl, rfl⟩
    · rw [N2r k (fun e => hk (by simp only [List.mem_cons, List.not_mem_nil, or_false] at e ⊢; omega)), qr k (fun e => hk (by rw [e]; decide)) (fun e => hk (by rw [e]; decide)) (fun e => hk (by rw [e]; decide))]
    · simp only [List.mem_cons, List.not_mem_nil, or_false] at hk
      rw [wo k i (by omega) hi, F1'.2.1 k (by omega), qr k (by omega) (by omega) (by omega)]
  · obtain ⟨Z, eM, hw⟩ := z1 hb
    have MM : ∀ k : Nat, k ≠ 1 → Mz k = M k := fun k h => by rw [eM, nX2 k h]
    have NN : ∀ k : Nat, k ≠ 6 → Nz k = N k := fun k h => by rw [GWI_r hw h, nx_ne h, nx_ne h]
    have tse : tpl Nz = tpl N := tpl_e (q6 19 (by decide)) (NN 154 (by decide))
    have sse : sgl Nz = sgl N := sgl_e (q6 17 (by decide)) (NN 152 (by decide))
    have X0 : RTX (up_ Mz 1 32 (nr + 1)) Nz nr a := by
      have := (hS hb).2.2
      unfold RTX sdv at this ⊢
      rw [u 114 (by decide), u 115 (by decide), u 116 (by decide), u 117 (by decide), u 118 (by decide), u 119 (by decide), u 70 (by decide), u 73 (by decide), MM 114 (by decide), MM 115 (by decide), MM 116 (by decide), MM 117 (by decide), MM 118 (by decide), MM 119 (by decide), MM 70 (by decide), MM 73 (by decide), tse, NN 151 (by decide)]
      refine ⟨this.1, this.2.1, fun m hm => ?_⟩
      rw [lsv_e sse (NN 151 (by decide))]; exact this.2.2 m hm
    have same := RTX_same (m := m) F1' X0 X1 (by rw [u 70 (by decide), MM 70 (by decide)]; exact E1.2.2.2.2.2.2)
    have sm : ∀ k : Nat, k ≠ 1 → M1 k = M k := fun k hk => by rw [same k hk, u k hk, MM k hk]
    have Y : SY0 b F1 M1 N1 a' := SY_1 Z R1.1.2.1 am (fun k hk => by rw [same k hk, u k hk]) (fun i hi => by
      have h4 : i ∉ [3, 4, 5, 7] := fun e => by simp only [List.mem_cons, List.not_mem_nil, or_false] at e hi; omega
      rw [F1'.1.2.1 i h4, u1 i (fun e => by rw [e] at hi; revert hi; decide)]) R1.2.2 (fun k hk => F1'.2.1 k hk) (fun i hi => F1'.2.2.1 i (fun e => by simp only [List.mem_cons, List.not_mem_nil, or_false] at e hi; omega))
    have S' : SYS b F1 M1 N1 a' ns (nr + 1) np := SYS_rt h Y ⟨y1 31 (by decide), y32, y1 33 (by decide)⟩ (fun hb0 => by omega) (by rw [sm 5 (by decide)]) (fun k hk => sm k (fun e => by rw [e] at hk; revert hk; decide)) (fun k hk => by rw [F1'.2.1 k (fun e => by rw [e] at hk; revert hk; decide), NN k (fun e => by rw [e] at hk; revert hk; decide)])
    refine hK F1 M1 N1 a' m S' E1 a1 ⟨fun hb0 => by omega, fun _ => ⟨sm, fun k hk => by rw [F1'.2.1 k hk, NN k hk], fun hz => ?_, fun i hi => ?_⟩, y1⟩ ⟨fF.1, fF.2.1, GNO_le fF.2.2 kz⟩ (fun G Qtq hg => hq G Qtq (hq1 G Qtq (fun hb0 => by omega) (fun _ => hg)))
    · have hz1 := F1'.2.2.2 hb hz
      have P1 : PZ 1 F F M N (nX_ (nX_ M)) Nz 0 := PZ_1 hw
      have zz := z9 hb hz
      have x0 := (hS hb).2.2.1
      have x2 := (hS hb).2.2.2.1
      have sde2 : ∀ y, sdv Mz Nz y = sdv M N y := fun y => by unfold sdv; rw [MM 70 (by decide), tse, NN 151 (by decide)]
      rw [sde2, sde2] at zz
      exact ⟨(P1.2.2.1 rfl).2.2.2 hz1, by rw [x0.1]; exact zz.1, by rw [x0.2]; exact zz.2.1, by rw [x2.1, x2.2.1]; have := zz.2.2; rw [e70, e73] at this; exact this⟩
    · rw [F1'.2.2.1 i hi, GWI_6 hw (nm_i hi (by decide)) (nm_i hi (by decide)), nx_6 (nm_i hi (by decide)), nx_6 (nm_i hi (by decide))]
end RTi
end T287_rt
section T288_fl
/-! routes filled: X alone (1 8 = 0, 1 9 = 1) -/
def FL (M N : mm_) (a : Int) : Prop := (Tks M N ∧ (gd_ M a ∧ M 1 3 = a) ∧ M 1 8 = 0 ∧ M 1 2 = 5) ∧ sgl9 M N ∧ tpl9 M N
def FLF (b r : Int) (M N M1 N1 : mm_) : Prop := RLF b r M N M1 N1 ∧ ∀ i : Int, i ≠ 3 → M1 1 i = M 1 i
section FLa
variable {d : Nat} {r t v y1 y2 : Int} {K : Int → mm_ → Prop} {Kv : mm_ → Prop} {Qt : qt_} {V : vv_} {M N M1 N1 : mm_} {a a' : Int}
theorem FL_c [Inhabited gh_] (h : FL M N a) (hx : ∀ k : Nat, k ∈ [5, 56, 58, 69, 70, 71, 72, 73] → M1 k = M k) (h2 : M1 1 2 = M 1 2) (h8 : M1 1 8 = M 1 8) (hg : gd_ M1 a' ∧ M1 1 3 = a') : FL M1 N a' := by
  obtain ⟨⟨s1, _, s3, s4⟩, g1, g2⟩ := h
  have e70 := hx 70 (by decide)
  refine ⟨⟨Tks_r s1 (fun k hk => hx k (by simp only [List.mem_cons, List.not_mem_nil, or_false] at hk ⊢; omega)) (fun _ _ => rfl), hg, by rw [h8]; exact s3, by rw [h2]; exact s4⟩, ?_, ?_⟩
  · unfold sgl9
    rw [hx 5 (by decide), hx 56 (by decide)]
    exact ⟨g1.1, fun k k0 k1 => ⟨nm9_r (g1.2 k k0 k1).1 e70, (g1.2 k k0 k1).2⟩⟩
  · unfold tpl9
    rw [hx 5 (by decide), hx 58 (by decide)]
    exact ⟨g2.1, fun k k0 k1 => ⟨nm9_r (g2.2 k k0 k1).1 e70, (g2.2 k k0 k1).2⟩⟩
theorem FL_i [Inhabited gh_] (h : FL M N a) : iX_ M := by
  have := h.1.2.1
  unfold iX_; rw [this.2]; exact ⟨this.1.1, this.1.2.1⟩
theorem FL_go [Inhabited gh_] (h : FL M N a) (h12 : a < 1200) (hk : M 70 a ≠ 102 ∧ M 70 a ≠ 103) : FL (nX_ M) N (a + 1) := by
  have g := h.1.2.1
  refine FL_c h (fun k hk => nX_ne (fun e => by rw [e] at hk; revert hk; decide)) (nX_1 (by decide)) (nX_1 (by decide)) ⟨⟨by have := g.1.1; omega, by omega, fun j j0 j1 => ?_⟩, ?_⟩
  · rw [nX_ne (by decide)]
    by_cases c : j = a
    · rw [c]; exact hk
    · exact g.1.2.2 j j0 (by omega)
  · unfold nX_; rw [up_at, g.2]
theorem FL_up [Inhabited gh_] {k : Nat} {i : Int} (hk : k ∈ [114, 115, 116, 117, 118, 119]) (h : FL M N a) : FL (up_ M k i v) N a := by
  have u : ∀ k' : Nat, k' ∉ [114, 115, 116, 117, 118, 119] → up_ M k i v k' = M k' := fun k' h' => up_ne (fun e => h' (by rw [e]; exact hk))
  exact FL_c h (fun k' hk' => u k' (by simp only [List.mem_cons, List.not_mem_nil, or_false] at hk' ⊢; omega)) (by rw [u 1 (by decide)]) (by rw [u 1 (by decide)]) ⟨gd_c (u 70 (by decide)) h.1.2.1.1, by rw [u 1 (by decide)]; exact h.1.2.1.2⟩
theorem RLF_nX [Inhabited gh_] : RLF 0 r M N (nX_ M) N := ⟨⟨fun k hk => nX_ne (fun e => hk (by rw [e]; decide)), fun i hi => nX_1 (nm_i hi (by decide)), fun k hk i _ => by rw [nX_ne (fun e => by rw [e] at hk; revert hk; decide)], fun i _ _ => by rw [nX_ne (by decide)]⟩, fun _ _ => rfl, fun _ _ => rfl, fun _ h => h⟩
theorem FLF_nX [Inhabited gh_] : FLF 0 r M N (nX_ M) N := ⟨RLF_nX, fun i hi => nX_1 hi⟩
theorem FLF_tr [Inhabited gh_] {M2 : mm_} (h : FLF 0 r M N M1 N) (g : FLF 0 r M1 N M2 N) : FLF 0 r M N M2 N := ⟨RLF_tr h.1 g.1, fun i hi => (g.2 i hi).trans (h.2 i hi)⟩
theorem FLF_up [Inhabited gh_] {k : Nat} {i : Int} (hk : k ∈ [115, 116, 117, 118, 119] ∧ i = r ∨ k = 114 ∧ (i = 2 * r ∨ i = 2 * r + 1)) : FLF 0 r M N (up_ M k i v) N := ⟨RLF_up hk, fun i' _ => by rw [up_ne (fun e => by rw [← e] at hk; revert hk; simp)]⟩
theorem f_side [Inhabited gh_] (h : FL M N a) (ho : sdO (M 70) a) (hK : FL (nX_ M) N (a + 1) → K (sdv M N a) (nX_ M)) : Tr_ wd0 pg0 (d + 5) 123 [.inr (.inr 1)] M (ri_ K) Qt := by
  have hi := FL_i h
  have e3 := h.1.2.1.2
  have F1 := FL_go h ho.2 (by rcases ho.1 with e | e <;> rw [e] <;> decide)
  refine t_123 fun V hV hW => b_123_0 (Tr_mono _) hV hW _ (x_103 hi (fun k1 => ?_) (fun k1 => ?_))
  · rw [if_neg (by decide)]
    rw [e3] at k1
    refine x_105 hi (fun _ => ?_) (fun e => by rw [e3] at e; have := ho.2; omega)
    have := hK F1
    unfold sdv at this
    rw [if_pos k1] at this
    exact ri_i this
  · rw [if_pos rfl]
    rw [e3] at k1
    have k2 : M 70 a = 100 := by have := ho.1; omega
    refine x_107 hi (fun _ _ => ?_) (fun e => by rw [e3] at e; omega) (fun _ e => by rw [e3] at e; have := ho.2; omega)
    rw [e3]
    have nmt : nm9_ (nX_ M) a := ⟨gd_c (nX_ne (by decide)) h.1.2.1.1, by rw [nX_ne (by decide)]; exact k2⟩
    refine x_115s F1.1.1 F1.1.2.2.2 F1.2.2 nmt ?_
    intro _
    rw [if_pos F1.1.2.2.1]
    have := hK F1
    unfold sdv at this
    rw [if_neg k1] at this
    exact ri_i this
theorem f_dly [Inhabited gh_] (h : FL M N a) (hr : 0 ≤ r ∧ r < 10) (hd : DLO (M 70) (M 73) a) (h12 : a < 1200) (h16 : dle (M 70) a ≤ 1200)
    (hK : ∀ M1, FL M1 N (dle (M 70) a) → FLF 0 r M N M1 N → DRW M M1 r a → z23 V Qt y1 y2 r M1) : z24 V Qt y1 y2 r M := by
  have hi := FL_i h
  have e3 := h.1.2.1.2
  have m12 := h.1.2.2.2
  have A : ∀ w : Int, FL (up_ (up_ (up_ (up_ M 117 r w) 115 r 0) 116 r 0) 118 r 0) N a ∧ FLF 0 r M N (up_ (up_ (up_ (up_ M 117 r w) 115 r 0) 116 r 0) 118 r 0) N := fun w => ⟨FL_up (by decide) (FL_up (by decide) (FL_up (by decide) (FL_up (by decide) h))), FLF_tr (FLF_tr (FLF_tr (FLF_up (.inl ⟨by decide, rfl⟩)) (FLF_up (.inl ⟨by decide, rfl⟩))) (FLF_up (.inl ⟨by decide, rfl⟩))) (FLF_up (.inl ⟨by decide, rfl⟩))⟩
  have A7 : ∀ w : Int, (up_ (up_ (up_ (up_ M 117 r w) 115 r 0) 116 r 0) 118 r 0) 117 r = w ∧ (up_ (up_ (up_ (up_ M 117 r w) 115 r 0) 116 r 0) 118 r 0) 115 r = 0 ∧ (up_ (up_ (up_ (up_ M 117 r w) 115 r 0) 116 r 0) 118 r 0) 116 r = 0 ∧ (up_ (up_ (up_ (up_ M 117 r w) 115 r 0) 116 r 0) 118 r 0) 118 r = 0 ∧ (up_ (up_ (up_ (up_ M 117 r w) 115 r 0) 116 r 0) 118 r 0) 114 = M 114 := fun w => by
    refine ⟨?_, ?_, ?_, up_at, ?_⟩
    · rw [up_ne (by decide), up_ne (by decide), up_ne (by decide), up_at]
    · rw [up_ne (by decide), up_ne (by decide), up_at]
    · rw [up_ne (by decide), up_at]
    · rw [up_ne (by decide), up_ne (by decide), up_ne (by decide), up_ne (by decide)]
  unfold z24
  refine x_103 hi (fun k1 => ?_) (fun k1 => ?_)
  · rw [e3] at k1
    obtain ⟨R0, F0⟩ := A 1
    obtain ⟨c7, c5, c6, c8, c4⟩ := A7 1
    refine ⟨⟨hr, .inr rfl⟩, m12, hr, m12, hr, m12, ⟨hr, .inl rfl⟩, m12, hr, fun _ => ?_⟩
    rw [up_at, if_neg (by decide)]
    generalize up_ (up_ (up_ (up_ M 117 r 1) 115 r 0) 116 r 0) 118 r 0 = M0 at *
    obtain ⟨f70, f73, f71⟩ := RLF_70 F0.1
    obtain ⟨⟨n1, m1, z1, h13⟩, hd2⟩ := hd k1
    have et : dlt (M 70) (M 73) a = M 73 (a + 1) := by unfold dlt; rw [if_pos k1]
    have eb : dlb (M 70) a = 1 := by unfold dlb; rw [if_pos k1]
    refine x_105 (FL_i R0) (fun _ => ?_) (fun e => by rw [R0.1.2.1.2] at e; omega)
    have R1 := FL_go R0 h12 (by rw [f70, k1]; decide)
    have F1 : FLF 0 r M N (nX_ M0) N := FLF_tr F0 FLF_nX
    have g7 : nX_ M0 117 r = 1 ∧ nX_ M0 118 r = 0 ∧ nX_ M0 114 = M 114 := by rw [nX_ne (by decide), nX_ne (by decide), nX_ne (by decide)]; exact ⟨c7, c8, c4⟩
    refine ⟨R1.1.2.2.2, ?_⟩
    generalize nX_ M0 = Ma at *
    clear F0 c7 c5 c6 c8 c4 R0 f70 f73 f71
    obtain ⟨f70, f73, f71⟩ := RLF_70 F1.1
    have a3 := R1.1.2.1.2
    refine x_124 (FL_i R1) (fun _ _ _ => ?_) (fun e => by rw [a3, f70] at e; omega) (fun _ e => by rw [a3, f73] at e; omega)
    rw [a3, f73]
    have R2 := FL_go R1 h13 (by rw [f70, n1]; decide)
    have F2 : FLF 0 r M N (nX_ Ma) N := FLF_tr F1 FLF_nX
    refine ⟨hr, R2.1.2.2.2, R2.1.2.2.2, hr, hr, ?_⟩
    rw [up_at]
    have R3 : FL (up_ (up_ (nX_ Ma) 115 r (M 73 (a + 1))) 116 r (M 73 (a + 1))) N (a + 1 + 1) := FL_up (by decide) (FL_up (by decide) R2)
    have F3 : FLF 0 r M N (up_ (up_ (nX_ Ma) 115 r (M 73 (a + 1))) 116 r (M 73 (a + 1))) N := FLF_tr (FLF_tr F2 (FLF_up (.inl ⟨by decide, rfl⟩))) (FLF_up (.inl ⟨by decide, rfl⟩))
    have c5 : (up_ (up_ (nX_ Ma) 115 r (M 73 (a + 1))) 116 r (M 73 (a + 1))) 115 r = M 73 (a + 1) := by rw [up_ne (by decide), up_at]
    have c6 : (up_ (up_ (nX_ Ma) 115 r (M 73 (a + 1))) 116 r (M 73 (a + 1))) 116 r = M 73 (a + 1) := up_at
    have c7 : (up_ (up_ (nX_ Ma) 115 r (M 73 (a + 1))) 116 r (M 73 (a + 1))) 117 r = 1 := by rw [up_ne (by decide), up_ne (by decide), nX_ne (by decide)]; exact g7.1
    have c8 : (up_ (up_ (nX_ Ma) 115 r (M 73 (a + 1))) 116 r (M 73 (a + 1))) 118 r = 0 := by rw [up_ne (by decide), up_ne (by decide), nX_ne (by decide)]; exact g7.2.1
    have c4 : (up_ (up_ (nX_ Ma) 115 r (M 73 (a + 1))) 116 r (M 73 (a + 1))) 114 = M 114 := by rw [up_ne (by decide), up_ne (by decide), nX_ne (by decide)]; exact g7.2.2
    generalize up_ (up_ (nX_ Ma) 115 r (M 73 (a + 1))) 116 r (M 73 (a + 1)) = Mb at *
    clear g7 R2 F2 R1 F1 f70 f73 f71 a3
    obtain ⟨f70, f73, f71⟩ := RLF_70 F3.1
    rw [show a + 1 + 1 = a + 2 by omega] at R3
    have b3 := R3.1.2.1.2
    refine x_103 (FL_i R3) (fun k2 => ?_) (fun k2 => ?_)
    · rw [if_neg (by decide)]
      have k2' : M 70 (a + 2) = 115 := by rw [b3, f70] at k2; exact k2
      obtain ⟨n2, m2, z2, h14⟩ := hd2 k2'
      have em : dmt (M 70) (M 73) a = M 73 (a + 3) := by unfold dmt; rw [if_pos k1, if_pos k2']
      have ew : drw (M 70) a = 1 := by unfold drw; rw [if_pos k1, if_pos k2']
      have ee : dle (M 70) a = a + 4 := by unfold dle; rw [if_pos k1, if_pos k2']
      refine x_105 (FL_i R3) (fun _ => ?_) (fun e => by rw [b3] at e; omega)
      have R4 := FL_go R3 (by omega) (by rw [f70, k2']; decide)
      have F4 : FLF 0 r M N (nX_ Mb) N := FLF_tr F3 FLF_nX
      refine ⟨R4.1.2.2.2, ⟨hr, .inr rfl⟩, R4.1.2.2.2, ?_⟩
      have R5 : FL (up_ (nX_ Mb) 118 r 1) N (a + 2 + 1) := FL_up (by decide) R4
      have F5 : FLF 0 r M N (up_ (nX_ Mb) 118 r 1) N := FLF_tr F4 (FLF_up (.inl ⟨by decide, rfl⟩))
      have g5 : up_ (nX_ Mb) 118 r 1 115 r = M 73 (a + 1) := by rw [up_ne (by decide), nX_ne (by decide)]; exact c5
      have g7 : up_ (nX_ Mb) 118 r 1 117 r = 1 := by rw [up_ne (by decide), nX_ne (by decide)]; exact c7
      have g8 : up_ (nX_ Mb) 118 r 1 118 r = 1 := up_at
      have g4 : up_ (nX_ Mb) 118 r 1 114 = M 114 := by rw [up_ne (by decide), nX_ne (by decide)]; exact c4
      generalize nX_ Mb 1 3 = p
      generalize up_ (nX_ Mb) 118 r 1 = Mc at *
      rw [show a + 2 + 1 = a + 3 by omega] at R5
      obtain ⟨f70', f73', f71'⟩ := RLF_70 F5.1
      have c3 := R5.1.2.1.2
      refine x_124 (FL_i R5) (fun _ _ _ => ?_) (fun e => by rw [c3, f70'] at e; omega) (fun _ e => by rw [c3, f73'] at e; omega)
      rw [c3, f73']
      have R6 := FL_go R5 h14 (by rw [f70', n2]; decide)
      refine ⟨hr, fun _ => ?_⟩
      rw [if_pos R6.1.2.2.1]
      refine hK _ (by rw [ee, show a + 4 = a + 3 + 1 by omega]; exact FL_up (by decide) R6) (FLF_tr (FLF_tr F5 FLF_nX) (FLF_up (.inl ⟨by decide, rfl⟩))) ⟨⟨?_, ?_, ?_, ?_⟩, ?_⟩
      · rw [up_ne (by decide), nX_ne (by decide), et]; exact g5
      · rw [up_at, em]
      · rw [up_ne (by decide), nX_ne (by decide), eb]; exact g7
      · rw [up_ne (by decide), nX_ne (by decide), ew]; exact g8
      · rw [up_ne (by decide), nX_ne (by decide)]; exact g4
    · rw [if_pos rfl]
      have k2' : ¬ M 70 (a + 2) = 115 := by rw [b3, f70] at k2; exact k2
      have em : dmt (M 70) (M 73) a = M 73 (a + 1) := by unfold dmt; rw [if_pos k1, if_neg k2']
      have ew : drw (M 70) a = 0 := by unfold drw; rw [if_pos k1, if_neg k2']
      have ee : dle (M 70) a = a + 2 := by unfold dle; rw [if_pos k1, if_neg k2']
      exact hK Mb (by rw [ee]; exact R3) F3 ⟨⟨by rw [et]; exact c5, by rw [em]; exact c6, by rw [eb]; exact c7, by rw [ew]; exact c8⟩, c4⟩
  · rw [e3] at k1
    obtain ⟨R0, F0⟩ := A 0
    obtain ⟨c7, c5, c6, c8, c4⟩ := A7 0
    refine ⟨⟨hr, .inl rfl⟩, m12, hr, m12, hr, m12, ⟨hr, .inl rfl⟩, m12, hr, fun _ => ?_⟩
    rw [up_at, if_pos rfl]
    have ee : dle (M 70) a = a := by unfold dle; rw [if_neg k1]
    refine hK _ (by rw [ee]; exact R0) F0 ⟨⟨?_, ?_, ?_, ?_⟩, c4⟩
    · unfold dlt; rw [if_neg k1]; exact c5
    · unfold dmt; rw [if_neg k1]; exact c6
    · unfold dlb; rw [if_neg k1]; exact c7
    · unfold drw; rw [if_neg k1]; exact c8
theorem f_351 [Inhabited gh_] (hV : Cl_ wd0 (Tr_ wd0 pg0 130) V (rv_ Kv) Qt m_122) (hW : Wk_ V) (hr : 0 ≤ r ∧ r < 10) : ∀ (m : Nat) (a : Int) (M : mm_), FL M N a → LST (M 70) m a
    → (hK : ∀ M1, FL M1 N (a + 2 * m) → FLF 0 r M N M1 N → (M1 114 = M 114 ∧ M1 115 = M 115 ∧ M1 116 = M 116 ∧ M1 117 = M 117 ∧ M1 118 = M 118) → M1 119 r = lsv N m a (M 119 r) → Kv M1)
    → V 351 [rr 1, ii y1, ii y2, ii r, ii 1, none, none] [] M
  | 0, _, _, _, hm, _ => hm.elim
  | m + 1, a, M, h, hm, hK => by
    have e3 := h.1.2.1.2
    obtain ⟨⟨k1, h12⟩, ho⟩ := hm
    have h11 : a < 1200 := by omega
    refine b_122_351 (Tr_mono _) hV hW _ _ _ _ _ ?_
    rw [if_neg (by decide)]
    refine x_107 (FL_i h) (fun _ _ => ?_) (fun e => by rw [e3] at e; omega) (fun _ e => by rw [e3] at e; omega)
    rw [e3]
    have R1 := FL_go h h11 (by rw [k1]; decide)
    have nmt : nm9_ (nX_ M) a := ⟨gd_c (nX_ne (by decide)) h.1.2.1.1, by rw [nX_ne (by decide)]; exact k1⟩
    refine x_112s R1.1.1 R1.1.2.2.2 R1.2.1 nmt ?_
    intro _
    rw [if_pos R1.1.2.2.1]
    have tail : ∀ Mb, FL Mb N (a + 1) → FLF 0 r M N Mb N → (Mb 114 = M 114 ∧ Mb 115 = M 115 ∧ Mb 116 = M 116 ∧ Mb 117 = M 117 ∧ Mb 118 = M 118) → Mb 119 r = lsb N a (M 119 r) → Tr_ wd0 pg0 130 117 [.inr (.inr 1), .inl 44] Mb (ri_ fun w1 M1 =>
   (if w1 = 0 then
    V 351 [rr 1, ii y1, ii y2, ii r, ii w1, none, none] [] M1
   else
    Tr_ wd0 pg0 130 105 [.inr (.inr 1)] M1 (rv_ fun M2 =>
     V 351 [rr 1, ii y1, ii y2, ii r, ii w1, none, none] [] M2) Qt)) Qt := fun Mb Rb Fb rb bb => by
      have f70 := (RLF_70 Fb.1).1
      have b3 := Rb.1.2.1.2
      have xx : ∀ k : Nat, k ≠ 1 → nX_ Mb k = Mb k := fun k hk => nX_ne hk
      refine x_117 (FL_i Rb) (by decide) (by decide) (fun k2 => ?_) (fun k2 => ?_)
      · rw [if_neg (by decide)]
        have k2' : M 70 (a + 1) = 244 := by rw [b3, f70] at k2; exact k2
        rcases ho with c | ⟨_, c⟩
        · omega
        refine x_105 (FL_i Rb) (fun _ => ?_) (fun e => by rw [b3] at e; omega)
        have R2 := FL_go Rb h12 (by rw [f70, k2']; decide)
        rw [show a + 1 + 1 = a + 2 by omega] at R2
        refine f_351 hV hW hr m (a + 2) (nX_ Mb) R2 (by rw [xx 70 (by decide), f70]; exact c) (fun M1 R3 F3 w3 v3 => ?_)
        refine hK M1 (by rw [show a + 2 * ((m + 1 : Nat) : Int) = a + 2 + 2 * m by omega]; exact R3) (FLF_tr (FLF_tr Fb FLF_nX) F3) ⟨by rw [w3.1, xx 114 (by decide)]; exact rb.1, by rw [w3.2.1, xx 115 (by decide)]; exact rb.2.1, by rw [w3.2.2.1, xx 116 (by decide)]; exact rb.2.2.1, by rw [w3.2.2.2.1, xx 117 (by decide)]; exact rb.2.2.2.1, by rw [w3.2.2.2.2, xx 118 (by decide)]; exact rb.2.2.2.2⟩ ?_
        rw [v3, xx 119 (by decide), bb]; rfl
      · rw [if_pos rfl]
        have k2' : ¬ M 70 (a + 1) = 244 := by rw [b3, f70] at k2; exact k2
        rcases ho with ⟨c, m0⟩ | ⟨c, _⟩
        · refine b_122_351 (Tr_mono _) hV hW _ _ _ _ _ ?_
          rw [if_pos rfl]
          refine x_121 (FL_i Rb) (by decide) (by decide) (fun _ _ => ?_) (fun e => by rw [b3, f70] at e; omega) (fun _ e => by rw [b3] at e; omega)
          have R2 := FL_go Rb h12 (by rw [f70, c]; decide)
          rw [m0] at hK
          exact rv_i (hK _ (by rw [show a + 2 * ((0 + 1 : Nat) : Int) = a + 1 + 1 by omega]; exact R2) (FLF_tr Fb FLF_nX) ⟨by rw [xx 114 (by decide)]; exact rb.1, by rw [xx 115 (by decide)]; exact rb.2.1, by rw [xx 116 (by decide)]; exact rb.2.2.1, by rw [xx 117 (by decide)]; exact rb.2.2.2.1, by rw [xx 118 (by decide)]; exact rb.2.2.2.2⟩ (by rw [xx 119 (by decide), bb]; rfl))
        · exact absurd c k2'
    have F1 : FLF 0 r M N (nX_ M) N := FLF_nX
    have fx : ∀ k : Nat, k ≠ 1 → nX_ M k = M k := fun k hk => nX_ne hk
    refine b_122_390 (Tr_mono _) hV hW _ _ _ _ _ _ _ ?_
    by_cases c : sgl N (N 151 a) = -1
    · rw [if_pos c]
      exact tail _ R1 F1 ⟨fx _ (by decide), fx _ (by decide), fx _ (by decide), fx _ (by decide), fx _ (by decide)⟩ (by rw [fx 119 (by decide)]; unfold lsb; rw [if_pos c])
    · rw [if_neg c]
      refine ⟨R1.1.2.2.2, hr, hr, ?_⟩
      refine tail _ (FL_up (by decide) R1) (FLF_tr F1 (FLF_up (.inl ⟨by decide, rfl⟩))) ⟨by rw [up_ne (by decide)]; exact fx _ (by decide), by rw [up_ne (by decide)]; exact fx _ (by decide), by rw [up_ne (by decide)]; exact fx _ (by decide), by rw [up_ne (by decide)]; exact fx _ (by decide), by rw [up_ne (by decide)]; exact fx _ (by decide)⟩ (by rw [up_at, fx 119 (by decide)]; unfold lsb; rw [if_neg c])
end FLa
end T288_fl
