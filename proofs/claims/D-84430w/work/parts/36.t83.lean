section T83_er
/-! names in e's: timers and variables of the type at hand -/
/-- which timer, which variable a name is -/
def tmr (Mq : mm_) (v : Int) : Int := fi_ (fun i => Mq 178 (3 * Mq 6 61 + i)) v (Mq 173 (Mq 6 61)).toNat 0
def vrr (Mq : mm_) (v : Int) : Int := fi_ (fun i => Mq 177 (8 * Mq 6 61 + i)) v (Mq 171 (Mq 6 61)).toNat 0
section NN
variable {d : Nat} {Mx Mq M : mm_} {K : Int → mm_ → Prop} {Kv : mm_ → Prop} {Qt : qt_} {t : Int}
theorem tk9_of [Inhabited gh_] (hT : Tks Mx Mq) (h : gd_ Mx t) : tk9_ Mx t := by
  have h1 := (hT t h).2.2.2.1
  exact ⟨h.1, by have := h.2.1; omega, h1⟩
theorem lk_of [Inhabited gh_] (hT : Tks Mx Mq) {i j : Int} (hi : nm9_ Mx i) (hj : nm9_ Mx j) : lk9_ Mx i j ↔ Mq 151 i = Mq 151 j := (hT i hi.1).2.2.2.2.2.2 j hj.1 hi.2 hj.2
theorem x_129R [Inhabited gh_] (hT : Tks Mx Mq) (hV : VT Mx Mq) (ht : nm9_ Mx t) (h : K (tmr Mq (Mq 151 t)) Mx) : Tr_ wd0 pg0 (d + 3) 129 [.inr (.inr 1), .inl t] Mx (ri_ K) Qt := by
  obtain ⟨v1, v2, v3, v4, v5, v6, v7, v8⟩ := hV
  obtain ⟨m, hm⟩ := Int.eq_ofNat_of_zero_le v6.1
  have hm2 : (Mq 173 (Mq 6 61)).toNat = m := by rw [v2, v6.2.2, hm]; rfl
  refine x_129 (η := Mq 151) (m := m) v1 v3 v4 hm (by have := v6.2.1; omega) (tk9_of hT ht.1) (fun k h1 h2 => ?_) ?_
  · have := v8 k h1 (by rw [hm]; exact h2)
    exact ⟨tk9_of hT this.1.1, lk_of hT this.1 ht⟩
  · unfold tmr at h
    rw [hm2, v2] at h
    rw [fi_cg (g' := fun i => Mq 178 (3 * Mx 1 18 + i)) (v' := Mq 151 t) m 0 (fun i h1 h2 => ?_)]
    · exact h
    · rw [(v8 i h1 (by rw [hm]; (clear hT ht v1 v2 v3 v4 v5 v6 v7 v8 h hm h1; omega))).2]
theorem q_283R [Inhabited gh_] (hV : VT Mx Mq) {v : Int} (h : K (tmr Mq v) Mq) : Tr_ wd0 pg0 (d + 1) 283 [.inr (.inr 6), .inl (Mq 6 61), .inr (.inl v)] Mq (ri_ K) Qt := by
  obtain ⟨v1, v2, v3, v4, v5, v6, v7, v8⟩ := hV
  obtain ⟨m, hm⟩ := Int.eq_ofNat_of_zero_le v6.1
  have hm2 : (Mq 173 (Mq 6 61)).toNat = m := by rw [v2, v6.2.2, hm]; rfl
  refine q_283 (m := m) (by rw [v2]; exact v3) (by rw [v2]; exact v4) (by rw [v2, v6.2.2, hm]) (by have := v6.2.1; omega) ?_
  unfold tmr at h; rw [hm2] at h; exact h
theorem x_128R [Inhabited gh_] (hT : Tks Mx Mq) (hV : VT Mx Mq) (ht : nm9_ Mx t) (h : K (vrr Mq (Mq 151 t)) Mx) : Tr_ wd0 pg0 (d + 3) 128 [.inr (.inr 1), .inl t] Mx (ri_ K) Qt := by
  obtain ⟨v1, v2, v3, v4, v5, v6, v7, v8⟩ := hV
  obtain ⟨m, hm⟩ := Int.eq_ofNat_of_zero_le v5.1
  have hm2 : (Mq 171 (Mq 6 61)).toNat = m := by rw [v2, v5.2.2, hm]; rfl
  refine x_128 (η := Mq 151) (m := m) v1 v3 v4 hm (by have := v5.2.1; omega) (tk9_of hT ht.1) (fun k h1 h2 => ?_) ?_
  · have := v7 k h1 (by rw [hm]; exact h2)
    exact ⟨tk9_of hT this.1.1, lk_of hT this.1 ht⟩
  · unfold vrr at h
    rw [hm2, v2] at h
    rw [fi_cg (g' := fun i => Mq 177 (8 * Mx 1 18 + i)) (v' := Mq 151 t) m 0 (fun i h1 h2 => ?_)]
    · exact h
    · rw [(v7 i h1 (by rw [hm]; omega)).2.1]
theorem q_276R [Inhabited gh_] (hV : VT Mx Mq) {v : Int} (h : K (if vrr Mq v = -1 then -1 else 8 * Mq 6 61 + vrr Mq v) Mq) : Tr_ wd0 pg0 (d + 1) 276 [.inr (.inr 6), .inl (Mq 6 61), .inr (.inl v)] Mq (ri_ K) Qt := by
  obtain ⟨v1, v2, v3, v4, v5, v6, v7, v8⟩ := hV
  obtain ⟨m, hm⟩ := Int.eq_ofNat_of_zero_le v5.1
  have hm2 : (Mq 171 (Mq 6 61)).toNat = m := by rw [v2, v5.2.2, hm]; rfl
  refine q_276 (m := m) (by rw [v2]; exact v3) (by rw [v2]; exact v4) (by rw [v2, v5.2.2, hm]) (by have := v5.2.1; omega) ?_
  unfold vrr at h; rw [hm2] at h; exact h
theorem tmr_r [Inhabited gh_] (hV : VT Mx Mq) {v : Int} : tmr Mq v = -1 ∨ (0 ≤ tmr Mq v ∧ tmr Mq v < Mq 173 (Mq 6 61)) := by
  have h6 := hV.2.2.2.2.2.1
  have e : Mq 173 (Mq 6 61) = Mx 126 (Mx 1 18) := by rw [hV.2.1]; exact h6.2.2
  rcases fi_r (fun i => Mq 178 (3 * Mq 6 61 + i)) v (Mq 173 (Mq 6 61)).toNat 0 with h | h
  · exact .inl h
  · exact .inr ⟨h.1, by have := h.2.1; unfold tmr; omega⟩
theorem vrr_r [Inhabited gh_] (hV : VT Mx Mq) {v : Int} : vrr Mq v = -1 ∨ (0 ≤ vrr Mq v ∧ vrr Mq v < Mq 171 (Mq 6 61)) := by
  have h6 := hV.2.2.2.2.1
  have e : Mq 171 (Mq 6 61) = Mx 124 (Mx 1 18) := by rw [hV.2.1]; exact h6.2.2
  rcases fi_r (fun i => Mq 177 (8 * Mq 6 61 + i)) v (Mq 171 (Mq 6 61)).toNat 0 with h | h
  · exact .inl h
  · exact .inr ⟨h.1, by have := h.2.1; unfold vrr; omega⟩
theorem tmr_c [Inhabited gh_] {Mq' : mm_} (h : QF Mq Mq') {v : Int} : tmr Mq' v = tmr Mq v := by unfold tmr; rw [QF_r h (r := 178) (by decide) (by decide), QF_r h (r := 173) (by decide) (by decide), QF_61 h]
theorem vrr_c [Inhabited gh_] {Mq' : mm_} (h : QF Mq Mq') {v : Int} : vrr Mq' v = vrr Mq v := by unfold vrr; rw [QF_r h (r := 177) (by decide) (by decide), QF_r h (r := 171) (by decide) (by decide), QF_61 h]
/-- Q: the name of a timer -/
theorem q_282g [Inhabited gh_] (hV : VT Mx Mq) {a : Int} (ha : Mq 6 12 = a) (h0 : 0 ≤ a) (h12 : a < 1200) (hg : go_ Mq) (h1 : Mq 149 a = 1) (h : K (tmr Mq (Mq 151 a)) (if tmr Mq (Mq 151 a) < 0 then nt_ (nx_ Mq) 4 (Mq 150 a) else nx_ Mq)) : Tr_ wd0 pg0 (d + 4) 282 [.inr (.inr 6)] Mq (ri_ K) Qt := t_282 fun V hV9 hW => b_282_0 (Tr_mono _) hV9 hW Mq (by
  subst ha
  refine q_233g hg h0 h12 h1 ?_
  refine q_227g (nx_go hg) ?_
  rw [if_pos rfl]
  have hq : QF Mq (nx_ Mq) := nx_QF
  have e151 : nx_ Mq 151 = Mq 151 := nx_ne (by decide)
  have e150 : nx_ Mq 150 = Mq 150 := nx_ne (by decide)
  refine ⟨by omega, q_283R (VT_c XF_rf hq hV) ?_⟩
  rw [e151, tmr_c hq]
  intro _
  by_cases c : nx_ Mq 6 16 = 0
  · rw [if_pos c]
    have : (if tmr Mq (Mq 151 (Mq 6 12)) < 0 then nt_ (nx_ Mq) 4 (Mq 150 (Mq 6 12)) else nx_ Mq) = nx_ Mq := by
      split
      · unfold nt_; rw [if_pos c]
      · rfl
    rw [this] at h
    exact ri_i h
  · rw [if_neg c]
    by_cases c2 : tmr Mq (Mq 151 (Mq 6 12)) < 0
    · rw [if_pos c2] at h ⊢
      rw [e150]
      exact ⟨by omega, q_236 (ri_i h)⟩
    · rw [if_neg c2] at h ⊢
      exact ri_i h)
/-- its name is not there: stopped -/
theorem q_282s [Inhabited gh_] (hs : sp_ Mq) (h : K (-1) Mq) : Tr_ wd0 pg0 (d + 4) 282 [.inr (.inr 6)] Mq (ri_ K) Qt := t_282 fun V hV9 hW => b_282_0 (Tr_mono _) hV9 hW Mq (by
  refine q_233s hs ?_
  refine q_227s hs ?_
  rw [if_neg (by decide)]; exact ri_i h)
theorem q_282w [Inhabited gh_] {a : Int} (ha : Mq 6 12 = a) (hi : in9_ Mq) (hs : ok_ Mq) (h1 : Mq 149 a ≠ 1) (h : K (-1) (bf_ Mq 1 (Mq 150 a))) : Tr_ wd0 pg0 (d + 4) 282 [.inr (.inr 6)] Mq (ri_ K) Qt := t_282 fun V hV9 hW => b_282_0 (Tr_mono _) hV9 hW Mq (by
  subst ha
  refine q_233w hs hi h1 ?_
  refine q_227s (bf_sp hs.2 (by decide)) ?_
  rw [if_neg (by decide)]; exact ri_i h)
theorem q_282r [Inhabited gh_] (ha : Mq 6 12 = 1200) (hs : ok_ Mq) (h1 : Mq 149 1200 = 1) (h : K (-1) (bf_ Mq 2 (Mq 150 1200))) : Tr_ wd0 pg0 (d + 4) 282 [.inr (.inr 6)] Mq (ri_ K) Qt := t_282 fun V hV9 hW => b_282_0 (Tr_mono _) hV9 hW Mq (by
  refine q_233r hs ha (by rw [ha]; exact h1) ?_
  refine q_227s (bf_sp hs.2 (by decide)) ?_
  rw [if_neg (by decide), ha]; exact ri_i h)
end NN
end T83_er
section T84_er
/-! first: active -/
section AC
variable {dq D n d : Nat} {b F : Int} {Mx Mq Mx' Mq' M : mm_} {a o : Int} {sg : List (Int × Int)} {ws : List (Int × Int × Int)} {c : Int} {cm : List Int} {f : Int} {fm : List (Int × Int)} {cc : Int} {cd : List Int} {K : Int → mm_ → Prop} {Kv : mm_ → Prop} {Qr : qr_} {Qt : qt_} {V : vv_}
/-- Q: active, whatever its name does -/
theorem q_272a [Inhabited gh_] (hi : in9_ Mq) (ha : Mq 6 12 = a) (hk : KQ 39 (Mq 149 a) (Mq 151 a)) (h : Tr_ wd0 pg0 (d + 2) 230 [.inr (.inr 6)] Mq (rv_ fun M15 => Tr_ wd0 pg0 (d + 2) 282 [.inr (.inr 6)] M15 (ri_ fun v2 M16 => Tr_ wd0 pg0 (d + 2) 277 [.inr (.inr 6), .inl 10, .inl v2] M16 (rv_ fun M17 => Tr_ wd0 pg0 (d + 2) 227 [.inr (.inr 6)] M17 (ri_ fun v3 M18 => (if v3 = 0 then Tr_ wd0 pg0 (d + 2) 278 [.inr (.inr 6), .inl 2, .inl (Mq 150 a), .inl (if M18 6 16 ≠ 0 ∧ v2 < 0 then 1 else 0)] M18 (rv_ fun M19 => K 1 M19) Qt else K 1 M18)) Qt) Qt) Qt) Qt) : Tr_ wd0 pg0 (d + 4) 272 [.inr (.inr 6)] Mq (ri_ K) Qt := by
  refine q_272o (k := 39) hi ha hk ⟨by decide, by decide, by decide⟩ ?_
  unfold in9_ at hi
  rw [ha] at hi
  have h4 : Mq 149 a = 4 ∧ Mq 151 a = 39 := by unfold KQ at hk; (clear hi ha h; lia)
  rw [if_neg (by (clear hi ha hk h; lia)), if_neg (by omega)]
  refine t_281 fun V hV hW => b_281_0 (Tr_mono _) hV hW _ Mq ?_
  rw [ha, if_pos h4.1, h4.2]
  refine ⟨hi, hi, b_281_28 (Tr_mono _) hV hW _ _ Mq ?_⟩
  rw [if_pos (by decide)]
  refine Tr_m h (fun vs N hq => ⟨hq.1, Tr_m hq.2 (fun vs N hq => ?_) (fun _ _ q => q)⟩) (fun _ _ q => q)
  obtain ⟨v2, hv, hq⟩ := hq
  refine ⟨v2, hv, Tr_m hq (fun vs N hq => ⟨hq.1, Tr_m hq.2 (fun vs N hq => ?_) (fun _ _ q => q)⟩) (fun _ _ q => q)⟩
  obtain ⟨v3, hv3, hq⟩ := hq
  refine ⟨v3, hv3, ?_⟩
  by_cases c1 : v3 = 0
  · rw [if_pos c1] at hq ⊢
    intro _
    have fin : ∀ bb : Int, bb = (if N 6 16 ≠ 0 ∧ v2 < 0 then 1 else 0) → Tr_ wd0 pg0 (d + 2) 278 [.inr (.inr 6), .inl 2, .inl (Mq 150 a), .inl bb] N (rv_ fun M19 => bl_ 1 ∧ ri_ (fun v4 M4 => bl_ v4 ∧ ri_ K [.inl v4] M4) [.inl 1] M19) Qt := by
      intro bb hbb
      rw [hbb]
      exact Tr_m hq (fun vs N hq => ⟨hq.1, .inr rfl, ri_i ⟨.inr rfl, ri_i hq.2⟩⟩) (fun _ _ q => q)
    by_cases c2 : N 6 16 = 0
    · rw [if_pos c2]; exact fin 0 (by rw [if_neg (fun h => h.1 c2)])
    · rw [if_neg c2]
      by_cases c3 : v2 < 0
      · rw [if_pos c3]; exact fin 1 (by rw [if_pos ⟨c2, c3⟩])
      · rw [if_neg c3]; exact fin 0 (by rw [if_neg (fun h => c3 h.2)])
  · rw [if_neg c1] at hq ⊢
    exact ⟨.inr rfl, ri_i ⟨.inr rfl, ri_i hq⟩⟩
theorem x_act [Inhabited gh_] (hR : PR b F Mx Mq a o sg ws c cm f fm cc cd) (hk : Mx 70 a = 39) (hS : b = 1 → (gS a).bind (tS (Mx 70) 100) ≠ none) (hES : ES (Mx 70) 6 o a = (gS a).bind (tS (Mx 70) 100)) (hK : FK n dq 6 b F Mx Mq a o sg ws c cm f fm cc cd K) (hQ : b = 0 → ∀ Mx', XW dq 0 Mx Mq Mx' → Qt 8 Mx') :
    Tr_ wd0 pg0 (D + 4) 105 [.inr (.inr 1)] Mx (rv_ fun M10 => Tr_ wd0 pg0 (D + 4) 107 [.inr (.inr 1)] M10 (ri_ fun v7 M11 => Tr_ wd0 pg0 (D + 4) 129 [.inr (.inr 1), .inl v7] M11 (ri_ fun v8 M12 =>
      (bl_ (M12 1 8) → (if M12 1 8 = 0 then Tr_ wd0 pg0 (D + 4) 138 [.inr (.inr 1), .inl 7] M12 (rv_ fun M13 => Tr_ wd0 pg0 (D + 4) 138 [.inr (.inr 1), .inl v8] M13 (rv_ fun M14 => (if v8 = (-1) then ri_ K [.inl (-1)] M14 else ri_ K [.inl 1] M14)) Qt) Qt
      else (if v8 = (-1) then Tr_ wd0 pg0 (D + 4) 116 [.inr (.inr 1), .inl 4, .inl v7] M12 (rv_ fun M17 => Tr_ wd0 pg0 (D + 4) 138 [.inr (.inr 1), .inl 7] M17 (rv_ fun M18 => Tr_ wd0 pg0 (D + 4) 138 [.inr (.inr 1), .inl v8] M18 (rv_ fun M19 => (if v8 = (-1) then ri_ K [.inl (-1)] M19 else ri_ K [.inl 1] M19)) Qt) Qt) Qt
      else Tr_ wd0 pg0 (D + 4) 138 [.inr (.inr 1), .inl 7] M12 (rv_ fun M15 => Tr_ wd0 pg0 (D + 4) 138 [.inr (.inr 1), .inl v8] M15 (rv_ fun M16 => (if v8 = (-1) then ri_ K [.inl (-1)] M16 else ri_ K [.inl 1] M16)) Qt) Qt)))) Qt) Qt) Qt := by
  obtain ⟨hT, hVT, hER, hQE, hXE, hL⟩ := hR
  have h3 : Mx 1 3 = a := hER.2.1
  have ha := ER_a hER
  have hKQ := (hT a hER.1).1
  rw [hk] at hKQ
  have hgo := ER_goq hER
  have hb01 := hER.2.2.2.2.2.2.2.2.1
  have hin : in9_ Mq := by unfold in9_; rw [hER.2.2.1]; omega
  have hfl3 : f + fm.length + 1 < 3000 := by have := hL.2.2.2.2.2.2.2.2; (clear hk hS hES hK hQ hT hVT hER hQE hXE hL h3 hKQ hgo hb01 hin; omega)
  have hf0 : 0 ≤ f := hL.2.2.2.2.2.2.2.1
  have hwl : (ws.length : Int) ≤ 1200 := by have := hL.2.2.2.2.2.2.1; (clear hk hS hES hK hQ hT hVT hER hQE hXE hL h3 hKQ hgo hb01 hin hfl3 hf0; omega)
  have h150 : ∀ i, gd_ Mx i → Mq 150 i = Mx 71 i := fun i h => (hT i h).2.1.symm
  refine x_105 (ER_iX hER) (fun h12 => ?_) (fun h12 => ?_)
  · rw [h3] at h12
    obtain ⟨hER1, hst1, hfb1⟩ := ER_go hER h12 (by rw [hk]; decide)
    have hX1 : XF Mx (nX_ Mx) := nX_XF
    have hQ1 : QF Mq (nx_ Mq) := nx_QF
    have g1 : gd_ Mx (a + 1) := gd_c (XF_70 hX1 (r := 70) (by decide) (by decide) (by decide)).symm hER1.1
    have e70 : nX_ Mx 70 (nX_ Mx 1 3) = Mx 70 (a + 1) := by rw [nX_ne (by decide), hER1.2.1]
    have h31 : nX_ Mx 1 3 = a + 1 := hER1.2.1
    have hKQ1 : KQ (Mx 70 (a + 1)) (nx_ Mq 149 (a + 1)) (nx_ Mq 151 (a + 1)) := KQ_at hT hX1 hQ1 hER1.1
    rw [gb_eq2 h12] at hS hES
    have tail : ∀ (M16 : mm_) (K : Int → mm_ → Prop) (Qt : qt_), sp_ M16 → M16 6 104 = Mq 6 104 → K 1 (pu_ M16 10 (-1)) → Tr_ wd0 pg0 (dq + 8) 277 [.inr (.inr 6), .inl 10, .inl (-1)] M16 (rv_ fun M17 => Tr_ wd0 pg0 (dq + 8) 227 [.inr (.inr 6)] M17 (ri_ fun v3 M18 => (if v3 = 0 then Tr_ wd0 pg0 (dq + 8) 278 [.inr (.inr 6), .inl 2, .inl (Mq 150 a), .inl (if M18 6 16 ≠ 0 ∧ (-1 : Int) < 0 then 1 else 0)] M18 (rv_ fun M19 => K 1 M19) Qt else K 1 M18)) Qt) Qt := by
      intro M16 K Qt hsp h104 hk9
      refine q_277 (by rw [h104, hQE.2.2.2.2.2.2.1]; (clear hk hS hES hK hQ hT hVT hER hQE hXE hL h3 ha hKQ hgo hb01 hin hfl3 hwl h150 h12 hER1 hst1 hfb1 hX1 hQ1 g1 e70 h31 hKQ1 hsp h104 hk9; lia)) (by rw [h104, hQE.2.2.2.2.2.2.1]; (clear hk hS hES hK hQ hT hVT hER hQE hXE hL h3 ha hKQ hgo hb01 hin hf0 hwl h150 h12 hER1 hst1 hfb1 hX1 hQ1 g1 e70 h31 hKQ1 hsp h104 hk9; omega)) ?_
      have hsp2 : sp_ (pu_ M16 10 (-1)) := by unfold sp_; rw [pu_6 (by decide), pu_6 (by decide)]; exact hsp
      refine q_227s hsp2 ?_
      rw [if_neg (by decide)]; exact hk9
    refine x_107 (ER_iX hER1) (fun hn h12b => ?_) (fun hn => ?_) (fun hn h12b => ?_)
    · -- a name is there
      rw [e70] at hn
      rw [h31] at h12b ⊢
      obtain ⟨hER2, hst2, hfb2⟩ := ER_go hER1 h12b (by rw [nX_ne (by decide), hn]; decide)
      have e112 : a + 1 + 1 = a + 2 := by (clear hk hS hES hK hQ hT hVT hER hQE hXE hL h3 ha hKQ hgo hb01 hin hfl3 hf0 hwl h150 h12 hER1 hst1 hfb1 hX1 hQ1 g1 e70 h31 hKQ1 tail hn h12b hER2 hst2 hfb2; lia)
      rw [e112] at hER2 hst2 hfb2
      have hX2 : XF Mx (nX_ (nX_ Mx)) := XF_tr hX1 nX_XF
      have hQ2 : QF Mq (nx_ (nx_ Mq)) := QF_tr hQ1 nx_QF
      have hT2 := Tks_c hX2 hQ2 hT
      have hV2 := VT_c hX2 hQ2 hVT
      have nm1 : nm9_ (nX_ (nX_ Mx)) (a + 1) := by
        have e : nX_ (nX_ Mx) 70 = Mx 70 := XF_70 hX2 (by decide) (by decide) (by decide)
        exact ⟨gd_c e g1, by rw [e]; exact hn⟩
      have e151 : nx_ (nx_ Mq) 151 = Mq 151 := QF_r hQ2 (by decide) (by decide)
      refine x_129R hT2 hV2 nm1 ?_
      rw [e151, tmr_c hQ2]
      generalize hv8 : tmr Mq (Mq 151 (a + 1)) = v8
      have hv8r : v8 = -1 ∨ (0 ≤ v8 ∧ v8 < Mq 173 (Mq 6 61)) := by rw [← hv8]; exact tmr_r hVT
      have h8 : nX_ (nX_ Mx) 1 8 = b := by rw [nX_1 (by decide), nX_1 (by decide)]; exact hER.2.2.2.2.2.2.1
      have h7 : nX_ (nX_ Mx) 1 7 = Mx 1 7 := by rw [nX_1 (by decide), nX_1 (by decide)]
      have hst0 : nX_ (nX_ Mx) 5 3 = Mx 5 3 := by rw [nX_ne (by decide), nX_ne (by decide)]
      have hES2 : ES (Mx 70) 6 o a = some (a + 2) := by
        rw [hES]; unfold tS gS; rw [if_pos hn, if_pos h12b]
        rw [e112]
      have t1 : nx_ Mq 149 (a + 1) = 1 := by rw [hn] at hKQ1; unfold KQ at hKQ1; (clear hk hS hES hK hQ hT hVT hER hQE hXE hL h3 ha hKQ hgo hb01 hin hfl3 hf0 hwl h150 h12 hER1 hst1 hfb1 hX1 hQ1 g1 e70 h31 tail hn h12b hER2 hst2 hfb2 e112 hX2 hQ2 hT2 hV2 nm1 e151 hv8 h8 h7 hst0 hES2; lia)
      -- Q's way
      have hQway : ∀ (Mf : mm_) (bd : Int), Mf = (if v8 < 0 then nt_ (nx_ (nx_ Mq)) 4 (Mx 71 (a + 1)) else nx_ (nx_ Mq)) → bd = (if b ≠ 0 ∧ v8 < 0 then 1 else 0) → ∀ M', Ex9 dq (ad_ (pu_ Mf 10 v8) 2 (Mx 71 a) bd) M' → Rq dq 0 Mq 1 M' := by
        intro Mf bd hMf hbd M' hex
        refine Rq_272 hgo fun K Qt hk9 => ?_
        refine q_272a (d := dq + 6) hin hER.2.2.1 hKQ ?_
        refine q_230g hgo (by rw [hER.2.2.1]; exact ha.1) (by rw [hER.2.2.1]; exact h12) ?_
        refine q_282g (Mx := nX_ Mx) (VT_c hX1 hQ1 hVT) (a := a + 1) hER1.2.2.1 (by (clear hk hS hES hK hQ hT hVT hER hQE hXE hL h3 hKQ hgo hb01 hin hfl3 hf0 hwl h150 hER1 hst1 hfb1 hX1 hQ1 g1 e70 hKQ1 tail hn hER2 hst2 hfb2 e112 hX2 hQ2 hT2 hV2 nm1 e151 hv8 hv8r h8 h7 hst0 hES2 t1 hMf hbd hex hk9; lia)) h12b (nx_go hgo) t1 ?_
        rw [nx_ne (r := 151) (by decide), nx_ne (r := 150) (by decide), tmr_c hQ1, hv8, h150 (a + 1) g1, ← hMf]
        have f6 : ∀ i : Int, i ≠ 12 → i ≠ 13 → i ≠ 14 → Mf 6 i = Mq 6 i := by
          intro i x y z
          rw [hMf]; split
          · rw [nt_6 y z, nx_6 x, nx_6 x]
          · rw [nx_6 x, nx_6 x]
        refine q_277 (by rw [f6 104 (by decide) (by decide) (by decide), hQE.2.2.2.2.2.2.1]; omega) (by rw [f6 104 (by decide) (by decide) (by decide), hQE.2.2.2.2.2.2.1]; omega) ?_
        have e16 : pu_ Mf 10 v8 6 16 = b := by rw [pu_6 (by decide), f6 16 (by decide) (by decide) (by decide)]; exact hER.2.2.2.2.2.2.2.1
        have hg3 : go_ (pu_ Mf 10 v8) := by
          unfold go_; rw [e16]
          rcases hb01 with h | h
          · left
            rw [pu_6 (by decide), hMf]
            have : nx_ (nx_ Mq) 6 16 = 0 := by rw [nx_6 (by decide), nx_6 (by decide), hER.2.2.2.2.2.2.2.1]; exact h
            split
            · unfold nt_; rw [if_pos this, nx_6 (by decide), nx_6 (by decide), hER.2.2.2.2.2.2.2.2.2.1 h]; (clear hk hS hES hK hQ hT hVT hER hQE hXE hL h3 ha hKQ hgo hin hfl3 hf0 hwl h150 h12 hER1 hst1 hfb1 hX1 hQ1 g1 e70 h31 hKQ1 tail hn h12b hER2 hst2 hfb2 e112 hX2 hQ2 hT2 hV2 nm1 e151 hv8 hv8r h8 h7 hst0 hES2 t1 hMf hbd hex hk9 f6 e16 h this; lia)
            · rw [nx_6 (by decide), nx_6 (by decide), hER.2.2.2.2.2.2.2.2.2.1 h]; omega
          · right; (clear hk hS hES hK hQ hT hVT hER hQE hXE hL h3 ha hKQ hgo hin hfl3 hf0 hwl h150 h12 hER1 hst1 hfb1 hX1 hQ1 g1 e70 h31 hKQ1 tail hn h12b hER2 hst2 hfb2 e112 hX2 hQ2 hT2 hV2 nm1 e151 hv8 hv8r h8 h7 hst0 hES2 t1 hMf hbd hex hk9 f6; lia)
        refine q_227g hg3 ?_
        rw [if_pos rfl, e16, h150 a hER.1, ← hbd]
        refine q_278 (by rw [pu_6 (by decide), f6 116 (by decide) (by decide) (by decide), hQE.2.2.1]; (clear hk hS hES hK hQ hT hVT hER hQE hXE hL h3 ha hKQ hgo hb01 hin hfl3 hf0 h150 h12 hER1 hst1 hfb1 hX1 hQ1 g1 e70 h31 hKQ1 tail hn h12b hER2 hst2 hfb2 e112 hX2 hQ2 hT2 hV2 nm1 e151 hv8 hv8r h8 h7 hst0 hES2 t1 hMf hbd hex hk9 f6 e16 hg3; lia)) (by rw [pu_6 (by decide), f6 116 (by decide) (by decide) (by decide), hQE.2.2.1]; (clear hk hS hES hK hQ hT hVT hER hQE hXE hL h3 ha hKQ hgo hb01 hin hfl3 hf0 h150 h12 hER1 hst1 hfb1 hX1 hQ1 g1 e70 h31 hKQ1 tail hn h12b hER2 hst2 hfb2 e112 hX2 hQ2 hT2 hV2 nm1 e151 hv8 hv8r h8 h7 hst0 hES2 t1 hMf hbd hex hk9 f6 e16 hg3; omega)) ?_ (Ex9_l hex (by (clear hk hS hES hK hQ hT hVT hER hQE hXE hL h3 ha hKQ hgo hb01 hin hfl3 hf0 hwl h150 h12 hER1 hst1 hfb1 hX1 hQ1 g1 e70 h31 hKQ1 tail hn h12b hER2 hst2 hfb2 e112 hX2 hQ2 hT2 hV2 nm1 e151 hv8 hv8r h8 h7 hst0 hES2 t1 hMf hbd hex hk9 f6 e16 hg3; lia)) hk9)
        rw [hbd]; split
        · exact .inr rfl
        · exact .inl rfl
      have fin : ∀ (M12 Mf : mm_) (bd s : Int), Mf = (if v8 < 0 then nt_ (nx_ (nx_ Mq)) 4 (Mx 71 (a + 1)) else nx_ (nx_ Mq)) → bd = (if b ≠ 0 ∧ v8 < 0 then 1 else 0) → s = (if v8 = -1 then -1 else 1) → XF Mx M12 → QF Mq Mf → ER b F M12 Mf (a + 2) o → M12 5 3 = Mx 5 3 → XE M12 cc cd → (b = 1 → bd = 0 → M12 1 7 = Mx 1 7 ∧ fqq_ Mf = fqq_ Mq) → (b = 1 → bd = 1 → M12 1 7 = Mx 1 7 + 1 ∧ kk_ (Mf 6 13) (Mf 6 14) ≤ 8 * Mx 71 (a + 1) + 4) → (b = 0 → M12 1 7 = Mx 1 7) → QE Mf sg ws (c :: cm) f fm → K s (pX_ (pX_ M12 7) v8) := by
        intro M12 Mf bd s hMf hbd hs hXF hQF hE12 h53 hXE12 hn0 hn1 hn2 hQEf
        have h8' : M12 1 8 = b := hE12.2.2.2.2.2.2.1
        have hE2 := pX_2 h8' hb01 7 v8 hXE12
        have hst : Mx 5 3 ≤ 9 * a + 1000 := hER.2.2.2.2.2.2.2.2.2.2.2.2.2.2
        have p53 : pX_ M12 7 5 3 ≤ M12 5 3 + 1 := by
          unfold pX_; split
          · (clear hk hS hES hK hQ hT hVT hER hQE hXE hL h3 ha hKQ hgo hb01 hin hfl3 hf0 hwl h150 h12 hER1 hst1 hfb1 hX1 hQ1 g1 e70 h31 hKQ1 tail hn h12b hER2 hst2 hfb2 e112 hX2 hQ2 hT2 hV2 nm1 e151 hv8 hv8r h8 h7 hst0 hES2 t1 hQway hMf hbd hs hXF hQF hE12 h53 hXE12 hn0 hn1 hn2 hQEf h8' hE2 hst; omega)
          · rw [up_at]; (clear hk hS hES hK hQ hT hVT hER hQE hXE hL h3 ha hKQ hgo hb01 hin hfl3 hf0 hwl h150 h12 hER1 hst1 hfb1 hX1 hQ1 g1 e70 h31 hKQ1 tail hn h12b hER2 hst2 hfb2 e112 hX2 hQ2 hT2 hV2 nm1 e151 hv8 hv8r h8 h7 hst0 hES2 t1 hQway hMf hbd hs hXF hQF hE12 h53 hXE12 hn0 hn1 hn2 hQEf h8' hE2 hst; lia)
        have hER3 : ER b F (pX_ (pX_ M12 7) v8) (ad_ (pu_ Mf 10 v8) 2 (Mx 71 a) bd) (a + 2) o := by
          refine ER_Q (Mq := Mf) (ER_pX (ER_pX hE12 (by (clear hk hS hES hK hQ hT hVT hER hQE hXE hL h3 ha hKQ hgo hb01 hin hfl3 hf0 hwl h150 h12 hER1 hst1 hfb1 hX1 hQ1 g1 e70 hKQ1 tail hn h12b hER2 hst2 hfb2 e112 hX2 hQ2 hT2 hV2 nm1 e151 hv8 hv8r h8 h7 hst0 hES2 t1 hQway hMf hbd hs hXF hQF hE12 hXE12 hn0 hn1 hn2 hQEf h8' hE2 p53; omega))) (by (clear hk hS hES hK hQ hT hVT hER hQE hXE hL h3 ha hKQ hgo hb01 hin hfl3 hf0 hwl h150 h12 hER1 hst1 hfb1 hX1 hQ1 g1 e70 hKQ1 tail hn h12b hER2 hst2 hfb2 e112 hX2 hQ2 hT2 hV2 nm1 e151 hv8 hv8r h8 h7 hst0 hES2 t1 hQway hMf hbd hs hXF hQF hE12 hXE12 hn0 hn1 hn2 hQEf h8' hE2; omega))) ?_ ?_ ?_ ?_ ?_
          all_goals rw [ad_6 (by decide), pu_6 (by decide)]
        have hbd01 : bd = 0 ∨ bd = 1 := by rw [hbd]; split; exact .inr rfl; exact .inl rfl
        have m7 : pX_ (pX_ M12 7) v8 1 7 = M12 1 7 := by rw [pX_1, pX_1]
        have hm17 : Mx 1 7 ≤ M12 1 7 ∧ M12 1 7 ≤ Mx 1 7 + 1 := by
          rcases hb01 with h | h
          · have := hn2 h; (clear hk hS hES hK hQ hT hVT hER hQE hXE hL h3 ha hKQ hgo hin hfl3 hf0 hwl h150 h12 hER1 hst1 hfb1 hX1 hQ1 g1 e70 h31 hKQ1 tail hn h12b hER2 hst2 hfb2 e112 hX2 hQ2 hT2 hV2 nm1 e151 hv8 hv8r h8 h7 hst0 hES2 t1 hQway hMf hbd hs hXF hQF hE12 h53 hXE12 hn0 hn1 hn2 hQEf h8' hE2 hst p53 hER3 hbd01 m7 h; omega)
          · rcases hbd01 with h' | h'
            · have := (hn0 h h').1; omega
            · have := (hn1 h h').1; (clear hk hS hES hK hQ hT hVT hER hQE hXE hL h3 ha hKQ hgo hin hfl3 hf0 hwl h150 h12 hER1 hst1 hfb1 hX1 hQ1 g1 e70 h31 hKQ1 tail hn h12b hER2 hst2 hfb2 e112 hX2 hQ2 hT2 hV2 nm1 e151 hv8 hv8r h8 h7 hst0 hES2 t1 hQway hMf hbd hs hXF hQF hE12 h53 hXE12 hn0 hn1 hn2 hQEf h8' hE2 hst p53 hER3 m7 h h'; omega)
        have ga2 : gd_ Mx (a + 2) := gd_c (XF_70 hXF (r := 70) (by decide) (by decide) (by decide)).symm hE12.1
        have hmono := (hT (a + 2) ga2).2.2.2.2.1 (a + 1) g1 (by (clear hk hS hES hK hQ hT hVT hER hQE hXE hL h3 ha hKQ hgo hb01 hin hfl3 hf0 hwl h150 h12 hER1 hst1 hfb1 hX1 hQ1 g1 e70 h31 hKQ1 tail hn h12b hER2 hst2 hfb2 e112 hX2 hQ2 hT2 hV2 nm1 e151 hv8 hv8r h8 h7 hst0 hES2 t1 hQway hMf hbd hs hXF hQF hE12 h53 hXE12 hn0 hn1 hn2 hQEf h8' hE2 hst p53 hER3 hbd01 m7 hm17 ga2; lia))
        have hv9 : b = 1 → bd = 0 → 0 ≤ v8 ∧ v8 < Mq 173 (Mq 6 61) := by
          intro h h'
          rcases hv8r with h9 | h9
          · rw [hbd, if_pos ⟨by (clear hk hS hES hK hQ hT hVT hER hQE hXE hL h3 ha hKQ hgo hb01 hin hfl3 hf0 hwl h150 h12 hER1 hst1 hfb1 hX1 hQ1 g1 e70 h31 hKQ1 tail hn h12b hER2 hst2 hfb2 e112 hX2 hQ2 hT2 hV2 nm1 e151 hv8 h8 h7 hst0 hES2 t1 hQway hMf hbd hs hXF hQF hE12 h53 hXE12 hn0 hn1 hn2 hQEf hE2 hst p53 hER3 hbd01 m7 hm17 ga2 hmono h' h9; lia), by omega⟩] at h'; omega
          · exact h9
        have hP := EP_atom (need := nU n 2) (t := 2) (s := s) (x := (10, v8)) (y := if b = 0 then [] else [v8, 7]) hT (by omega) (XF_tr hXF (XF_tr pX_XF pX_XF)) (QF_tr hQF (QF_tr pu_QF ad_QF)) hER3 (ad_QE (pu_QE hQEf)) hbd01 hE2 (fun h => by rw [if_pos h]) (fun h _ => by rw [if_neg (by omega)]; rfl) (by split <;> simp) (by rw [m7]; (clear hk hS hES hK hQ hT hVT hER hQE hXE hL h3 ha hKQ hgo hb01 hin hfl3 hf0 hwl h150 h12 hER1 hst1 hfb1 hX1 hQ1 g1 e70 h31 hKQ1 tail hn h12b hER2 hst2 hfb2 e112 hX2 hQ2 hT2 hV2 nm1 e151 hv8 hv8r h8 h7 hst0 hES2 t1 hQway hMf hbd hs hXF hQF hE12 h53 hXE12 hn0 hn1 hn2 hQEf h8' hE2 hst p53 hER3 hbd01 m7 ga2 hmono hv9; omega)) (by rw [m7]; (clear hk hS hES hK hQ hT hVT hER hQE hXE hL h3 ha hKQ hgo hb01 hin hfl3 hf0 hwl h150 h12 hER1 hst1 hfb1 hX1 hQ1 g1 e70 h31 hKQ1 tail hn h12b hER2 hst2 hfb2 e112 hX2 hQ2 hT2 hV2 nm1 e151 hv8 hv8r h8 h7 hst0 hES2 t1 hQway hMf hbd hs hXF hQF hE12 h53 hXE12 hn0 hn1 hn2 hQEf h8' hE2 hst p53 hER3 hbd01 m7 ga2 hmono hv9; omega)) (fun h h' => ⟨?_, by decide, by decide, by rw [m7]; exact (hn0 h h').1, ?_, fun st => .inr (.inr (.inr (.inl ⟨rfl, (hv9 h h').1, (hv9 h h').2, rfl⟩)))⟩) (fun h h' => ⟨?_, by rw [m7]; have := (hn1 h h').1; (clear hk hS hES hK hQ hT hVT hER hQE hXE hL h3 ha hKQ hgo hb01 hin hfl3 hf0 hwl h150 h12 hER1 hst1 hfb1 hX1 hQ1 g1 e70 h31 hKQ1 tail hn h12b hER2 hst2 hfb2 e112 hX2 hQ2 hT2 hV2 nm1 e151 hv8 hv8r h8 h7 hst0 hES2 t1 hQway hMf hbd hs hXF hQF hE12 h53 hXE12 hn0 hn1 hn2 hQEf h8' hE2 hst p53 hER3 hbd01 m7 hm17 ga2 hmono hv9 h h'; omega), ?_⟩) (by unfold nU; rw [if_neg (by decide)]; (clear hk hS hES hK hQ hT hVT hER hQE hXE hL h3 ha hKQ hgo hb01 hin hfl3 hf0 hwl h150 h12 hER1 hst1 hfb1 hX1 hQ1 g1 e70 h31 hKQ1 tail hn h12b hER2 hst2 hfb2 e112 hX2 hQ2 hT2 hV2 nm1 e151 hv8 hv8r h8 h7 hst0 hES2 t1 hQway hMf hbd hs hXF hQF hE12 h53 hXE12 hn0 hn1 hn2 hQEf h8' hE2 hst p53 hER3 hbd01 m7 hm17 ga2 hmono hv9; omega))
        · exact hK s _ _ (a + 2) _ 2 bd _ hP.1 hP.2 (hQway Mf bd hMf hbd) hES2
        · rw [hs, if_neg (by have := hv9 h h'; (clear hk hS hES hK hQ hT hVT hER hQE hXE hL h3 ha hKQ hgo hb01 hin hfl3 hf0 hwl h150 h12 hER1 hst1 hfb1 hX1 hQ1 g1 e70 h31 hKQ1 tail hn h12b hER2 hst2 hfb2 e112 hX2 hQ2 hT2 hV2 nm1 e151 hv8 hv8r h8 h7 hst0 hES2 t1 hQway hMf hbd hs hXF hQF hE12 h53 hXE12 hn0 hn1 hn2 hQEf h8' hE2 hst p53 hER3 hbd01 m7 hm17 ga2 hmono hv9 h h'; omega))]; rfl
        · unfold fqq_; rw [ad_6 (by decide), ad_6 (by decide), pu_6 (by decide), pu_6 (by decide)]; exact (hn0 h h').2
        · rw [hs, if_pos]
          rcases hv8r with h9 | h9
          · exact h9
          · rw [hbd, if_neg (by (clear hk hS hES hK hQ hT hVT hER hQE hXE hL h3 ha hKQ hgo hb01 hin hfl3 hf0 hwl h150 h12 hER1 hst1 hfb1 hX1 hQ1 g1 e70 h31 hKQ1 tail hn h12b hER2 hst2 hfb2 e112 hX2 hQ2 hT2 hV2 nm1 e151 hv8 h8 h7 hst0 hES2 t1 hQway hMf hbd hs hXF hQF hE12 h53 hXE12 hn0 hn1 hn2 hQEf h8' hE2 hst p53 hER3 hbd01 m7 hm17 ga2 hmono hv9 h h'; omega))] at h'; omega
        · rw [ad_6 (by decide), ad_6 (by decide), pu_6 (by decide), pu_6 (by decide)]
          have := (hn1 h h').2; (clear hk hS hES hK hQ hT hVT hER hQE hXE hL h3 ha hKQ hgo hb01 hin hfl3 hf0 hwl h150 h12 hER1 hst1 hfb1 hX1 hQ1 g1 e70 h31 hKQ1 tail hn h12b hER2 hst2 hfb2 e112 hX2 hQ2 hT2 hV2 nm1 e151 hv8 hv8r h8 h7 hst0 hES2 t1 hQway hMf hbd hs hXF hQF hE12 h53 hXE12 hn0 hn1 hn2 hQEf h8' hE2 hst p53 hER3 hbd01 m7 hm17 ga2 hv9 h h'; lia)
      have ret : ∀ M14, K (if v8 = -1 then -1 else 1) M14 → (if v8 = (-1) then ri_ K [.inl (-1)] M14 else ri_ K [.inl 1] M14) := by
        intro M14 hk9
        split
        · rename_i h; rw [if_pos h] at hk9; exact ri_i hk9
        · rename_i h; rw [if_neg h] at hk9; exact ri_i hk9
      have h12m : nX_ (nX_ Mx) 1 2 = 5 := by rw [nX_1 (by decide), nX_1 (by decide)]; exact hVT.1
      have stb := ER_st2 hER
      have hXE2 : XE (nX_ (nX_ Mx)) cc cd := nX_E (nX_E hXE)
      have hQE2 : QE (nx_ (nx_ Mq)) sg ws (c :: cm) f fm := nx_QE (nx_QE hQE)
      have puts2 : ∀ M12 : mm_, M12 1 2 = 5 → M12 5 3 = Mx 5 3 → K (if v8 = -1 then -1 else 1) (pX_ (pX_ M12 7) v8) → Tr_ wd0 pg0 (D + 4) 138 [.inr (.inr 1), .inl 7] M12 (rv_ fun M13 => Tr_ wd0 pg0 (D + 4) 138 [.inr (.inr 1), .inl v8] M13 (rv_ fun M14 => (if v8 = (-1) then ri_ K [.inl (-1)] M14 else ri_ K [.inl 1] M14)) Qt) Qt := by
        intro M12 e2 e53 hk9
        have p53 : pX_ M12 7 5 3 = M12 5 3 ∨ pX_ M12 7 5 3 = M12 5 3 + 1 := by
          unfold pX_; split
          · exact .inl rfl
          · exact .inr (by rw [up_at])
        refine x_138 e2 (by (clear hk hS hES hK hQ hT hVT hER hQE hXE hL h3 ha hKQ hgo hb01 hin hfl3 hf0 hwl h150 h12 hER1 hst1 hfb1 hX1 hQ1 g1 e70 h31 hKQ1 tail hn h12b hER2 hst2 hfb2 e112 hX2 hQ2 hT2 hV2 nm1 e151 hv8 hv8r h8 h7 hst0 hES2 t1 hQway fin ret h12m hXE2 hQE2 e2 hk9 p53; omega)) (by (clear hk hS hES hK hQ hT hVT hER hQE hXE hL h3 ha hKQ hgo hb01 hin hfl3 hf0 hwl h150 h12 hER1 hst1 hfb1 hX1 hQ1 g1 e70 h31 hKQ1 tail hn h12b hER2 hst2 hfb2 e112 hX2 hQ2 hT2 hV2 nm1 e151 hv8 hv8r h8 h7 hst0 hES2 t1 hQway fin ret h12m hXE2 hQE2 e2 hk9 p53; omega)) ?_
        refine x_138 (by rw [pX_1]; exact e2) (by rcases p53 with e | e <;> (clear hk hS hES hK hQ hT hVT hER hQE hXE hL h3 ha hKQ hgo hb01 hin hfl3 hf0 hwl h150 h12 hER1 hst1 hfb1 hX1 hQ1 g1 e70 h31 hKQ1 tail hn h12b hER2 hst2 hfb2 e112 hX2 hQ2 hT2 hV2 nm1 e151 hv8 hv8r h8 h7 hst0 hES2 t1 hQway fin ret h12m hXE2 hQE2 e2 hk9; omega)) (by rcases p53 with e | e <;> (clear hk hS hES hK hQ hT hVT hER hQE hXE hL h3 ha hKQ hgo hb01 hin hfl3 hf0 hwl h150 h12 hER1 hst1 hfb1 hX1 hQ1 g1 e70 h31 hKQ1 tail hn h12b hER2 hst2 hfb2 e112 hX2 hQ2 hT2 hV2 nm1 e151 hv8 hv8r h8 h7 hst0 hES2 t1 hQway fin ret h12m hXE2 hQE2 e2 hk9; lia)) ?_
        exact ret _ hk9
      have hpl := tk_p hT g1
      intro _
      rw [h8]
      rcases hb01 with hb | hb
      · rw [if_pos hb]
        refine puts2 _ h12m hst0 (fin _ (if v8 < 0 then nt_ (nx_ (nx_ Mq)) 4 (Mx 71 (a + 1)) else nx_ (nx_ Mq)) _ _ rfl rfl rfl hX2 ?_ ?_ hst0 hXE2 (fun h => by (clear hk hS hES hK hQ hT hVT hER hQE hXE hL h3 ha hKQ hgo hin hfl3 hf0 hwl h150 h12 hER1 hst1 hfb1 hX1 hQ1 g1 e70 h31 hKQ1 tail hn h12b hER2 hst2 hfb2 e112 hX2 hQ2 hT2 hV2 nm1 e151 hv8 hv8r h8 h7 hst0 hES2 t1 hQway fin ret h12m stb hXE2 hQE2 puts2 hpl; lia)) (fun h => by omega) (fun _ => h7) ?_)
        all_goals
          have e0 : nx_ (nx_ Mq) 6 16 = 0 := by rw [nx_6 (by decide), nx_6 (by decide), hER.2.2.2.2.2.2.2.1]; exact hb
          have e : (if v8 < 0 then nt_ (nx_ (nx_ Mq)) 4 (Mx 71 (a + 1)) else nx_ (nx_ Mq)) = nx_ (nx_ Mq) := by
            split
            · unfold nt_; rw [if_pos e0]
            · rfl
          rw [e]
        · exact hQ2
        · exact hER2
        · exact hQE2
      · rw [if_neg (by (clear hk hS hES hK hQ hT hVT hER hQE hXE hL h3 ha hKQ hgo hin hfl3 hf0 hwl h150 h12 hER1 hst1 hfb1 hX1 hQ1 g1 e70 h31 hKQ1 tail hn h12b hER2 hst2 hfb2 e112 hX2 hQ2 hT2 hV2 nm1 e151 hv8 hv8r h8 h7 hst0 hES2 t1 hQway fin ret h12m stb hXE2 hQE2 puts2 hpl; lia))]
        rcases hv8r with h9 | h9
        · rw [if_pos h9]
          have hfb3 : nX_ (nX_ Mx) 1 7 + 1 + 8 * (1201 - (a + 2)) ≤ 1000001000 - (gg_ : Int) := by (clear hk hS hES hK hQ hT hVT hER hQE hXE hL h3 ha hKQ hgo hin hfl3 hf0 hwl h150 h12 hER1 hst1 hfb1 hX1 hQ1 g1 e70 hKQ1 tail hn h12b hER2 hst2 e112 hX2 hQ2 hT2 hV2 nm1 e151 hv8 h8 hst0 hES2 t1 hQway fin ret h12m stb hXE2 hQE2 puts2 hpl hb h9; omega)
          have h71 : nX_ (nX_ Mx) 71 (a + 1) = Mx 71 (a + 1) := by rw [nX_ne (by decide), nX_ne (by decide)]
          have hnt := ER_nt (k := 4) (t := a + 1) (p := Mx 71 (a + 1)) hER2 hb (by decide) h71 hpl hfb3
          refine x_116 (by (clear hk hS hES hK hQ hT hVT hER hQE hXE hL h3 hKQ hgo hin hfl3 hf0 hwl h150 hER1 hst1 hfb1 hX1 hQ1 g1 e70 hKQ1 tail hn hER2 hst2 hfb2 e112 hX2 hQ2 hT2 hV2 nm1 e151 hv8 h8 h7 hst0 hES2 t1 hQway fin ret h12m stb hXE2 hQE2 puts2 hpl hb h9 hfb3 h71 hnt; lia)) (by (clear hk hS hES hK hQ hT hVT hER hQE hXE hL h3 hKQ hgo hin hfl3 hf0 hwl h150 hER1 hst1 hfb1 hX1 hQ1 g1 e70 hKQ1 tail hn hER2 hst2 hfb2 e112 hX2 hQ2 hT2 hV2 nm1 e151 hv8 h8 h7 hst0 hES2 t1 hQway fin ret h12m stb hXE2 hQE2 puts2 hpl hb h9 hfb3 h71 hnt; omega)) (by rw [h7]; exact (ER_fl hER).1) (by rw [h7]; exact (ER_fl hER).2) ?_
          have ef : (if v8 < 0 then nt_ (nx_ (nx_ Mq)) 4 (Mx 71 (a + 1)) else nx_ (nx_ Mq)) = nt_ (nx_ (nx_ Mq)) 4 (Mx 71 (a + 1)) := if_pos (by omega)
          refine puts2 _ (by rw [nt1_1 (by decide) (by decide) (by decide)]; exact h12m) (by rw [nt1_r (by decide)]; exact hst0) (fin _ (nt_ (nx_ (nx_ Mq)) 4 (Mx 71 (a + 1))) 1 _ ef.symm (by rw [if_pos ⟨by (clear hk hS hES hK hQ hT hVT hER hQE hXE hL h3 ha hKQ hgo hin hfl3 hf0 hwl h150 h12 hER1 hst1 hfb1 hX1 hQ1 g1 e70 h31 hKQ1 tail hn h12b hER2 hst2 hfb2 e112 hX2 hQ2 hT2 hV2 nm1 e151 hv8 h8 h7 hst0 hES2 t1 hQway fin ret h12m stb hXE2 hQE2 puts2 hpl h9 hfb3 h71 hnt ef; lia), by omega⟩]) rfl (XF_tr hX2 nt1_XF) (QF_tr hQ2 nt_QF) hnt.1 (by rw [nt1_r (by decide)]; exact hst0) (XE_c (by rw [nt1_r (by decide)]) (nt1_r (by decide)) hXE2) (fun _ h => absurd h (by decide)) (fun _ _ => ⟨by rw [nt1_7, h7], hnt.2⟩) (fun h => by (clear hk hS hES hK hQ hT hVT hER hQE hXE hL h3 ha hKQ hgo hin hfl3 hf0 hwl h150 h12 hER1 hst1 hfb1 hX1 hQ1 g1 e70 h31 hKQ1 tail hn h12b hER2 hst2 hfb2 e112 hX2 hQ2 hT2 hV2 nm1 e151 hv8 h8 h7 hst0 hES2 t1 hQway fin ret h12m stb hXE2 hQE2 puts2 hpl h9 hfb3 h71 hnt ef; lia)) (nt_QE hQE2))
        · rw [if_neg (by (clear hk hS hES hK hQ hT hVT hER hQE hXE hL h3 ha hKQ hgo hin hfl3 hf0 hwl h150 h12 hER1 hst1 hfb1 hX1 hQ1 g1 e70 h31 hKQ1 tail hn h12b hER2 hst2 hfb2 e112 hX2 hQ2 hT2 hV2 nm1 e151 hv8 h8 h7 hst0 hES2 t1 hQway fin ret h12m stb hXE2 hQE2 puts2 hpl hb; omega))]
          have ef : (if v8 < 0 then nt_ (nx_ (nx_ Mq)) 4 (Mx 71 (a + 1)) else nx_ (nx_ Mq)) = nx_ (nx_ Mq) := if_neg (by (clear hk hS hES hK hQ hT hVT hER hQE hXE hL h3 ha hKQ hgo hin hfl3 hf0 hwl h150 h12 hER1 hst1 hfb1 hX1 hQ1 g1 e70 h31 hKQ1 tail hn h12b hER2 hst2 hfb2 e112 hX2 hQ2 hT2 hV2 nm1 e151 hv8 h8 h7 hst0 hES2 t1 hQway fin ret h12m stb hXE2 hQE2 puts2 hpl hb; omega))
          refine puts2 _ h12m hst0 (fin _ (nx_ (nx_ Mq)) 0 _ ef.symm (by rw [if_neg (by (clear hk hS hES hK hQ hT hVT hER hQE hXE hL h3 ha hKQ hgo hin hfl3 hf0 hwl h150 h12 hER1 hst1 hfb1 hX1 hQ1 g1 e70 h31 hKQ1 tail hn h12b hER2 hst2 hfb2 e112 hX2 hQ2 hT2 hV2 nm1 e151 hv8 h8 h7 hst0 hES2 t1 hQway fin ret h12m stb hXE2 hQE2 puts2 hpl hb ef; omega))]) rfl hX2 hQ2 hER2 hst0 hXE2 (fun _ _ => ⟨h7, ?_⟩) (fun _ h => absurd h (by decide)) (fun h => by omega) hQE2)
          unfold fqq_; rw [nx_6 (by decide), nx_6 (by decide), nx_6 (by decide), nx_6 (by decide)]
    · -- no name
      rw [e70] at hn
      rw [h31]
      have hb : b = 0 := by
        rcases hb01 with h | h
        · exact h
        · exact absurd (by unfold tS; rw [if_neg hn]) (hS h)
      refine hQ hb _ (XW_i (v := 1) hgo (XF_tr hX1 fl_XF) fun K Qt q => ?_)
      refine q_272a (d := dq + 6) hin hER.2.2.1 hKQ ?_
      refine q_230g hgo (by rw [hER.2.2.1]; exact ha.1) (by rw [hER.2.2.1]; exact h12) ?_
      have hok1 := nx_ok (ER_ok hER hb)
      refine q_282w (a := a + 1) hER1.2.2.1 ⟨by rw [hER1.2.2.1]; (clear hk hS hES hK hQ hT hVT hER hQE hXE hL h3 hKQ hgo hb01 hin hfl3 hf0 hwl h150 hER1 hst1 hfb1 hX1 hQ1 g1 e70 hKQ1 tail hn hb q hok1; lia), by rw [hER1.2.2.1]; omega⟩ hok1 (by unfold KQ at hKQ1; omega) ?_
      have e150 : nx_ Mq 150 (a + 1) = Mx 71 (a + 1) := by rw [nx_ne (by decide)]; exact h150 _ g1
      refine tail _ _ _ (bf_sp hok1.2 (by decide)) (by rw [bf_6 (by decide) (by decide), nx_6 (by decide)]) (q _ ?_ ?_ ?_ ?_ (QF_tr hQ1 (QF_tr bf_QF pu_QF)))
      · unfold sp_; rw [pu_6 (by decide), pu_6 (by decide)]; exact bf_sp hok1.2 (by decide)
      · unfold in9_; rw [pu_6 (by decide), bf_6 (by decide) (by decide), hER1.2.2.1]; (clear hk hS hES hK hQ hT hVT hER hQE hXE hL h3 hKQ hgo hb01 hin hfl3 hf0 hwl h150 hER1 hst1 hfb1 hX1 hQ1 g1 e70 hKQ1 tail hn hb q hok1 e150; omega)
      · rw [pu_6 (by decide), bf_13, fl_4]
      · exact ⟨by rw [pu_6 (by decide), bf_14, fl_5, e150, nX_ne (by decide)], fl_b7 hER1⟩
    · -- no room for the name
      rw [e70] at hn
      rw [h31] at h12b ⊢
      have hb : b = 0 := by
        rcases hb01 with h | h
        · exact h
        · exact absurd (by unfold tS gS; rw [if_pos hn, if_neg (by (clear hk hS hES hK hQ hT hVT hER hQE hXE hL h3 ha hKQ hgo hin hfl3 hf0 hwl h150 h12 hER1 hst1 hfb1 hX1 hQ1 g1 e70 hKQ1 tail hn h; omega))]) (hS h)
      refine hQ hb _ (XW_i (v := 1) hgo (XF_tr hX1 fl_XF) fun K Qt q => ?_)
      refine q_272a (d := dq + 6) hin hER.2.2.1 hKQ ?_
      refine q_230g hgo (by rw [hER.2.2.1]; exact ha.1) (by rw [hER.2.2.1]; exact h12) ?_
      have hok1 := nx_ok (ER_ok hER hb)
      have t1 : nx_ Mq 149 (a + 1) = 1 := by rw [hn] at hKQ1; unfold KQ at hKQ1; (clear hk hS hES hK hQ hT hVT hER hQE hXE hL h3 ha hKQ hgo hb01 hin hfl3 hf0 hwl h150 h12 hER1 hst1 hfb1 hX1 hQ1 g1 e70 h31 tail hn h12b hb q hok1; lia)
      refine q_282r (by rw [hER1.2.2.1]; exact h12b) hok1 (by rw [← h12b]; exact t1) ?_
      have e150 : nx_ Mq 150 1200 = Mx 71 (a + 1) := by rw [nx_ne (by decide), ← h12b]; exact h150 _ g1
      refine tail _ _ _ (bf_sp hok1.2 (by decide)) (by rw [bf_6 (by decide) (by decide), nx_6 (by decide)]) (q _ ?_ ?_ ?_ ?_ (QF_tr hQ1 (QF_tr bf_QF pu_QF)))
      · unfold sp_; rw [pu_6 (by decide), pu_6 (by decide)]; exact bf_sp hok1.2 (by decide)
      · unfold in9_; rw [pu_6 (by decide), bf_6 (by decide) (by decide), hER1.2.2.1]; (clear hk hS hES hK hQ hT hVT hER hQE hXE hL h3 ha hKQ hgo hb01 hin hfl3 hf0 hwl h150 h12 hER1 hst1 hfb1 hX1 hQ1 g1 e70 hKQ1 tail hn hb q hok1 t1 e150; omega)
      · rw [pu_6 (by decide), bf_13, fl_4]
      · exact ⟨by rw [pu_6 (by decide), bf_14, fl_5, e150, nX_ne (by decide)], fl_b7 hER1⟩
  · -- no room for active
    rw [h3] at h12 ⊢
    have hb : b = 0 := by
      rcases hb01 with h | h
      · exact h
      · exact absurd (by unfold gS; rw [if_neg (by omega)]; rfl) (hS h)
    have hok := ER_ok hER hb
    refine hQ hb _ (XW_i (v := 1) hgo fl_XF fun K Qt q => ?_)
    refine q_272a (d := dq + 6) hin hER.2.2.1 hKQ ?_
    refine q_230r hok (by rw [hER.2.2.1]; exact h12) ?_
    have hsp : sp_ (bf_ Mq 2 (Mq 150 (Mq 6 12))) := bf_sp hok.2 (by decide)
    refine q_282s hsp ?_
    refine q_277 (by rw [bf_6 (by decide) (by decide), hQE.2.2.2.2.2.2.1]; omega) (by rw [bf_6 (by decide) (by decide), hQE.2.2.2.2.2.2.1]; (clear hk hS hES hK hQ hT hVT hER hQE hXE hL h3 ha hKQ hgo hb01 hin hf0 hwl h150 h12 hb hok q hsp; omega)) ?_
    have hsp2 : sp_ (pu_ (bf_ Mq 2 (Mq 150 (Mq 6 12))) 10 (-1)) := by unfold sp_; rw [pu_6 (by decide), pu_6 (by decide)]; exact hsp
    refine q_227s hsp2 ?_
    rw [if_neg (by decide)]
    refine q _ hsp2 ?_ ?_ ?_ (QF_tr bf_QF pu_QF)
    · unfold in9_; rw [pu_6 (by decide), bf_6 (by decide) (by decide), hER.2.2.1]; omega
    · rw [pu_6 (by decide), bf_13, fl_4]
    · exact ⟨by rw [pu_6 (by decide), bf_14, fl_5, hER.2.2.1]; exact h150 _ hER.1, fl_b7 hER⟩
end AC
end T84_er
section T85_er
/-! Q closes a bracket -/
section CB
variable {dq d : Nat} {M Ms : mm_} {a t o : Int} {x : Int × Int × Int} {c' : Int} {sg : List (Int × Int)} {ws : List (Int × Int × Int)} {cm : List Int} {f : Int} {fm : List (Int × Int)} {K : Int → mm_ → Prop} {Kv : mm_ → Prop} {Qr : qr_} {Qt : qt_} {V : vv_}
/-- behind a closing bracket -/
def cl5_ (Ms : mm_) (o : Int) : mm_ := up_ (up_ (up_ (nx_ (up_ Ms 6 112 (Ms 6 112 - 1))) 6 15 (o - 1)) 6 118 (Ms 6 118 - 1)) 6 116 (Ms 6 116 - 1)
theorem cl5_QE [Inhabited gh_] {z : Int × Int} (h : QE Ms (z :: sg) (x :: ws) (c' :: cm) f fm) : QE (cl5_ Ms o) sg ws cm f fm := by
  unfold cl5_
  have h1 := QE_sc (i := 15) (v := o - 1) (nx_QE (pS_QE h)) (by decide) (by decide) (by decide) (by decide)
  have h2 := pC_QE h1
  have e1 : up_ (nx_ (up_ Ms 6 112 (Ms 6 112 - 1))) 6 15 (o - 1) 6 118 = Ms 6 118 := by rw [up_off (by decide), nx_6 (by decide), up_off (by decide)]
  rw [e1] at h2
  have h3 := pW_QE h2
  have e2 : up_ (up_ (nx_ (up_ Ms 6 112 (Ms 6 112 - 1))) 6 15 (o - 1)) 6 118 (Ms 6 118 - 1) 6 116 = Ms 6 116 := by rw [up_off (by decide), up_off (by decide), nx_6 (by decide), up_off (by decide)]
  rw [e2] at h3
  exact h3
theorem cl5_6 [Inhabited gh_] {i : Int} (h1 : i ≠ 12) (h2 : i ≠ 15) (h3 : i ≠ 112) (h4 : i ≠ 116) (h5 : i ≠ 118) : cl5_ Ms o 6 i = Ms 6 i := by unfold cl5_; rw [up_off h4, up_off h5, up_off h2, nx_6 h1, up_off h3]
theorem cl5_12 [Inhabited gh_] : cl5_ Ms o 6 12 = Ms 6 12 + 1 := by unfold cl5_; rw [up_off (by decide), up_off (by decide), up_off (by decide), nx_12, up_off (by decide)]
theorem cl5_15 [Inhabited gh_] : cl5_ Ms o 6 15 = o - 1 := by unfold cl5_; rw [up_off (by decide), up_off (by decide), up_at]
theorem cl5_r [Inhabited gh_] {r : Nat} (h : r ≠ 6) : cl5_ Ms o r = Ms r := by unfold cl5_; rw [up_ne h, up_ne h, up_ne h, nx_ne h, up_ne h]
theorem cl5_QF [Inhabited gh_] : QF Ms (cl5_ Ms o) := ⟨fun r h => cl5_r fun e => h (by rw [e]; decide), fun i h1 _ _ h2 _ h3 h4 h5 => cl5_6 h1 h2 h3 h4 h5⟩
/-- closing: up to what the bracket was -/
theorem q_285 [Inhabited gh_] {w : Int} (hr : Red (d + 3) 1 M Ms) (hE : QE Ms ((w, t) :: sg) (x :: ws) (c' :: cm) f fm) (hw : w = 1 ∨ w = 2) (hs : (sg.length : Int) < 1239) (hwl : (ws.length : Int) < 1202) (hcm : (cm.length : Int) < 39) (ha : Ms 6 12 = a) (h0 : 0 ≤ a) (h12 : a < 1200) (hg : go_ Ms) (hk : KQ (if w = 1 then 241 else 293) (Ms 149 a) (Ms 151 a)) (ho : Ms 6 15 = o) (ho0 : 0 < o) (ho1 : o ≤ 12) (ht0 : 0 ≤ t) (ht1 : t < 1202)
    (h1 : w = 1 → (x.2.2 = 0 ∨ x.2.2 = 1) ∧ Tr_ wd0 pg0 (d + 4) 278 [.inr (.inr 6), .inl x.1, .inl (Ms 150 t), .inl x.2.2] (cl5_ Ms o) (rv_ Kv) Qt)
    (h2 : w = 2 → ∀ V : vv_, Cl_ wd0 (Tr_ wd0 pg0 (d + 4)) V (rv_ Kv) Qt m_285 → Wk_ V → V 143 [rr 6, ii 2, ii t, ii (ws.length : Int), ii (if x.2.2 = 0 then ab_ x 1 else 1), none] [] (if x.2.2 = 0 then aM_ (cl5_ Ms o) x 1 else cl5_ Ms o)) :
    Tr_ wd0 pg0 (d + 5) 285 [.inr (.inr 6)] M (rv_ Kv) Qt := t_285 fun V hV hW => b_285_0 (Tr_mono _) hV hW M (by
  have htl : tl_ ((w, t) :: sg) < 1 := by
    show lo9_ w < 1
    rcases hw with h | h <;> (rw [h]; decide)
  refine q_286 (lev := 1) hr (by decide) (by decide) hE (by simp only [List.length_cons]; push_cast; (clear hr hE hw hwl hcm ha h0 h12 hg hk ho ho0 ho1 ht0 ht1 h1 h2 hV hW htl; omega)) (.inr ⟨htl, by decide⟩) ?_
  have e112 : Ms 6 112 = (sg.length : Int) + 1 := by rw [hE.1]; simp only [List.length_cons]; push_cast; (clear hr hE hw hs hwl hcm ha h0 h12 hg hk ho ho0 ho1 ht0 ht1 h1 h2 hV hW htl; lia)
  have e229 : Ms 229 (sg.length : Int) = w := hE.2.1.1
  have e230 : Ms 230 (sg.length : Int) = t := hE.2.1.2.1
  have em : Ms 6 112 - 1 = (sg.length : Int) := by (clear hr hE hw hs hwl hcm ha h0 h12 hg hk ho ho0 ho1 ht0 ht1 h1 h2 hV hW htl e229 e230; lia)
  have w1 : w32 (Ms 6 112 - 1) = Ms 6 112 - 1 := w32_id (by (clear hr hE hw hwl hcm ha h0 h12 hg hk ho ho0 ho1 ht0 ht1 h1 h2 hV hW htl e229 e230 em; omega)) (by omega)
  rw [w1, em, e229, e230]
  refine ⟨by (clear hr hE hw hwl hcm ha h0 h12 hg hk ho ho0 ho1 ht0 ht1 h1 h2 hV hW htl e229 e230 em; lia), by omega, ?_⟩
  have hE1 : QE (up_ Ms 6 112 (sg.length : Int)) sg (x :: ws) (c' :: cm) f fm := by rw [← em]; exact pS_QE hE
  have s12 : up_ Ms 6 112 (sg.length : Int) 6 12 = a := by rw [up_off (by decide)]; exact ha
  have s15 : up_ Ms 6 112 (sg.length : Int) 6 15 = o := by rw [up_off (by decide)]; exact ho
  have sgo : go_ (up_ Ms 6 112 (sg.length : Int)) := by unfold go_; rw [up_off (by decide), up_off (by decide)]; exact hg
  have s149 : up_ Ms 6 112 (sg.length : Int) 149 = Ms 149 := up_ne (by decide)
  have s151 : up_ Ms 6 112 (sg.length : Int) 151 = Ms 151 := up_ne (by decide)
  -- behind the sign
  generalize hM3 : up_ (nx_ (up_ Ms 6 112 (sg.length : Int))) 6 15 (o - 1) = M3
  have h3go : go_ M3 := by rw [← hM3]; unfold go_; rw [up_off (by decide), up_off (by decide), nx_6 (by decide), nx_6 (by decide)]; exact sgo
  have h3r : ∀ r : Nat, r ≠ 6 → M3 r = Ms r := fun r h => by rw [← hM3, up_ne h, nx_ne h, up_ne h]
  have h3i : ∀ i : Int, i ≠ 12 → i ≠ 15 → i ≠ 112 → M3 6 i = Ms 6 i := fun i x y z => by rw [← hM3, up_off y, nx_6 x, up_off z]
  have e116 : M3 6 116 = (ws.length : Int) + 1 := by rw [h3i 116 (by decide) (by decide) (by decide), hE.2.2.1]; simp only [List.length_cons]; push_cast; (clear hr hE hw hs hwl hcm ha h0 h12 hg hk ho ho0 ho1 ht0 ht1 h1 h2 hV hW htl e112 e229 e230 em w1 hE1 s12 s15 sgo s149 s151 hM3 h3go h3r h3i; lia)
  have e118 : M3 6 118 = (cm.length : Int) := by rw [h3i 118 (by decide) (by decide) (by decide)]; have := hE.2.2.2.2.1; simp only [List.length_cons] at this; push_cast at this; (clear hr hE hw hs hwl hcm ha h0 h12 hg hk ho ho0 ho1 ht0 ht1 h1 h2 hV hW htl e112 e229 e230 em w1 hE1 s12 s15 sgo s149 s151 hM3 h3go h3r h3i e116; lia)
  have ecl : up_ (up_ M3 6 118 (M3 6 118 - 1)) 6 116 (M3 6 116 - 1) = cl5_ Ms o := by
    rw [h3i 118 (by decide) (by decide) (by decide), h3i 116 (by decide) (by decide) (by decide), ← hM3, ← em]; rfl
  have ex1 : M3 231 (ws.length : Int) = x.1 := by rw [h3r 231 (by decide)]; exact hE.2.2.2.1.1
  have ex2 : M3 232 (ws.length : Int) = x.2.1 := by rw [h3r 232 (by decide)]; exact hE.2.2.2.1.2.1
  have ex3 : M3 233 (ws.length : Int) = x.2.2 := by rw [h3r 233 (by decide)]; exact hE.2.2.2.1.2.2.1
  have v1 : w32 (M3 6 116 - 1) = M3 6 116 - 1 := w32_id (by (clear hr hE hw hs hcm ha h0 h12 hg hk ho ho0 ho1 ht0 ht1 h1 h2 hV hW htl e112 e229 e230 em w1 hE1 s12 s15 sgo s149 s151 hM3 h3go h3r h3i e118 ecl ex1 ex2 ex3; lia)) (by (clear hr hE hw hs hcm ha h0 h12 hg hk ho ho0 ho1 ht0 ht1 h1 h2 hV hW htl e112 e229 e230 em w1 hE1 s12 s15 sgo s149 s151 hM3 h3go h3r h3i e118 ecl ex1 ex2 ex3; omega))
  have v2 : w32 (M3 6 118 - 1) = M3 6 118 - 1 := w32_id (by (clear hr hE hw hs hwl ha h0 h12 hg hk ho ho0 ho1 ht0 ht1 h1 h2 hV hW htl e112 e229 e230 em w1 hE1 s12 s15 sgo s149 s151 hM3 h3go h3r h3i e116 ecl ex1 ex2 ex3 v1; lia)) (by (clear hr hE hw hs hwl ha h0 h12 hg hk ho ho0 ho1 ht0 ht1 h1 h2 hV hW htl e112 e229 e230 em w1 hE1 s12 s15 sgo s149 s151 hM3 h3go h3r h3i e116 ecl ex1 ex2 ex3 v1; omega))
  have v3 : M3 6 116 - 1 = (ws.length : Int) := by (clear hr hE hw hs hwl hcm ha h0 h12 hg hk ho ho0 ho1 ht0 ht1 h1 h2 hV hW htl e112 e229 e230 em w1 hE1 s12 s15 sgo s149 s151 hM3 h3go h3r h3i e118 ecl ex1 ex2 ex3 v1 v2; omega)
  have at55 : V 55 [rr 6, ii w, ii t, none, none, none] [] M3 := by
    refine b_285_55 (Tr_mono _) hV hW _ _ M3 ?_
    refine q_227g h3go ?_
    rw [if_pos rfl, v1, v2, ecl]
    have i1 : M3 231 (M3 6 116 - 1) = x.1 := by rw [v3]; exact ex1
    have i3 : M3 233 (M3 6 116 - 1) = x.2.2 := by rw [v3]; exact ex3
    rw [i1, i3, h3r 150 (by decide)]
    by_cases c1 : w = 1
    · rw [if_pos c1]
      refine ⟨by (clear hr hE hw hs hcm ha h0 h12 hg hk ho ho0 ho1 ht0 ht1 h1 h2 hV hW htl e112 e229 e230 em w1 hE1 s12 s15 sgo s149 s151 hM3 h3go h3r h3i e118 ecl ex1 ex2 ex3 v2 v3 i1 i3 c1; omega), by (clear hr hE hw hs hwl hcm ha h0 h12 hg hk ho ho0 ho1 h1 h2 hV hW htl e112 e229 em w1 hE1 s12 s15 sgo s149 s151 hM3 h3go h3r h3i e116 e118 ecl ex1 ex2 ex3 v1 v2 v3 i1 i3 c1; lia), by omega, fun _ => ?_⟩
      exact Tr_m (h1 c1).2 (fun vs N hq => ⟨hq.1, rfl, hq.2⟩) (fun _ _ q => q)
    · have c2 : w = 2 := hw.resolve_left c1
      rw [if_neg c1, v3]
      refine ⟨by (clear hr hE hw hs hcm ha h0 h12 hg hk ho ho0 ho1 ht0 ht1 h1 h2 hV hW htl e112 e229 e230 em w1 hE1 s12 s15 sgo s149 s151 hM3 h3go h3r h3i e118 ecl ex1 ex2 ex3 v2 v3 i1 i3 c1 c2; lia), fun _ => ?_⟩
      have h2' := h2 c2 V hV hW
      rw [c2]
      by_cases c3 : x.2.2 = 0
      · rw [if_pos c3]
        rw [if_pos c3, if_pos c3] at h2'
        refine q_280 (x := x) (by (clear hr hE hw hs hcm ha h0 h12 hg hk ho ho0 ho1 ht0 ht1 h1 h2 hV hW htl e112 e229 e230 em w1 hE1 s12 s15 sgo s149 s151 hM3 h3go h3r h3i e118 ecl ex1 ex2 ex3 v2 v3 i1 i3 c1 c2 h2' c3; lia)) (by omega) (by rw [cl5_r (by decide)]; exact hE.2.2.2.1.1) (by rw [cl5_r (by decide)]; exact hE.2.2.2.1.2.1) (by rw [cl5_r (by decide)]; exact hE.2.2.2.1.2.2.1) ?_
        by_cases c4 : ab_ x 1 = 0
        · rw [if_pos c4]; rw [c4] at h2'; exact h2'
        · rw [if_neg c4]
          have : ab_ x 1 = 1 := by unfold ab_ at c4 ⊢; split; rfl; rename_i h9; rw [if_neg h9] at c4; exact absurd rfl c4
          rw [this] at h2'; exact h2'
      · rw [if_neg c3]
        rw [if_neg c3, if_neg c3] at h2'
        exact h2'
  unfold KQ at hk
  by_cases c1 : w = 1
  · rw [if_pos c1]
    rw [if_pos c1] at hk
    refine q_243g sgo (by rw [s12]; exact h0) (by rw [s12]; exact h12) (by rw [s149, s12]; (clear hr hE hw hs hwl hcm ha h0 h12 hg ho ho0 ho1 ht0 ht1 hV hW htl e112 e229 e230 em w1 hE1 s12 s15 sgo s149 s151 hM3 h3go h3r h3i e116 e118 ecl ex1 ex2 ex3 v1 v2 v3 at55; lia)) (by rw [s151, s12]; (clear hr hE hw hs hwl hcm ha h0 h12 hg ho ho0 ho1 ht0 ht1 hV hW htl e112 e229 e230 em w1 hE1 s12 s15 sgo s149 s151 hM3 h3go h3r h3i e116 e118 ecl ex1 ex2 ex3 v1 v2 v3 at55; lia)) (by rw [s15]; exact ho0) (by rw [s15]; (clear hr hE hw hs hwl hcm ha h0 h12 hg hk ho ht0 ht1 h1 h2 hV hW htl e112 e229 e230 em w1 hE1 s12 sgo s149 s151 hM3 h3go h3r h3i e116 e118 ecl ex1 ex2 ex3 v1 v2 v3 at55 c1; lia)) ?_
    rw [s15, hM3]; exact at55
  · rw [if_neg c1]
    rw [if_neg c1] at hk
    refine q_243g sgo (by rw [s12]; exact h0) (by rw [s12]; exact h12) (by rw [s149, s12]; (clear hr hE hw hs hwl hcm ha h0 h12 hg ho ho0 ho1 ht0 ht1 hV hW htl e112 e229 e230 em w1 hE1 s12 s15 sgo s149 s151 hM3 h3go h3r h3i e116 e118 ecl ex1 ex2 ex3 v1 v2 v3 at55; lia)) (by rw [s151, s12]; (clear hr hE hw hs hwl hcm ha h0 h12 hg ho ho0 ho1 ht0 ht1 hV hW htl e112 e229 e230 em w1 hE1 s12 s15 sgo s149 s151 hM3 h3go h3r h3i e116 e118 ecl ex1 ex2 ex3 v1 v2 v3 at55; lia)) (by rw [s15]; exact ho0) (by rw [s15]; omega) ?_
    rw [s15, hM3]; exact at55)
/-- closing, where there is no room -/
theorem q_285r [Inhabited gh_] {w : Int} (hr : Red (d + 3) 1 M Ms) (hE : QE Ms ((w, t) :: sg) (x :: ws) (c' :: cm) f fm) (hw : w = 1 ∨ w = 2) (hs : (sg.length : Int) < 1239) (ha : Ms 6 12 = 1200) (hg : ok_ Ms) (hk : KQ (if w = 1 then 241 else 293) (Ms 149 1200) (Ms 151 1200))
    (h : ∀ M', sp_ M' → in9_ M' → M' 6 13 = 2 → M' 6 14 = Ms 150 1200 → QF Ms M' → Kv M') : Tr_ wd0 pg0 (d + 5) 285 [.inr (.inr 6)] M (rv_ Kv) Qt := t_285 fun V hV hW => b_285_0 (Tr_mono _) hV hW M (by
  have htl : tl_ ((w, t) :: sg) < 1 := by
    show lo9_ w < 1
    rcases hw with h | h <;> (rw [h]; decide)
  refine q_286 (lev := 1) hr (by decide) (by decide) hE (by simp only [List.length_cons]; push_cast; omega) (.inr ⟨htl, by decide⟩) ?_
  have e112 : Ms 6 112 = (sg.length : Int) + 1 := by rw [hE.1]; simp only [List.length_cons]; push_cast; omega
  have e229 : Ms 229 (sg.length : Int) = w := hE.2.1.1
  have em : Ms 6 112 - 1 = (sg.length : Int) := by omega
  have w1 : w32 (Ms 6 112 - 1) = Ms 6 112 - 1 := w32_id (by omega) (by omega)
  rw [w1, em, e229]
  refine ⟨by omega, by omega, ?_⟩
  have s12 : up_ Ms 6 112 (sg.length : Int) 6 12 = 1200 := by rw [up_off (by decide)]; exact ha
  have sok : ok_ (up_ Ms 6 112 (sg.length : Int)) := by unfold ok_; rw [up_off (by decide), up_off (by decide)]; exact hg
  have s149 : up_ Ms 6 112 (sg.length : Int) 149 = Ms 149 := up_ne (by decide)
  have s151 : up_ Ms 6 112 (sg.length : Int) 151 = Ms 151 := up_ne (by decide)
  have s150 : up_ Ms 6 112 (sg.length : Int) 150 = Ms 150 := up_ne (by decide)
  have at55 : ∀ w t : Int, V 55 [rr 6, ii w, ii t, none, none, none] [] (bf_ (up_ Ms 6 112 (sg.length : Int)) 2 (Ms 150 1200)) := by
    intro w t
    have hsp : sp_ (bf_ (up_ Ms 6 112 (sg.length : Int)) 2 (Ms 150 1200)) := bf_sp sok.2 (by decide)
    refine b_285_55 (Tr_mono _) hV hW _ _ _ ?_
    refine q_227s hsp ?_
    rw [if_neg (by decide)]
    refine rv_i (h _ hsp ?_ bf_13 bf_14 (QF_tr ⟨Fr_up Fr_rf (by decide), fun i _ _ _ _ _ h _ _ => by rw [up_off h]⟩ bf_QF))
    unfold in9_; rw [bf_6 (by decide) (by decide), s12]; omega
  unfold KQ at hk
  by_cases c1 : w = 1
  · rw [if_pos c1]
    rw [if_pos c1] at hk
    refine q_243r sok s12 (by rw [s149, s12]; (clear hr hE hw hs ha hg h hV hW htl e112 e229 em w1 s12 sok s149 s151 s150 at55 c1; lia)) (by rw [s151, s12]; (clear hr hE hw hs ha hg h hV hW htl e112 e229 em w1 s12 sok s149 s151 s150 at55 c1; lia)) ?_
    rw [s12, s150]; exact at55 _ _
  · rw [if_neg c1]
    rw [if_neg c1] at hk
    refine q_243r sok s12 (by rw [s149, s12]; (clear hr hE hw hs ha hg h hV hW htl e112 e229 em w1 s12 sok s149 s151 s150 at55; lia)) (by rw [s151, s12]; (clear hr hE hw hs ha hg h hV hW htl e112 e229 em w1 s12 sok s149 s151 s150 at55; lia)) ?_
    rw [s12, s150]; exact at55 _ _)
end CB
end T85_er
section T86_er
/-! first: an e in brackets -/
section PA
variable {dq D n : Nat} {b F : Int} {Mx Mq Mx' Mq' M : mm_} {a o : Int} {sg : List (Int × Int)} {ws : List (Int × Int × Int)} {c : Int} {cm : List Int} {f : Int} {fm : List (Int × Int)} {cc : Int} {cd : List Int} {K : Int → mm_ → Prop} {Kv : mm_ → Prop} {Qr : qr_} {Qt : qt_} {V : vv_}
/-- a bracket is opened by both -/
theorem PR_open [Inhabited gh_] {w t : Int} (hR : PR b F Mx Mq a o sg ws c cm f fm cc cd) (ho : o < 12) (h12 : a < 1200) (hk : Mx 70 a ≠ 102 ∧ Mx 70 a ≠ 103) (hw : w = 1 ∨ w = 2) (ht0 : 0 ≤ t) (ht1 : t < 1202) :
    PR b F (nX_ (up_ Mx 1 6 (o + 1))) (br_ (ho_ (nx_ (up_ Mq 6 15 (o + 1))) w t)) (a + 1) (o + 1) ((w, t) :: sg) ws 0 (c :: cm) f fm cc cd ∧ XF Mx (nX_ (up_ Mx 1 6 (o + 1))) ∧ QF Mq (br_ (ho_ (nx_ (up_ Mq 6 15 (o + 1))) w t)) ∧ nP_ ((w, t) :: sg) ∧ tl_ ((w, t) :: sg) < 1 ∧ fqq_ (br_ (ho_ (nx_ (up_ Mq 6 15 (o + 1))) w t)) = fqq_ Mq := by
  obtain ⟨hT, hVT, hER, hQE, hXE, hL⟩ := hR
  have ho0 := hER.2.2.2.2.2.1
  have hE1 := ER_o hER (o' := o + 1) ⟨by omega, by (clear h12 hk hw ht0 ht1 hT hVT hER hQE hXE hL; omega)⟩
  have hE2 := (ER_go hE1 h12 (by rw [up_ne (by decide)]; exact hk)).1
  have hX : XF Mx (nX_ (up_ Mx 1 6 (o + 1))) := XF_tr oX_XF nX_XF
  have b6 : ∀ (M : mm_) (i : Int), i ≠ 118 → br_ M 6 i = M 6 i := fun M i h => by unfold br_; rw [up_ne (by decide), up_off h]
  have bQ : ∀ M : mm_, QF M (br_ M) := fun M => ⟨by unfold br_; exact Fr_up (Fr_up Fr_rf (by decide)) (by decide), fun i _ _ _ _ _ _ _ h => b6 M i h⟩
  have hQ : QF Mq (br_ (ho_ (nx_ (up_ Mq 6 15 (o + 1))) w t)) := QF_tr oq_QF (QF_tr nx_QF (QF_tr ho_QF (bQ _)))
  have hlow : lo9_ w = 0 := by rcases hw with h | h <;> (rw [h]; decide)
  obtain ⟨l1, l2, l3, l4, l5, l6, l7, l8, l9⟩ := hL
  refine ⟨⟨Tks_c hX hQ hT, VT_c hX hQ hVT, ER_Q hE2 ?_ ?_ ?_ ?_ ?_, br_QE (ho_QE (nx_QE (QE_sc hQE (by decide) (by decide) (by decide) (by decide)))), XE_c (by rw [nX_ne (by decide), up_ne (by decide)]) (by rw [nX_ne (by decide), up_ne (by decide)]) hXE, ?_, l2, .inl rfl, ?_, ?_, ?_, ?_, l8, ?_⟩, hX, hQ, ?_, ?_, ?_⟩
  all_goals try (rw [b6 _ _ (by decide), ho_6 (by decide)])
  · intro x hx
    rcases List.mem_cons.mp hx with h | h
    · rw [h]; exact ⟨ht0, ht1⟩
    · exact l1 x h
  · show cm.length + 1 = (if w = 1 ∨ w = 2 then 1 else 0) + nb_ sg
    rw [if_pos hw, l4]; (clear ho h12 hk hw ht0 ht1 hT hVT hER hQE hXE ho0 hE1 hE2 hX b6 bQ hQ hlow l1 l2 l3 l4 l5 l6 l7 l8 l9; lia)
  · simp only [List.length_cons]; push_cast; (clear ho h12 hk hw ht0 ht1 hT hVT hER hQE hXE ho0 hE1 hE2 hX b6 bQ hQ hlow l1 l2 l3 l6 l7 l8 l9; lia)
  · simp only [List.length_cons]; push_cast; (clear ho h12 hk hw ht0 ht1 hT hVT hER hQE hXE ho0 hE1 hE2 hX b6 bQ hQ hlow l1 l2 l3 l4 l5 l7 l8 l9; omega)
  · (clear ho h12 hk hw ht0 ht1 hT hVT hER hQE hXE ho0 hE1 hE2 hX b6 bQ hQ hlow l1 l2 l3 l4 l5 l6 l8 l9; lia)
  · simp only [List.length_cons]; push_cast; (clear ho h12 hk hw ht0 ht1 hT hVT hER hQE hXE ho0 hE1 hE2 hX b6 bQ hQ hlow l1 l2 l3 l4 l5 l6 l7 l8; omega)
  · refine ⟨?_, ?_⟩
    · show w ≠ 13; (clear ho h12 hk ht0 ht1 hT hVT hER hQE hXE ho0 hE1 hE2 hX b6 bQ hQ hlow l1 l2 l4 l5 l6 l7 l8 l9; lia)
    · show w ≠ 14; (clear ho h12 hk ht0 ht1 hT hVT hER hQE hXE ho0 hE1 hE2 hX b6 bQ hQ hlow l1 l2 l4 l5 l6 l7 l8 l9; lia)
  · show lo9_ w < 1; rw [hlow]; decide
  · unfold fqq_
    rw [b6 _ _ (by decide), b6 _ _ (by decide), ho_6 (by decide), ho_6 (by decide), nx_6 (by decide), nx_6 (by decide), up_off (by decide), up_off (by decide)]
/-- X: no closing bracket where one must be: Q stops too -/
theorem XW_close [Inhabited gh_] {nd w t a1 s1 t1 bd1 c' : Int} {Mx2 Mq2 Mx1 Mq1 Ms : mm_} {y1 : List Int} {l1 : List (Int × Int)} (hb : b = 0) (hw : w = 1 ∨ w = 2) (hPR : PR b F Mx2 Mq2 a (o + 1) ((w, t) :: sg) ws 0 (c :: cm) f fm cc cd) (hX : XF Mx Mx2) (hQ : QF Mq Mq2) (hr : Rq dq 0 Mq 0 Mq2)
    (hP : EP nd b F Mx2 Mq2 Mx1 Ms a a1 (o + 1) ((w, t) :: sg) ws c' (c :: cm) f fm cc cd y1 s1 t1 bd1 l1) (hB : QB dq 1 b Mq2 Mq1 Ms a1 ((w, t) :: sg) c' (c :: cm) f) (hNX : NX 1 (Mx2 70 a1) 0 c') (hk : Mx2 70 a1 ≠ (if w = 1 then 241 else 293)) : XW dq 0 Mx Mq (flX_ Mx1 1 a1) := by
  obtain ⟨hBr, hR, pend, wsP, fmP, hE, hpe, hlen, h12', h16, h13, hQF⟩ := hB
  have hER := hP.2.2.2.1
  have ha := ER_a hER
  have hT2 := hPR.1
  have hL := hPR.2.2.2.2.2
  have hga : gd_ Mx2 a1 := gd_c (XF_70 hP.2.1 (r := 70) (by decide) (by decide) (by decide)).symm hER.1
  have hKQ : KQ (Mx2 70 a1) (Mq1 149 a1) (Mq1 151 a1) := KQ_at hT2 hP.2.1 hQF hER.1
  have hnp := nb_pend pend ((w, t) :: sg) hpe
  have e118 : Mq1 6 118 = (cm.length : Int) + 1 := by have := hE.2.2.2.2.1; simp only [List.length_cons] at this; push_cast at this; (clear hb hw hPR hX hQ hr hP hNX hk hBr hR hE hpe hlen h12' h16 h13 hQF hER ha hT2 hL hga hKQ hnp; lia)
  have e234 : Mq1 234 (Mq1 6 118) = c' := by
    have := hE.2.2.2.2.2.1.1
    simp only [List.length_cons] at this
    rw [e118]; exact_mod_cast this
  have hcb : cb_ ((w, t) :: sg) = (if w = 1 then 241 else 293) := by
    show (if w = 1 then 241 else if w = 2 then 293 else cb_ sg) = _
    rcases hw with h | h
    · rw [if_pos h, if_pos h]
    · rw [if_neg (by (clear hb hPR hX hQ hr hP hNX hk hBr hR hE hpe hlen h12' h16 h13 hQF hER ha hT2 hL hga hKQ hnp e118 e234; lia)), if_pos h, if_neg (by omega)]
  have hg1 : go_ Mq1 := .inl (by rw [h13 hb]; omega)
  have hcl : (cm.length : Int) + 1 ≤ 12 := by have := hL.2.2.2.2.1; simp only [List.length_cons] at this; push_cast at this; have := hER.2.2.2.2.2.1.2; (clear hb hw hPR hX hQ hr hP hNX hk hBr hR hE hpe hlen h12' h16 h13 hQF hER ha hT2 hL hga hKQ hnp e118 e234 hcb hg1; omega)
  have hin : in9_ Mq1 := by unfold in9_; rw [h12']; (clear hb hw hPR hX hQ hr hP hNX hk hBr hR hE hpe hlen h16 h13 hQF hER hT2 hL hga hKQ hnp e118 e234 hcb hg1 hcl; omega)
  refine ⟨XF_tr hX (XF_tr hP.2.1 fl_XF), fun V Qr Qt hV hW q => hr V Qr Qt hV hW (hBr V Qr Qt hV hW ?_)⟩
  have hl1 := hL.2.2.2.1
  simp only [List.length_cons] at hl1
  refine l_271_26n (k := Mx2 70 a1) (a := a1) hV hW hE (by (clear hb hw hPR hX hQ hr hP hNX hk hBr hR hE hpe h16 h13 hQF hER hT2 hL hga hKQ hnp e118 e234 hcb hg1 hcl hin hV hW q hl1; omega)) (by simp only [List.length_cons]; rw [hnp.1]; (clear hb hw hPR hX hQ hr hP hNX hk hBr hR hE hpe hlen h12' h16 h13 hQF hER ha hT2 hL hga hKQ hnp e118 e234 hcb hg1 hcl hin hV hW q; lia)) hg1 h12' ha.1 (by (clear hb hw hPR hX hQ hr hP hNX hk hBr hR hE hpe hlen h16 h13 hQF hER hT2 hL hga hKQ hnp e118 e234 hcb hg1 hcl hin hV hW q hl1; omega)) hKQ (by rw [hnp.2, hcb]; exact hk) ?_
  refine l_271_90e (k := Mx2 70 a1) (a := a1) hV hW hin h12' hKQ ?_ (fun h => absurd h (by (clear hb hw hPR hX hQ hr hP hNX hk hBr hR hE hpe hlen h12' h16 h13 hQF hER ha hT2 hL hga hKQ hnp e234 hcb hg1 hin hV hW q hl1; omega))) (fun _ => ⟨h13 hb, ?_⟩)
  · by_cases h1 : 1 ≤ lv_ (Mx2 70 a1)
    · have := hNX.1 h1
      exact .inr ⟨this.1, by (clear hb hw hPR hX hQ hr hP hNX hk hBr hR hE hpe hlen h12' h16 h13 hQF hER ha hT2 hL hga hKQ hnp e234 hcb hg1 hin hV hW q hl1 h1 this; lia), by omega, by rw [e234, this.2.2]; decide⟩
    · left; have := (lv_r (k := Mx2 70 a1)).1; (clear hb hw hPR hX hQ hr hP hNX hk hBr hR hE hpe hlen h12' h16 h13 hQF hER ha hT2 hL hga hKQ hnp e118 e234 hcb hg1 hcl hin hV hW q hl1; lia)
  · have hsp : sp_ (bf_ Mq1 1 (Mq1 150 a1)) := bf_sp (by rw [h16]; exact hb) (by decide)
    refine l_271_st hV hW hsp (q _ 1 0 hsp ?_ ?_ ?_ (QF_tr hQ (QF_tr hQF bf_QF)))
    · unfold in9_; rw [bf_6 (by decide) (by decide)]; exact hin
    · rw [bf_13, fl_4]
    · refine ⟨?_, fl_b7 hER⟩
      rw [bf_14, fl_5, XF_70 hP.2.1 (r := 71) (by decide) (by decide) (by decide)]; exact pl_at hT2 hQF hga
/-- X: no room for a closing bracket: nor for Q -/
theorem XW_closer [Inhabited gh_] {nd w t a1 s1 t1 bd1 c' : Int} {Mx2 Mq2 Mx1 Mq1 Ms : mm_} {y1 : List Int} {l1 : List (Int × Int)} (hb : b = 0) (hw : w = 1 ∨ w = 2) (hPR : PR b F Mx2 Mq2 a (o + 1) ((w, t) :: sg) ws 0 (c :: cm) f fm cc cd) (hX : XF Mx Mx2) (hQ : QF Mq Mq2) (hr : Rq dq 0 Mq 0 Mq2)
    (hP : EP nd b F Mx2 Mq2 Mx1 Ms a a1 (o + 1) ((w, t) :: sg) ws c' (c :: cm) f fm cc cd y1 s1 t1 bd1 l1) (hB : QB dq 1 b Mq2 Mq1 Ms a1 ((w, t) :: sg) c' (c :: cm) f) (ha1 : a1 = 1200) (hk : Mx2 70 a1 = (if w = 1 then 241 else 293)) : XW dq 0 Mx Mq (flX_ Mx1 2 a1) := by
  obtain ⟨hBr, hR, pend, wsP, fmP, hE, hpe, hlen, h12', h16, h13, hQF⟩ := hB
  have hER := hP.2.2.2.1
  have ha := ER_a hER
  have hT2 := hPR.1
  have hL := hPR.2.2.2.2.2
  have hga : gd_ Mx2 a1 := gd_c (XF_70 hP.2.1 (r := 70) (by decide) (by decide) (by decide)).symm hER.1
  have hKQ : KQ (if w = 1 then 241 else 293) (Mq1 149 a1) (Mq1 151 a1) := by rw [← hk]; exact KQ_at hT2 hP.2.1 hQF hER.1
  have hKQs : KQ (if w = 1 then 241 else 293) (Ms 149 1200) (Ms 151 1200) := by rw [← hk, ← ha1]; exact KQ_at hT2 hP.2.1 hP.2.2.1 hER.1
  have hnp := nb_pend pend ((w, t) :: sg) hpe
  have hcb : cb_ ((w, t) :: sg) = (if w = 1 then 241 else 293) := by
    show (if w = 1 then 241 else if w = 2 then 293 else cb_ sg) = _
    rcases hw with h | h
    · rw [if_pos h, if_pos h]
    · rw [if_neg (by (clear hb hPR hX hQ hr hP ha1 hk hBr hR hE hpe hlen h12' h16 h13 hQF hER ha hT2 hL hga hKQ hKQs hnp; lia)), if_pos h, if_neg (by omega)]
  have hg1 : go_ Mq1 := .inl (by rw [h13 hb]; (clear hb hw hPR hX hQ hr hP ha1 hk hBr hR hE hpe hlen h12' h16 h13 hQF hER ha hT2 hL hga hKQ hKQs hnp hcb; lia))
  have hl1 := hL.2.2.2.1
  simp only [List.length_cons] at hl1
  have hsl : (sg.length : Int) < 1239 := by have := hL.2.2.2.2.2.1; simp only [List.length_cons] at this; push_cast at this; have := hP.1; (clear hb hw hPR hX hQ hr hP hk hBr hR hE hpe hlen h12' h16 h13 hQF hER ha hT2 hL hga hKQ hKQs hnp hcb hg1 hl1; omega)
  refine ⟨XF_tr hX (XF_tr hP.2.1 fl_XF), fun V Qr Qt hV hW q => hr V Qr Qt hV hW (hBr V Qr Qt hV hW ?_)⟩
  refine l_271_26c (k := if w = 1 then 241 else 293) (a := a1) hV hW hE (by omega) (by simp only [List.length_cons]; rw [hnp.1]; (clear hb hw hPR hX hQ hr hP ha1 hk hBr hR hE hpe hlen h12' h16 h13 hQF hER ha hT2 hL hga hKQ hKQs hnp hcb hg1 hsl hV hW q; lia)) hg1 h12' ha.1 (by omega) hKQ (by split <;> decide) (by rw [hnp.2, hcb]) ?_
  refine q_285r (d := dq + 5) (w := w) (t := t) hR hP.2.2.2.2.1 hw hsl (by rw [hER.2.2.1]; exact ha1) ⟨hER.2.2.2.2.2.2.2.2.2.1 hb, by rw [hER.2.2.2.2.2.2.2.1]; exact hb⟩ hKQs fun M' h1 h2 h3 h4 h5 => ?_
  refine l_271_st hV hW h1 (q _ 1 1 h1 h2 ?_ ?_ (QF_tr hQ (QF_tr hP.2.2.1 h5)))
  · rw [h3, fl_4]
  · refine ⟨?_, fl_b7 hER⟩
    rw [h4, fl_5, XF_70 hP.2.1 (r := 71) (by decide) (by decide) (by decide), ← ha1]; exact pl_at hT2 hP.2.2.1 hga
/-- Q closes; what then comes -/
theorem Rq_close [Inhabited gh_] {nd w t a1 s1 t1 bd1 c' : Int} {Mx2 Mq2 Mx1 Mq1 Ms M' : mm_} {y1 : List Int} {l1 : List (Int × Int)} (hw : w = 1 ∨ w = 2) (hPR : PR b F Mx2 Mq2 a (o + 1) ((w, t) :: sg) ws 0 (c :: cm) f fm cc cd) (hr : Rq dq 0 Mq 0 Mq2)
    (hP : EP nd b F Mx2 Mq2 Mx1 Ms a a1 (o + 1) ((w, t) :: sg) ws c' (c :: cm) f fm cc cd y1 s1 t1 bd1 l1) (hB : QB dq 1 b Mq2 Mq1 Ms a1 ((w, t) :: sg) c' (c :: cm) f) (ha1 : a1 < 1200) (hk : Mx2 70 a1 = (if w = 1 then 241 else 293)) (ho : 0 ≤ o)
    (h1 : w = 1 → ∀ (Kv : mm_ → Prop) (Qt : qt_), Kv M' → Tr_ wd0 pg0 (dq + 9) 278 [.inr (.inr 6), .inl t1, .inl (Ms 150 t), .inl bd1] (cl5_ Ms (o + 1)) (rv_ Kv) Qt)
    (h2 : w = 2 → ∀ (Kv : mm_ → Prop) (Qt : qt_), Kv M' → ∀ V : vv_, Cl_ wd0 (Tr_ wd0 pg0 (dq + 9)) V (rv_ Kv) Qt m_285 → Wk_ V → V 143 [rr 6, ii 2, ii t, ii (ws.length : Int), ii (if bd1 = 0 then ab_ (t1, Mx2 71 a, bd1) 1 else 1), none] [] (if bd1 = 0 then aM_ (cl5_ Ms (o + 1)) (t1, Mx2 71 a, bd1) 1 else cl5_ Ms (o + 1))) : Rq dq 0 Mq 1 M' := by
  obtain ⟨hBr, hR, pend, wsP, fmP, hE, hpe, hlen, h12', h16, h13, hQF⟩ := hB
  have hER := hP.2.2.2.1
  have ha := ER_a hER
  have hT2 := hPR.1
  have hL := hPR.2.2.2.2.2
  have hKQ : KQ (if w = 1 then 241 else 293) (Mq1 149 a1) (Mq1 151 a1) := by rw [← hk]; exact KQ_at hT2 hP.2.1 hQF hER.1
  have hKQs : KQ (if w = 1 then 241 else 293) (Ms 149 a1) (Ms 151 a1) := by rw [← hk]; exact KQ_at hT2 hP.2.1 hP.2.2.1 hER.1
  have hnp := nb_pend pend ((w, t) :: sg) hpe
  have hcb : cb_ ((w, t) :: sg) = (if w = 1 then 241 else 293) := by
    show (if w = 1 then 241 else if w = 2 then 293 else cb_ sg) = _
    rcases hw with h | h
    · rw [if_pos h, if_pos h]
    · rw [if_neg (by (clear hPR hr hP ha1 hk ho h1 h2 hBr hR hE hpe hlen h12' h16 h13 hQF hER ha hT2 hL hKQ hKQs hnp; lia)), if_pos h, if_neg (by omega)]
  have hg1 : go_ Mq1 := by
    unfold go_; rw [h16]
    rcases hER.2.2.2.2.2.2.2.2.1 with h | h
    · left; rw [h13 h]; (clear hw hPR hr hP ha1 hk ho h1 h2 hBr hR hE hpe hlen h12' h16 h13 hQF hER ha hT2 hL hKQ hKQs hnp hcb h; lia)
    · right; (clear hw hPR hr hP ha1 hk ho h1 h2 hBr hR hE hpe hlen h12' h16 h13 hQF hER ha hT2 hL hKQ hKQs hnp hcb; lia)
  have hl1 := hL.2.2.2.1
  simp only [List.length_cons] at hl1
  have hsl : (sg.length : Int) < 1239 := by have := hL.2.2.2.2.2.1; simp only [List.length_cons] at this; push_cast at this; have := hP.1; (clear hw hPR hr hP hk ho h1 h2 hBr hR hE hpe hlen h16 h13 hQF hER hT2 hL hKQ hKQs hnp hcb hg1 hl1; lia)
  have hcl : (cm.length : Int) + 1 ≤ 12 := by have := hL.2.2.2.2.1; simp only [List.length_cons] at this; push_cast at this; have := hER.2.2.2.2.2.1.2; (clear hw hPR hr hP ha1 hk h1 h2 hBr hR hE hpe hlen h12' h16 h13 hQF hER ha hT2 hL hKQ hKQs hnp hcb hg1 hl1 hsl; lia)
  have htk := hL.1 (w, t) List.mem_cons_self
  intro V Qr Qt hV hW q
  refine hr V Qr Qt hV hW (hBr V Qr Qt hV hW ?_)
  refine l_271_26c (k := if w = 1 then 241 else 293) (a := a1) hV hW hE (by (clear hw hPR hr hP hk ho h1 h2 hBr hR hE hpe h16 h13 hQF hER hT2 hL hKQ hKQs hnp hcb hg1 hl1 hsl hcl htk hV hW q; lia)) (by simp only [List.length_cons]; rw [hnp.1]; (clear hw hPR hr hP ha1 hk ho h1 h2 hBr hR hE hpe hlen h12' h16 h13 hQF hER ha hT2 hL hKQ hKQs hnp hcb hg1 hsl hcl htk hV hW q; lia)) hg1 h12' ha.1 (by (clear hw hPR hr hP hk ho h1 h2 hBr hR hE hpe hlen h16 h13 hQF hER hT2 hL hKQ hKQs hnp hcb hg1 hl1 hsl hcl htk hV hW q; omega)) hKQ (by split <;> decide) (by rw [hnp.2, hcb]) ?_
  exact q_285 (d := dq + 5) (w := w) (t := t) (x := (t1, Mx2 71 a, bd1)) hR hP.2.2.2.2.1 hw hsl (by have := hL.2.2.2.2.2.2.1; have := hP.1; (clear hw hPR hr hP hk ho h1 h2 hBr hR hE hpe hlen h16 h13 hQF hER hT2 hL hKQ hKQs hnp hcb hg1 hl1 hsl hcl htk hV hW q; omega)) (by simp only [List.length_cons]; push_cast; (clear hw hPR hr hP ha1 hk ho h1 h2 hBr hR hE hpe hlen h12' h16 h13 hQF hER ha hT2 hL hKQ hKQs hnp hcb hg1 hl1 hsl htk hV hW q; omega)) hER.2.2.1 ha.1 ha1 (ER_goq hER) hKQs hER.2.2.2.2.1 (by (clear hw hPR hr hP ha1 hk h1 h2 hBr hR hE hpe hlen h12' h16 h13 hQF hER ha hT2 hL hKQ hKQs hnp hcb hg1 hl1 hsl hcl htk hV hW q; omega)) hER.2.2.2.2.2.1.2 htk.1 htk.2 (fun hw1 => ⟨hP.2.2.2.2.2.1, h1 hw1 _ Qt q⟩) (fun hw2 V' hV' hW' => h2 hw2 _ Qt q V' hV' hW')
end PA
end T86_er
section T87_er
/-! first: an e in brackets, X's way -/
section PX
variable {dq D n : Nat} {b F : Int} {Mx Mq Mx' Mq' M : mm_} {a o : Int} {sg : List (Int × Int)} {ws : List (Int × Int × Int)} {c : Int} {cm : List Int} {f : Int} {fm : List (Int × Int)} {cc : Int} {cd : List Int} {K : Int → mm_ → Prop} {Kv : mm_ → Prop} {Qr : qr_} {Qt : qt_} {V : vv_}
theorem ER_b7 [Inhabited gh_] {b F : Int} {M N : mm_} {a o : Int} (hE : ER b F M N a o) : 0 ≤ M 1 7 ∧ M 1 7 ≤ 1000001000 - (gg_ : Int) := by have := fl_b7 (k := 0) (t := 0) hE; rw [fl_7] at this; exact this
/-- an e in brackets is one part -/
theorem EP_par [Inhabited gh_] {a1 s t1 bd1 c' : Int} {Mx2 Mq2 Mx1 Ms : mm_} {y : List Int} {l : List (Int × Int)} (hR : PR b F Mx Mq a o sg ws c cm f fm cc cd) (ho : 0 ≤ o ∧ o < 12) (hX2 : XF Mx Mx2) (hQ2 : QF Mq Mq2) (h7 : Mx2 1 7 = Mx 1 7) (hfq : fqq_ Mq2 = fqq_ Mq)
    (hP : EP (nE n t1) b F Mx2 Mq2 Mx1 Ms (a + 1) a1 (o + 1) ((1, a) :: sg) ws c' (c :: cm) f fm cc cd y s t1 bd1 l) (hs : b = 1 → bd1 = 1 → s = -1) (ha1 : a1 < 1200) (hk : Mx2 70 a1 = 241) :
    EP (nU (n + 1) t1) b F Mx Mq (up_ (nX_ Mx1) 1 6 o) (ad_ (cl5_ Ms (o + 1)) t1 (Mx 71 a) bd1) a (a1 + 1) o sg ws c cm f fm cc cd y s t1 bd1 l := by
  obtain ⟨u1, u2, u3, u4, u5, u6, u7, ⟨u8, u9, u10, u11⟩, ⟨u12, u13⟩, u14, u15⟩ := hP
  obtain ⟨hT, hVT, hER, hQE, hXE, hL⟩ := hR
  have hX : XF Mx Mx1 := XF_tr hX2 u2
  have hXX : XF Mx (up_ (nX_ Mx1) 1 6 o) := XF_tr hX (XF_tr nX_XF oX_XF)
  have hQQ : QF Mq (ad_ (cl5_ Ms (o + 1)) t1 (Mx 71 a) bd1) := QF_tr hQ2 (QF_tr u3 (QF_tr cl5_QF ad_QF))
  have e70 : Mx1 70 = Mx2 70 := XF_70 u2 (by decide) (by decide) (by decide)
  obtain ⟨g1, gst, gfb⟩ := ER_go u4 ha1 (by rw [e70, hk]; decide)
  have g2 := ER_o g1 (o' := o) ⟨ho.1, by omega⟩
  have m7 : up_ (nX_ Mx1) 1 6 o 1 7 = Mx1 1 7 := by rw [up_off (by decide), nX_1 (by decide)]
  have q13 : ad_ (cl5_ Ms (o + 1)) t1 (Mx 71 a) bd1 6 13 = Ms 6 13 := by rw [ad_6 (by decide), cl5_6 (by decide) (by decide) (by decide) (by decide) (by decide)]
  have q14 : ad_ (cl5_ Ms (o + 1)) t1 (Mx 71 a) bd1 6 14 = Ms 6 14 := by rw [ad_6 (by decide), cl5_6 (by decide) (by decide) (by decide) (by decide) (by decide)]
  have hE3 : ER b F (up_ (nX_ Mx1) 1 6 o) (ad_ (cl5_ Ms (o + 1)) t1 (Mx 71 a) bd1) (a1 + 1) o := by
    refine ER_Q g2 ?_ ?_ ?_ ?_ ?_
    · rw [ad_6 (by decide), cl5_12, up_off (by decide), nx_12]
    · rw [q13, up_off (by decide), nx_6 (by decide)]
    · rw [q14, up_off (by decide), nx_6 (by decide)]
    · rw [ad_6 (by decide), cl5_15, up_at]; (clear ho hX2 hQ2 h7 hfq hs ha1 hk u1 u2 u3 u4 u5 u6 u7 u8 u9 u10 u11 u12 u13 u14 u15 hT hVT hER hQE hXE hL hX hXX hQQ e70 g1 gst gfb g2 m7 q13 q14; lia)
    · rw [ad_6 (by decide), cl5_6 (by decide) (by decide) (by decide) (by decide) (by decide), up_off (by decide), nx_6 (by decide)]
  have h71 : Mx2 71 = Mx 71 := XF_70 hX2 (by decide) (by decide) (by decide)
  have ga1 : gd_ Mx a1 := gd_c (XF_70 hX (r := 70) (by decide) (by decide) (by decide)).symm u4.1
  have ga2 : gd_ Mx (a1 + 1) := gd_c (XF_70 hXX (r := 70) (by decide) (by decide) (by decide)).symm hE3.1
  have hmono := (hT (a1 + 1) ga2).2.2.2.2.1 a1 ga1 (by (clear ho hX2 hQ2 h7 hfq hs ha1 hk u1 u2 u3 u4 u5 u6 u7 u8 u9 u10 u11 u12 u13 u14 u15 hT hVT hER hQE hXE hL hX hXX hQQ e70 g1 gst gfb g2 m7 q13 q14 hE3 h71 ga1 ga2; lia))
  refine ⟨by (clear ho hX2 hQ2 h7 hfq hs ha1 hk u2 u3 u4 u5 u6 u7 u8 u9 u10 u11 u12 u13 u14 u15 hT hVT hER hQE hXE hL hX hXX hQQ e70 g1 gst gfb g2 m7 q13 q14 hE3 h71 ga1 ga2 hmono; omega), hXX, hQQ, hE3, ad_QE (cl5_QE u5), u6, by (clear ho hX2 hQ2 h7 hfq hs ha1 hk u1 u2 u3 u4 u5 u6 u8 u9 u10 u11 u12 u13 u14 u15 hT hVT hER hQE hXE hL hX hXX hQQ e70 g1 gst gfb g2 m7 q13 q14 hE3 h71 ga1 ga2 hmono; omega), ⟨XE_c (by rw [up_ne (by decide), nX_ne (by decide)]) (by rw [up_ne (by decide), nX_ne (by decide)]) u8, u9, fun h h' => by rw [u10 h h', er_c hQ2], by (clear ho hX2 hQ2 h7 hfq hs ha1 hk u1 u2 u3 u4 u5 u6 u7 u8 u9 u10 u12 u13 u14 u15 hT hVT hER hQE hXE hL hX hXX hQQ e70 g1 gst gfb g2 m7 q13 q14 hE3 h71 ga1 ga2 hmono; lia)⟩, ⟨by rw [m7]; (clear ho hX2 hQ2 hfq hs ha1 hk u1 u2 u3 u4 u5 u6 u7 u8 u9 u10 u11 u13 u14 u15 hT hVT hER hQE hXE hL hX hXX hQQ e70 g1 gst gfb g2 q13 q14 hE3 h71 ga1 ga2 hmono; lia), by rw [m7]; (clear ho hX2 hQ2 hfq hs ha1 hk u1 u2 u3 u4 u5 u6 u7 u8 u9 u10 u11 u12 u14 u15 hT hVT hER hQE hXE hL hX hXX hQQ e70 g1 gst gfb g2 q13 q14 hE3 h71 ga1 ga2 hmono; lia)⟩, fun h => ⟨fun h' => ?_, fun h' => ?_⟩, fun h h' st Dd hD => ?_⟩
  · have := (u14 h).1 h'
    refine ⟨this.1, this.2.1, this.2.2.1, by rw [m7, this.2.2.2.1]; exact h7, ?_⟩
    have e := this.2.2.2.2
    rw [hfq] at e
    rw [← e]; unfold fqq_; rw [q13, q14]
  · have := (u14 h).2 h'
    refine ⟨.inl (hs h h'), by rw [m7]; (clear ho hX2 hQ2 hfq hs ha1 hk u1 u2 u3 u4 u5 u6 u7 u8 u9 u10 u11 u12 u13 u14 u15 hT hVT hER hQE hXE hL hX hXX hQQ e70 g1 gst gfb g2 q13 q14 hE3 h71 ga1 ga2 hmono h h'; omega), ?_⟩
    rw [q13, q14]
    have h9 := this.2.2
    rw [h71] at h9
    (clear ho hX2 hQ2 h7 hfq hs ha1 hk u1 u2 u3 u4 u5 u6 u7 u8 u9 u10 u11 u12 u13 u14 u15 hT hVT hER hQE hXE hL hX hXX hQQ e70 g1 gst gfb g2 m7 q13 q14 hE3 h71 ga1 ga2 h h' this; omega)
  · refine ty_c hQ2 l st _ (u15 h h' st Dd ?_)
    have : nE n t1 ≤ nU (n + 1) t1 := by unfold nE nU; split <;> (push_cast; (clear ho hX2 hQ2 h7 hfq hs ha1 hk u1 u2 u3 u4 u5 u6 u7 u8 u9 u10 u11 u12 u13 u14 u15 hT hVT hER hQE hXE hL hX hXX hQQ e70 g1 gst gfb g2 m7 q13 q14 hE3 h71 ga1 ga2 hmono h h' hD; lia))
    (clear ho hX2 hQ2 h7 hfq hs ha1 hk u1 u2 u3 u4 u5 u6 u7 u8 u9 u10 u11 u12 u13 u14 u15 hT hVT hER hQE hXE hL hX hXX hQQ e70 g1 gst gfb g2 m7 q13 q14 hE3 h71 ga1 ga2 hmono h h'; omega)
theorem x_par [Inhabited gh_] (hE : ∀ n' : Nat, n = n' + 1 → SB 146 0 1 (nE n') (D + 4) dq (o + 1)) (ho : o = 12 - (n : Int)) (hR : PR b F Mx Mq a o sg ws c cm f fm cc cd) (hk : Mx 70 a = 240) (hES : ES (Mx 70) 6 o a = if o = 12 then none else (gS a).bind fun a1 => (ES (Mx 70) 0 (o + 1) a1).bind (tS (Mx 70) 241)) (hS : b = 1 → ES (Mx 70) 6 o a ≠ none) (hK : FK n dq 6 b F Mx Mq a o sg ws c cm f fm cc cd K) (hQ : b = 0 → ∀ Mx', XW dq 0 Mx Mq Mx' → Qt 8 Mx') :
    Tr_ wd0 pg0 (D + 4) 118 [.inr (.inr 1)] Mx (rv_ fun M3 => Tr_ wd0 pg0 (D + 4) 105 [.inr (.inr 1)] M3 (rv_ fun M4 => Tr_ wd0 pg0 (D + 4) 146 [.inr (.inr 1)] M4 (ri_ fun v3 M5 => Tr_ wd0 pg0 (D + 4) 121 [.inr (.inr 1), .inl 41] M5 (rv_ fun M6 => ri_ K [.inl v3] (up_ M6 1 6 (w32 ((M6 1 6) - 1)))) Qt) Qt) Qt) Qt := by
  have hR9 := hR
  obtain ⟨hT, hVT, hER, hQE, hXE, hL⟩ := hR9
  have h3 : Mx 1 3 = a := hER.2.1
  have ha := ER_a hER
  have hKQ := (hT a hER.1).1
  rw [hk] at hKQ
  have hgo := ER_goq hER
  have hb01 := hER.2.2.2.2.2.2.2.2.1
  have ho6 := hER.2.2.2.2.2.1
  have e112 : Mq 6 112 = sg.length := hQE.1
  have hsl := hL.2.2.2.2.2.1
  have e118 : Mq 6 118 = (cm.length : Int) := by have := hQE.2.2.2.2.1; simp only [List.length_cons] at this; push_cast at this; (clear hE ho hR hk hES hS hK hQ hT hVT hER hQE hXE hL h3 ha hKQ hgo hb01 ho6 e112 hsl; lia)
  have hcl := hL.2.2.2.2.1
  have fail : ∀ Mx' : mm_, b = 0 → XF Mx Mx' → Mx' 1 4 = 2 → Mx' 1 5 = Mx 71 a → Mx' 1 7 = Mx 1 7 → (o = 12 ∨ a = 1200) → Qt 8 Mx' := by
    intro Mx' hb hx h4 h5 h7 hor
    refine hQ hb _ (XW_i (v := 0) hgo hx fun K Qt q => ?_)
    refine q_272rr (a := a) (o := o) hER.2.2.1 ha.1 ha.2 (ER_ok hER hb) hKQ hER.2.2.2.2.1 ho6.1 ho6.2 hor fun M' h1 h2 h3' h4' h5' => q M' h1 h2 (by rw [h3', h4]) ⟨by rw [h4', h5]; exact (hT a hER.1).2.1.symm, by rw [h7]; exact ER_b7 hER⟩ h5'
  have h8 : Mx 1 6 = o := hER.2.2.2.1
  refine x_118 (ER_iX hER) (by rw [h8]; exact ho6.1) (by rw [h8]; exact ho6.2) (fun ho1 => ?_) (fun ho1 => ?_)
  · rw [h8] at ho1 ⊢
    obtain ⟨n', hn'⟩ : ∃ n' : Nat, n = n' + 1 := ⟨n - 1, by (clear hE hR hk hES hS hK hQ hT hVT hER hQE hXE hL h3 ha hKQ hgo hb01 e112 hsl e118 hcl fail; lia)⟩
    rw [if_neg (by (clear hE hR hk hES hS hK hQ hT hVT hER hQE hXE hL h3 ha hKQ hgo hb01 e112 hsl e118 hcl fail; lia))] at hES
    rw [hES] at hS
    have hi1 : iX_ (up_ Mx 1 6 (o + 1)) := by unfold iX_; rw [up_off (by decide), h3]; exact ha
    have e13 : up_ Mx 1 6 (o + 1) 1 3 = a := by rw [up_off (by decide)]; exact h3
    refine x_105 hi1 (fun h12 => ?_) (fun h12 => ?_)
    · rw [e13] at h12
      obtain ⟨p1, p2, p3, p4, p5, p6⟩ := PR_open (w := 1) (t := a) hR ho1 h12 (by rw [hk]; decide) (.inl rfl) ha.1 (by (clear hE ho hR hk hES hS hK hQ hT hVT hER hQE hXE hL h3 hKQ hgo hb01 ho6 e112 hsl e118 hcl fail h8 ho1 hn' hi1; omega))
      have e70 : nX_ (up_ Mx 1 6 (o + 1)) 70 = Mx 70 := XF_70 p2 (by decide) (by decide) (by decide)
      have hr1 : Rq dq 0 Mq 0 (br_ (ho_ (nx_ (up_ Mq 6 15 (o + 1))) 1 a)) := Rq_272 hgo fun K Qt hk9 => q_272r (a := a) (o := o) hER.2.2.1 ha.1 h12 hgo hKQ hER.2.2.2.2.1 ho6.1 ho1 (by (clear hE ho hR hk hES hS hK hQ hT hVT hER hQE hXE hL h3 ha hKQ hgo hb01 ho6 hsl e118 hcl fail h8 ho1 hn' hi1 e13 h12 p1 p2 p3 p4 p5 p6 e70 hk9; lia)) (by (clear hE ho hR hk hES hS hK hQ hT hVT hER hQE hXE hL h3 hKQ hgo hb01 ho6 e118 hcl fail h8 ho1 hn' hi1 p1 p2 p3 p4 p5 p6 e70 hk9; lia)) (by (clear hE ho hR hk hES hS hK hQ hT hVT hER hQE hXE hL h3 ha hKQ hgo hb01 ho6 e112 hsl hcl fail h8 ho1 hn' hi1 e13 h12 p1 p2 p3 p4 p5 p6 e70 hk9; lia)) (by (clear hE hR hk hES hS hK hQ hT hVT hER hQE hXE hL h3 ha hKQ hgo hb01 e112 hsl fail hi1 e13 h12 p1 p2 p3 p4 p5 p6 e70 hk9; omega)) hk9
      have hSS : b = 1 → ES (Mx 70) 0 (o + 1) (a + 1) ≠ none := fun h => (gb_ne (hS h)).2
      refine hE n' hn' b F _ _ (a + 1) _ _ 0 (c :: cm) f fm cc cd _ _ p1 p4 p5 (fun _ => rfl) (fun h => by rw [e70]; exact hSS h) ?_ (fun h Mx' hw => hQ h Mx' (XW_tr p2 p3 hr1 hw))
      intro s Mx1 Mq1 Ms a1 c' y t1 bd1 l hP hs hB hS4 hc01 hNX
      rw [e70] at hS4
      have hERm := hP.2.2.2.1
      have em70 : Mx1 70 (Mx1 1 3) = Mx 70 a1 := by rw [EP_70 hP, e70]
      have hm3 : Mx1 1 3 = a1 := hERm.2.1
      have hES4 : ES (Mx 70) 6 o a = tS (Mx 70) 241 a1 := by rw [hES]; exact gb_eq h12 hS4
      refine x_121 (ER_iX hERm) (by decide) (by decide) (fun hkk h12b => ?_) (fun hkk => ?_) (fun hkk h12b => ?_)
      · rw [em70] at hkk
        replace hkk : Mx 70 a1 = 241 := hkk
        rw [hm3] at h12b
        have hkk' : nX_ (up_ Mx 1 6 (o + 1)) 70 a1 = 241 := by rw [e70]; exact hkk
        have hPP := EP_par hR ⟨ho6.1, ho1⟩ p2 p3 (by rw [nX_1 (by decide), up_off (by decide)]) p6 hP hs h12b hkk'
        have e6 : nX_ Mx1 1 6 = o + 1 := by rw [nX_1 (by decide)]; exact hERm.2.2.2.1
        have ew : w32 (nX_ Mx1 1 6 - 1) = o := by rw [e6, w32_id (by (clear hE hR hk hES hS hK hQ hT hVT hER hQE hXE hL h3 ha hKQ hgo hb01 e112 hsl e118 hcl fail hi1 e13 h12 p1 p2 p3 p4 p5 p6 e70 hr1 hSS hP hs hB hS4 hc01 hNX hERm em70 hm3 hES4 h12b hkk hkk' hPP; lia)) (by (clear hE hR hk hES hS hK hQ hT hVT hER hQE hXE hL h3 ha hKQ hgo hb01 e112 hsl e118 hcl fail hi1 e13 h12 p1 p2 p3 p4 p5 p6 e70 hr1 hSS hP hs hB hS4 hc01 hNX hERm em70 hm3 hES4 h12b hkk hkk' hPP; lia))]; (clear hE ho hR hk hES hS hK hQ hT hVT hER hQE hXE hL h3 ha hKQ hgo hb01 ho6 e112 hsl e118 hcl fail h8 ho1 hn' hi1 e13 h12 p1 p2 p3 p4 p5 p6 e70 hr1 hSS hP hs hB hS4 hc01 hNX hERm em70 hm3 hES4 h12b hkk hkk' hPP e6; lia)
        rw [ew]
        rw [hn'] at hK
        refine ri_i (hK s _ _ (a1 + 1) y t1 bd1 l hPP hs (fun M' hex => ?_) ?_)
        · refine Rq_close (w := 1) (t := a) (.inl rfl) p1 hr1 hP hB h12b (by rw [if_pos rfl]; exact hkk') ho6.1 (fun _ Kv Qt hk9 => ?_) (fun h => absurd h (by decide))
          have hpl : Ms 150 a = Mx 71 a := pl_at hT (QF_tr p3 hP.2.2.1) hER.1
          rw [hpl]
          have h116 : cl5_ Ms (o + 1) 6 116 = ws.length := (cl5_QE (o := o + 1) hP.2.2.2.2.1).2.2.1
          have hwl := hL.2.2.2.2.2.2.1
          exact q_278 (by rw [h116]; (clear hE ho hR hk hES hS hQ hT hVT hER hQE hXE hL h3 ha hKQ hgo hb01 ho6 e112 hsl e118 hcl fail h8 ho1 hK hn' hi1 e13 h12 p1 p2 p3 p4 p5 p6 e70 hr1 hSS hP hs hB hS4 hc01 hNX hERm em70 hm3 hES4 h12b hkk hkk' hPP e6 ew hex hk9 hpl h116 hwl; lia)) (by rw [h116]; (clear hE ho hR hk hES hS hQ hT hVT hER hQE hXE hL h3 hKQ hgo hb01 ho6 e112 hsl e118 hcl fail h8 ho1 hK hn' hi1 p1 p2 p3 p4 p5 p6 e70 hr1 hSS hP hs hB hS4 hc01 hNX hERm em70 hm3 hES4 h12b hkk hkk' hPP e6 ew hex hk9 hpl h116; lia)) hP.2.2.2.2.2.1 (Ex9_l hex (by (clear hE ho hR hk hES hS hQ hT hVT hER hQE hXE hL h3 ha hKQ hgo hb01 ho6 e112 hsl e118 hcl fail h8 ho1 hK hn' hi1 e13 h12 p1 p2 p3 p4 p5 p6 e70 hr1 hSS hP hs hB hS4 hc01 hNX hERm em70 hm3 hES4 h12b hkk hkk' hPP e6 ew hex hk9 hpl h116 hwl; lia)) hk9)
        · rw [hES4]; unfold tS gS; rw [if_pos hkk, if_pos h12b]
      · rw [em70] at hkk
        replace hkk : Mx 70 a1 ≠ 241 := hkk
        rw [hm3]
        have hb : b = 0 := by
          rcases hb01 with h | h
          · exact h
          · have := hS h
            rw [← hES, hES4] at this
            exact absurd (by unfold tS; rw [if_neg hkk]) this
        exact hQ hb _ (XW_close (w := 1) (t := a) hb (.inl rfl) p1 p2 p3 hr1 hP hB hNX (by rw [if_pos rfl, e70]; exact hkk))
      · rw [em70] at hkk
        replace hkk : Mx 70 a1 = 241 := hkk
        rw [hm3] at h12b ⊢
        have hb : b = 0 := by
          rcases hb01 with h | h
          · exact h
          · have := hS h
            rw [← hES, hES4] at this
            exact absurd (by unfold tS gS; rw [if_pos hkk, if_neg (by (clear hE ho hR hk hES hS hK hQ hT hVT hER hQE hXE hL h3 ha hKQ hgo ho6 e112 hsl e118 hcl fail h8 ho1 hn' hi1 e13 h12 p1 p2 p3 p4 p5 p6 e70 hr1 hSS hP hs hB hS4 hc01 hNX hERm em70 hm3 hES4 hkk h this; lia))]) this
        exact hQ hb _ (XW_closer (w := 1) (t := a) hb (.inl rfl) p1 p2 p3 hr1 hP hB h12b (by rw [if_pos rfl, e70]; exact hkk))
    · rw [e13] at h12 ⊢
      have hb : b = 0 := by
        rcases hb01 with h | h
        · exact h
        · exact absurd (gb_ne (hS h)).1 (by (clear hE ho hR hk hES hS hK hQ hT hVT hER hQE hXE hL h3 ha hKQ hgo ho6 e112 hsl e118 hcl fail h8 ho1 hn' hi1 h; lia))
      exact fail _ hb (XF_tr oX_XF fl_XF) fl_4 (by rw [fl_5, up_ne (by decide)]) (by rw [fl_7, up_off (by decide)]) (.inr h12)
  · rw [h8] at ho1
    rw [if_pos ho1] at hES
    have hb : b = 0 := by
      rcases hb01 with h | h
      · exact h
      · exact absurd hES (hS h)
    rw [h3]
    exact fail _ hb fl_XF fl_4 fl_5 fl_7 (.inl ho1)
end PX
end T87_er
section T88_er
/-! a prefix is through, with the memory that it leaves -/
def pM1_ (M : mm_) : mm_ := up_ (up_ M 6 112 (M 6 112 - 1)) 6 15 (M 6 15 - 1)
def pM_ (M : mm_) (s tk : Int) (x : Int × Int × Int) (L : Int) : mm_ := w3_ (aM_ (pu_ (pM1_ M) s 0) x (pw_ s)) L (pw_ s) (M 150 tk) (pb_ x (pw_ s))
section QE
variable {d : Nat} {M : mm_} {sg : List (Int × Int)} {ws : List (Int × Int × Int)} {cm : List Int} {f : Int} {fm : List (Int × Int)} {Qr : qr_} {Qt : qt_} {V : vv_}
theorem w3_r [Inhabited gh_] {i s p b : Int} {r : Nat} (h1 : r ≠ 231) (h2 : r ≠ 232) (h3 : r ≠ 233) : w3_ M i s p b r = M r := by unfold w3_; rw [up_ne h3, up_ne h2, up_ne h1]
theorem w3_QF [Inhabited gh_] {i s p b : Int} : QF M (w3_ M i s p b) := ⟨by unfold w3_; exact Fr_up (Fr_up (Fr_up Fr_rf (by decide)) (by decide)) (by decide), fun i _ _ _ _ _ _ _ _ => by rw [w3_r (by decide) (by decide) (by decide)]⟩
theorem pM_QE [Inhabited gh_] {s tk : Int} {x : Int × Int × Int} (hE : QE M ((s, tk) :: sg) (x :: ws) cm f fm) : QE (pM_ M s tk x ws.length) sg ((pw_ s, M 150 tk, pb_ x (pw_ s)) :: ws) cm f ((s, 0) :: fm) :=
  w3_QE (aM_QE (pu_QE (QE_sc (pS_QE hE) (by decide) (by decide) (by decide) (by decide)))) rfl
theorem pM1_6 [Inhabited gh_] {i : Int} (h1 : i ≠ 15) (h2 : i ≠ 112) : pM1_ M 6 i = M 6 i := by unfold pM1_; rw [up_off h1, up_off h2]
theorem pM1_r [Inhabited gh_] {r : Nat} (h : r ≠ 6) : pM1_ M r = M r := by unfold pM1_; rw [up_ne h, up_ne h]
theorem pM_QF [Inhabited gh_] {s tk L : Int} {x : Int × Int × Int} : QF M (pM_ M s tk x L) := QF_tr (QF_tr (QF_tr ⟨by unfold pM1_; exact Fr_up (Fr_up Fr_rf (by decide)) (by decide), fun i _ _ _ a _ b _ _ => pM1_6 a b⟩ pu_QF) aM_QF) w3_QF
theorem pM_6 [Inhabited gh_] {s tk L i : Int} {x : Int × Int × Int} (h1 : i ≠ 13) (h2 : i ≠ 14) (h3 : i ≠ 15) (h4 : i ≠ 104) (h5 : i ≠ 112) : pM_ M s tk x L 6 i = M 6 i := by unfold pM_; rw [w3_r (by decide) (by decide) (by decide), aM_6 h1 h2, pu_6 h4, pM1_6 h3 h5]
theorem pM_15 [Inhabited gh_] {s tk L : Int} {x : Int × Int × Int} : pM_ M s tk x L 6 15 = M 6 15 - 1 := by unfold pM_; rw [w3_r (by decide) (by decide) (by decide), aM_6 (by decide) (by decide), pu_6 (by decide)]; unfold pM1_; rw [up_at]
theorem pM_fq [Inhabited gh_] {s tk L : Int} {x : Int × Int × Int} : fqq_ (pM_ M s tk x L) = aq_ (M 6 16) (fqq_ M) x (pw_ s) := by
  have e1 : fqq_ (pM_ M s tk x L) = fqq_ (aM_ (pu_ (pM1_ M) s 0) x (pw_ s)) := by unfold fqq_ pM_; rw [w3_r (by decide) (by decide) (by decide)]
  have e2 : fqq_ (pu_ (pM1_ M) s 0) = fqq_ M := by unfold fqq_; rw [pu_6 (by decide), pu_6 (by decide), pM1_6 (by decide) (by decide), pM1_6 (by decide) (by decide)]
  rw [e1, aM_fq, e2, pu_6 (by decide), pM1_6 (by decide) (by decide)]
theorem m_279_147 [Inhabited gh_] (hV : Cl_ wd0 (Tr_ wd0 pg0 d) V Qr Qt m_279) (hW : Wk_ V) {a1 b tk w L S : Int} {M0 : mm_} (hM : M = up_ M0 231 L w) (hL0 : 0 ≤ L) (hl : L < 1202) (hb : b = 0 ∨ b = 1) (hS0 : 0 ≤ S) (hs : S < 1240) (h112 : M0 6 112 = S) (htk : M0 230 S = tk) (ht0 : 0 ≤ tk) (ht1 : tk < 1202)
    (h : V 0 [rr 6, none, none, none] [] (w3_ M0 L w (M0 150 tk) b)) : V 147 [rr 6, ii a1, ii L, ii b] [] M := by
  have e112 : M 6 112 = S := by rw [hM, up_ne (by decide)]; exact h112
  have e230 : M 230 S = tk := by rw [hM, up_ne (by decide)]; exact htk
  refine b_279_147 (Tr_mono _) hV hW a1 _ b M ?_
  rw [e112, e230]
  refine ⟨by (clear hV hW hM hL0 hl hb htk ht0 ht1 h e230; lia), by (clear hV hW hM hL0 hl hb hS0 hs h112 htk h e112; omega), by omega, ⟨by omega, hb⟩, ?_⟩
  have e150 : M 150 tk = M0 150 tk := by rw [hM, up_ne (by decide)]
  rw [e150, hM]; exact h
theorem m_279_0 [Inhabited gh_] (hV : Cl_ wd0 (Tr_ wd0 pg0 (d + 2)) V Qr Qt m_279) (hW : Wk_ V) {s tk : Int} {x : Int × Int × Int} (hE : QE M ((s, tk) :: sg) (x :: ws) cm f fm) (hs13 : s = 13 ∨ s = 14) (hl : (ws.length : Int) < 1202) (hs : (sg.length : Int) < 1240) (hf0 : 0 ≤ f) (hf : f + fm.length < 3000) (bx : x.2.2 = 0 ∨ x.2.2 = 1) (ht0 : 0 ≤ tk) (ht1 : tk < 1202) (ho : 0 < M 6 15) (ho2 : M 6 15 ≤ 13)
    (h : V 0 [rr 6, none, none, none] [] (pM_ M s tk x ws.length)) : V 0 [rr 6, none, none, none] [] M := by
  have e112 : M 6 112 = (sg.length : Int) + 1 := by rw [hE.1]; simp only [List.length_cons]; push_cast; (clear hV hW hE hs13 hl hs hf0 hf bx ht0 ht1 ho ho2 h; lia)
  have e229 : M 229 (sg.length : Int) = s := hE.2.1.1
  have e230 : M 230 (sg.length : Int) = tk := hE.2.1.2.1
  have em : M 6 112 - 1 = (sg.length : Int) := by omega
  have w1 : w32 (M 6 112 - 1) = (sg.length : Int) := by rw [w32_id (by (clear hV hW hE hs13 hl hf0 hf bx ht0 ht1 ho ho2 h e229 e230 em; lia)) (by omega)]; omega
  have w2 : w32 (M 6 15 - 1) = M 6 15 - 1 := w32_id (by omega) (by omega)
  have eM1 : up_ (up_ M 6 112 (sg.length : Int)) 6 15 (M 6 15 - 1) = pM1_ M := by unfold pM1_; rw [em]
  have hE1 : QE (pM1_ M) sg (x :: ws) cm f fm := QE_sc (pS_QE hE) (by decide) (by decide) (by decide) (by decide)
  have i1 : pM1_ M 6 112 = (sg.length : Int) := hE1.1
  have go : ∀ a1 : Int, (a1 = 1 ↔ s = 13) → (a1 = 0 ∨ a1 = 1) → V 79 [rr 6, ii a1, none, none] [] (pM1_ M) := by
    intro a1 ha hab
    refine b_279_79 (Tr_mono _) hV hW a1 _ ?_
    rw [i1, pM1_r (by decide), e229]
    refine ⟨by (clear hV hW hE hs13 hl hf0 hf bx ht0 ht1 ho ho2 h e229 e230 em w2 eM1 hE1 ha hab; lia), q_277 (by rw [hE1.2.2.2.2.2.2.1]; omega) (by rw [hE1.2.2.2.2.2.2.1]; omega) ?_⟩
    have hE2 := pu_QE (x := s) (y := 0) hE1
    unfold pM_ at h
    generalize hM2 : pu_ (pM1_ M) s 0 = M2 at hE2 h ⊢
    have r2 : ∀ r : Nat, r ≠ 6 → r ≠ 227 → r ≠ 228 → M2 r = M r := fun r a b c => by rw [← hM2, pu_r a b c, pM1_r a]
    have e116 : M2 6 116 = (ws.length : Int) + 1 := by rw [hE2.2.2.1]; simp only [List.length_cons]; push_cast; omega
    have w3 : w32 (M2 6 116 - 1) = (ws.length : Int) := by rw [w32_id (by (clear hV hW hE hs13 hs hf0 hf bx ht0 ht1 ho ho2 e112 e229 e230 em w1 w2 eM1 hE1 i1 ha hab hM2 hE2 h r2; omega)) (by omega)]; (clear hV hW hE hs13 hl hs hf0 hf bx ht0 ht1 ho ho2 e112 e229 e230 em w1 w2 eM1 hE1 i1 ha hab hM2 hE2 h r2; lia)
    rw [w3]
    have ex1 : M2 231 (ws.length : Int) = x.1 := hE2.2.2.2.1.1
    have ex2 : M2 232 (ws.length : Int) = x.2.1 := hE2.2.2.2.1.2.1
    have ex3 : M2 233 (ws.length : Int) = x.2.2 := hE2.2.2.2.1.2.2.1
    rw [ex3]
    refine ⟨by (clear hV hW hE hs13 hs hf0 hf bx ht0 ht1 ho ho2 e112 e229 e230 em w1 w2 eM1 hE1 i1 ha hab hM2 hE2 h r2 ex1 ex2 ex3; lia), fun _ => ?_⟩
    have e230' : M2 230 (sg.length : Int) = tk := by rw [r2 230 (by decide) (by decide) (by decide)]; exact e230
    have e112' : M2 6 112 = (sg.length : Int) := hE2.1
    have e150' : M2 150 = M 150 := r2 150 (by decide) (by decide) (by decide)
    have fin : ∀ (b w : Int), (b = 0 ∨ b = 1) → w = pw_ s → b = pb_ x (pw_ s) → V 147 [rr 6, ii a1, ii (ws.length : Int), ii b] [] (up_ (aM_ M2 x (pw_ s)) 231 (ws.length : Int) w) := by
      intro b w hb hw hb2
      refine m_279_147 hV hW (S := sg.length) rfl (by (clear hV hW hE hs13 hs hf0 hf bx ht0 ht1 ho ho2 e112 e229 e230 em w1 w2 eM1 hE1 i1 ha hab hM2 hE2 h r2 ex1 ex2 ex3 e230' e112' e150' hb hw hb2; lia)) hl hb (by (clear hV hW hE hs13 hl hf0 hf bx ht0 ht1 ho ho2 e229 e230 em w2 eM1 hE1 ha hab hM2 hE2 h r2 e116 w3 ex1 ex2 ex3 e230' e150' hb hw hb2; lia)) hs (by rw [aM_6 (by decide) (by decide)]; exact e112') (by rw [aM_r (by decide)]; exact e230') ht0 ht1 ?_
      rw [aM_r (by decide), e150', hw, hb2]; exact h
    have hw9 : (a1 = 0 → pw_ s = 2) ∧ (a1 = 1 → pw_ s = 1) := by
      unfold pw_
      refine ⟨fun h9 => ?_, fun h9 => ?_⟩
      · rw [if_neg (fun h8 => by have := ha.mpr h8; omega)]
      · rw [if_pos (ha.mp h9)]
    by_cases c1 : x.2.2 = 0
    · rw [if_pos c1]
      have ask : (ab_ x (pw_ s) = 0 → 0 = pb_ x (pw_ s)) ∧ (ab_ x (pw_ s) ≠ 0 → 1 = pb_ x (pw_ s)) := by
        unfold ab_ pb_
        by_cases h9 : x.1 = pw_ s
        · rw [if_neg (fun h8 => h8.2 h9), if_pos ⟨c1, h9⟩]; exact ⟨fun _ => rfl, fun h8 => absurd rfl h8⟩
        · rw [if_pos ⟨c1, h9⟩, if_neg (fun h8 => h9 h8.2)]; exact ⟨fun h8 => absurd h8 (by decide), fun _ => rfl⟩
      by_cases c2 : a1 = 0
      · rw [if_pos c2]
        have hw := hw9.1 c2
        rw [hw] at ask fin
        refine q_280 (x := x) (by (clear hV hW hE hs13 hs hf0 hf bx ht0 ht1 ho ho2 e112 e229 e230 em w1 w2 eM1 hE1 i1 ha hab hM2 hE2 h r2 ex1 ex2 ex3 e230' e112' e150' fin hw9 c1 ask c2 hw; lia)) (by omega) ex1 ex2 ex3 ?_
        by_cases c3 : ab_ x 2 = 0
        · rw [if_pos c3, if_pos c2]
          exact ⟨by (clear hV hW hE hs13 hs hf0 hf bx ht0 ht1 ho ho2 e112 e229 e230 em w1 w2 eM1 hE1 i1 ha hab hM2 hE2 h r2 ex1 ex2 ex3 e230' e112' e150' fin hw9 c1 ask c2 hw c3; lia), fin 0 2 (.inl rfl) rfl (ask.1 c3)⟩
        · rw [if_neg c3, if_pos c2]
          exact ⟨by omega, fin 1 2 (.inr rfl) rfl (ask.2 c3)⟩
      · rw [if_neg c2]
        have hw := hw9.2 (by (clear hV hW hE hs13 hl hs hf0 hf bx ht0 ht1 ho ho2 e112 e229 e230 em w1 w2 eM1 hE1 i1 ha hM2 hE2 h r2 e116 w3 ex1 ex2 ex3 e230' e112' e150' fin c1; lia))
        rw [hw] at ask fin
        refine q_280 (x := x) (by (clear hV hW hE hs13 hs hf0 hf bx ht0 ht1 ho ho2 e112 e229 e230 em w1 w2 eM1 hE1 i1 ha hab hM2 hE2 h r2 ex1 ex2 ex3 e230' e112' e150' fin hw9 c1 ask c2 hw; lia)) (by omega) ex1 ex2 ex3 ?_
        by_cases c3 : ab_ x 1 = 0
        · rw [if_pos c3, if_neg c2]
          exact ⟨by omega, fin 0 1 (.inl rfl) rfl (ask.1 c3)⟩
        · rw [if_neg c3, if_neg c2]
          exact ⟨by omega, fin 1 1 (.inr rfl) rfl (ask.2 c3)⟩
    · rw [if_neg c1]
      have hpb : 1 = pb_ x (pw_ s) := by unfold pb_; rw [if_neg (fun h9 => c1 h9.1)]
      have eM : aM_ M2 x (pw_ s) = M2 := by unfold aM_; rw [if_neg (fun h9 => c1 h9.1)]
      rw [eM] at fin
      by_cases c2 : a1 = 0
      · rw [if_pos c2]
        exact ⟨by omega, fin 1 2 (.inr rfl) (hw9.1 c2).symm hpb⟩
      · rw [if_neg c2]
        exact ⟨by omega, fin 1 1 (.inr rfl) (hw9.2 (by (clear hV hW hE hs13 hl hs hf0 hf bx ht0 ht1 ho ho2 e112 e229 e230 em w1 w2 eM1 hE1 i1 ha hM2 hE2 h r2 e116 w3 ex1 ex2 ex3 e230' e112' e150' fin hpb eM; lia))).symm hpb⟩
  have at39 : V 39 [rr 6, none, none, none] [] M := by
    refine b_279_39 (Tr_mono _) hV hW M ?_
    rw [w1, w2, e229, eM1]
    refine ⟨by omega, ?_⟩
    by_cases h13 : s = 13
    · rw [if_pos h13]; exact go 1 ⟨fun _ => h13, fun _ => rfl⟩ (.inr rfl)
    · rw [if_neg h13]; exact go 0 ⟨fun h9 => absurd h9 (by decide), fun h9 => absurd h9 h13⟩ (.inl rfl)
  refine b_279_0 (Tr_mono _) hV hW M ?_
  rw [if_neg (by (clear hV hW hE hs13 hl hf0 hf bx ht0 ht1 ho ho2 h e229 e230 em w2 eM1 hE1 go at39; lia)), w1, e229]
  refine ⟨by omega, ?_⟩
  by_cases h13 : s = 13
  · rw [if_pos h13]; exact at39
  · rw [if_neg h13, if_pos (by (clear hV hW hE hl hs hf0 hf ht0 ht1 ho ho2 h e112 e229 e230 em w1 w2 eM1 hE1 i1 go at39; lia))]
    exact ⟨by omega, at39⟩
/-- a call of prefixes that begins with one -/
theorem Ex9_p [Inhabited gh_] {dq : Nat} {M' : mm_} {s tk : Int} {x : Int × Int × Int} (hE : QE M ((s, tk) :: sg) (x :: ws) cm f fm) (hs13 : s = 13 ∨ s = 14) (hl : (ws.length : Int) < 1202) (hs : (sg.length : Int) < 1240) (hf0 : 0 ≤ f) (hf : f + fm.length < 3000) (bx : x.2.2 = 0 ∨ x.2.2 = 1) (ht0 : 0 ≤ tk) (ht1 : tk < 1202) (ho : 0 < M 6 15) (ho2 : M 6 15 ≤ 13) (h : Ex9 dq (pM_ M s tk x ws.length) M') : Ex9 dq M M' := by
  intro Kv Qt hk
  refine t_279 fun V hV hW => m_279_0 (d := dq + 4) hV hW hE hs13 hl hs hf0 hf bx ht0 ht1 ho ho2 ?_
  have := h Kv Qt hk
  exact this.2 V hV hW
end QE
end T88_er
section T89_er
/-! un -/
section UN
variable {dq D n : Nat} {b F : Int} {Mx Mq Mx' Mq' M : mm_} {a o : Int} {sg : List (Int × Int)} {ws : List (Int × Int × Int)} {c : Int} {cm : List Int} {f : Int} {fm : List (Int × Int)} {cc : Int} {cd : List Int} {K : Int → mm_ → Prop} {Kv : mm_ → Prop} {Qr : qr_} {Qt : qt_} {V : vv_}
theorem ER_ou [Inhabited gh_] (h : ER b F Mx Mq a o) {o' : Int} (h0 : 0 ≤ o' ∧ o' ≤ 12) (hq : Mq 6 15 = o') : ER b F (up_ Mx 1 6 o') Mq a o' := by
  obtain ⟨e1, e2, e3, e4, e5, e6, e7, e8, e9, e10, e11, e12, e13, e14, e15⟩ := h
  refine ⟨gd_c (up_ne (by decide)) e1, by rw [up_off (by decide)]; exact e2, e3, up_at, hq, h0, by rw [up_off (by decide)]; exact e7, e8, e9, e10, ?_, by rw [up_off (by decide)]; exact e12, by rw [up_off (by decide)]; exact e13, by rw [up_ne (by decide)]; exact e14, by rw [up_ne (by decide)]; exact e15⟩
  unfold NR
  rw [up_off (by decide), up_off (by decide), up_off (by decide)]
  exact e11
theorem EP_un [Inhabited gh_] {k a1 s1 t1 bd1 w op : Int} {Mx2 Mq2 Mx1 Mq1 : mm_} {y : List Int} {l : List (Int × Int)} (hR : PR b F Mx Mq a o sg ws c cm f fm cc cd) (ho : 0 ≤ o ∧ o < 12) (hX2 : XF Mx Mx2) (hQ2 : QF Mq Mq2) (h7 : Mx2 1 7 = Mx 1 7) (hfq : fqq_ Mq2 = fqq_ Mq) (hg2 : gd_ Mx (a + 1))
    (hP : EP (nU n t1) b F Mx2 Mq2 Mx1 Mq1 (a + 1) a1 (o + 1) ((pc_ k, a) :: sg) ws c cm f fm cc cd y s1 t1 bd1 l) (hs : b = 1 → bd1 = 1 → s1 = -1) (hw : w = pw_ (pc_ k) - 1) (hop : op = if pc_ k = 13 then 15 else 16) :
    EP (nU (n + 1) (pw_ (pc_ k))) b F Mx Mq (pX_ (up_ (hX_ Mx1 s1 w (a + 1)) 1 6 o) op) (pM_ Mq1 (pc_ k) a (t1, Mx 71 (a + 1), bd1) ws.length) a a1 o sg ws c cm f fm cc cd (if b = 0 then [] else op :: y) w (pw_ (pc_ k)) (pb_ (t1, Mx 71 (a + 1), bd1) (pw_ (pc_ k))) ((pc_ k, 0) :: l) := by
  obtain ⟨u1, u2, u3, u4, u5, u6, u7, ⟨u8, u9, u10, u11⟩, ⟨u12, u13⟩, u14, u15⟩ := hP
  obtain ⟨hT, hVT, hER, hQE, hXE, hL⟩ := hR
  have hpc : pc_ k = 13 ∨ pc_ k = 14 := by unfold pc_; split; exact .inl rfl; exact .inr rfl
  have hpw : (pc_ k = 13 ∧ pw_ (pc_ k) = 1) ∨ (pc_ k = 14 ∧ pw_ (pc_ k) = 2) := by
    rcases hpc with h | h
    · left; exact ⟨h, by rw [h]; decide⟩
    · right; exact ⟨h, by rw [h]; decide⟩
  generalize hpcg : pc_ k = pc at *
  generalize hpwg : pw_ pc = pw at *
  have hb01 := hER.2.2.2.2.2.2.2.2.1
  have hX : XF Mx Mx1 := XF_tr hX2 u2
  have hQ : QF Mq Mq1 := QF_tr hQ2 u3
  have h71 : Mx1 71 = Mx 71 := XF_70 hX (by decide) (by decide) (by decide)
  have h712 : Mx2 71 = Mx 71 := XF_70 hX2 (by decide) (by decide) (by decide)
  rw [h712] at u5 u14
  have hp2 := tk_p hT hg2
  have hc := hX_c (M := Mx1) s1 w (a + 1) u4.2.2.2.2.2.2.1 hb01
  -- what X and Q note
  have x2 : b = 1 → ((s1 = -1 ∨ s1 = w) ↔ ¬ (bd1 = 0 ∧ t1 ≠ pw)) := by
    intro hb
    rcases u6 with h | h
    · have := (u14 hb).1 h
      constructor <;> intro h9 <;> (clear ho hX2 hQ2 h7 hfq hg2 hs u1 u2 u3 u4 u7 u8 u9 u10 u11 u12 u13 u14 u15 hT hVT hER hQE hXE hL hpcg hop u5 hpc hpwg hpw hb01 hX hQ h71 h712 hp2 hc hb; omega)
    · have h2 := hs hb h
      exact ⟨fun _ h9 => by omega, fun _ => .inl h2⟩
  have hbd' : pb_ (t1, Mx 71 (a + 1), bd1) pw = if bd1 = 0 ∧ t1 = pw then 0 else 1 := rfl
  have hbd01 : pb_ (t1, Mx 71 (a + 1), bd1) pw = 0 ∨ pb_ (t1, Mx 71 (a + 1), bd1) pw = 1 := by rw [hbd']; split; exact .inl rfl; exact .inr rfl
  have e150 : Mq1 150 a = Mx 71 a := pl_at hT hQ hER.1
  have hE3 := pM_QE u5
  rw [hpwg, e150] at hE3
  have hXX : XF Mx (pX_ (up_ (hX_ Mx1 s1 w (a + 1)) 1 6 o) op) := XF_tr hX (XF_tr hX_XF (XF_tr oX_XF pX_XF))
  have hQQ : QF Mq (pM_ Mq1 pc a (t1, Mx 71 (a + 1), bd1) ws.length) := QF_tr hQ pM_QF
  have m8 : up_ (hX_ Mx1 s1 w (a + 1)) 1 6 o 1 8 = b := by rw [up_off (by decide), hX_1 (by decide) (by decide) (by decide)]; exact u4.2.2.2.2.2.2.1
  have m53 : up_ (hX_ Mx1 s1 w (a + 1)) 1 6 o 5 3 = Mx1 5 3 := by rw [up_ne (by decide), hX_r (by decide)]
  have mXE : XE (up_ (hX_ Mx1 s1 w (a + 1)) 1 6 o) cc (y ++ cd) := XE_c m53 (by rw [up_ne (by decide), hX_r (by decide)]) u8
  have m7 : pX_ (up_ (hX_ Mx1 s1 w (a + 1)) 1 6 o) op 1 7 = hX_ Mx1 s1 w (a + 1) 1 7 := by rw [pX_1, up_off (by decide)]
  have hfl : hX_ Mx1 s1 w (a + 1) 1 7 = Mx1 1 7 ∨ hX_ Mx1 s1 w (a + 1) 1 7 = Mx1 1 7 + 1 := by
    rcases hc with h | h
    · rw [h.1]; exact .inl rfl
    · rw [h.2.2.2, nt1_7]; exact .inr rfl
  have hle := u12
  have hb0 := hER.2.2.2.2.2.2.2.2.2.2.2.2.1
  have hb4 := u4.2.2.2.2.2.2.2.2.2.2.2.2.1
  have hE4 : XE (pX_ (up_ (hX_ Mx1 s1 w (a + 1)) 1 6 o) op) cc ((if b = 0 then [] else op :: y) ++ cd) := by
    rcases hb01 with h | h
    · rw [if_pos h, pX_0 (by rw [m8]; exact h)]
      rw [u9 h] at mXE; exact mXE
    · rw [if_neg (by (clear ho hX2 hQ2 h7 hfq hg2 hs u1 u2 u3 u4 u6 u7 u8 u9 u10 u11 u12 u13 u14 u15 hT hVT hER hQE hXE hL hpcg hop u5 hpc hpwg hw hpw hX hQ h71 h712 hp2 hc x2 hbd' hbd01 e150 hE3 hXX hQQ m8 m53 mXE m7 hfl hle hb0 hb4; lia))]
      exact pX_E (by rw [m8]; omega) mXE
  have q13 : ∀ i : Int, i ≠ 13 → i ≠ 14 → i ≠ 15 → i ≠ 104 → i ≠ 112 → pM_ Mq1 pc a (t1, Mx 71 (a + 1), bd1) ws.length 6 i = Mq1 6 i := fun i h1 h2 h3 h4 h5 => pM_6 h1 h2 h3 h4 h5
  have hq15 : pM_ Mq1 pc a (t1, Mx 71 (a + 1), bd1) ws.length 6 15 = o := by rw [pM_15, u4.2.2.2.2.1]; omega
  have hfq' := pM_fq (M := Mq1) (s := pc) (tk := a) (L := ws.length) (x := (t1, Mx 71 (a + 1), bd1))
  rw [hpwg, u4.2.2.2.2.2.2.2.1] at hfq'
  have f13 : pM_ Mq1 pc a (t1, Mx 71 (a + 1), bd1) ws.length 6 13 = (aq_ b (fqq_ Mq1) (t1, Mx 71 (a + 1), bd1) pw).1 := congrArg Prod.fst hfq'
  have f14 : pM_ Mq1 pc a (t1, Mx 71 (a + 1), bd1) ws.length 6 14 = (aq_ b (fqq_ Mq1) (t1, Mx 71 (a + 1), bd1) pw).2 := congrArg Prod.snd hfq'
  have keyk : b = 1 → vk_ (aq_ b (fqq_ Mq1) (t1, Mx 71 (a + 1), bd1) pw).1 (aq_ b (fqq_ Mq1) (t1, Mx 71 (a + 1), bd1) pw).2 ∧ kk_ (aq_ b (fqq_ Mq1) (t1, Mx 71 (a + 1), bd1) pw).1 (aq_ b (fqq_ Mq1) (t1, Mx 71 (a + 1), bd1) pw).2 = if bd1 = 0 ∧ t1 ≠ pw then min (kk_ (Mq1 6 13) (Mq1 6 14)) (8 * Mx 71 (a + 1) + 5) else kk_ (Mq1 6 13) (Mq1 6 14) := by
    intro hb
    rw [hb]
    exact aq_k (q := fqq_ Mq1) (x := (t1, Mx 71 (a + 1), bd1)) (w := pw) u4.2.2.2.2.2.2.2.2.2.2.1.2.1 hp2
  have hER5 : ER b F (pX_ (up_ (hX_ Mx1 s1 w (a + 1)) 1 6 o) op) (pM_ Mq1 pc a (t1, Mx 71 (a + 1), bd1) ws.length) a1 o := by
    obtain ⟨e1, e2, e3, e4, e5, e6, e7, e8, e9, e10, e11, e12, e13, e14, e15⟩ := u4
    refine ⟨gd_c (XF_70 (XF_tr hX_XF (XF_tr oX_XF pX_XF)) (by decide) (by decide) (by decide)) e1, ?_, ?_, ?_, hq15, ⟨ho.1, by (clear hX2 hQ2 h7 hfq hg2 hs u1 u2 u3 u6 u7 u8 u9 u10 u11 u12 u13 u14 u15 hT hVT hER hQE hXE hL hpcg hop u5 hpc hpwg hw hpw hb01 hX hQ h71 h712 hp2 hc x2 hbd' hbd01 e150 hE3 hXX hQQ m8 m53 mXE m7 hfl hle hb0 hb4 hE4 q13 hfq' f13 f14 keyk e1 e2 e3 e6 e7 e8 e9 e10 e11 e12 e13 e14 e15; omega)⟩, ?_, ?_, hb01, ?_, ?_, ?_, ?_, ?_, ?_⟩
    · rw [pX_1, up_off (by decide), hX_1 (by decide) (by decide) (by decide)]; exact e2
    · rw [q13 12 (by decide) (by decide) (by decide) (by decide) (by decide)]; exact e3
    · rw [pX_1, up_at]
    · rw [pX_1]; exact m8
    · rw [q13 16 (by decide) (by decide) (by decide) (by decide) (by decide)]; exact e8
    · intro hb
      rw [f13]
      have : aq_ b (fqq_ Mq1) (t1, Mx 71 (a + 1), bd1) pw = fqq_ Mq1 := by
        unfold aq_; split
        · unfold np_; rw [if_pos hb]
        · rfl
      rw [this]; exact e10 hb
    · obtain ⟨n1, n2, n3, n4⟩ := e11
      rcases hb01 with hb | hb
      · have hz : hX_ Mx1 s1 w (a + 1) = Mx1 := by
          rcases hc with h | h
          · exact h.1
          · (clear ho hX2 hQ2 h7 hfq hg2 hs u1 u2 u3 u6 u7 u8 u9 u10 u11 u12 u13 u14 u15 hT hVT hER hQE hXE hL hpcg hop u5 hpc hpwg hw hpw hX hQ h71 h712 hp2 x2 hbd' hbd01 e150 hE3 hXX hQQ m8 m53 mXE m7 hfl hle hb0 hb4 hE4 q13 hq15 hfq' f13 f14 keyk e1 e2 e3 e4 e5 e6 e9 e10 e12 e13 e14 e15 n1 n2 n3 n4; lia)
        have hq : aq_ b (fqq_ Mq1) (t1, Mx 71 (a + 1), bd1) pw = fqq_ Mq1 := by
          unfold aq_; split
          · unfold np_; rw [if_pos hb]
          · rfl
        unfold NR
        rw [f13, f14, hq, pX_1, up_off (by decide), up_off (by decide), hz]
        exact ⟨n1, n2, n3, n4.1, .inl (by rw [q13 16 (by decide) (by decide) (by decide) (by decide) (by decide), e8]; exact hb)⟩
      have kk := keyk hb
      refine ⟨?_, by rw [f13, f14]; exact kk.1, ?_, n4.1, .inr (by
        have h9 : kk_ (Mq1 6 13) (Mq1 6 14) ≤ bb_ (Mx1 1 19) := by
          rcases n4.2 with z | z
          · rw [e8] at z; (clear ho hX2 hQ2 h7 hfq hg2 hs u1 u2 u3 u6 u7 u8 u9 u10 u11 u12 u13 u14 u15 hT hVT hER hQE hXE hL hpcg hop u5 hpc hpwg hw hpw hX hQ h71 h712 hp2 hc x2 hbd' hbd01 e150 hE3 hXX hQQ m8 m53 mXE m7 hfl hle hb0 hb4 hE4 q13 hq15 hfq' f13 f14 keyk e1 e2 e3 e4 e5 e6 e9 e10 e12 e13 e14 e15 n1 n2 n3 n4 kk; lia)
          · exact z
        rw [f13, f14, kk.2, pX_1, up_off (by decide), hX_1 (by decide) (by decide) (by decide)]
        clear n4 kk n3
        split
        · (clear ho hX2 hQ2 h7 hfq hg2 hs u1 u2 u3 u6 u7 u8 u9 u10 u11 u12 u13 u14 u15 hT hVT hER hQE hXE hL hpcg hop u5 hpc hpwg hw hpw hX hQ h71 h712 hp2 hc x2 hbd' hbd01 e150 hE3 hXX hQQ m8 m53 mXE m7 hfl hle hb0 hb4 hE4 q13 hq15 hfq' f13 f14 keyk e1 e2 e3 e4 e5 e6 e7 e8 e9 e10 e12 e13 e14 e15 n1 n2 hb; omega)
        · exact h9)⟩
      · rw [pX_1, up_off (by decide), up_off (by decide)]
        rcases hc with h | h
        · rw [h.1]; exact n1
        · rw [h.2.2.2]; exact (kk_nt1 (M := Mx1) (k := 5) (t := a + 1) n1 (by decide) (by decide) (by rw [h71]; exact hp2.1) (by rw [h71]; exact hp2.2)).2
      · rw [f13, f14, kk.2, pX_1, up_off (by decide), up_off (by decide)]
        rcases hc with h | h
        · have h9 : ¬ (bd1 = 0 ∧ t1 ≠ pw) := (x2 hb).mp (by rcases h.2 with h8 | h8; (clear ho hX2 hQ2 h7 hfq hg2 hs u1 u2 u3 u6 u7 u8 u9 u10 u11 u12 u13 u14 u15 hT hVT hER hQE hXE hL hpcg hop u5 hpc hpwg hw hpw hX hQ h71 h712 hp2 x2 hbd' hbd01 e150 hE3 hXX hQQ m8 m53 mXE m7 hfl hle hb0 hb4 hE4 q13 hq15 hfq' f13 f14 keyk e1 e2 e3 e4 e5 e6 e9 e10 e12 e13 e14 e15 n1 n2 n3 n4 kk h; lia); exact h8)
          rw [h.1, if_neg h9]; exact n3
        · have h9 : bd1 = 0 ∧ t1 ≠ pw := Classical.byContradiction fun h8 => by
            rcases (x2 hb).mpr h8 with h7 | h7
            · exact h.2.1 h7
            · exact h.2.2.1 h7
          rw [h.2.2.2, if_pos h9, (kk_nt1 (M := Mx1) (k := 5) (t := a + 1) n1 (by decide) (by decide) (by rw [h71]; exact hp2.1) (by rw [h71]; exact hp2.2)).1, n3, h71]
          (clear ho hX2 hQ2 h7 hfq hg2 hs u1 u2 u3 u6 u7 u8 u9 u10 u11 u12 u13 u14 u15 hT hVT hER hQE hXE hL hpcg hop u5 hpc hpwg hpw hX hQ h71 h712 hp2 x2 hbd' hbd01 e150 hE3 hXX hQQ m8 m53 mXE m7 hfl hle hb0 hb4 hE4 q13 hq15 hfq' f13 f14 keyk e1 e2 e3 e4 e5 e6 e9 e10 e12 e13 e14 e15 n1 n2 n3 kk; lia)
    · rw [m7]; rcases hfl with h | h <;> (clear ho hX2 hQ2 h7 hfq hg2 hs u1 u2 u3 u6 u7 u8 u9 u10 u11 u12 u13 u14 u15 hT hVT hER hQE hXE hL hpcg hop u5 hpc hpwg hw hpw hb01 hX hQ h71 h712 hp2 hc x2 hbd' hbd01 e150 hE3 hXX hQQ m8 m53 mXE m7 hle hb0 hb4 hE4 q13 hq15 hfq' f13 f14 keyk e1 e2 e3 e4 e5 e6 e7 e8 e9 e10 e11 e13 e14 e15; omega)
    · rw [m7]; rcases hfl with h | h <;> (clear ho hX2 hQ2 hfq hg2 hs u1 u2 u3 u6 u7 u8 u9 u10 u11 u13 u14 u15 hT hVT hER hQE hXE hL hpcg hop u5 hpc hpwg hw hpw hb01 hX hQ h71 h712 hp2 hc x2 hbd' hbd01 e150 hE3 hXX hQQ m8 m53 mXE m7 hle hE4 q13 hq15 hfq' f13 f14 keyk e1 e4 e5 e6 e7 e8 e9 e10 e11 e12 e13 e14 e15; lia)
    · rw [hE4.1]
      have := u8.1
      simp only [List.length_append] at this
      split
      · rename_i h; rw [u9 h] at this; simp only [List.length_nil] at this; simp only [List.nil_append]; push_cast at this; (clear ho hX2 hQ2 h7 hfq hg2 hs u1 u2 u3 u6 u7 u8 u9 u10 u11 u12 u13 u14 u15 hT hVT hER hQE hXE hL hpcg hop u5 hpc hpwg hw hpw hb01 hX hQ h71 h712 hp2 hc x2 hbd' hbd01 e150 hE3 hXX hQQ m8 m53 mXE m7 hfl hle hb0 hb4 hE4 q13 hq15 hfq' f13 f14 keyk e1 e2 e3 e4 e5 e6 e7 e8 e9 e10 e11 e12 e13 e15 h; omega)
      · simp only [List.cons_append, List.length_cons, List.length_append]; push_cast at this ⊢; (clear ho hX2 hQ2 h7 hfq hg2 hs u1 u2 u3 u6 u7 u8 u9 u10 u11 u12 u13 u14 u15 hT hVT hER hQE hXE hL hpcg hop u5 hpc hpwg hw hpw hb01 hX hQ h71 h712 hp2 hc x2 hbd' hbd01 e150 hE3 hXX hQQ m8 m53 mXE m7 hfl hle hb0 hb4 hE4 q13 hq15 hfq' f13 f14 keyk e1 e2 e3 e4 e5 e6 e7 e8 e9 e10 e11 e12 e13 e15; omega)
    · rw [hE4.1]
      have h1 := u8.1
      have h2 := hXE.1
      have h3 := hER.2.2.2.2.2.2.2.2.2.2.2.2.2.2
      simp only [List.length_append] at h1
      split
      · simp only [List.nil_append]; (clear ho hX2 hQ2 h7 hfq hg2 hs u1 u2 u3 u6 u7 u8 u9 u10 u11 u12 u13 u14 u15 hT hVT hER hQE hXE hL hpcg hop u5 hpc hpwg hw hpw hb01 hX hQ h71 h712 hp2 hc x2 hbd' hbd01 e150 hE3 hXX hQQ m8 m53 mXE m7 hfl hle hb0 hb4 hE4 q13 hq15 hfq' f13 f14 keyk e1 e4 e5 e6 e7 e8 e9 e10 e11 e12 e13 e14 h2 h3; lia)
      · simp only [List.cons_append, List.length_cons, List.length_append]; push_cast at h1 ⊢; (clear ho hX2 hQ2 h7 hfq hg2 hs u2 u3 u6 u7 u8 u9 u10 u12 u13 u14 u15 hT hVT hER hQE hXE hL hpcg hop u5 hpc hpwg hw hpw hb01 hX hQ h71 h712 hp2 hc x2 hbd' hbd01 e150 hE3 hXX hQQ m8 m53 mXE m7 hfl hle hb0 hb4 hE4 q13 hq15 hfq' f13 f14 keyk e1 e4 e5 e6 e7 e8 e9 e10 e11 e12 e13 e14 e15; lia)
  refine ⟨by (clear ho hX2 hQ2 h7 hfq hg2 hs u2 u3 u4 u6 u7 u8 u9 u10 u11 u12 u13 u14 u15 hT hVT hER hQE hXE hL hpcg hop u5 hpc hpwg hw hpw hb01 hX hQ h71 h712 hp2 hc x2 hbd' hbd01 e150 hE3 hXX hQQ m8 m53 mXE m7 hfl hle hb0 hb4 hE4 q13 hq15 hfq' f13 f14 keyk hER5; omega), hXX, hQQ, hER5, hE3, hbd01, ?_, ⟨hE4, fun hb => by rw [if_pos hb], fun hb h => ?_, ?_⟩, ⟨?_, ?_⟩, fun hb => ⟨fun h => ?_, fun h => ?_⟩, fun hb h st Dd hD => ?_⟩
  · simp only [List.length_cons]; push_cast; (clear ho hX2 hQ2 h7 hfq hg2 hs u1 u2 u3 u4 u6 u8 u9 u10 u11 u12 u13 u14 u15 hT hVT hER hQE hXE hL hpcg hop u5 hpc hpwg hw hpw hb01 hX hQ h71 h712 hp2 hc x2 hbd' hbd01 e150 hE3 hXX hQQ m8 m53 mXE m7 hfl hle hb0 hb4 hE4 q13 hq15 hfq' f13 f14 keyk hER5; omega)
  · rw [if_neg (by (clear ho hX2 hQ2 h7 hfq hg2 hs u1 u2 u3 u4 u6 u7 u8 u9 u10 u11 u12 u13 u14 u15 hT hVT hER hQE hXE hL hpcg hop u5 hpc hpwg hw hpw hb01 hX hQ h71 h712 hp2 hc x2 hbd' hbd01 e150 hE3 hXX hQQ m8 m53 mXE m7 hfl hle hb0 hb4 hE4 q13 hq15 hfq' f13 f14 keyk hER5 h; lia))]
    have h9 : bd1 = 0 ∧ t1 = pw := by rw [hbd'] at h; split at h; assumption; omega
    rw [u10 hb h9.1, er_c hQ2]
    show op :: er_ Mq l = en_1 Mq (pc, 0) ++ er_ Mq l
    rw [hop]
    rcases hpc with h8 | h8 <;> (rw [h8]; rfl)
  · split
    · simp only [List.length_nil]; (clear ho hX2 hQ2 h7 hfq hg2 hs u2 u3 u4 u6 u7 u8 u9 u10 u11 u12 u13 u14 u15 hT hVT hER hQE hXE hL hpcg hop u5 hpc hpwg hw hpw hb01 hX hQ h71 h712 hp2 hc x2 hbd' hbd01 e150 hE3 hXX hQQ m8 m53 mXE m7 hfl hle hb0 hb4 hE4 q13 hq15 hfq' f13 f14 keyk hER5; omega)
    · simp only [List.length_cons]; push_cast; (clear ho hX2 hQ2 h7 hfq hg2 hs u1 u2 u3 u4 u6 u7 u8 u9 u10 u12 u13 u14 u15 hT hVT hER hQE hXE hL hpcg hop u5 hpc hpwg hw hpw hb01 hX hQ h71 h712 hp2 hc x2 hbd' hbd01 e150 hE3 hXX hQQ m8 m53 mXE m7 hfl hle hb0 hb4 hE4 q13 hq15 hfq' f13 f14 keyk hER5; lia)
  · rw [m7]; rcases hfl with h | h <;> (clear ho hX2 hQ2 hfq hg2 hs u1 u2 u3 u4 u6 u7 u8 u9 u10 u11 u13 u14 u15 hT hVT hER hQE hXE hL hpcg hop u5 hpc hpwg hw hpw hb01 hX hQ h71 h712 hp2 hc x2 hbd' hbd01 e150 hE3 hXX hQQ m8 m53 mXE m7 hle hb0 hb4 hE4 q13 hq15 hfq' f13 f14 keyk hER5; lia)
  · rw [m7]; rcases hfl with h | h <;> (clear ho hX2 hQ2 hfq hg2 hs u1 u2 u3 u4 u6 u7 u8 u9 u10 u11 u12 u14 u15 hT hVT hER hQE hXE hL hpcg hop u5 hpc hpwg hw hpw hb01 hX hQ h71 h712 hp2 hc x2 hbd' hbd01 e150 hE3 hXX hQQ m8 m53 mXE m7 hle hb0 hb4 hE4 q13 hq15 hfq' f13 f14 keyk hER5; lia)
  · have h9 : bd1 = 0 ∧ t1 = pw := by rw [hbd'] at h; split at h; assumption; omega
    have h8 := (u14 hb).1 h9.1
    refine ⟨hw, by (clear ho hX2 hQ2 h7 hfq hg2 hs u1 u2 u3 u4 u6 u7 u8 u9 u10 u11 u12 u13 u14 u15 hT hVT hER hQE hXE hL hpcg hop u5 hpc hpwg hpw hb01 hX hQ h71 h712 hp2 hc x2 hbd' hbd01 e150 hE3 hXX hQQ m8 m53 mXE m7 hfl hle hb0 hb4 hE4 q13 hq15 hfq' f13 f14 keyk hER5 hb h; omega), by (clear ho hX2 hQ2 h7 hfq hg2 hs u1 u2 u3 u4 u6 u7 u8 u9 u10 u11 u12 u13 u14 u15 hT hVT hER hQE hXE hL hpcg hop u5 hpc hpwg hpw hb01 hX hQ h71 h712 hp2 hc x2 hbd' hbd01 e150 hE3 hXX hQQ m8 m53 mXE m7 hfl hle hb0 hb4 hE4 q13 hq15 hfq' f13 f14 keyk hER5 hb h; lia), ?_, ?_⟩
    · rw [m7]
      rcases hc with h7' | h7'
      · rw [h7'.1, h8.2.2.2.1]; exact h7
      · exact absurd (by (clear ho hX2 hQ2 h7 hfq hg2 hs u1 u2 u3 u4 u6 u7 u8 u9 u10 u11 u12 u13 u14 u15 hT hVT hER hQE hXE hL hpcg hop u5 hpc hpwg hpw hb01 hX hQ h71 h712 hp2 x2 hbd' hbd01 e150 hE3 hXX hQQ m8 m53 mXE m7 hfl hle hb0 hb4 hE4 q13 hq15 hfq' f13 f14 keyk hER5 hb h h7'; lia)) h7'.2.2.1
    · rw [hfq']
      unfold aq_
      rw [if_neg (fun h6 => h6.2 h9.2), h8.2.2.2.2, hfq]
  · have h9 : ¬ (bd1 = 0 ∧ t1 = pw) := fun h8 => by rw [hbd', if_pos h8] at h; omega
    refine ⟨.inr hw, ?_, ?_⟩
    · rw [m7]
      rcases u6 with h8 | h8
      · have h6 := (u14 hb).1 h8
        rcases hc with h7' | h7'
        · have := h7'.2; exfalso; (clear ho hX2 hQ2 h7 hfq hg2 hs u1 u2 u3 u4 u7 u8 u9 u10 u11 u12 u13 u14 u15 hT hVT hER hQE hXE hL hpcg hop u5 hpc hpwg hpw hb01 hX hQ h71 h712 hp2 x2 hbd' hbd01 e150 hE3 hXX hQQ m8 m53 mXE m7 hfl hle hb0 hb4 hE4 q13 hq15 hfq' f13 f14 keyk hER5 h; lia)
        · rw [h7'.2.2.2, nt1_7, h6.2.2.2.1, h7]; omega
      · have h6 := ((u14 hb).2 h8).2.1
        rcases hfl with h5 | h5 <;> (clear ho hX2 hQ2 hfq hg2 hs u1 u2 u3 u4 u7 u8 u9 u10 u11 u12 u13 u14 u15 hT hVT hER hQE hXE hL hpcg hop u5 hpc hpwg hw hpw hb01 hX hQ h71 h712 hp2 hc x2 hbd' hbd01 e150 hE3 hXX hQQ m8 m53 mXE m7 hle hb0 hb4 hE4 q13 hq15 hfq' f13 f14 keyk hER5 hb h h9 h8; omega)
    · rw [f13, f14, (keyk hb).2]
      have ga1 : gd_ Mx a1 := gd_c (XF_70 hX (r := 70) (by decide) (by decide) (by decide)).symm u4.1
      have hm := (hT a1 ga1).2.2.2.2.1 (a + 1) hg2 (by omega)
      rcases u6 with h8 | h8
      · rw [if_pos ⟨h8, fun h7' => h9 ⟨h8, h7'⟩⟩]; (clear ho hX2 hQ2 h7 hfq hg2 hs u1 u2 u3 u4 u7 u8 u9 u10 u11 u12 u13 u14 u15 hT hVT hER hQE hXE hL hpcg hop u5 hpc hpwg hw hpw hb01 hX hQ h71 h712 hp2 hc x2 hbd' hbd01 e150 hE3 hXX hQQ m8 m53 mXE m7 hfl hle hb0 hb4 hE4 q13 hq15 hfq' f13 f14 keyk hER5 hb h h9 ga1 h8; omega)
      · rw [if_neg (by (clear ho hX2 hQ2 h7 hfq hg2 hs u1 u2 u3 u4 u7 u8 u9 u10 u11 u12 u13 u14 u15 hT hVT hER hQE hXE hL hpcg hop u5 hpc hpwg hw hpw hb01 hX hQ h71 h712 hp2 hc x2 hbd' hbd01 e150 hE3 hXX hQQ m8 m53 mXE m7 hfl hle hb0 hb4 hE4 q13 hq15 hfq' f13 f14 keyk hER5 hb h h9 ga1 hm; lia))]; exact ((u14 hb).2 h8).2.2
  · have h9 : bd1 = 0 ∧ t1 = pw := by rw [hbd'] at h; split at h; assumption; omega
    have hn : nU n t1 ≤ nU (n + 1) pw := by rw [h9.2]; unfold nU; split <;> (push_cast; (clear ho hX2 hQ2 h7 hfq hg2 hs u1 u2 u3 u4 u6 u7 u8 u9 u10 u11 u12 u13 u14 u15 hT hVT hER hQE hXE hL hpcg hop u5 hpc hpwg hw hpw hb01 hX hQ h71 h712 hp2 hc x2 hbd' hbd01 e150 hE3 hXX hQQ m8 m53 mXE m7 hfl hle hb0 hb4 hE4 q13 hq15 hfq' f13 f14 keyk hER5 hb h hD h9; lia))
    have hn1 : 1 ≤ nU (n + 1) pw := by unfold nU; split <;> (push_cast; (clear ho hX2 hQ2 h7 hfq hg2 hs u1 u2 u3 u4 u6 u7 u8 u9 u10 u11 u12 u13 u14 u15 hT hVT hER hQE hXE hL hpcg hop u5 hpc hpwg hw hpw hb01 hX hQ h71 h712 hp2 hc x2 hbd' hbd01 e150 hE3 hXX hQQ m8 m53 mXE m7 hfl hle hb0 hb4 hE4 q13 hq15 hfq' f13 f14 keyk hER5 hb h hD h9 hn; lia))
    have ht := ty_c hQ2 l st _ (u15 hb h9.1 st Dd (by (clear ho hX2 hQ2 h7 hfq hg2 hs u1 u2 u3 u4 u6 u7 u8 u9 u10 u11 u12 u13 u14 u15 hT hVT hER hQE hXE hL hpcg hop u5 hpc hpwg hw hpw hb01 hX hQ h71 h712 hp2 hc x2 hbd' hbd01 e150 hE3 hXX hQQ m8 m53 mXE m7 hfl hle hb0 hb4 hE4 q13 hq15 hfq' f13 f14 keyk hER5 hb h h9 hn1; omega)))
    refine ⟨t1 :: st, ht, ?_, by simp only [List.length_cons]; push_cast; (clear ho hX2 hQ2 h7 hfq hg2 hs u1 u2 u3 u4 u6 u7 u8 u9 u10 u11 u12 u13 u14 u15 hT hVT hER hQE hXE hL hpcg hop u5 hpc hpwg hw hpw hb01 hX hQ h71 h712 hp2 hc x2 hbd' hbd01 e150 hE3 hXX hQQ m8 m53 mXE m7 hfl hle hb0 hb4 hE4 q13 hq15 hfq' f13 f14 keyk hER5 hb h h9 hn ht; lia)⟩
    rw [h9.2]
    refine .inr (.inr (.inr (.inr (.inr (.inr (.inl ⟨hpc, st, ?_, ?_⟩))))))
    · show pw :: st = pw_ pc :: st; rw [hpwg]
    · show pw :: st = pw_ pc :: st; rw [hpwg]
/-- what is said of first -/
def SF [Inhabited gh_] (D dq n : Nat) (o : Int) : Prop := ∀ (b F : Int) (Mx Mq : mm_) (a : Int) (sg : List (Int × Int)) (ws : List (Int × Int × Int)) (c : Int) (cm : List Int) (f : Int) (fm : List (Int × Int)) (cc : Int) (cd : List Int) (K : Int → mm_ → Prop) (Qt : qt_),
  PR b F Mx Mq a o sg ws c cm f fm cc cd → Mx 70 a ≠ 245 → Mx 70 a ≠ 41 → (b = 1 → ES (Mx 70) 6 o a ≠ none) → FK n dq 6 b F Mx Mq a o sg ws c cm f fm cc cd K →
  (b = 0 → ∀ Mx', XW dq 0 Mx Mq Mx' → Qt 8 Mx') → Tr_ wd0 pg0 D 152 [.inr (.inr 1)] Mx (ri_ K) Qt
theorem x_un [Inhabited gh_] (hU : ∀ n' : Nat, n = n' + 1 → SA 151 5 (D + 4) dq n' (o + 1)) (hF : SF (D + 4) dq n o) (ho : o = 12 - (n : Int)) : SA 151 5 (D + 5) dq n o := by
  intro b F Mx Mq a sg ws c cm f fm cc cd K Qt hR hS hK hQ
  have hR9 := hR
  obtain ⟨hT, hVT, hER, hQE, hXE, hL⟩ := hR9
  have h3 : Mx 1 3 = a := hER.2.1
  have ha := ER_a hER
  have hES := ES_5 (κ := Mx 70) (o := o) (a := a) ha.1 ha.2
  have hiX := ER_iX hER
  have hgo := ER_goq hER
  have hb01 := hER.2.2.2.2.2.2.2.2.1
  have ho6 := hER.2.2.2.2.2.1
  have h8 : Mx 1 6 = o := hER.2.2.2.1
  have hKQ := (hT a hER.1).1
  have e112 : Mq 6 112 = sg.length := hQE.1
  have hsl := hL.2.2.2.2.2.1
  refine t_151 fun V hV hW => b_151_0 (Tr_mono _) hV hW Mx ?_
  have pre : ∀ x1 : Int, (x1 = 0 ∨ x1 = 1) → (x1 = 1 ↔ Mx 70 a = 245) → (Mx 70 a = 245 ∨ Mx 70 a = 41) → V 25 [rr 1, ii x1, none, none, none] [] Mx := by
    intro x1 hx01 hx1 hk
    rw [if_pos hk] at hES
    refine b_151_25 (Tr_mono _) hV hW x1 Mx ?_
    have fail : ∀ Mx' : mm_, b = 0 → XF Mx Mx' → Mx' 1 4 = 2 → Mx' 1 5 = Mx 71 a → Mx' 1 7 = Mx 1 7 → (o = 12 ∨ a = 1200) → Qt 8 Mx' := by
      intro Mx' hb hx h4 h5 h7 hor
      refine hQ hb _ (XW_i (v := 0) hgo hx fun K Qt q => ?_)
      refine q_272pr (a := a) (o := o) (k := Mx 70 a) hER.2.2.1 ha.1 ha.2 (ER_ok hER hb) hKQ hk hER.2.2.2.2.1 ho6.1 ho6.2 hor (by (clear hU hF ho hR hS hK hQ hT hVT hER hQE hXE hL h3 ha hES hiX hgo hb01 ho6 h8 hKQ hsl hV hW hx01 hx1 hk hb hx h4 h5 h7 hor q; lia)) (by omega) fun M' h1 h2 h3' h4' h5' => q M' h1 h2 (by rw [h3', h4]) ⟨by rw [h4', h5]; exact (hT a hER.1).2.1.symm, by rw [h7]; exact ER_b7 hER⟩ h5'
    refine x_118 hiX (by rw [h8]; exact ho6.1) (by rw [h8]; exact ho6.2) (fun ho1 => ?_) (fun ho1 => ?_)
    · rw [h8] at ho1 ⊢
      obtain ⟨n', hn'⟩ : ∃ n' : Nat, n = n' + 1 := ⟨n - 1, by (clear hU hF hR hS hK hQ hT hVT hER hQE hXE hL h3 ha hES hiX hgo hb01 hKQ e112 hsl hV hW hx01 hx1 hk fail; omega)⟩
      rw [if_neg (by omega)] at hES
      rw [hES] at hS
      have hi1 : iX_ (up_ Mx 1 6 (o + 1)) := by unfold iX_; rw [up_off (by decide), h3]; exact ha
      have e13 : up_ Mx 1 6 (o + 1) 1 3 = a := by rw [up_off (by decide)]; exact h3
      refine x_105 hi1 (fun h12 => ?_) (fun h12 => ?_)
      · rw [e13] at h12
        have hkk : Mx 70 a ≠ 102 ∧ Mx 70 a ≠ 103 := by (clear hU hF ho hR hS hK hQ hT hVT hER hQE hXE hL h3 ha hES hiX hgo hb01 ho6 h8 hKQ e112 hsl hV hW hx01 hx1 fail ho1 hn' hi1 e13 h12; lia)
        have hE1 := ER_o hER (o' := o + 1) ⟨by (clear hU hF hR hS hK hQ hT hVT hER hQE hXE hL h3 ha hES hiX hgo hb01 hKQ e112 hsl hV hW hx01 hx1 hk fail hi1 e13 h12 hkk; lia), by omega⟩
        have hE2 := (ER_go hE1 h12 (by rw [up_ne (by decide)]; exact hkk)).1
        have hX : XF Mx (nX_ (up_ Mx 1 6 (o + 1))) := XF_tr oX_XF nX_XF
        have hQ2 : QF Mq (nx_ (ho_ (up_ Mq 6 15 (o + 1)) (pc_ (Mx 70 a)) a)) := QF_tr oq_QF (QF_tr ho_QF nx_QF)
        have e70 : nX_ (up_ Mx 1 6 (o + 1)) 70 = Mx 70 := XF_70 hX (by decide) (by decide) (by decide)
        have e71 : nX_ (up_ Mx 1 6 (o + 1)) 71 = Mx 71 := XF_70 hX (by decide) (by decide) (by decide)
        have hpc : pc_ (Mx 70 a) = 13 ∨ pc_ (Mx 70 a) = 14 := by unfold pc_; split; exact .inl rfl; exact .inr rfl
        have hr1 : Rq dq 0 Mq 0 (nx_ (ho_ (up_ Mq 6 15 (o + 1)) (pc_ (Mx 70 a)) a)) := Rq_272 hgo fun K Qt hk9 => q_272p (a := a) (o := o) (k := Mx 70 a) hER.2.2.1 ha.1 h12 hgo hKQ hk hER.2.2.2.2.1 ho6.1 ho1 (by (clear hU hF ho hR hS hK hQ hT hVT hER hQE hXE hL h3 ha hES hiX hgo hb01 ho6 h8 hKQ hsl hV hW hx01 hx1 hk fail ho1 hn' hi1 e13 h12 hkk hE1 hE2 hX hQ2 e70 e71 hpc hk9; lia)) (by omega) hk9
        have g1 : gd_ Mx (a + 1) := gd_c e70.symm hE2.1
        obtain ⟨l1, l2, l3, l4, l5, l6, l7, l8, l9⟩ := hL
        have hPR : PR b F (nX_ (up_ Mx 1 6 (o + 1))) (nx_ (ho_ (up_ Mq 6 15 (o + 1)) (pc_ (Mx 70 a)) a)) (a + 1) (o + 1) ((pc_ (Mx 70 a), a) :: sg) ws c cm f fm cc cd := by
          refine ⟨Tks_c hX hQ2 hT, VT_c hX hQ2 hVT, ER_Q hE2 ?_ ?_ ?_ ?_ ?_, nx_QE (ho_QE (QE_sc hQE (by decide) (by decide) (by decide) (by decide))), XE_c (by rw [nX_ne (by decide), up_ne (by decide)]) (by rw [nX_ne (by decide), up_ne (by decide)]) hXE, ?_, l2, l3, ?_, by (clear hU hF hR hS hK hQ hT hVT hER hQE hXE h3 ha hES hiX hgo hb01 ho6 hKQ e112 hsl hV hW hx01 hx1 hk fail ho1 hi1 e13 h12 hkk hE1 hE2 hX hQ2 e70 e71 hpc hr1 g1 l1 l2 l3 l6 l7 l8 l9; omega), ?_, by (clear hU hF ho hR hS hK hQ hT hVT hER hQE hXE h3 ha hES hiX hgo hb01 ho6 h8 hKQ e112 hsl hV hW hx01 hx1 hk fail ho1 hn' hi1 h12 hkk hE1 hE2 hX hQ2 e70 e71 hpc hr1 g1 l1 l2 l3 l4 l5 l6 l8 l9; lia), l8, ?_⟩
          · rw [nx_12, nx_12, ho_6 (by decide)]
          · rw [nx_6 (by decide), nx_6 (by decide), ho_6 (by decide)]
          · rw [nx_6 (by decide), nx_6 (by decide), ho_6 (by decide)]
          · rw [nx_6 (by decide), nx_6 (by decide), ho_6 (by decide)]
          · rw [nx_6 (by decide), nx_6 (by decide), ho_6 (by decide)]
          · intro x hx
            rcases List.mem_cons.mp hx with h | h
            · rw [h]; exact ⟨ha.1, by show a < 1202; (clear hU hF ho hR hS hK hQ hT hVT hER hQE hXE h3 hES hiX hgo hb01 ho6 h8 hKQ e112 hsl hV hW hx01 hx1 hk fail ho1 hn' hi1 hkk hE1 hE2 hX hQ2 e70 e71 hpc hr1 g1 l1 l2 l3 l4 l5 l6 l7 l8 l9 hx h; lia)⟩
            · exact l1 x h
          · rw [l4]
            show nb_ sg = (if pc_ (Mx 70 a) = 1 ∨ pc_ (Mx 70 a) = 2 then 1 else 0) + nb_ sg
            rw [if_neg (by (clear hU hF ho hR hS hK hQ hT hVT hER hQE hXE h3 ha hES hiX hgo hb01 ho6 h8 hKQ e112 hsl hV hW hx01 hx1 hk fail ho1 hn' hi1 e13 h12 hkk hE1 hE2 hX hQ2 e70 e71 hr1 g1 l1 l2 l4 l5 l6 l7 l8 l9; lia)), Nat.zero_add]
          · simp only [List.length_cons]; push_cast; (clear hU hF ho hR hS hK hQ hT hVT hER hQE hXE h3 ha hES hiX hgo hb01 ho6 h8 hKQ e112 hV hW hx01 hx1 hk fail ho1 hn' hi1 h12 hkk hE1 hE2 hX hQ2 e70 e71 hpc hr1 g1 l1 l2 l3 l4 l5 l6 l7 l8 l9; lia)
          · simp only [List.length_cons]; push_cast; (clear hU hF ho hR hS hK hQ hT hVT hER hQE hXE h3 ha hES hiX hgo hb01 ho6 h8 hKQ e112 hsl hV hW hx01 hx1 hk fail ho1 hn' hi1 h12 hkk hE1 hE2 hX hQ2 e70 e71 hpc hr1 g1 l1 l2 l3 l4 l5 l6 l7 l8; omega)
        have h23 : nX_ (up_ Mx 1 6 (o + 1)) 1 3 = a + 1 := hPR.2.2.1.2.1
        have hfq2 : fqq_ (nx_ (ho_ (up_ Mq 6 15 (o + 1)) (pc_ (Mx 70 a)) a)) = fqq_ Mq := by unfold fqq_; rw [nx_6 (by decide), nx_6 (by decide), ho_6 (by decide), ho_6 (by decide), up_off (by decide), up_off (by decide)]
        have at54 : ∀ x4 : Int, x4 = pw_ (pc_ (Mx 70 a)) - 1 → V 54 [rr 1, ii x1, ii (Mx 1 7), ii (a + 1), ii x4] [] (nX_ (up_ Mx 1 6 (o + 1))) := by
          intro x4 hx4
          refine b_151_54 (Tr_mono _) hV hW x1 (Mx 1 7) (a + 1) x4 _ ?_
          refine hU n' hn' b F _ _ (a + 1) _ ws c cm f fm cc cd _ _ hPR (fun h => by rw [e70]; exact (gb_ne2 (hS h)).2) ?_ (fun h Mx' hw => hQ h Mx' (XW_tr hX hQ2 hr1 hw))
          intro s1 Mx1 Mq1 a1 y t1 bd1 l hP hs hx hS4
          rw [e70] at hS4
          have hER1 := hP.2.2.2.1
          have hfl1 := ER_fl hER1
          have hst1 := ER_st hER1
          refine x_156 (by (clear hU hF ho hR hS hK hQ hT hVT hER hQE hXE h3 hES hiX hgo hb01 ho6 h8 hKQ e112 hsl hV hW hx01 hx1 hk fail ho1 hn' hi1 hkk hE1 hE2 hX hQ2 e70 e71 hpc hr1 g1 l1 l2 l3 l4 l5 l6 l7 l8 l9 hPR hfq2 hx4 hP hs hx hS4 hER1 hfl1 hst1; lia)) (by (clear hU hF ho hR hS hK hQ hT hVT hER hQE hXE h3 hES hiX hgo hb01 ho6 h8 hKQ e112 hsl hV hW hx01 hx1 hk fail ho1 hn' hi1 hkk hE1 hE2 hX hQ2 e70 e71 hpc hr1 g1 l1 l2 l3 l4 l5 l6 l7 l8 l9 hPR hfq2 hx4 hP hs hx hS4 hER1 hfl1 hst1; lia)) hfl1.1 hfl1.2 ?_
          have e6 : hX_ Mx1 s1 x4 (a + 1) 1 6 = o + 1 := by rw [hX_1 (by decide) (by decide) (by decide)]; exact hER1.2.2.2.1
          have ew : w32 (hX_ Mx1 s1 x4 (a + 1) 1 6 - 1) = o := by rw [e6, w32_id (by (clear hU hF hR hS hK hQ hT hVT hER hQE hXE h3 ha hES hiX hgo hb01 hKQ e112 hsl hV hW hx01 hx1 hk fail hi1 e13 h12 hkk hE1 hE2 hX hQ2 e70 e71 hpc hr1 g1 l1 l2 l3 l4 l5 l6 l7 l8 l9 hPR h23 hfq2 hx4 hP hs hx hS4 hER1 hfl1 hst1; lia)) (by (clear hU hF hR hS hK hQ hT hVT hER hQE hXE h3 ha hES hiX hgo hb01 hKQ e112 hsl hV hW hx01 hx1 hk fail hi1 e13 h12 hkk hE1 hE2 hX hQ2 e70 e71 hpc hr1 g1 l1 l2 l3 l4 l5 l6 l7 l8 l9 hPR h23 hfq2 hx4 hP hs hx hS4 hER1 hfl1 hst1; lia))]; (clear hU hF ho hR hS hK hQ hT hVT hER hQE hXE h3 ha hES hiX hgo hb01 ho6 h8 hKQ e112 hsl hV hW hx01 hx1 hk fail ho1 hn' hi1 e13 h12 hkk hE1 hE2 hX hQ2 e70 e71 hpc hr1 g1 l1 l2 l3 l4 l5 l6 l7 l8 l9 hPR h23 hfq2 hx4 hP hs hx hS4 hER1 hfl1 hst1 e6; lia)
          have e2 : up_ (hX_ Mx1 s1 x4 (a + 1)) 1 6 o 1 2 = 5 := by
            rw [up_off (by decide), hX_1 (by decide) (by decide) (by decide), hP.2.1.2.1 2 (by decide) (by decide) (by decide) (by decide) (by decide)]; exact hPR.2.1.1
          have e53 : up_ (hX_ Mx1 s1 x4 (a + 1)) 1 6 o 5 3 = Mx1 5 3 := by rw [up_ne (by decide), hX_r (by decide)]
          have fin : ∀ op : Int, op = (if pc_ (Mx 70 a) = 13 then 15 else 16) → Tr_ wd0 pg0 (D + 4) 138 [.inr (.inr 1), .inl op] (up_ (hX_ Mx1 s1 x4 (a + 1)) 1 6 o) (rv_ fun M3 => (if M3 1 7 ≤ Mx 1 7 then ri_ K [.inl x4] M3 else ri_ K [.inl (-1)] M3)) Qt := by
            intro op hop
            refine x_138 e2 (by rw [e53]; exact hst1.1) (by rw [e53]; exact hst1.2) ?_
            have hPP := EP_un hR ⟨ho6.1, ho1⟩ hX hQ2 (by rw [nX_1 (by decide), up_off (by decide)]) hfq2 g1 hP hs hx4 hop
            have hp := EP_ret hPP (s := if pX_ (up_ (hX_ Mx1 s1 x4 (a + 1)) 1 6 o) op 1 7 ≤ Mx 1 7 then x4 else -1) rfl
            rw [hn'] at hK
            have hk9 := hK _ _ _ a1 _ _ _ _ hp.1 hp.2 (fun M' hex => ?_) (by rw [hES, gb_eq2 h12]; exact hS4)
            · show (if pX_ (up_ (hX_ Mx1 s1 x4 (a + 1)) 1 6 o) op 1 7 ≤ Mx 1 7 then ri_ K [.inl x4] _ else ri_ K [.inl (-1)] _)
              split
              · rename_i h; rw [if_pos h] at hk9; exact ri_i hk9
              · rename_i h; rw [if_neg h] at hk9; exact ri_i hk9
            · have u5 := hP.2.2.2.2.1
              rw [e71] at u5
              refine Rq_tr hr1 (hx M' (Ex9_p u5 hpc (by (clear hU hF ho hR hS hQ hT hVT hER hQE hXE h3 hES hiX hgo hb01 ho6 h8 hKQ e112 hsl hV hW hx01 hx1 hk fail ho1 hK hn' hi1 hkk hE1 hE2 hX hQ2 e70 e71 hpc hr1 g1 l1 l2 l3 l4 l5 l6 l8 l9 hPR hfq2 hx4 hP hs hx hS4 hER1 hfl1 hst1 e6 ew e2 e53 hop hPP hp hex u5; lia)) (by (clear hU hF ho hR hS hQ hT hVT hER hQE hXE h3 hES hiX hgo hb01 ho6 h8 hKQ e112 hV hW hx01 hx1 hk fail ho1 hK hn' hi1 hkk hE1 hE2 hX hQ2 e70 e71 hpc hr1 g1 l1 l2 l3 l4 l5 l6 l7 l8 l9 hPR hfq2 hx4 hP hs hx hS4 hER1 hfl1 hst1 e6 ew e2 e53 hop hPP hp hex u5; omega)) l8 ?_ hP.2.2.2.2.2.1 ha.1 (by (clear hU hF ho hR hS hQ hT hVT hER hQE hXE h3 hES hiX hgo hb01 ho6 h8 hKQ e112 hsl hV hW hx01 hx1 hk fail ho1 hK hn' hi1 hkk hE1 hE2 hX hQ2 e70 e71 hpc hr1 g1 l1 l2 l3 l4 l5 l6 l7 l8 l9 hPR hfq2 hx4 hP hs hx hS4 hER1 hfl1 hst1 e6 ew e2 e53 hop hPP hp hex u5; omega)) (by rw [hER1.2.2.2.2.1]; (clear hU hF hR hS hQ hT hVT hER hQE hXE h3 ha hES hiX hgo hb01 hKQ e112 hsl hV hW hx01 hx1 hk fail hK hi1 e13 h12 hkk hE1 hE2 hX hQ2 e70 e71 hpc hr1 g1 l1 l2 l3 l4 l5 l6 l7 l8 l9 hPR h23 hfq2 hx4 hP hs hx hS4 hER1 hfl1 hst1 e2 e53 hop hPP hp hex u5; lia)) (by rw [hER1.2.2.2.2.1]; (clear hU hF hR hS hQ hT hVT hER hQE hXE h3 ha hES hiX hgo hb01 hKQ e112 hsl hV hW hx01 hx1 hk fail hK hi1 e13 h12 hkk hE1 hE2 hX hQ2 e70 e71 hpc hr1 g1 l1 l2 l3 l4 l5 l6 l7 l8 l9 hPR h23 hfq2 hx4 hP hs hx hS4 hER1 hfl1 hst1 e2 e53 hop hPP hp hex u5; lia)) hex))
              have := hP.2.2.2.2.2.2.1
              have := (ER_a hER1).2
              simp only [List.length_append]; push_cast; (clear hU hF ho hR hS hQ hT hVT hER hQE hXE h3 ha hES hiX hgo hb01 ho6 h8 hKQ e112 hsl hV hW hx01 hx1 hk fail ho1 hK hn' hi1 h12 hkk hE1 hE2 hX hQ2 e70 e71 hpc hr1 g1 l1 l2 l3 l4 l5 l6 l7 l8 hPR hfq2 hx4 hP hs hx hS4 hER1 hfl1 hst1 e6 ew e2 e53 hop hPP hp hex u5; lia)
          rw [ew]
          by_cases c1 : x1 = 0
          · rw [if_pos c1]; refine fin 16 ?_
            have : Mx 70 a ≠ 245 := fun h => by have := hx1.mpr h; omega
            unfold pc_; rw [if_neg this, if_neg (by decide)]
          · rw [if_neg c1]; refine fin 15 ?_
            have : Mx 70 a = 245 := hx1.mp (by (clear hU hF ho hR hS hK hQ hT hVT hER hQE hXE h3 ha hES hiX hgo hb01 ho6 h8 hKQ e112 hsl hV hW fail ho1 hn' hi1 e13 h12 hE1 hE2 hX hQ2 e70 e71 hr1 g1 l1 l2 l4 l5 l6 l7 l8 l9 hPR h23 hfq2 hx4 hP hx hS4 hER1 hfl1 hst1 e6 ew e2 e53 fin; lia))
            unfold pc_; rw [if_pos this, if_pos rfl]
        rw [h23]
        by_cases c1 : x1 = 0
        · rw [if_pos c1]
          refine at54 1 ?_
          have : Mx 70 a ≠ 245 := fun h => by have := hx1.mpr h; omega
          unfold pc_; rw [if_neg this]; decide
        · rw [if_neg c1]
          refine at54 0 ?_
          have : Mx 70 a = 245 := hx1.mp (by (clear hU hF ho hR hS hK hQ hT hVT hER hQE hXE h3 ha hES hiX hgo hb01 ho6 h8 hKQ e112 hsl hV hW fail ho1 hn' hi1 e13 h12 hE1 hE2 hX hQ2 e70 e71 hr1 g1 l1 l2 l4 l5 l6 l7 l8 l9 hPR h23 hfq2 at54; lia))
          unfold pc_; rw [if_pos this]; decide
      · rw [e13] at h12 ⊢
        have hb : b = 0 := by
          rcases hb01 with h | h
          · exact h
          · exact absurd (gb_ne2 (hS h)).1 (by (clear hU hF ho hR hS hK hQ hT hVT hER hQE hXE hL h3 ha hES hiX hgo ho6 h8 hKQ e112 hsl hV hW hx01 hx1 hk fail ho1 hn' hi1 h; lia))
        exact fail _ hb (XF_tr oX_XF fl_XF) fl_4 (by rw [fl_5, up_ne (by decide)]) (by rw [fl_7, up_off (by decide)]) (.inr h12)
    · rw [h8] at ho1
      rw [if_pos ho1] at hES
      have hb : b = 0 := by
        rcases hb01 with h | h
        · exact h
        · exact absurd hES (hS h)
      rw [h3]
      exact fail _ hb fl_XF fl_4 fl_5 fl_7 (.inl ho1)
  have e70 : Mx 70 (Mx 1 3) = Mx 70 a := by rw [h3]
  refine x_117 hiX (by decide) (by decide) (fun h9 => ?_) (fun h9 => ?_)
  · rw [if_neg (by decide)]
    rw [e70] at h9
    replace h9 : Mx 70 a = 245 := h9
    exact pre 1 (.inr rfl) ⟨fun _ => h9, fun _ => rfl⟩ (.inl h9)
  · rw [if_pos rfl]
    rw [e70] at h9
    replace h9 : Mx 70 a ≠ 245 := h9
    refine x_103 hiX (fun g9 => ?_) (fun g9 => ?_)
    · rw [if_neg (by decide)]
      rw [e70] at g9
      exact pre 0 (.inl rfl) ⟨fun h => absurd h (by decide), fun h => absurd h h9⟩ (.inr g9)
    · rw [if_pos rfl]
      rw [e70] at g9
      rw [if_neg (by intro h; rcases h with h | h; exact h9 h; exact g9 h)] at hES
      refine hF b F Mx Mq a sg ws c cm f fm cc cd _ _ hR h9 g9 (fun h => by rw [← hES]; exact hS h) ?_ hQ
      intro s Mx' Mq' a' y t bd l hP hs hx hS4
      exact ri_i (hK s Mx' Mq' a' y t bd l hP hs hx (by rw [hES]; exact hS4))
end UN
end T89_er
section T90_er
/-! first: a variable; its name and what is noted -/
/-- what is noted of a variable: no such one, an array or not -/
def kn_ (Mq : mm_) (r idx : Int) : Int := if r = -1 then 4 else if (if Mq 183 (8 * Mq 6 61 + r) ≤ 0 then (0 : Int) else 1) = idx then 0 else 5
def vq_ (Mq : mm_) (r : Int) : Int := if r = -1 then -1 else 8 * Mq 6 61 + r
def Xn_ (M : mm_) (b k a : Int) : mm_ := if b = 0 ∨ k = 0 then M else nt1_ M k a
def Qn_ (M : mm_) (b k p : Int) : mm_ := if b = 0 ∨ k = 0 then M else nt_ M k p
section VA
variable {dq D n d : Nat} {b F : Int} {Mx Mq Mx' Mq' M : mm_} {a o : Int} {sg : List (Int × Int)} {ws : List (Int × Int × Int)} {c : Int} {cm : List Int} {f : Int} {fm : List (Int × Int)} {cc : Int} {cd : List Int} {K : Int → mm_ → Prop} {Kv : mm_ → Prop} {Qr : qr_} {Qt : qt_} {V : vv_}
theorem kn_r [Inhabited gh_] {r idx : Int} : kn_ Mq r idx = 0 ∨ kn_ Mq r idx = 4 ∨ kn_ Mq r idx = 5 := by
  unfold kn_
  by_cases c1 : r = -1
  · rw [if_pos c1]; exact .inr (.inl rfl)
  · rw [if_neg c1]
    by_cases c2 : (if Mq 183 (8 * Mq 6 61 + r) ≤ 0 then (0 : Int) else 1) = idx
    · rw [if_pos c2]; exact .inl rfl
    · rw [if_neg c2]; exact .inr (.inr rfl)
theorem Xn_1 [Inhabited gh_] {k i : Int} (h4 : i ≠ 4) (h5 : i ≠ 5) (h7 : i ≠ 7) : Xn_ M b k a 1 i = M 1 i := by unfold Xn_; split; rfl; exact nt1_1 h4 h5 h7
theorem Xn_r [Inhabited gh_] {k : Int} {r : Nat} (h : r ≠ 1) : Xn_ M b k a r = M r := by unfold Xn_; split; rfl; exact nt1_r h
theorem Xn_XF [Inhabited gh_] {k : Int} : XF M (Xn_ M b k a) := by unfold Xn_; split; exact XF_rf; exact nt1_XF
theorem Qn_6 [Inhabited gh_] {k p i : Int} (h1 : i ≠ 13) (h2 : i ≠ 14) : Qn_ M b k p 6 i = M 6 i := by unfold Qn_; split; rfl; exact nt_6 h1 h2
theorem Qn_r [Inhabited gh_] {k p : Int} {r : Nat} (h : r ≠ 6) : Qn_ M b k p r = M r := by unfold Qn_; split; rfl; exact nt_r h
theorem Qn_QF [Inhabited gh_] {k p : Int} : QF M (Qn_ M b k p) := by unfold Qn_; split; exact QF_rf; exact nt_QF
theorem Qn_QE [Inhabited gh_] {k p : Int} (h : QE M sg ws cm f fm) : QE (Qn_ M b k p) sg ws cm f fm := by unfold Qn_; split; exact h; exact nt_QE h
/-- Q's named, up to where it is known what the variable is -/
theorem q_275 [Inhabited gh_] (hVT : VT Mx Mq) {p r idx : Int} (ha : Mq 6 12 = a) (h0 : 0 ≤ a) (h12 : a < 1200) (hg : go_ Mq) (h1 : Mq 149 a = 1) (h16 : Mq 6 16 = b) (h01 : b = 0 ∨ b = 1) (hr : r = vrr Mq (Mq 151 a)) (hi : (Mq 149 (a + 1) = 3 ∧ Mq 151 (a + 1) = 91 ∧ idx = 1) ∨ (¬ (Mq 149 (a + 1) = 3 ∧ Mq 151 (a + 1) = 91) ∧ idx = 0))
    (h : ∀ V : vv_, Cl_ wd0 (Tr_ wd0 pg0 (d + 3)) V (ri_ K) Qt m_275 → Wk_ V → V 90 [rr 6, ii p, ii a, ii (vq_ Mq r), ii idx] [] (Qn_ (nx_ Mq) b (kn_ Mq r idx) p)) : Tr_ wd0 pg0 (d + 4) 275 [.inr (.inr 6), .inl p] Mq (ri_ K) Qt := t_275 fun V hV hW => b_275_0 (Tr_mono _) hV hW p Mq (by
  subst ha
  have h9 := h V hV hW
  refine q_233g hg h0 h12 h1 ?_
  refine q_227g (nx_go hg) ?_
  rw [if_pos rfl]
  have hq : QF Mq (nx_ Mq) := nx_QF
  have e151 : nx_ Mq 151 = Mq 151 := nx_ne (by decide)
  have e149 : nx_ Mq 149 = Mq 149 := nx_ne (by decide)
  have e61 : nx_ Mq 6 61 = Mq 6 61 := nx_6 (by decide)
  have e183 : nx_ Mq 183 = Mq 183 := nx_ne (by decide)
  have e16 : nx_ Mq 6 16 = b := by rw [nx_6 (by decide)]; exact h16
  refine ⟨by omega, q_276R (VT_c XF_rf hq hVT) ?_⟩
  rw [e151, vrr_c hq, ← hr, e61]
  have evq : (if r = -1 then -1 else 8 * Mq 6 61 + r) = vq_ Mq r := rfl
  rw [evq]
  have hrr : r = -1 ∨ (0 ≤ r ∧ r < Mq 171 (Mq 6 61)) := by rw [hr]; exact vrr_r hVT
  have ht := hVT.2.1
  have ht0 := hVT.2.2.1
  have ht6 := hVT.2.2.2.1
  have hv8 := hVT.2.2.2.2.1
  have hvr : (r = -1 ∧ vq_ Mq r = -1) ∨ (r ≠ -1 ∧ 0 ≤ r ∧ vq_ Mq r = 8 * Mq 6 61 + r ∧ 0 ≤ vq_ Mq r ∧ vq_ Mq r < 48) := by
    unfold vq_
    rcases hrr with h | h
    · left; exact ⟨h, if_pos h⟩
    · right
      have e : Mq 171 (Mq 6 61) ≤ 8 := by rw [ht, hv8.2.2]; exact hv8.2.1
      rw [if_neg (by omega)]
      refine ⟨by omega, h.1, rfl, by rw [ht]; (clear hVT hg h16 h01 hV hW h0 h12 h1 hi h9 hq e151 e149 e61 e183 e16 evq ht hv8 e; omega), by rw [ht]; (clear hVT hg h16 h01 hV hW h0 h12 h1 hi h9 hq e151 e149 e61 e183 e16 evq ht hv8; omega)⟩
  have hin : in9_ (nx_ Mq) := by unfold in9_; rw [nx_12]; omega
  have e12 : nx_ Mq 6 12 = Mq 6 12 + 1 := nx_12
  have at54 : ∀ M4 : mm_, (M4 = if b = 0 ∨ r ≠ -1 then nx_ Mq else nt_ (nx_ Mq) 4 p) → V 54 [rr 6, ii p, ii (Mq 6 12), ii (vq_ Mq r), ii idx] [] M4 := by
    intro M4 hM4
    refine b_275_54 (Tr_mono _) hV hW p (Mq 6 12) (vq_ Mq r) idx M4 ?_
    have m16 : M4 6 16 = b := by
      rw [hM4]; split
      · exact e16
      · rw [nt_6 (by decide) (by decide)]; exact e16
    intro _
    rw [m16]
    rcases h01 with hb | hb
    · rw [if_pos hb]
      rw [if_pos (.inl hb)] at hM4
      unfold Qn_ at h9
      rw [if_pos (.inl hb)] at h9
      rw [hM4]; exact h9
    · rw [if_neg (by (clear hVT hg h16 hV hW h0 h12 h1 hr hi h h9 hq e151 e149 e61 e183 evq hrr ht ht0 ht6 hv8 hvr hin e12 hM4; lia))]
      rcases hvr with h | h
      · rw [if_pos (by omega)]
        rw [if_neg (by (clear hVT hg h16 hV hW h0 h12 h1 hi h9 hq e151 e149 e61 e183 evq hrr ht ht0 ht6 hv8 hin e12 hM4; lia))] at hM4
        have ek : kn_ Mq r idx = 4 := by unfold kn_; rw [if_pos h.1]
        rw [ek] at h9
        unfold Qn_ at h9
        rw [if_neg (by (clear hVT hg h16 hV hW h0 h12 h1 hr hi h9 hq e151 e149 e61 e183 evq hrr ht ht0 ht6 hv8 hin e12 hM4 h ek; omega))] at h9
        rw [hM4]; exact h9
      · rw [if_neg (by omega)]
        rw [if_pos (.inr h.1)] at hM4
        have e183' : M4 183 (vq_ Mq r) = Mq 183 (8 * Mq 6 61 + r) := by rw [hM4, e183, h.2.2.1]
        rw [e183']
        refine ⟨⟨h.2.2.2.1, h.2.2.2.2⟩, ?_⟩
        have hidx : idx = 0 ∨ idx = 1 := by rcases hi with h | h; exact .inr h.2.2; exact .inl h.2
        unfold kn_ at h9
        rw [if_neg h.1] at h9
        by_cases c1 : Mq 183 (8 * Mq 6 61 + r) ≤ 0
        · rw [if_pos c1]
          rw [if_pos c1] at h9
          by_cases c2 : idx = 0
          · rw [if_pos c2]
            rw [if_pos c2.symm] at h9
            unfold Qn_ at h9
            rw [if_pos (.inr rfl)] at h9
            rw [hM4]; exact h9
          · rw [if_neg c2]
            rw [if_neg (fun h => c2 h.symm)] at h9
            unfold Qn_ at h9
            rw [if_neg (by (clear hVT hg h16 hV hW h0 h12 h1 hr hi h9 hq e151 e149 e61 e183 evq hrr ht ht0 ht6 hv8 hin e12 hM4 h e183' hidx c1 c2; omega))] at h9
            refine q_236 ?_
            rw [hM4]; exact h9
        · rw [if_neg c1]
          rw [if_neg c1] at h9
          by_cases c2 : idx = 1
          · rw [if_pos c2]
            rw [if_pos c2.symm] at h9
            unfold Qn_ at h9
            rw [if_pos (.inr rfl)] at h9
            rw [hM4]; exact h9
          · rw [if_neg c2]
            rw [if_neg (fun h => c2 h.symm)] at h9
            unfold Qn_ at h9
            rw [if_neg (by omega)] at h9
            refine q_236 ?_
            rw [hM4]; exact h9
  have rest : ∀ v4 : Int, v4 = idx → (bl_ (nx_ Mq 6 16) → (if nx_ Mq 6 16 = 0 then V 54 [rr 6, ii p, ii (Mq 6 12), ii (vq_ Mq r), ii v4] [] (nx_ Mq) else (if vq_ Mq r < 0 then Tr_ wd0 pg0 (d + 3) 236 [.inr (.inr 6), .inl 4, .inl p] (nx_ Mq) (rv_ fun M5 => V 54 [rr 6, ii p, ii (Mq 6 12), ii (vq_ Mq r), ii v4] [] M5) Qt else V 54 [rr 6, ii p, ii (Mq 6 12), ii (vq_ Mq r), ii v4] [] (nx_ Mq)))) := by
    intro v4 hv4 _
    rw [hv4, e16]
    rcases h01 with hb | hb
    · rw [if_pos hb]; exact at54 _ (by rw [if_pos (.inl hb)])
    · rw [if_neg (by omega)]
      rcases hvr with h | h
      · rw [if_pos (by omega)]
        exact q_236 (at54 _ (by rw [if_neg (by (clear hVT hg h16 hV hW h0 h12 h1 hi h9 hq e151 e149 e61 e183 evq hrr ht ht0 ht6 hv8 hin e12 at54 hv4; lia))]))
      · rw [if_neg (by omega)]; exact at54 _ (by rw [if_pos (.inr h.1)])
  rcases hi with hi | hi
  · refine q_237t hin (by rw [e149, e12]; exact hi.1) (by rw [e151, e12]; exact hi.2.1) ?_
    exact rest 1 hi.2.2.symm
  · refine q_237f hin (by rw [e149, e151, e12]; exact hi.1) ?_
    exact rest 0 hi.2.symm)
theorem q_275r [Inhabited gh_] {p : Int} (ha : Mq 6 12 = 1200) (hg : ok_ Mq) (h1 : Mq 149 1200 = 1) (h : K 1 (bf_ Mq 2 (Mq 150 1200))) : Tr_ wd0 pg0 (d + 4) 275 [.inr (.inr 6), .inl p] Mq (ri_ K) Qt := t_275 fun V hV hW => b_275_0 (Tr_mono _) hV hW p Mq (by
  refine q_233r hg ha (by rw [ha]; exact h1) ?_
  refine q_227s (bf_sp hg.2 (by decide)) ?_
  rw [if_neg (by decide), ha]
  exact ⟨.inr rfl, ri_i h⟩)
/-- the two stay in step over what is noted -/
theorem ER_n [Inhabited gh_] {k : Int} (h : ER b F Mx Mq a o) {tk : Int} (hk : k = 0 ∨ k = 4 ∨ k = 5) (hp0 : 0 ≤ Mx 71 tk ∧ Mx 71 tk ≤ 5000) (hf : Mx 1 7 + 1 + 8 * (1201 - a) ≤ 1000001000 - (gg_ : Int)) : ER b F (Xn_ Mx b k tk) (Qn_ Mq b k (Mx 71 tk)) a o ∧ (b = 0 ∨ k = 0 → Xn_ Mx b k tk = Mx ∧ Qn_ Mq b k (Mx 71 tk) = Mq) ∧ (b = 1 → k ≠ 0 → Xn_ Mx b k tk 1 7 = Mx 1 7 + 1 ∧ kk_ (Qn_ Mq b k (Mx 71 tk) 6 13) (Qn_ Mq b k (Mx 71 tk) 6 14) ≤ 8 * Mx 71 tk + 5) := by
  unfold Xn_ Qn_
  by_cases c : b = 0 ∨ k = 0
  · rw [if_pos c, if_pos c]
    exact ⟨h, fun _ => ⟨rfl, rfl⟩, fun h1 h2 => by (clear h hk hp0 hf; lia)⟩
  · rw [if_neg c, if_neg c]
    have hb : b = 1 := by have := h.2.2.2.2.2.2.2.2.1; (clear h hk hp0 hf; lia)
    have := ER_nt (k := k) (t := tk) (p := Mx 71 tk) h hb (by (clear h hp0 hf; lia)) rfl hp0 hf
    refine ⟨this.1, fun h9 => absurd h9 c, fun _ _ => ⟨nt1_7, ?_⟩⟩
    have := this.2
    (clear h hp0 hf this; lia)
end VA
end T90_er
section T91_er
/-! first: a variable, X's way up to its brackets -/
section VX
variable {dq D n d : Nat} {b F : Int} {Mx Mq Mx' Mq' M : mm_} {a o : Int} {sg : List (Int × Int)} {ws : List (Int × Int × Int)} {c : Int} {cm : List Int} {f : Int} {fm : List (Int × Int)} {cc : Int} {cd : List Int} {K : Int → mm_ → Prop} {Kv : mm_ → Prop} {Qr : qr_} {Qt : qt_} {V : vv_}
/-- whether it is an array -/
def ar_ (Mq : mm_) (r : Int) : Int := if r = -1 then 0 else if Mq 183 (8 * Mq 6 61 + r) ≤ 0 then 0 else 1
theorem x_155 [Inhabited gh_] (hR : PR b F Mx Mq a o sg ws c cm f fm cc cd) (hk : Mx 70 a = 100) (hS : b = 1 → a < 1200) {r idx : Int} (hr : r = vrr Mq (Mq 151 a)) (hidx : (Mx 70 (a + 1) = 291 ∧ idx = 1) ∨ (Mx 70 (a + 1) ≠ 291 ∧ idx = 0))
    (hG : a < 1200 → ∀ V : vv_, Cl_ wd0 (Tr_ wd0 pg0 (D + 5)) V (ri_ K) Qt m_155 → Wk_ V → V 103 [rr 1, ii (Mx 1 7), ii a, ii r, ii (8 * Mx 1 18 + r), ii (ar_ Mq r), ii idx] [] (Xn_ (nX_ Mx) b (kn_ Mq r idx) a)) (hQ : b = 0 → ∀ Mx', XW dq 0 Mx Mq Mx' → Qt 8 Mx') : Tr_ wd0 pg0 (D + 6) 155 [.inr (.inr 1)] Mx (ri_ K) Qt := by
  have hR9 := hR
  obtain ⟨hT, hVT, hER, hQE, hXE, hL⟩ := hR9
  have h3 : Mx 1 3 = a := hER.2.1
  have ha := ER_a hER
  have hgo := ER_goq hER
  have hb01 := hER.2.2.2.2.2.2.2.2.1
  have hKQ := (hT a hER.1).1
  rw [hk] at hKQ
  have t149 : Mq 149 a = 1 := by unfold KQ at hKQ; omega
  refine t_155 fun V hV hW => b_155_0 (Tr_mono _) hV hW Mx ?_
  refine x_107 (ER_iX hER) (fun _ h12 => ?_) (fun h => absurd (by rw [h3]; exact hk) h) (fun _ h12 => ?_)
  · rw [h3] at h12 ⊢
    have h9 := hG h12 V hV hW
    obtain ⟨hER1, hst1, hfb1⟩ := ER_go hER h12 (by rw [hk]; decide)
    have hX1 : XF Mx (nX_ Mx) := nX_XF
    have hQ1 : QF Mq (nx_ Mq) := nx_QF
    have nm1 : nm9_ (nX_ Mx) a := by
      have e : nX_ Mx 70 = Mx 70 := nX_ne (by decide)
      exact ⟨gd_c e hER.1, by rw [e]; exact hk⟩
    refine x_128R (Tks_c hX1 hQ1 hT) (VT_c hX1 hQ1 hVT) nm1 ?_
    rw [nx_ne (r := 151) (by decide), vrr_c hQ1, ← hr]
    have e18 : nX_ Mx 1 18 = Mx 1 18 := nX_1 (by decide)
    have e8 : nX_ Mx 1 8 = b := by rw [nX_1 (by decide)]; exact hER.2.2.2.2.2.2.1
    have e2 : nX_ Mx 1 2 = 5 := by rw [nX_1 (by decide)]; exact hVT.1
    have e131 : nX_ Mx 131 = Mx 131 := nX_ne (by decide)
    rw [e18, e8]
    have ht := hVT.2.1
    have ht0 := hVT.2.2.1
    have ht6 := hVT.2.2.2.1
    have hv8 := hVT.2.2.2.2.1
    have hrr : r = -1 ∨ (0 ≤ r ∧ r < Mx 124 (Mx 1 18)) := by
      have := vrr_r hVT (v := Mq 151 a)
      rw [← hr, ht, hv8.2.2] at this; exact this
    have w1 : w32 (w32 (8 * Mx 1 18) + r) = 8 * Mx 1 18 + r := by
      have e := hv8.2.1
      rw [w32_id (x := 8 * Mx 1 18) (by (clear hR hk hS hr hidx hG hQ hT hVT hER hQE hXE hL h3 ha hgo hb01 hKQ t149 hV hW h12 h9 hER1 hst1 hfb1 hX1 hQ1 nm1 e18 e8 e2 e131 hv8 hrr e; lia)) (by (clear hR hk hS hr hidx hG hQ hT hVT hER hQE hXE hL h3 ha hgo hb01 hKQ t149 hV hW h12 h9 hER1 hst1 hfb1 hX1 hQ1 nm1 e18 e8 e2 e131 hv8 hrr e; omega)), w32_id (by (clear hR hk hS hidx hG hQ hT hVT hER hQE hXE hL h3 ha hgo hb01 hKQ t149 hV hW h12 h9 hER1 hst1 hfb1 hX1 hQ1 nm1 e18 e8 e2 e131 hv8 e; lia)) (by (clear hR hk hS hidx hG hQ hT hVT hER hQE hXE hL h3 ha hgo hb01 hKQ t149 hV hW h12 h9 hER1 hst1 hfb1 hX1 hQ1 nm1 e18 e8 e2 e131 e; lia))]
    rw [w1]
    have hfl := ER_fl hER1
    have hiX1 := ER_iX hER1
    have e31 : nX_ Mx 1 3 = a + 1 := hER1.2.1
    -- behind the name, its note of no such one
    have at70 : ∀ (M2 : mm_) (ar : Int), ar = ar_ Mq r → (M2 = if b = 0 ∨ r ≠ -1 then nX_ Mx else nt1_ (nX_ Mx) 4 a) → V 70 [rr 1, ii (Mx 1 7), ii a, ii r, ii (8 * Mx 1 18 + r), ii ar, none] [] M2 := by
      intro M2 ar har hM2
      refine b_155_70 (Tr_mono _) hV hW _ _ _ _ _ M2 ?_
      have m1 : ∀ i : Int, i ≠ 4 → i ≠ 5 → i ≠ 7 → M2 1 i = nX_ Mx 1 i := by
        intro i x y z
        rw [hM2]; split
        · rfl
        · exact nt1_1 x y z
      have m70 : M2 70 = Mx 70 := by
        rw [hM2]; split
        · exact nX_ne (by decide)
        · rw [nt1_r (by decide)]; exact nX_ne (by decide)
      have m3 : M2 1 3 = a + 1 := by rw [m1 3 (by decide) (by decide) (by decide)]; exact e31
      have m8 : M2 1 8 = b := by rw [m1 8 (by decide) (by decide) (by decide)]; exact e8
      have hiM : iX_ M2 := by unfold iX_; rw [m3]; (clear hR hk hS hr hidx hG hQ hT hVT hER hQE hXE hL h3 hgo hb01 hKQ t149 hV hW h9 hER1 hst1 hfb1 hX1 hQ1 nm1 e18 e8 e2 e131 ht ht0 ht6 hv8 hrr w1 hfl hiX1 har hM2 m1 m70 m8; lia)
      have rest : ∀ v1 : Int, v1 = idx → (bl_ (M2 1 8) → (if M2 1 8 = 0 then V 103 [rr 1, ii (Mx 1 7), ii a, ii r, ii (8 * Mx 1 18 + r), ii ar, ii v1] [] M2 else (if r = (-1) then V 103 [rr 1, ii (Mx 1 7), ii a, ii r, ii (8 * Mx 1 18 + r), ii ar, ii v1] [] M2 else (if ar = v1 then V 103 [rr 1, ii (Mx 1 7), ii a, ii r, ii (8 * Mx 1 18 + r), ii ar, ii v1] [] M2 else Tr_ wd0 pg0 (D + 5) 116 [.inr (.inr 1), .inl 5, .inl a] M2 (rv_ fun M2 => V 103 [rr 1, ii (Mx 1 7), ii a, ii r, ii (8 * Mx 1 18 + r), ii ar, ii v1] [] M2) Qt)))) := by
        intro v1 hv1 _
        rw [hv1, m8, har]
        rcases hb01 with hb | hb
        · rw [if_pos hb]
          rw [if_pos (.inl hb)] at hM2
          unfold Xn_ at h9
          rw [if_pos (.inl hb)] at h9
          rw [hM2]; exact h9
        · rw [if_neg (by (clear hR hk hS hr hidx hG hQ hT hVT hER hQE hXE hL h3 ha hgo hKQ t149 hV hW h12 h9 hER1 hst1 hfb1 hX1 hQ1 nm1 e18 e8 e2 e131 ht ht0 ht6 hv8 hrr w1 hfl hiX1 e31 har hM2 m1 m70 m3 hiM hv1; lia))]
          rcases hrr with h | h
          · rw [if_pos h]
            rw [if_neg (by (clear hR hk hS hidx hG hQ hT hVT hER hQE hXE hL h3 ha hgo hKQ t149 hV hW h12 h9 hER1 hst1 hfb1 hX1 hQ1 nm1 e18 e8 e2 e131 ht0 ht6 hv8 hfl hiX1 e31 har hM2 m1 m70 m3 hiM hv1; lia))] at hM2
            have ek : kn_ Mq r idx = 4 := by unfold kn_; rw [if_pos h]
            rw [ek] at h9
            unfold Xn_ at h9
            rw [if_neg (by (clear hR hk hS hr hidx hG hQ hT hVT hER hQE hXE hL h3 ha hgo hKQ t149 hV hW h12 h9 hER1 hst1 hfb1 hX1 hQ1 nm1 e18 e8 e2 e131 ht ht0 ht6 hv8 w1 hfl hiX1 e31 har hM2 m1 m70 m3 hiM hv1 h ek; lia))] at h9
            rw [hM2]; exact h9
          · rw [if_neg (by (clear hR hk hS hidx hG hQ hT hVT hER hQE hXE hL h3 ha hgo hKQ t149 hV hW h12 h9 hER1 hst1 hfb1 hX1 hQ1 nm1 e18 e8 e2 e131 ht0 ht6 hv8 hfl hiX1 e31 har hM2 m1 m70 m3 m8 hiM hv1 hb; lia))]
            rw [if_pos (.inr (by omega))] at hM2
            have hne : ¬ r = -1 := by omega
            have ek : kn_ Mq r idx = if ar_ Mq r = idx then 0 else 5 := by unfold kn_ ar_; rw [if_neg hne, if_neg hne]
            rw [ek] at h9
            by_cases c1 : ar_ Mq r = idx
            · rw [if_pos c1]
              rw [if_pos c1] at h9
              unfold Xn_ at h9
              rw [if_pos (.inr rfl)] at h9
              rw [hM2]; exact h9
            · rw [if_neg c1]
              rw [if_neg c1] at h9
              unfold Xn_ at h9
              rw [if_neg (by (clear hR hk hS hr hidx hG hQ hT hVT hER hQE hXE hL h3 ha hgo hKQ t149 hV hW h12 h9 hER1 hst1 hfb1 hX1 hQ1 nm1 e18 e8 e2 e131 ht ht0 ht6 hv8 w1 hfl hiX1 e31 har hM2 m1 m70 m3 hiM hv1 h hne ek c1; lia))] at h9
              rw [hM2]
              exact x_116 ha.1 (by (clear hR hk hS hr hidx hG hQ hT hVT hER hQE hXE hL h3 hgo hKQ t149 hV hW h9 hER1 hst1 hfb1 hX1 hQ1 nm1 e18 e8 e2 e131 ht ht0 ht6 hv8 w1 hfl hiX1 har hM2 m1 m70 m8 hiM hv1 hb h hne ek c1; lia)) hfl.1 hfl.2 h9
      refine x_117 hiM (by decide) (by decide) (fun g => ?_) (fun g => ?_)
      · rw [m3, m70] at g
        refine rest 1 ?_
        rcases hidx with h | h
        · exact h.2.symm
        · exact absurd g h.1
      · rw [m3, m70] at g
        refine rest 0 ?_
        rcases hidx with h | h
        · exact absurd h.1 g
        · exact h.2.symm
    have note : ∀ ar : Int, ar = ar_ Mq r → (bl_ b → (if b = 0 then V 70 [rr 1, ii (Mx 1 7), ii a, ii r, ii (8 * Mx 1 18 + r), ii ar, none] [] (nX_ Mx) else (if r = (-1) then Tr_ wd0 pg0 (D + 5) 116 [.inr (.inr 1), .inl 4, .inl a] (nX_ Mx) (rv_ fun M3 => V 70 [rr 1, ii (Mx 1 7), ii a, ii r, ii (8 * Mx 1 18 + r), ii ar, none] [] M3) Qt else V 70 [rr 1, ii (Mx 1 7), ii a, ii r, ii (8 * Mx 1 18 + r), ii ar, none] [] (nX_ Mx)))) := by
      intro ar har _
      rcases hb01 with hb | hb
      · rw [if_pos hb]; exact at70 _ ar har (by rw [if_pos (.inl hb)])
      · rw [if_neg (by omega)]
        by_cases c1 : r = -1
        · rw [if_pos c1]
          exact x_116 ha.1 (by (clear hR hk hS hr hidx hG hQ hT hVT hER hQE hXE hL h3 hgo hKQ t149 hV hW h9 hER1 hst1 hfb1 hX1 hQ1 nm1 e18 e8 e2 e131 ht ht0 ht6 hv8 hrr w1 hfl hiX1 at70 har hb c1; omega)) hfl.1 hfl.2 (at70 _ ar har (by rw [if_neg (by (clear hR hk hS hidx hG hQ hT hVT hER hQE hXE hL h3 ha hgo hKQ t149 hV hW h12 h9 hER1 hst1 hfb1 hX1 hQ1 nm1 e18 e8 e2 e131 ht0 ht6 hv8 hrr hfl hiX1 e31 at70 har; lia))]))
        · rw [if_neg c1]; exact at70 _ ar har (by rw [if_pos (.inr c1)])
    rcases hrr with h | h
    · rw [if_pos h]
      exact note 0 (by unfold ar_; rw [if_pos h])
    · rw [if_neg (by (clear hR hk hS hidx hG hQ hT hVT hER hQE hXE hL h3 ha hgo hb01 hKQ t149 hV hW h12 h9 hER1 hst1 hfb1 hX1 hQ1 nm1 e18 e8 e2 e131 ht0 ht6 hv8 hfl hiX1 e31 at70 note; lia)), e131]
      refine ⟨e2, by have := hv8.2.1; (clear hR hk hS hidx hG hQ hT hVT hER hQE hXE hL h3 ha hgo hb01 hKQ t149 hV hW h12 h9 hER1 hst1 hfb1 hX1 hQ1 nm1 e18 e8 e2 e131 hfl hiX1 e31 at70 note this; lia), ?_⟩
      have hsz := (hVT.2.2.2.2.2.2.1 r h.1 h.2).2.2.2.1
      have har : ar_ Mq r = if Mx 131 (8 * Mx 1 18 + r) ≤ 0 then 0 else 1 := by unfold ar_; rw [if_neg (show ¬ r = -1 by omega), ht, hsz]
      by_cases c1 : Mx 131 (8 * Mx 1 18 + r) ≤ 0
      · rw [if_pos c1]
        rw [if_pos c1] at har
        exact note 0 har.symm
      · rw [if_neg c1]
        rw [if_neg c1] at har
        exact note 1 har.symm
  · rw [h3] at h12 ⊢
    have hb : b = 0 := by
      rcases hb01 with h | h
      · exact h
      · exact absurd (hS h) (by omega)
    have hok := ER_ok hER hb
    have e12 : Mq 6 12 = 1200 := by rw [hER.2.2.1]; exact h12
    refine hQ hb _ (XW_i (v := 1) hgo fl_XF fun K Qt q => ?_)
    refine q_272o (k := 100) (a := a) ⟨by rw [hER.2.2.1]; omega, by rw [hER.2.2.1]; omega⟩ hER.2.2.1 hKQ ⟨by decide, by decide, by decide⟩ ?_
    rw [if_pos t149]
    refine q_275r (d := dq + 5) e12 hok (by rw [← h12]; exact t149) ⟨.inr rfl, ri_i (q _ (bf_sp hok.2 (by decide)) ?_ ?_ ?_ bf_QF)⟩
    · unfold in9_; rw [bf_6 (by decide) (by decide), e12]; omega
    · rw [bf_13, fl_4]
    · refine ⟨?_, fl_b7 hER⟩; rw [bf_14, fl_5, ← h12]; exact (hT a hER.1).2.1.symm
end VX
end T91_er
section T92_er
/-! first: a variable without brackets -/
section V0
variable {dq D n d : Nat} {b F : Int} {Mx Mq Mx' Mq' M : mm_} {a o : Int} {sg : List (Int × Int)} {ws : List (Int × Int × Int)} {c : Int} {cm : List Int} {f : Int} {fm : List (Int × Int)} {cc : Int} {cd : List Int} {K : Int → mm_ → Prop} {Kv : mm_ → Prop} {Qr : qr_} {Qt : qt_} {V : vv_}
def ts9_ (Mq : mm_) (r : Int) : Int := if r = -1 then 0 else Mq 182 (8 * Mq 6 61 + r)
theorem vt_at [Inhabited gh_] (hVT : VT Mx Mq) {r : Int} (h0 : 0 ≤ r) (h1 : r < Mx 124 (Mx 1 18)) : Mx 130 (8 * Mx 1 18 + r) + 1 = Mq 182 (8 * Mq 6 61 + r) ∧ Mx 131 (8 * Mx 1 18 + r) = Mq 183 (8 * Mq 6 61 + r) ∧ Mx 132 (8 * Mx 1 18 + r) = Mq 184 (8 * Mq 6 61 + r) ∧ 1 ≤ Mq 182 (8 * Mq 6 61 + r) ∧ Mq 182 (8 * Mq 6 61 + r) ≤ 3 ∧ 0 ≤ Mq 183 (8 * Mq 6 61 + r) ∧ 0 ≤ 8 * Mx 1 18 + r ∧ 8 * Mx 1 18 + r < 48 := by
  have h := hVT.2.2.2.2.2.2.1 r h0 h1
  have ht := hVT.2.1
  have ht0 := hVT.2.2.1
  have ht6 := hVT.2.2.2.1
  have h8 := hVT.2.2.2.2.1.2.1
  rw [ht]
  obtain ⟨_, _, e1, e2, e3, e4, e5, e6⟩ := h
  exact ⟨e1, e2, e3, by (clear hVT h0 h1 ht ht0 ht6 h8 e2 e3 e6; omega), by omega, by omega, by (clear hVT h1 ht h8 e1 e2 e3 e4 e5 e6; lia), by (clear hVT h0 ht e1 e2 e3 e4 e5 e6; lia)⟩
theorem x_var0 [Inhabited gh_] (hR : PR b F Mx Mq a o sg ws c cm f fm cc cd) (hk : Mx 70 a = 100) (hk1 : Mx 70 (a + 1) ≠ 291) (hS : b = 1 → a < 1200) (hES : a < 1200 → ES (Mx 70) 6 o a = some (a + 1)) (hK : FK n dq 6 b F Mx Mq a o sg ws c cm f fm cc cd K) (hQ : b = 0 → ∀ Mx', XW dq 0 Mx Mq Mx' → Qt 8 Mx') : Tr_ wd0 pg0 (D + 6) 155 [.inr (.inr 1)] Mx (ri_ K) Qt := by
  refine x_155 (r := vrr Mq (Mq 151 a)) (idx := 0) hR hk hS rfl (.inr ⟨hk1, rfl⟩) (fun h12 V hV hW => ?_) hQ
  generalize hr : vrr Mq (Mq 151 a) = r
  have hR9 := hR
  obtain ⟨hT, hVT, hER, hQE, hXE, hL⟩ := hR9
  have ha := ER_a hER
  have hgo := ER_goq hER
  have hb01 := hER.2.2.2.2.2.2.2.2.1
  have hKQ := (hT a hER.1).1
  rw [hk] at hKQ
  have t149 : Mq 149 a = 1 := by unfold KQ at hKQ; (clear hR hk hk1 hS hES hK hQ h12 hV hW hr hT hVT hER hQE hXE hL ha hgo hb01; lia)
  obtain ⟨hER1, hst1, hfb1⟩ := ER_go hER h12 (by rw [hk]; decide)
  have g1 : gd_ Mx (a + 1) := gd_c (nX_ne (r := 70) (by decide)).symm hER1.1
  have hKQ1 := (hT (a + 1) g1).1
  have hp := tk_p hT hER.1
  have e71 : nX_ Mx 71 = Mx 71 := nX_ne (by decide)
  have hEN := ER_n (k := kn_ Mq r 0) (tk := a) hER1 kn_r (by rw [e71]; exact hp) (by (clear hR hk hk1 hS hES hK hQ h12 hV hW hr hT hVT hER hQE hXE hL ha hgo hb01 hKQ t149 hER1 hst1 g1 hKQ1 hp e71; lia))
  rw [e71] at hEN
  generalize hXn : Xn_ (nX_ Mx) b (kn_ Mq r 0) a = M1 at hEN ⊢
  generalize hQn : Qn_ (nx_ Mq) b (kn_ Mq r 0) (Mx 71 a) = N1 at hEN
  obtain ⟨hE1, hN0, hN1⟩ := hEN
  have hX1 : XF Mx M1 := by rw [← hXn]; exact XF_tr nX_XF Xn_XF
  have hQ1 : QF Mq N1 := by rw [← hQn]; exact QF_tr nx_QF Qn_QF
  have hQE1 : QE N1 sg ws (c :: cm) f fm := by rw [← hQn]; exact Qn_QE (nx_QE hQE)
  have m53 : M1 5 3 = Mx 5 3 := by rw [← hXn, Xn_r (by decide), nX_ne (by decide)]
  have mXE : XE M1 cc cd := XE_c m53 (by rw [← hXn, Xn_r (by decide), nX_ne (by decide)]) hXE
  have m2 : M1 1 2 = 5 := by rw [← hXn, Xn_1 (by decide) (by decide) (by decide), nX_1 (by decide)]; exact hVT.1
  have m8 : M1 1 8 = b := hE1.2.2.2.2.2.2.1
  have mr : ∀ q : Nat, q ≠ 1 → M1 q = Mx q := fun q h => by rw [← hXn, Xn_r h, nX_ne h]
  have n7 : nX_ Mx 1 7 = Mx 1 7 := nX_1 (by decide)
  have ht := hVT.2.1
  have hv8 := hVT.2.2.2.2.1
  have hrr : r = -1 ∨ (0 ≤ r ∧ r < Mx 124 (Mx 1 18)) := by
    have := vrr_r hVT (v := Mq 151 a)
    rw [hr, ht, hv8.2.2] at this; exact this
  have stb := ER_st2 hER
  -- bad or not
  have hkn : kn_ Mq r 0 = if r = -1 then 4 else if Mq 183 (8 * Mq 6 61 + r) ≤ 0 then 0 else 5 := by
    unfold kn_
    by_cases c1 : r = -1
    · rw [if_pos c1, if_pos c1]
    · rw [if_neg c1, if_neg c1]
      by_cases c2 : Mq 183 (8 * Mq 6 61 + r) ≤ 0
      · rw [if_pos c2, if_pos c2, if_pos rfl]
      · rw [if_neg c2, if_neg c2, if_neg (by decide)]
  generalize hbd : (if kn_ Mq r 0 = 0 then (0 : Int) else 1) = bd
  have hbd01 : bd = 0 ∨ bd = 1 := by rw [← hbd]; split; exact .inl rfl; exact .inr rfl
  have hbd0 : bd = 0 → kn_ Mq r 0 = 0 := fun h => by rw [← hbd] at h; split at h; assumption; omega
  have hbd1 : bd = 1 → kn_ Mq r 0 ≠ 0 := fun h => by rw [← hbd] at h; split at h; omega; assumption
  have good : bd = 0 → (0 ≤ r ∧ r < Mx 124 (Mx 1 18)) ∧ Mq 183 (8 * Mq 6 61 + r) ≤ 0 := by
    intro h
    have := hbd0 h
    rw [hkn] at this
    rcases hrr with h9 | h9
    · rw [if_pos h9] at this; omega
    · rw [if_neg (show ¬ r = -1 by omega)] at this
      split at this
      · exact ⟨h9, by assumption⟩
      · omega
  have hm7 : Mx 1 7 ≤ M1 1 7 ∧ M1 1 7 ≤ Mx 1 7 + 1 ∧ (b = 0 ∨ kn_ Mq r 0 = 0 → M1 1 7 = Mx 1 7) ∧ (b = 1 → kn_ Mq r 0 ≠ 0 → M1 1 7 = Mx 1 7 + 1) := by
    by_cases c1 : b = 0 ∨ kn_ Mq r 0 = 0
    · have e : M1 1 7 = Mx 1 7 := by rw [(hN0 c1).1]; exact n7
      exact ⟨by (clear hR hk hk1 hS hES hK hQ h12 hV hW hr hT hVT hER hQE hXE hL ha hgo hb01 hKQ t149 hER1 hst1 hfb1 g1 hKQ1 hp e71 hXn hQn hE1 hN0 hN1 hX1 hQ1 hQE1 m53 mXE m2 m8 mr n7 ht hv8 hrr stb hkn hbd hbd01 hbd0 hbd1 good c1; lia), by (clear hR hk hk1 hS hES hK hQ h12 hV hW hr hT hVT hER hQE hXE hL ha hgo hb01 hKQ t149 hER1 hst1 hfb1 g1 hKQ1 hp e71 hXn hQn hE1 hN0 hN1 hX1 hQ1 hQE1 m53 mXE m2 m8 mr n7 ht hv8 hrr stb hkn hbd hbd01 hbd0 hbd1 good c1; lia), fun _ => e, fun h1 h2 => by (clear hR hk hk1 hS hES hK hQ h12 hV hW hr hT hVT hER hQE hXE hL ha hgo hb01 hKQ t149 hER1 hst1 hfb1 g1 hKQ1 hp e71 hXn hQn hE1 hN0 hN1 hX1 hQ1 hQE1 m53 mXE m2 m8 mr n7 ht hv8 hrr stb hbd hbd01 hbd0 hbd1 good; lia)⟩
    · have e : M1 1 7 = Mx 1 7 + 1 := by rw [(hN1 (by (clear hR hk hk1 hS hES hK hQ h12 hV hW hr hT hVT hER hQE hXE hL ha hgo hKQ t149 hER1 hst1 hfb1 g1 hKQ1 hp e71 hXn hQn hE1 hX1 hQ1 hQE1 m53 mXE m2 m8 mr n7 ht hv8 stb hbd; lia)) (by (clear hR hk hk1 hS hES hK hQ h12 hV hW hr hT hVT hER hQE hXE hL ha hgo hb01 hKQ t149 hER1 hst1 hfb1 g1 hKQ1 hp e71 hXn hQn hE1 hN0 hN1 hX1 hQ1 hQE1 m53 mXE m2 m8 mr n7 ht hv8 hrr stb hbd hbd01 hbd0 hbd1 good; lia))).1, n7]
      exact ⟨by (clear hR hk hk1 hS hES hK hQ h12 hV hW hr hT hVT hER hQE hXE hL ha hgo hb01 hKQ t149 hER1 hst1 hfb1 g1 hKQ1 hp e71 hXn hQn hE1 hN0 hN1 hX1 hQ1 hQE1 m53 mXE m2 m8 mr n7 ht hv8 hrr stb hkn hbd hbd01 hbd0 hbd1 good c1; omega), by (clear hR hk hk1 hS hES hK hQ h12 hV hW hr hT hVT hER hQE hXE hL ha hgo hb01 hKQ t149 hER1 hst1 hfb1 g1 hKQ1 hp e71 hXn hQn hE1 hN0 hN1 hX1 hQ1 hQE1 m53 mXE m2 m8 mr n7 ht hv8 hrr stb hkn hbd hbd01 hbd0 hbd1 good c1; lia), fun h => absurd h c1, fun _ _ => e⟩
  -- Q's way
  have hQway : ∀ M', Ex9 dq (ad_ (pu_ N1 11 (vq_ Mq r)) (ts9_ Mq r) (Mx 71 a) bd) M' → Rq dq 0 Mq 1 M' := by
    intro M' hex
    refine Rq_272 hgo fun K Qt hk9 => ?_
    refine q_272o (k := 100) (a := a) ⟨by rw [hER.2.2.1]; (clear hR hk hk1 hS hES hK hQ hV hW hr hT hVT hER hQE hXE hL hgo hb01 hKQ t149 hER1 hst1 hfb1 g1 hKQ1 hp e71 hXn hQn hE1 hN0 hN1 hX1 hQ1 hQE1 m53 mXE m2 m8 mr n7 ht hv8 hrr stb hkn hbd hbd01 hbd0 hbd1 good hm7 hex hk9; lia), by rw [hER.2.2.1]; omega⟩ hER.2.2.1 hKQ ⟨by decide, by decide, by decide⟩ ?_
    rw [if_pos t149]
    have e150 : Mq 150 a = Mx 71 a := (hT a hER.1).2.1.symm
    rw [e150]
    refine q_275 (d := dq + 5) (b := b) (r := r) (idx := 0) hVT hER.2.2.1 ha.1 h12 hgo t149 hER.2.2.2.2.2.2.2.1 hb01 hr.symm (.inr ⟨?_, rfl⟩) (fun V hV hW => ?_)
    · unfold KQ at hKQ1; (clear hR hk hK hV hW hr hT hVT hER hQE hXE hL hgo hKQ t149 hER1 hst1 hfb1 g1 hp e71 hXn hQn hE1 hX1 hQ1 hQE1 m53 mXE m2 m8 mr ht hv8 stb hex hk9 e150; lia)
    · rw [hQn]
      refine b_275_90 (Tr_mono _) hV hW _ _ _ _ N1 ?_
      rw [if_pos rfl]
      have e104 : N1 6 104 = f + fm.length := hQE1.2.2.2.2.2.2.1
      have hff := hL.2.2.2.2.2.2.2.2
      have hf0 := hL.2.2.2.2.2.2.2.1
      refine q_277 (by rw [e104]; (clear hR hk hk1 hS hES hK hQ h12 hr hT hVT hER hQE hXE hL ha hgo hb01 hKQ t149 hER1 hst1 hfb1 g1 hKQ1 hp e71 hXn hQn hE1 hN0 hN1 hX1 hQ1 hQE1 m53 mXE m2 m8 mr n7 ht hv8 hrr stb hkn hbd hbd01 hbd0 hbd1 good hm7 hex hk9 e150 hV hW e104 hff; omega)) (by rw [e104]; (clear hR hk hk1 hS hES hK hQ hr hT hVT hER hQE hXE hL hgo hb01 hKQ t149 hER1 hst1 hfb1 g1 hKQ1 hp e71 hXn hQn hE1 hN0 hN1 hX1 hQ1 hQE1 m53 mXE m2 m8 mr n7 ht hv8 hrr stb hkn hbd hbd01 hbd0 hbd1 good hm7 hex hk9 e150 hV hW e104 hf0; omega)) ?_
      have e116 : pu_ N1 11 (vq_ Mq r) 6 116 = ws.length := by rw [pu_6 (by decide)]; exact hQE1.2.2.1
      have hwl := hL.2.2.2.2.2.2.1
      have fin : ∀ t bb : Int, t = ts9_ Mq r → bb = bd → Tr_ wd0 pg0 (dq + 8) 278 [.inr (.inr 6), .inl t, .inl (Mx 71 a), .inl bb] (pu_ N1 11 (vq_ Mq r)) (rv_ fun M5 => bl_ 1 ∧ ri_ (fun v6 M9 => bl_ v6 ∧ ri_ K [.inl v6] M9) [.inl 1] M5) Qt := by
        intro t bb h1 h2
        rw [h1, h2]
        exact q_278 (by rw [e116]; (clear hR hk hk1 hS hES hK hQ h12 hr hT hVT hER hQE hXE hL ha hgo hb01 hKQ t149 hER1 hst1 hfb1 g1 hKQ1 hp e71 hXn hQn hE1 hN0 hN1 hX1 hQ1 hQE1 m53 mXE m2 m8 mr n7 ht hv8 hrr stb hkn hbd hbd01 hbd0 hbd1 good hm7 hex hk9 e150 hV hW e104 hff hf0 e116 hwl h1 h2; lia)) (by rw [e116]; (clear hR hk hk1 hS hES hK hQ hr hT hVT hER hQE hXE hL hgo hb01 hKQ t149 hER1 hst1 hfb1 g1 hKQ1 hp e71 hXn hQn hE1 hN0 hN1 hX1 hQ1 hQE1 m53 mXE m2 m8 mr n7 ht hv8 hrr stb hkn hbd hbd01 hbd0 hbd1 good hm7 hex hk9 e150 hV hW e104 hff hf0 e116 h1 h2; omega)) hbd01 (Ex9_l hex (by (clear hR hk hk1 hS hES hK hQ h12 hr hT hVT hER hQE hXE hL ha hgo hb01 hKQ t149 hER1 hst1 hfb1 g1 hKQ1 hp e71 hXn hQn hE1 hN0 hN1 hX1 hQ1 hQE1 m53 mXE m2 m8 mr n7 ht hv8 hrr stb hkn hbd hbd01 hbd0 hbd1 good hm7 hex hk9 e150 hV hW e104 hff hf0 e116 hwl h1 h2; lia)) ⟨.inr rfl, ri_i ⟨.inr rfl, ri_i hk9⟩⟩)
      have n182 : pu_ N1 11 (vq_ Mq r) 182 = Mq 182 := QF_r (QF_tr hQ1 pu_QF) (by decide) (by decide)
      have n183 : pu_ N1 11 (vq_ Mq r) 183 = Mq 183 := QF_r (QF_tr hQ1 pu_QF) (by decide) (by decide)
      rw [n182, n183]
      rcases hrr with h | h
      · have ev : vq_ Mq r = -1 := by unfold vq_; rw [if_pos h]
        have et : (0 : Int) = ts9_ Mq r := by unfold ts9_; rw [if_pos h]
        have eb : (1 : Int) = bd := by
          have e0 : kn_ Mq r 0 = 4 := by rw [hkn, if_pos h]
          rw [← hbd, if_neg (by rw [e0]; decide)]
        rw [ev] at fin ⊢
        rw [if_pos (by decide), if_pos (by decide)]
        exact fin 0 1 et eb
      · have hva := vt_at hVT h.1 h.2
        have ev : vq_ Mq r = 8 * Mq 6 61 + r := by unfold vq_; rw [if_neg (by (clear hR hk hk1 hS hES hK hQ h12 hr hT hVT hER hQE hXE hL ha hgo hb01 hKQ t149 hER1 hst1 hfb1 g1 hKQ1 hp e71 hXn hQn hE1 hN0 hN1 hX1 hQ1 hQE1 m53 mXE m2 m8 mr n7 ht hv8 stb hkn hbd hbd01 hbd0 hbd1 good hm7 hex hk9 e150 hV hW e104 hff hf0 e116 hwl fin n182 n183 hva; omega))]
        have et : Mq 182 (8 * Mq 6 61 + r) = ts9_ Mq r := by unfold ts9_; rw [if_neg (by (clear hR hk hk1 hS hES hK hQ h12 hr hT hVT hER hQE hXE hL ha hgo hb01 hKQ t149 hER1 hst1 hfb1 g1 hKQ1 hp e71 hXn hQn hE1 hN0 hN1 hX1 hQ1 hQE1 m53 mXE m2 m8 mr n7 hv8 stb hkn hbd hbd01 hbd0 hbd1 good hm7 hex hk9 e150 hV hW e104 hff hf0 e116 hwl fin n182 n183 hva; lia))]
        rw [ht] at hva
        rw [ev, if_neg (by rw [ht]; (clear hR hk hk1 hS hES hK hQ h12 hr hT hVT hER hQE hXE hL ha hgo hb01 hKQ t149 hER1 hst1 hfb1 g1 hKQ1 hp e71 hXn hQn hE1 hN0 hN1 hX1 hQ1 hQE1 m53 mXE m2 m8 mr n7 hv8 stb hkn hbd hbd01 hbd0 hbd1 good hm7 hex hk9 e150 hV hW e104 hff hf0 e116 hwl fin n182 n183 h et; lia)), if_neg (by rw [ht]; omega)]
        rw [ev] at fin
        refine ⟨by rw [ht]; (clear hR hk hk1 hS hES hK hQ h12 hr hT hVT hER hQE hXE hL ha hgo hb01 hKQ t149 hER1 hst1 hfb1 g1 hKQ1 hp e71 hXn hQn hE1 hN0 hN1 hX1 hQ1 hQE1 m53 mXE m2 m8 mr n7 hv8 stb hkn hbd hbd01 hbd0 hbd1 good hm7 hex hk9 e150 hV hW e104 hff hf0 e116 hwl fin n182 n183 h et; omega), by rw [ht]; omega, ?_⟩
        by_cases c1 : Mq 183 (8 * Mq 6 61 + r) ≤ 0
        · rw [if_pos c1]
          have e0 : kn_ Mq r 0 = 0 := by rw [hkn, if_neg (show ¬ r = -1 by omega), if_pos c1]
          exact fin _ 0 et (by rw [← hbd, if_pos e0])
        · rw [if_neg c1]
          have e0 : kn_ Mq r 0 = 5 := by rw [hkn, if_neg (show ¬ r = -1 by omega), if_neg c1]
          exact fin _ 1 et (by rw [← hbd, if_neg (by rw [e0]; decide)])
  -- what X leaves
  have fin : ∀ (w s : Int), (b = 1 → bd = 0 → w = Mq 184 (vq_ Mq r)) → (b = 1 → bd = 0 → s = ts9_ Mq r - 1) → (b = 1 → bd = 1 → s = -1) → K s (pX_ (pX_ M1 8) w) := by
    intro w s hw hs0 hs1
    have hE2 := pX_2 m8 hb01 8 w mXE
    have p53 : pX_ M1 8 5 3 ≤ M1 5 3 + 1 := by
      unfold pX_; split
      · (clear hR hk hk1 hS hES hK hQ h12 hV hW hr hT hVT hER hQE hXE hL ha hgo hb01 hKQ t149 hER1 hst1 hfb1 g1 hKQ1 hp e71 hXn hQn hE1 hN0 hN1 hX1 hQ1 hQE1 m53 mXE m2 m8 mr n7 ht hv8 hrr stb hkn hbd hbd01 hbd0 hbd1 good hm7 hQway hw hs0 hs1 hE2; lia)
      · rw [up_at]; omega
    have hst : Mx 5 3 ≤ 9 * a + 1000 := hER.2.2.2.2.2.2.2.2.2.2.2.2.2.2
    have hER3 : ER b F (pX_ (pX_ M1 8) w) (ad_ (pu_ N1 11 (vq_ Mq r)) (ts9_ Mq r) (Mx 71 a) bd) (a + 1) o := by
      refine ER_Q (Mq := N1) (ER_pX (ER_pX hE1 (by (clear hR hk hk1 hS hES hK hQ h12 hV hW hr hT hVT hER hQE hXE hL ha hgo hb01 hKQ t149 hER1 hst1 hfb1 g1 hKQ1 hp e71 hXn hQn hE1 hN0 hN1 hX1 hQ1 hQE1 mXE m2 m8 mr n7 ht hv8 hrr stb hkn hbd hbd01 hbd0 hbd1 good hm7 hQway hw hs0 hs1 hE2 p53; omega))) (by (clear hR hk hk1 hS hES hK hQ h12 hV hW hr hT hVT hER hQE hXE hL ha hgo hb01 hKQ t149 hER1 hst1 hfb1 g1 hKQ1 hp e71 hXn hQn hE1 hN0 hN1 hX1 hQ1 hQE1 mXE m2 m8 mr n7 ht hv8 hrr stb hkn hbd hbd01 hbd0 hbd1 good hm7 hQway hw hs0 hs1 hE2; lia))) ?_ ?_ ?_ ?_ ?_
      all_goals rw [ad_6 (by decide), pu_6 (by decide)]
    have m7 : pX_ (pX_ M1 8) w 1 7 = M1 1 7 := by rw [pX_1, pX_1]
    have hmono := (hT (a + 1) g1).2.2.2.2.1 a hER.1 (by (clear hR hk hk1 hS hES hK hQ h12 hV hW hr hT hVT hER hQE hXE hL ha hgo hb01 hKQ t149 hER1 hst1 hfb1 g1 hKQ1 hp e71 hXn hQn hE1 hN0 hN1 hX1 hQ1 hQE1 m53 mXE m2 m8 mr n7 ht hv8 hrr stb hkn hbd hbd01 hbd0 hbd1 good hm7 hQway hw hs0 hs1 hE2 p53 hst hER3 m7; lia))
    have hP := EP_atom (need := nU n (ts9_ Mq r)) (t := ts9_ Mq r) (s := s) (x := (11, vq_ Mq r)) (y := if b = 0 then [] else [w, 8]) hT (by omega) (XF_tr hX1 (XF_tr pX_XF pX_XF)) (QF_tr hQ1 (QF_tr pu_QF ad_QF)) hER3 (ad_QE (pu_QE hQE1)) hbd01 hE2 (fun h => by rw [if_pos h]) (fun h h' => by rw [if_neg (by (clear hR hk hk1 hS hES hK hQ h12 hV hW hr hT hVT hER hQE hXE hL ha hgo hb01 hKQ t149 hER1 hst1 hfb1 g1 hKQ1 hp e71 hXn hQn hE1 hN0 hN1 hX1 hQ1 hQE1 m53 mXE m2 m8 mr n7 ht hv8 hrr stb hkn hbd hbd01 hbd0 hbd1 good hm7 hQway hw hs0 hs1 hE2 p53 hst hER3 m7 hmono h'; lia)), hw h h']; rfl) (by split <;> simp) (by rw [m7]; (clear hR hk hk1 hS hES hK hQ h12 hV hW hr hT hVT hER hQE hXE hL ha hgo hb01 hKQ t149 hER1 hst1 hfb1 g1 hKQ1 hp e71 hXn hQn hE1 hN0 hN1 hX1 hQ1 hQE1 m53 mXE m2 m8 mr n7 ht hv8 hrr stb hkn hbd hbd01 hbd0 hbd1 good hQway hw hs0 hs1 hE2 p53 hst hER3 hmono; omega)) (by rw [m7]; (clear hR hk hk1 hS hES hK hQ h12 hV hW hr hT hVT hER hQE hXE hL ha hgo hb01 hKQ t149 hER1 hst1 hfb1 g1 hKQ1 hp e71 hXn hQn hE1 hN0 hN1 hX1 hQ1 hQE1 m53 mXE m2 m8 mr n7 ht hv8 hrr stb hkn hbd hbd01 hbd0 hbd1 good hQway hw hs0 hs1 hE2 p53 hst hER3 hmono; omega)) (fun h h' => ?_) (fun h h' => ⟨hs1 h h', by rw [m7]; have := hm7.2.2.2 h (hbd1 h'); (clear hR hk hk1 hS hES hK hQ h12 hV hW hr hT hVT hER hQE hXE hL ha hgo hb01 hKQ t149 hER1 hst1 hfb1 g1 hKQ1 hp e71 hXn hQn hE1 hN0 hN1 hX1 hQ1 hQE1 m53 mXE m2 m8 mr n7 ht hv8 hrr stb hkn hbd hbd01 hbd0 hbd1 good hm7 hQway hw hs0 hs1 hE2 p53 hst hER3 hmono h h'; omega), ?_⟩) (by unfold nU; split <;> (clear hR hk hk1 hS hES hK hQ h12 hV hW hr hT hVT hER hQE hXE hL ha hgo hb01 hKQ t149 hER1 hst1 hfb1 g1 hKQ1 hp e71 hXn hQn hE1 hN0 hN1 hX1 hQ1 hQE1 m53 mXE m2 m8 mr n7 ht hv8 hrr stb hkn hbd hbd01 hbd0 hbd1 good hm7 hQway hw hs0 hs1 hE2 p53 hst hER3 m7 hmono; lia))
    · exact hK s _ _ (a + 1) _ _ bd _ hP.1 hP.2 hQway (hES h12)
    · have hg := good h'
      have hva := vt_at hVT hg.1.1 hg.1.2
      have et : ts9_ Mq r = Mq 182 (8 * Mq 6 61 + r) := by unfold ts9_; rw [if_neg (by (clear hR hk hk1 hS hES hK hQ h12 hV hW hr hT hVT hER hQE hXE hL ha hgo hb01 hKQ t149 hER1 hst1 hfb1 g1 hKQ1 hp e71 hXn hQn hE1 hN0 hN1 hX1 hQ1 hQE1 m53 mXE m2 m8 mr n7 ht hv8 hrr stb hkn hbd hbd01 hbd0 hbd1 good hm7 hQway hw hs0 hs1 hE2 p53 hst hER3 m7 hmono h h' hva; omega))]
      have ev : vq_ Mq r = 8 * Mq 6 61 + r := by unfold vq_; rw [if_neg (by omega)]
      refine ⟨hs0 h h', by rw [et]; exact hva.2.2.2.1, by rw [et]; exact hva.2.2.2.2.1, by rw [m7]; exact hm7.2.2.1 (.inr (hbd0 h')), ?_, fun st => ?_⟩
      · unfold fqq_; rw [ad_6 (by decide), ad_6 (by decide), pu_6 (by decide), pu_6 (by decide), (hN0 (.inr (hbd0 h'))).2, nx_6 (by decide), nx_6 (by decide)]
      · refine .inr (.inr (.inr (.inr (.inl ⟨rfl, ?_, ?_, ?_, ?_⟩))))
        · rw [ev]; (clear hR hk hk1 hS hES hK hQ h12 hV hW hr hT hVT hER hQE hXE hL ha hgo hb01 hKQ t149 hER1 hst1 hfb1 g1 hKQ1 hp e71 hXn hQn hE1 hN0 hN1 hX1 hQ1 hQE1 m53 mXE m2 m8 mr n7 hv8 hrr stb hkn hbd hbd01 hbd0 hbd1 good hm7 hQway hw hs0 hs1 hE2 p53 hst hER3 m7 hmono h h' hva et; lia)
        · rw [ev]
          have e171 : Mq 171 (Mq 6 61) = Mx 124 (Mx 1 18) := by rw [ht]; exact hv8.2.2
          rw [e171]; (clear hR hk hk1 hS hES hK hQ h12 hV hW hr hT hVT hER hQE hXE hL ha hgo hb01 hKQ t149 hER1 hst1 hfb1 g1 hKQ1 hp e71 hXn hQn hE1 hN0 hN1 hX1 hQ1 hQE1 m53 mXE m2 m8 mr n7 hrr stb hkn hbd hbd01 hbd0 hbd1 good hm7 hQway hw hs0 hs1 hE2 p53 hst hER3 m7 hmono h h' hva et; lia)
        · rw [ev]; show Mq 183 (8 * Mq 6 61 + r) = 0; have h9 := hva.2.2.2.2.2.1; have h8 := hg.2; (clear hR hk hk1 hS hES hK hQ h12 hV hW hr hT hVT hER hQE hXE hL ha hgo hb01 hKQ t149 hER1 hst1 hfb1 g1 hKQ1 hp e71 hXn hQn hE1 hN0 hN1 hX1 hQ1 hQE1 m53 mXE m2 m8 mr n7 ht hv8 hrr stb hkn hbd hbd01 hbd0 hbd1 good hm7 hQway hw hs0 hs1 hE2 p53 hst hER3 m7 hmono h h' et ev h9 h8; omega)
        · show ts9_ Mq r :: st = Mq 182 (vq_ Mq r) :: st
          rw [et, ev]
    · rw [ad_6 (by decide), ad_6 (by decide), pu_6 (by decide), pu_6 (by decide)]
      have := (hN1 h (hbd1 h')).2
      (clear hR hk hk1 hS hES hK hQ h12 hV hW hr hT hVT hER hQE hXE hL ha hgo hb01 hKQ t149 hER1 hst1 hfb1 g1 hKQ1 hp e71 hXn hQn hE1 hN0 hN1 hX1 hQ1 hQE1 m53 mXE m2 m8 mr n7 ht hv8 hrr stb hkn hbd hbd01 hbd0 hbd1 good hm7 hQway hw hs0 hs1 hE2 p53 hst hER3 m7 h h'; omega)
  have at221 : ∀ w : Int, (b = 1 → bd = 0 → w = Mq 184 (vq_ Mq r)) → V 221 [rr 1, ii (Mx 1 7), ii a, ii r, ii (8 * Mx 1 18 + r), ii (ar_ Mq r), ii 0] [] (pX_ (pX_ M1 8) w) := by
    intro w hw
    refine b_155_221 (Tr_mono _) hV hW _ _ _ _ _ _ _ ?_
    have m7 : pX_ (pX_ M1 8) w 1 7 = M1 1 7 := by rw [pX_1, pX_1]
    by_cases c1 : r = -1
    · rw [if_pos c1]
      refine ri_i (fin w (-1) hw (fun _ h => ?_) (fun _ _ => rfl))
      have := (good h).1; omega
    · rw [if_neg c1]
      have h := hrr.resolve_left c1
      have hva := vt_at hVT h.1 h.2
      have e130 : pX_ (pX_ M1 8) w 130 = Mx 130 := by rw [pX_r (by decide) (by decide), pX_r (by decide) (by decide), mr 130 (by decide)]
      rw [m7, e130]
      by_cases c2 : M1 1 7 ≤ Mx 1 7
      · rw [if_pos c2]
        refine ⟨by rw [pX_1, pX_1]; exact m2, ⟨hva.2.2.2.2.2.2.1, hva.2.2.2.2.2.2.2⟩, ri_i (fin w _ hw (fun _ _ => ?_) (fun hb h9 => ?_))⟩
        · unfold ts9_; rw [if_neg c1]; (clear hR hk hk1 hS hES hK hQ h12 hV hW hr hT hVT hER hQE hXE hL ha hgo hb01 hKQ t149 hER1 hst1 hfb1 g1 hKQ1 hp e71 hXn hQn hE1 hN0 hN1 hX1 hQ1 hQE1 m53 mXE m2 m8 mr n7 ht hv8 hrr stb hkn hbd hbd01 hbd0 hbd1 good hm7 hQway fin hw m7 c1 h e130 c2; omega)
        · have := hm7.2.2.2 hb (hbd1 h9); (clear hR hk hk1 hS hES hK hQ h12 hV hW hr hT hVT hER hQE hXE hL ha hgo hb01 hKQ t149 hER1 hst1 hfb1 g1 hKQ1 hp e71 hXn hQn hE1 hN0 hN1 hX1 hQ1 hQE1 m53 mXE m2 m8 mr n7 ht hv8 hrr stb hkn hbd hbd01 hbd0 hbd1 good hQway fin hw c1 h hva e130 hb h9; omega)
      · rw [if_neg c2]
        refine ri_i (fin w (-1) hw (fun hb h9 => ?_) (fun _ _ => rfl))
        have := hm7.2.2.1 (.inr (hbd0 h9)); (clear hR hk hk1 hS hES hK hQ h12 hV hW hr hT hVT hER hQE hXE hL ha hgo hb01 hKQ t149 hER1 hst1 hfb1 g1 hKQ1 hp e71 hXn hQn hE1 hN0 hN1 hX1 hQ1 hQE1 m53 mXE m2 m8 mr n7 ht hv8 hrr stb hkn hbd hbd01 hbd0 hbd1 good hQway fin hw c1 h hva e130 hb h9; omega)
  refine b_155_103 (Tr_mono _) hV hW _ _ _ _ _ _ M1 ?_
  rw [if_pos rfl]
  have p53 : pX_ M1 8 5 3 = M1 5 3 ∨ pX_ M1 8 5 3 = M1 5 3 + 1 := by
    unfold pX_; split
    · exact .inl rfl
    · exact .inr (by rw [up_at])
  refine x_138 m2 (by (clear hR hk hk1 hS hES hK hQ h12 hV hW hr hT hVT hER hQE hXE hL ha hgo hb01 hKQ t149 hER1 hst1 hfb1 g1 hKQ1 hp e71 hXn hQn hE1 hN0 hN1 hX1 hQ1 hQE1 mXE m2 m8 mr n7 ht hv8 hrr hkn hbd hbd01 hbd0 hbd1 good hm7 hQway fin at221 p53; lia)) (by omega) ?_
  by_cases c1 : r = -1
  · rw [if_pos c1]
    refine x_138 (by rw [pX_1]; exact m2) (by rcases p53 with e | e <;> (clear hR hk hk1 hS hES hK hQ h12 hV hW hr hT hVT hER hQE hXE hL ha hgo hb01 hKQ t149 hER1 hst1 hfb1 g1 hKQ1 hp e71 hXn hQn hE1 hN0 hN1 hX1 hQ1 hQE1 mXE m2 m8 mr n7 ht hv8 hrr hkn hbd hbd01 hbd0 hbd1 good hm7 hQway fin at221 c1; lia)) (by rcases p53 with e | e <;> (clear hR hk hk1 hS hES hK hQ h12 hV hW hr hT hVT hER hQE hXE hL ha hgo hb01 hKQ t149 hER1 hst1 hfb1 g1 hKQ1 hp e71 hXn hQn hE1 hN0 hN1 hX1 hQ1 hQE1 mXE m2 m8 mr n7 ht hv8 hrr hkn hbd hbd01 hbd0 hbd1 good hm7 hQway fin at221 c1; omega)) (at221 0 (fun _ h => ?_))
    have := (good h).1; omega
  · rw [if_neg c1]
    have h := hrr.resolve_left c1
    have hva := vt_at hVT h.1 h.2
    have e132 : pX_ M1 8 132 = Mx 132 := by rw [pX_r (by decide) (by decide), mr 132 (by decide)]
    rw [e132]
    refine ⟨by rw [pX_1]; exact m2, ⟨hva.2.2.2.2.2.2.1, hva.2.2.2.2.2.2.2⟩, ?_⟩
    refine x_138 (by rw [pX_1]; exact m2) (by rcases p53 with e | e <;> omega) (by rcases p53 with e | e <;> omega) (at221 _ (fun _ _ => ?_))
    have ev : vq_ Mq r = 8 * Mq 6 61 + r := by unfold vq_; rw [if_neg c1]
    rw [ev]; exact hva.2.2.1
end V0
end T92_er
