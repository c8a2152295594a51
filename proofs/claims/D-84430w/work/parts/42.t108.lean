section T108_ag
/-! gets: whole -/
section AG
variable {d dq n : Nat} {b F : Int} {Mx Mq Mx1 Mq1 Mx2 Mq2 M : mm_} {a a1 o o1 s z : Int} {K : Int → mm_ → Prop} {Kv G : mm_ → Prop} {Qt : qt_} {V : vv_} {r idx e : Int} {dec : Int → Option Int}
/-- the index -/
theorem l_144b [Inhabited gh_] (hn : n ≤ 12) (ho : o = 12 - (n : Int)) (A2 : AM b F Mx Mq Mx2 Mq2 a (a + 1) o s z) (hz : 0 ≤ z) (hs2 : s ≤ 0) (h75 : Mq2 6 75 = Mq 6 75) (h53 : Mx2 5 3 = Mx 5 3) (h104 : Mq2 6 104 = Mq 6 104)
    (hr : r = -1 ∨ (0 ≤ r ∧ r < Mq 171 (Mq 6 61))) (k0 : Mx 70 (a + 1) = 291)
    (hS : b = 1 → o ≠ 12 ∧ ((gS (a + 1)).bind fun a2 => (ES (Mx 70) 0 (o + 1) a2).bind fun a3 => (tS (Mx 70) 293 a3).bind fun a4 => (tS (Mx 70) 110 a4).bind fun a6 => (ES (Mx 70) 0 o a6).bind (tS (Mx 70) 259)) ≠ none)
    (hidx : b = 1 → Mq2 6 13 = 0 → r ≠ -1 ∧ arr_ Mq r = 1)
    (pre : ∀ (Kv : mm_ → Prop) (Qtq : qt_), (∀ V : vv_, Cl_ wd0 (Tr_ wd0 pg0 (dq + 12)) V (rv_ fun M1 => rv_ Kv [] M1) Qtq m_302 → Wk_ V → V 99 [rr 6, ii (Mx 71 a), ii a, ii (vq_ Mq r), ii 1, none, none, none, none] [] Mq2) → Tr_ wd0 pg0 (dq + 14) 296 [.inr (.inr 6)] Mq (rv_ Kv) Qtq)
    (hV : Cl_ wd0 (Tr_ wd0 pg0 (9 * n + 14)) V (rv_ fun M12 => Tr_ wd0 pg0 (9 * n + 15) 121 [.inr (.inr 1), .inl 59] M12 (rv_ G) Qt) Qt m_144) (hW : Wk_ V)
    (hK : ∀ Mx' Mq' a', AR b F Mx Mq Mx' Mq' a a' o 1 0 → o ≠ 12 → ((gS (a + 1)).bind fun a2 => (ES (Mx 70) 0 (o + 1) a2).bind fun a3 => (tS (Mx 70) 293 a3).bind fun a4 => (tS (Mx 70) 110 a4).bind fun a6 => (ES (Mx 70) 0 o a6).bind (tS (Mx 70) 259)) = some a' → (∀ (Kv : mm_ → Prop) (Qtq : qt_), Kv Mq' → Tr_ wd0 pg0 (dq + 14) 296 [.inr (.inr 6)] Mq (rv_ Kv) Qtq) → G Mx')
    (hQ : b = 0 → ∀ Mx', XA Mx Mx' → (∀ (Kv : mm_ → Prop) (Qtq : qt_), (∀ M', SQ Mx' Mq M' → Kv M') → Tr_ wd0 pg0 (dq + 14) 296 [.inr (.inr 6)] Mq (rv_ Kv) Qtq) → Qt 8 Mx') :
    V 96 [rr 1, ii a, ii r, ii (8 * Mq 6 61 + r), ii (arr_ Mq r), ii 1] [] Mx2 := by
  have hE := AM_E A2
  have hT := AM_T A2
  have e70 := AM_70 A2
  have e71 := AM_71 A2
  have h01 := hE.2.2.2.2.2.2.2.2.1
  have hV9 := A2.1.2.1
  have hT0 : 0 ≤ Mq 6 61 ∧ Mq 6 61 < 6 := by rw [hV9.2.1]; exact ⟨hV9.2.2.1, hV9.2.2.2.1⟩
  have hv8 : Mq 171 (Mq 6 61) ≤ 8 := by have := hV9.2.2.2.2.1; rw [hV9.2.1, this.2.2]; exact this.2.1
  have hvq : 0 ≤ vq_ Mq r → vq_ Mq r < 48 := by unfold vq_; split <;> omega
  have k0' : Mx2 70 (a + 1) = skk_ 91 := by rw [e70]; exact k0
  have hx2 := XC_XA (AM_X A2)
  have hq2 := QC_QA (AM_Q A2)
  refine b_144_96 (Tr_mono _) hV hW a r (8 * Mq 6 61 + r) (arr_ Mq r) 1 Mx2 ?_
  rw [if_neg (by decide)]
  -- Q at the bracket
  have preB : ∀ (Kv : mm_ → Prop) (Qtq : qt_), (∀ V : vv_, Cl_ wd0 (Tr_ wd0 pg0 (dq + 12)) V (rv_ fun M1 => rv_ Kv [] M1) Qtq m_302 → Wk_ V → Tr_ wd0 pg0 (dq + 12) 239 [.inr (.inr 6), .inl 91] Mq2 (rv_ fun M2 => Tr_ wd0 pg0 (dq + 12) 270 [.inr (.inr 6), .inl (0 + 1)] M2 (ri_ fun v1 M3 => Tr_ wd0 pg0 (dq + 12) 243 [.inr (.inr 6), .inl 93] M3 (rv_ fun M4 => Tr_ wd0 pg0 (dq + 12) 244 [.inr (.inr 6), .inl 256] M4 (rv_ fun M5 => (if vq_ Mq r < 0 then V 149 [rr 6, ii (Mx 71 a), ii a, ii (vq_ Mq r), ii 1, ii v1, ii 0, none, none] [] M5 else (0 ≤ vq_ Mq r ∧ vq_ Mq r < 48) ∧ V 149 [rr 6, ii (Mx 71 a), ii a, ii (vq_ Mq r), ii 1, ii v1, ii (M5 182 (vq_ Mq r)), none, none] [] M5)) Qtq) Qtq) Qtq) Qtq) → Tr_ wd0 pg0 (dq + 14) 296 [.inr (.inr 6)] Mq (rv_ Kv) Qtq := by
    intro Kv Qtq hq
    refine pre _ _ fun V hV hW => b_302_99 (Tr_mono _) hV hW _ _ _ _ _ ?_
    rw [if_neg (by decide)]
    exact hq V hV hW
  have stop : ∀ {Mx' Ms : mm_}, SQ Mx' Mq Ms → ∀ (Kv : mm_ → Prop) (Qtq : qt_), (∀ M', SQ Mx' Mq M' → Kv M') → ∀ V : vv_, Cl_ wd0 (Tr_ wd0 pg0 (dq + 12)) V (rv_ fun M1 => rv_ Kv [] M1) Qtq m_302 → Wk_ V → Tr_ wd0 pg0 (dq + 12) 270 [.inr (.inr 6), .inl (0 + 1)] Ms (ri_ fun v1 M3 => Tr_ wd0 pg0 (dq + 12) 243 [.inr (.inr 6), .inl 93] M3 (rv_ fun M4 => Tr_ wd0 pg0 (dq + 12) 244 [.inr (.inr 6), .inl 256] M4 (rv_ fun M5 => (if vq_ Mq r < 0 then V 149 [rr 6, ii (Mx 71 a), ii a, ii (vq_ Mq r), ii 1, ii v1, ii 0, none, none] [] M5 else (0 ≤ vq_ Mq r ∧ vq_ Mq r < 48) ∧ V 149 [rr 6, ii (Mx 71 a), ii a, ii (vq_ Mq r), ii 1, ii v1, ii (M5 182 (vq_ Mq r)), none, none] [] M5)) Qtq) Qtq) Qtq := by
    intro Mx' Ms hs Kv Qtq hk9 V hV hW
    refine q_270s hs.1 ?_
    refine q_243s hs.1 ?_
    exact q_302s1 hV hW hvq hs.1 (hk9 _ hs)
  refine y_118 hE (fun hb => (hS hb).1) (fun ho12 hE3 => ?_) (fun hb ho12 => ?_)
  rotate_left
  · refine hQ hb _ (XA_tr hx2 (XF_XA fl_XF)) fun Kv Qtq hk9 => preB _ _ fun V hV hW => j_239o hT hE hb (by decide) k0' ho12 (stop (SQ_o hE hb hq2) Kv Qtq hk9 V hV hW)
  have A3 := AM_o A2 (o2 := o + 1) (by omega)
  refine y_105 hE3 (by rw [up_ne (by decide), k0']; decide) (fun hb => by intro c; have := (hS hb).2; rw [c] at this; exact this rfl) (fun h12 hE4 => ?_) (fun hb h12 => ?_)
  rotate_left
  · refine hQ hb _ (XA_tr (XC_XA (AM_X A3)) (XF_XA fl_XF)) fun Kv Qtq hk9 => preB _ _ fun V hV hW => j_239r hT hE hb (by decide) k0' h12 ho12 ?_
    have := stop (SQ_bf hE3 hb (k := 2) (by decide) (QC_QA (AM_Q A3))) Kv Qtq hk9 V hV hW
    rw [up_ne (by decide)] at this
    exact this
  have A4 := AM_go A3 hE4
  generalize hX4 : nX_ (up_ Mx2 1 6 (o + 1)) = Mx4 at *
  generalize hQ4 : nx_ (up_ Mq2 6 15 (o + 1)) = Mq4 at *
  have m70 := AM_70 A4
  obtain ⟨n', hn'⟩ : ∃ n' : Nat, n = n' + 1 := ⟨n - 1, by omega⟩
  have hSq : ((gS (a + 1)).bind fun a2 => (ES (Mx 70) 0 (o + 1) a2).bind fun a3 => (tS (Mx 70) 293 a3).bind fun a4 => (tS (Mx 70) 110 a4).bind fun a6 => (ES (Mx 70) 0 o a6).bind (tS (Mx 70) 259)) = (ES (Mx 70) 0 (o + 1) (a + 1 + 1)).bind fun a3 => (tS (Mx 70) 293 a3).bind fun a4 => (tS (Mx 70) 110 a4).bind fun a6 => (ES (Mx 70) 0 o a6).bind (tS (Mx 70) 259) := by rw [gS_e h12, Option.bind_some]
  rw [hSq] at hS
  refine Tr_le (d := 9 * n' + 14) (by omega) (x_w (dq := dq) (n := n') (w := 0) (wq := 0) (by omega) (by omega) (by omega) (by omega) (fun _ => rfl) (AM_T A4) (AM_V A4) hE4 (AM_f A4) (fun hb => by rw [m70]; intro c; have := (hS hb).2; rw [c] at this; exact this rfl) (fun Mx5 Mq5 a5 hW5 hS5 hq5 => ?_) (fun hb Mx' hx9 hq9 => ?_))
  rotate_left
  · refine hQ hb Mx' (XA_tr (XC_XA (AM_X A4)) (XF_XA hx9)) fun Kv Qtq hk9 => preB _ _ fun V hV hW => j_239t hT hE (by decide) k0' h12 ho12 ?_
    rw [hQ4]
    refine hq9 _ _ fun M' g1 g2 g3 g4 g5 => ?_
    refine q_243s g1 ?_
    exact q_302s1 hV hW hvq g1 (hk9 _ ⟨g1, g2, g3, g4, QA_tr (QC_QA (AM_Q A4)) (QF_QA g5)⟩)
  have A5 := AM_w A4 hW5
  have hE5 := AM_E A5
  have hT5 := AM_T A5
  have p70 := AM_70 A5
  rw [m70] at hS5
  have hSq2 : ((ES (Mx 70) 0 (o + 1) (a + 1 + 1)).bind fun a3 => (tS (Mx 70) 293 a3).bind fun a4 => (tS (Mx 70) 110 a4).bind fun a6 => (ES (Mx 70) 0 o a6).bind (tS (Mx 70) 259)) = (tS (Mx 70) 293 a5).bind fun a4 => (tS (Mx 70) 110 a4).bind fun a6 => (ES (Mx 70) 0 o a6).bind (tS (Mx 70) 259) := by rw [hS5, Option.bind_some]
  rw [hSq2] at hS
  have q5 : ∀ i : Int, i = 61 ∨ i = 75 → Mq5 6 i = Mq4 6 i := fun i hi => hW5.2.2.1.2 i (by omega) (by omega) (by omega) (by omega) (by omega) (by omega) (by omega) (by omega) (by omega) (by omega) (by omega)
  have q475 : Mq4 6 75 = Mq 6 75 := by rw [← hQ4, nx_6 (by decide), up_off (by decide)]; exact h75
  have q4104 : Mq4 6 104 = Mq 6 104 := by rw [← hQ4, nx_6 (by decide), up_off (by decide)]; exact h104
  have e453 : Mx4 5 3 = Mx 5 3 := by rw [← hX4, nX_ne (by decide), up_ne (by decide)]; exact h53
  have e461 : Mq4 6 61 = Mq 6 61 := (AM_Q A4).2 61 (by decide)
  -- Q behind the e
  have preE : ∀ (Kv : mm_ → Prop) (Qtq : qt_), (∀ V : vv_, Cl_ wd0 (Tr_ wd0 pg0 (dq + 12)) V (rv_ fun M1 => rv_ Kv [] M1) Qtq m_302 → Wk_ V → Tr_ wd0 pg0 (dq + 12) 243 [.inr (.inr 6), .inl 93] Mq5 (rv_ fun M4 => Tr_ wd0 pg0 (dq + 12) 244 [.inr (.inr 6), .inl 256] M4 (rv_ fun M5 => (if vq_ Mq r < 0 then V 149 [rr 6, ii (Mx 71 a), ii a, ii (vq_ Mq r), ii 1, ii (Mq4 6 104), ii 0, none, none] [] M5 else (0 ≤ vq_ Mq r ∧ vq_ Mq r < 48) ∧ V 149 [rr 6, ii (Mx 71 a), ii a, ii (vq_ Mq r), ii 1, ii (Mq4 6 104), ii (M5 182 (vq_ Mq r)), none, none] [] M5)) Qtq) Qtq) → Tr_ wd0 pg0 (dq + 14) 296 [.inr (.inr 6)] Mq (rv_ Kv) Qtq := by
    intro Kv Qtq hq
    refine preB _ _ fun V hV hW => j_239t hT hE (by decide) k0' h12 ho12 ?_
    rw [hQ4]
    exact hq5 _ _ (hq V hV hW)
  refine y_121 hE5 (by decide) (fun hb => by rw [p70]; intro c; have := (hS hb).2; rw [show skk_ 93 = 293 from rfl] at c; rw [c] at this; exact this rfl) (fun k5 h13 hE6 => ?_) (fun hb k5 h13 => ?_) (fun hb k5 => ?_)
  rotate_left
  · have hsp := SQ_bf hE5 hb (k := 2) (by decide) (QC_QA (AM_Q A5))
    exact hQ hb _ (XA_tr (XC_XA (AM_X A5)) (XF_XA fl_XF)) fun Kv Qtq hk9 => preE _ _ fun V hV hW => j_243r hT5 hE5 hb (by decide) k5 h13 (q_302s1 hV hW hvq hsp.1 (hk9 _ hsp))
  · have hsp := SQ_bf hE5 hb (k := 1) (by decide) (QC_QA (AM_Q A5))
    exact hQ hb _ (XA_tr (XC_XA (AM_X A5)) (XF_XA fl_XF)) fun Kv Qtq hk9 => preE _ _ fun V hV hW => j_243w hT5 hE5 hb (by decide) k5 (q_302s1 hV hW hvq hsp.1 (hk9 _ hsp))
  have k5' : Mx 70 a5 = 293 := by rw [← p70]; exact k5
  have A6 := AM_go A5 hE6
  have A7 := AM_o A6 (o2 := o) (by omega)
  have hSq3 : ((tS (Mx 70) 293 a5).bind fun a4 => (tS (Mx 70) 110 a4).bind fun a6 => (ES (Mx 70) 0 o a6).bind (tS (Mx 70) 259)) = (tS (Mx 70) 110 (a5 + 1)).bind fun a6 => (ES (Mx 70) 0 o a6).bind (tS (Mx 70) 259) := by rw [tS_e k5' h13, Option.bind_some]
  rw [hSq3] at hS
  have e6o : w32 (nX_ Mx5 1 6 - 1) = o := by
    rw [hE6.2.2.2.1, w32_id (by omega) (by omega)]; omega
  rw [e6o]
  have preG : ∀ (Kv : mm_ → Prop) (Qtq : qt_), (∀ V : vv_, Cl_ wd0 (Tr_ wd0 pg0 (dq + 12)) V (rv_ fun M1 => rv_ Kv [] M1) Qtq m_302 → Wk_ V → Tr_ wd0 pg0 (dq + 12) 244 [.inr (.inr 6), .inl 256] (up_ (nx_ Mq5) 6 15 o) (rv_ fun M5 => (if vq_ Mq r < 0 then V 149 [rr 6, ii (Mx 71 a), ii a, ii (vq_ Mq r), ii 1, ii (Mq4 6 104), ii 0, none, none] [] M5 else (0 ≤ vq_ Mq r ∧ vq_ Mq r < 48) ∧ V 149 [rr 6, ii (Mx 71 a), ii a, ii (vq_ Mq r), ii 1, ii (Mq4 6 104), ii (M5 182 (vq_ Mq r)), none, none] [] M5)) Qtq) → Tr_ wd0 pg0 (dq + 14) 296 [.inr (.inr 6)] Mq (rv_ Kv) Qtq := by
    intro Kv Qtq hq
    refine preE _ _ fun V hV hW => j_243t hT5 hE5 (by decide) k5 h13 (by omega) ?_
    rw [show o + 1 - 1 = o by omega]
    exact hq V hV hW
  generalize hX7 : up_ (nX_ Mx5) 1 6 o = Mx7 at *
  generalize hQ7 : up_ (nx_ Mq5) 6 15 o = Mq7 at *
  have hE7 := AM_E A7
  obtain ⟨c8, hc8⟩ : ∃ c8, c8 = if arr_ Mq r = 0 then (1 : Int) else Mx 131 (8 * Mq 6 61 + r) := ⟨_, rfl⟩
  have hp1 := PXL_1 (v := 45) hE7.2.2.2.2.2.2.1 h01 (PXL_0 (b := b) (M := Mx7))
  have hp := PXL_1 (v := c8) hE7.2.2.2.2.2.2.1 h01 hp1
  have A78 := AM_p A7 hp1 (by simp only [List.length_cons, List.length_nil]; omega)
  have A8 := AM_p A7 hp (by simp only [List.length_cons, List.length_nil]; omega)
  have a5g : a + 1 + 1 < a5 := hW5.1
  have q775 : Mq7 6 75 = Mq 6 75 := by rw [← hQ7, up_off (by decide), nx_6 (by decide), q5 75 (.inr rfl)]; exact q475
  have fin : V 158 [rr 1, ii a, ii r, ii (8 * Mq 6 61 + r), ii (arr_ Mq r), ii 1] [] (pX_ (pX_ Mx7 45) c8) := by
    refine l_144c (e := Mq4 6 104) hn ho A8 (by omega) (by omega) (by simp only [List.length_cons, List.length_nil]; omega) q775 hr (.inr rfl) (fun hb => (hS hb).2) ?_ preG hV hW (fun Mx' Mq' a' hA hs hq => hK Mx' Mq' a' hA (by omega) (by rw [hSq, hSq2, hSq3]; exact hs) hq) hQ
    intro hb h713
    have h513 : Mq5 6 13 = 0 := by rw [← hQ7, up_off (by decide), nx_6 (by decide)] at h713; exact h713
    obtain ⟨h413, t, ht, hx5⟩ := hW5.2.2.2.2.2.2.2.2.2 hb h513
    have h213 : Mq2 6 13 = 0 := by rw [← hQ4, nx_6 (by decide), up_off (by decide)] at h413; exact h413
    obtain ⟨hr0, har⟩ := hidx hb h213
    have h183 : 0 < Mq 183 (8 * Mq 6 61 + r) := by
      unfold arr_ at har; rw [if_neg hr0] at har
      split at har
      · omega
      · omega
    have ht1 : t = 1 := by have := ht (by decide); omega
    rw [ht1, e453, e461] at hx5
    have hp4 := hp.2.2.2.1 hb
    obtain ⟨s1, s2, _⟩ := hp4.2
    have e753 : Mx7 5 3 = Mx5 5 3 := by rw [← hX7, up_ne (by decide), nX_ne (by decide)]
    have e7142 : Mx7 142 = Mx5 142 := by rw [← hX7, up_ne (by decide), nX_ne (by decide)]
    have ee := EXP_le hx5
    have e131 : Mx 131 (8 * Mq 6 61 + r) = Mq 183 (8 * Mq 6 61 + r) := by
      rw [hV9.2.1]
      have := hV9.2.2.2.2.2.2.1 r (by omega) (by have := hV9.2.2.2.2.1.2.2; rw [hV9.2.1] at hr; omega)
      exact this.2.2.2.1
    refine ⟨hr0, .inr ⟨rfl, h183, Mx5 5 3, ?_, ?_, ?_, ?_⟩⟩
    · refine EXP_c hx5 (fun i x y => by rw [hp.2.2.2.2.1 i (by omega), e7142]) (fun i x y => ?_) ?_ ?_
      · rw [← hQ7, up_ne (by decide), up_ne (by decide), nx_ne (by decide), nx_ne (by decide)]; exact ⟨rfl, rfl⟩
      · unfold tb_
        rw [← hQ7, up_ne (by decide), up_ne (by decide), up_ne (by decide), up_ne (by decide), up_ne (by decide), nx_ne (by decide), nx_ne (by decide), nx_ne (by decide), nx_ne (by decide), nx_ne (by decide)]
        exact ⟨rfl, rfl, rfl, rfl, rfl⟩
      · rw [← hQ7, up_off (by decide), nx_6 (by decide)]; omega
    · rw [← e753]; simpa using s2
    · rw [← e753, ← e131]
      have e8 : c8 = Mx 131 (8 * Mq 6 61 + r) := by rw [hc8, if_neg (by omega)]
      rw [← e8]; exact s1
    · rw [hp4.1, e753]; rfl
  refine x_138 (AM_V A7).1 (ER_st hE7).1 (ER_st hE7).2 ?_
  have x131 : pX_ Mx7 45 131 = Mx 131 := (AM_X A78).1 131 (by decide)
  by_cases c : arr_ Mq r = 0
  · rw [if_pos c]
    rw [if_pos c] at hc8
    refine x_138 (AM_V A78).1 (ER_st (AM_E A78)).1 (ER_st (AM_E A78)).2 ?_
    rw [hc8] at fin; exact fin
  · rw [if_neg c]
    rw [if_neg c] at hc8
    have hr0 : r ≠ -1 := fun h => c (by unfold arr_; rw [if_pos h])
    refine ⟨(AM_V A78).1, by omega, x_138 (AM_V A78).1 (ER_st (AM_E A78)).1 (ER_st (AM_E A78)).2 ?_⟩
    rw [x131, ← hc8]; exact fin
/-- gets: X and Q in step -/
theorem y_143g [Inhabited gh_] (hn : n ≤ 12) (ho : o = 12 - (n : Int)) (h : TA b F Mx Mq a o) (hk : Mx 70 a = 100) (hS : b = 1 → acS (Mx 70) dec o a ≠ none)
    (hK : ∀ Mx' Mq' a', AR b F Mx Mq Mx' Mq' a a' o 1 0 → acS (Mx 70) dec o a = some a' → (∀ (Kv : mm_ → Prop) (Qtq : qt_), Kv Mq' → Tr_ wd0 pg0 (dq + 14) 296 [.inr (.inr 6)] Mq (rv_ Kv) Qtq) → K 0 Mx')
    (hQ : b = 0 → ∀ Mx', XA Mx Mx' → (∀ (Kv : mm_ → Prop) (Qtq : qt_), (∀ M', SQ Mx' Mq M' → Kv M') → Tr_ wd0 pg0 (dq + 14) 296 [.inr (.inr 6)] Mq (rv_ Kv) Qtq) → Qt 8 Mx') :
    Tr_ wd0 pg0 (9 * n + 16) 143 [.inr (.inr 1)] Mx (ri_ K) Qt := by
  have hsyn : acS (Mx 70) dec o a = (gtS (Mx 70) o a).bind (tS (Mx 70) 259) := by unfold acS; rw [if_pos hk]
  rw [hsyn] at hS
  have A0 := AM_rf h
  have hE := AM_E A0
  have hT := AM_T A0
  have h01 := hE.2.2.2.2.2.2.2.2.1
  have hga := hE.1
  have hae := ER_a hE
  have hp0 : Mq 150 (Mq 6 12) = Mx 71 a := (ER_k hT hE).2.1
  refine t_143 fun V hV hW => b_143_0 (Tr_mono _) hV hW Mx ?_
  refine y_103 hE (fun _ => ?_) (fun e => absurd hk e)
  rw [if_neg (by decide)]
  refine t_144 fun V hV hW => b_144_0 (Tr_mono _) hV hW Mx ?_
  refine y_107 hE (fun hb => by intro c; have := hS hb; unfold gtS at this; rw [c] at this; exact this rfl) (fun _ h12 hE1 => ?_) (fun hb _ h12 => ?_) (fun hb e => absurd hk e)
  rotate_left
  · refine hQ hb _ (XF_XA fl_XF) fun Kv Qtq hk9 => ?_
    have hsp := SQ_bf hE hb (k := 2) (by decide) QA_rf
    refine t_296 fun V hV hW => b_296_0 (Tr_mono _) hV hW Mq ⟨(ER_k hT hE).2.2.1, j_228f hT hE (by decide) (by omega) ?_⟩
    rw [if_pos rfl]
    refine j_228f hT hE (by decide) (by omega) ?_
    rw [if_pos rfl]
    refine j_228f hT hE (by decide) (by omega) ?_
    rw [if_pos rfl]
    refine j_228f hT hE (by decide) (by omega) ?_
    rw [if_pos rfl, hp0]
    refine t_302 fun V hV hW => b_302_0 (Tr_mono _) hV hW (Mx 71 a) Mq ?_
    refine j_233r hT hE hb hk h12 ?_
    refine q_227s hsp.1 ?_
    rw [if_neg (by decide)]
    exact rv_i (rv_i (hk9 _ hsp))
  have A1 := AM_go A0 hE1
  have hk1 : tS (Mx 70) 100 a = some (a + 1) := tS_e hk h12
  obtain ⟨r, hr⟩ : ∃ r, r = vrr Mq (Mq 151 a) := ⟨_, rfl⟩
  obtain ⟨idx, hi⟩ : ∃ idx : Int, (idx = 1 ∧ Mx 70 (a + 1) = 291) ∨ (idx = 0 ∧ Mx 70 (a + 1) ≠ 291) := by
    by_cases c : Mx 70 (a + 1) = 291
    · exact ⟨1, .inl ⟨rfl, c⟩⟩
    · exact ⟨0, .inr ⟨rfl, c⟩⟩
  have hrr := vrr_r (Mx := Mx) (Mq := Mq) h.2.1 (v := Mq 151 a)
  rw [← hr] at hrr
  have hk4 : k4g_ r = 0 ∨ (3 ≤ k4g_ r ∧ k4g_ r ≤ 6) := by unfold k4g_; split <;> omega
  have hk5 : k5_g Mq r idx = 0 ∨ (3 ≤ k5_g Mq r idx ∧ k5_g Mq r idx ≤ 6) := by
    unfold k5_g; split
    · omega
    · split <;> omega
  obtain ⟨A2, hz2⟩ := AM_m (k := k4g_ r) (tk := a) A1 hk4 hga (by omega)
  obtain ⟨A3, hz3⟩ := AM_m (k := k5_g Mq r idx) (tk := a) A2 hk5 hga (by omega)
  have clean : b = 1 → Qn_ (Qn_ (nx_ Mq) b (k4g_ r) (Mx 71 a)) b (k5_g Mq r idx) (Mx 71 a) 6 13 = 0 → r ≠ -1 ∧ arr_ Mq r = idx := by
    intro hb h0
    have e5 := hz3 hb h0
    have h02 : Qn_ (nx_ Mq) b (k4g_ r) (Mx 71 a) 6 13 = 0 := by unfold Qn_ at h0 ⊢; rw [e5, if_pos (.inr rfl)] at h0; exact h0
    have e4 := hz2 hb h02
    have r0 : r ≠ -1 := by intro c; unfold k4g_ at e4; rw [if_pos c] at e4; omega
    refine ⟨r0, ?_⟩
    unfold k5_g at e5
    rw [if_neg r0] at e5
    by_cases c : arr_ Mq r = idx
    · exact c
    · rw [if_neg c] at e5; omega
  refine l_144a (D := 9 * n + 10) (idx := idx) (r := r) h hk h12 hE1 hV hW hi hr ?_
  have preA : ∀ (Kv : mm_ → Prop) (Qtq : qt_), (∀ V : vv_, Cl_ wd0 (Tr_ wd0 pg0 (dq + 12)) V (rv_ fun M1 => rv_ Kv [] M1) Qtq m_302 → Wk_ V → V 99 [rr 6, ii (Mx 71 a), ii a, ii (vq_ Mq r), ii idx, none, none, none, none] [] (Qn_ (Qn_ (nx_ Mq) b (k4g_ r) (Mx 71 a)) b (k5_g Mq r idx) (Mx 71 a))) → Tr_ wd0 pg0 (dq + 14) 296 [.inr (.inr 6)] Mq (rv_ Kv) Qtq := fun Kv Qtq hq => q_302a (d := dq + 8) h hk h12 hE1 hi hr hq
  have q75 : Qn_ (Qn_ (nx_ Mq) b (k4g_ r) (Mx 71 a)) b (k5_g Mq r idx) (Mx 71 a) 6 75 = Mq 6 75 := by rw [Qn_6 (by decide) (by decide), Qn_6 (by decide) (by decide), nx_6 (by decide)]
  have q104 : Qn_ (Qn_ (nx_ Mq) b (k4g_ r) (Mx 71 a)) b (k5_g Mq r idx) (Mx 71 a) 6 104 = Mq 6 104 := by rw [Qn_6 (by decide) (by decide), Qn_6 (by decide) (by decide), nx_6 (by decide)]
  have e53 : Xn_ (Xn_ (nX_ Mx) b (k4g_ r) a) b (k5_g Mq r idx) a 5 3 = Mx 5 3 := by rw [Xn_r (by decide), Xn_r (by decide), nX_ne (by decide)]
  generalize hX3 : Xn_ (Xn_ (nX_ Mx) b (k4g_ r) a) b (k5_g Mq r idx) a = Mx3 at *
  generalize hQ3 : Qn_ (Qn_ (nx_ Mq) b (k4g_ r) (Mx 71 a)) b (k5_g Mq r idx) (Mx 71 a) = Mq3 at *
  rcases hi with ⟨i1, i2⟩ | ⟨i1, i2⟩
  · subst i1
    have hsy : (gtS (Mx 70) o a).bind (tS (Mx 70) 259) = if o = 12 then none else ((gS (a + 1)).bind fun a2 => (ES (Mx 70) 0 (o + 1) a2).bind fun a3 => (tS (Mx 70) 293 a3).bind fun a4 => (tS (Mx 70) 110 a4).bind fun a6 => (ES (Mx 70) 0 o a6).bind (tS (Mx 70) 259)) := by
      unfold gtS
      rw [hk1, Option.bind_some, if_pos i2]
      by_cases c : o = 12
      · rw [if_pos c, if_pos c]; rfl
      · rw [if_neg c, if_neg c]
        simp only [Option.bind_assoc]
    rw [hsy] at hS
    refine l_144b hn ho A3 (by omega) (by omega) q75 e53 q104 hrr i2 (fun hb => ?_) (fun hb h0 => clean hb h0) preA hV hW (fun Mx' Mq' a' hA h12' hs hq => ⟨.inl rfl, ri_i (hK Mx' Mq' a' hA (by rw [hsyn, hsy, if_neg h12']; exact hs) hq)⟩) hQ
    have := hS hb
    by_cases c : o = 12
    · rw [if_pos c] at this; exact absurd rfl this
    · rw [if_neg c] at this; exact ⟨c, this⟩
  · subst i1
    have hsy : (gtS (Mx 70) o a).bind (tS (Mx 70) 259) = ((tS (Mx 70) 110 (a + 1)).bind fun a6 => (ES (Mx 70) 0 o a6).bind (tS (Mx 70) 259)) := by
      unfold gtS
      rw [hk1, Option.bind_some, if_neg i2, Option.bind_some]
      simp only [Option.bind_assoc]
    rw [hsy] at hS
    refine b_144_96 (Tr_mono _) hV hW a r (8 * Mq 6 61 + r) (arr_ Mq r) 0 Mx3 ?_
    rw [if_pos rfl]
    refine l_144c (e := -1) hn ho A3 (by omega) (by omega) (by omega) q75 hrr (.inl rfl) hS ?_ (fun Kv Qtq hq => preA _ _ fun V hV hW => b_302_99 (Tr_mono _) hV hW _ _ _ _ _ (by rw [if_pos rfl]; exact hq V hV hW)) hV hW (fun Mx' Mq' a' hA hs hq => ⟨.inl rfl, ri_i (hK Mx' Mq' a' hA (by rw [hsyn, hsy]; exact hs) hq)⟩) hQ
    intro hb h0
    obtain ⟨r0, har⟩ := clean hb h0
    have hV9 := h.2.1
    have e131 := hV9.2.2.2.2.2.2.1 r (by omega) (by have := hV9.2.2.2.2.1.2.2; rw [hV9.2.1] at hrr; omega)
    rw [← hV9.2.1] at e131
    have e2 := e131.2.2.2.1
    have e3 := e131.2.2.2.2.2.2.2
    refine ⟨r0, .inl ⟨rfl, rfl, ?_, e53⟩⟩
    unfold arr_ at har
    rw [if_neg r0] at har
    split at har
    · omega
    · omega
end AG
end T108_ag
section T109_tb
/-! tables of names: states and labels of the type, signals, routes, types -/
def stt (Mq : mm_) (v : Int) : Int := fi_ (fun i => Mq 179 (12 * Mq 6 61 + i)) v (Mq 174 (Mq 6 61)).toNat 0
def stt9 (Mx Mq : mm_) : Prop := (0 ≤ Mx 123 (Mx 1 18) ∧ Mx 123 (Mx 1 18) ≤ 12 ∧ Mq 174 (Mx 1 18) = Mx 123 (Mx 1 18)) ∧ ∀ k : Int, 0 ≤ k → k < Mx 123 (Mx 1 18) → nm9_ Mx (Mx 59 (12 * Mx 1 18 + k)) ∧ Mq 179 (12 * Mx 1 18 + k) = Mq 151 (Mx 59 (12 * Mx 1 18 + k))
def lbl (Mq : mm_) (v : Int) : Int := fi_ (fun i => Mq 180 (10 * Mq 6 61 + i)) v (Mq 175 (Mq 6 61)).toNat 0
def lbl9 (Mx Mq : mm_) : Prop := (0 ≤ Mx 128 (Mx 1 18) ∧ Mx 128 (Mx 1 18) ≤ 10 ∧ Mq 175 (Mx 1 18) = Mx 128 (Mx 1 18)) ∧ ∀ k : Int, 0 ≤ k → k < Mx 128 (Mx 1 18) → nm9_ Mx (Mx 62 (10 * Mx 1 18 + k)) ∧ Mq 180 (10 * Mx 1 18 + k) = Mq 151 (Mx 62 (10 * Mx 1 18 + k))
def sgl (Mq : mm_) (v : Int) : Int := fi_ (fun i => Mq 152 (i)) v (Mq 6 17).toNat 0
def sgl9 (Mx Mq : mm_) : Prop := (0 ≤ Mx 5 0 ∧ Mx 5 0 ≤ 20 ∧ Mq 6 17 = Mx 5 0) ∧ ∀ k : Int, 0 ≤ k → k < Mx 5 0 → nm9_ Mx (Mx 56 (k)) ∧ Mq 152 (k) = Mq 151 (Mx 56 (k))
def rtl (Mq : mm_) (v : Int) : Int := fi_ (fun i => Mq 153 (i)) v (Mq 6 18).toNat 0
def rtl9 (Mx Mq : mm_) : Prop := (0 ≤ Mx 5 1 ∧ Mx 5 1 ≤ 10 ∧ Mq 6 18 = Mx 5 1) ∧ ∀ k : Int, 0 ≤ k → k < Mx 5 1 → nm9_ Mx (Mx 57 (k)) ∧ Mq 153 (k) = Mq 151 (Mx 57 (k))
def tpl (Mq : mm_) (v : Int) : Int := fi_ (fun i => Mq 154 (i)) v (Mq 6 19).toNat 0
def tpl9 (Mx Mq : mm_) : Prop := (0 ≤ Mx 5 2 ∧ Mx 5 2 ≤ 6 ∧ Mq 6 19 = Mx 5 2) ∧ ∀ k : Int, 0 ≤ k → k < Mx 5 2 → nm9_ Mx (Mx 58 (k)) ∧ Mq 154 (k) = Mq 151 (Mx 58 (k))
section TN
variable {d : Nat} {Mx Mq M : mm_} {K : Int → mm_ → Prop} {Kv : mm_ → Prop} {Qt : qt_} {t : Int}
theorem stt_r [Inhabited gh_] (hV : VT Mx Mq) (h9 : stt9 Mx Mq) {v : Int} : stt Mq v = -1 ∨ (0 ≤ stt Mq v ∧ stt Mq v < Mq 174 (Mq 6 61)) := by
  have e : Mq 174 (Mq 6 61) = Mx 123 (Mx 1 18) := by rw [hV.2.1]; exact h9.1.2.2
  have h0 := h9.1.1
  rcases fi_r (fun i => Mq 179 (12 * Mq 6 61 + i)) v (Mq 174 (Mq 6 61)).toNat 0 with h | h
  · exact .inl h
  · exact .inr ⟨h.1, by have := h.2.1; unfold stt; omega⟩
theorem q_267R [Inhabited gh_] (hV : VT Mx Mq) (h9 : stt9 Mx Mq) {v : Int} (h : K (stt Mq v) Mq) : Tr_ wd0 pg0 (d + 1) 267 [.inr (.inr 6), .inl (Mq 6 61), .inr (.inl v)] Mq (ri_ K) Qt := by
  obtain ⟨v1, v2, v3, v4, v5, v6, v7, v8⟩ := hV
  obtain ⟨u1, u2⟩ := h9
  obtain ⟨m, hm⟩ := Int.eq_ofNat_of_zero_le u1.1
  have hm2 : (Mq 174 (Mq 6 61)).toNat = m := by rw [v2, u1.2.2, hm]; rfl
  refine q_267 (m := m) (by rw [v2]; exact v3) (by rw [v2]; exact v4) (by rw [v2, u1.2.2, hm]) (by have := u1.2.1; omega) ?_
  unfold stt at h; rw [hm2] at h; exact h
theorem x_142R [Inhabited gh_] (hT : Tks Mx Mq) (hV : VT Mx Mq) (h9 : stt9 Mx Mq) (ht : nm9_ Mx t) (h : K (stt Mq (Mq 151 t)) Mx) : Tr_ wd0 pg0 (d + 3) 142 [.inr (.inr 1), .inl t] Mx (ri_ K) Qt := by
  obtain ⟨v1, v2, v3, v4, v5, v6, v7, v8⟩ := hV
  obtain ⟨u1, u2⟩ := h9
  obtain ⟨m, hm⟩ := Int.eq_ofNat_of_zero_le u1.1
  have hm2 : (Mq 174 (Mq 6 61)).toNat = m := by rw [v2, u1.2.2, hm]; rfl
  refine x_142 (η := Mq 151) (m := m) v1 v3 v4 hm (by have := u1.2.1; omega) (tk9_of hT ht.1) (fun k h1 h2 => ?_) ?_
  · have := u2 k h1 (by rw [hm]; exact h2)
    exact ⟨tk9_of hT this.1.1, lk_of hT this.1 ht⟩
  · unfold stt at h
    rw [hm2, v2] at h
    rw [fi_cg (g' := fun i => Mq 179 (12 * Mx 1 18 + i)) (v' := Mq 151 t) m 0 (fun i h1 h2 => ?_)]
    · exact h
    · rw [(u2 i h1 (by rw [hm]; omega)).2]
theorem lbl_r [Inhabited gh_] (hV : VT Mx Mq) (h9 : lbl9 Mx Mq) {v : Int} : lbl Mq v = -1 ∨ (0 ≤ lbl Mq v ∧ lbl Mq v < Mq 175 (Mq 6 61)) := by
  have e : Mq 175 (Mq 6 61) = Mx 128 (Mx 1 18) := by rw [hV.2.1]; exact h9.1.2.2
  have h0 := h9.1.1
  rcases fi_r (fun i => Mq 180 (10 * Mq 6 61 + i)) v (Mq 175 (Mq 6 61)).toNat 0 with h | h
  · exact .inl h
  · exact .inr ⟨h.1, by have := h.2.1; unfold lbl; omega⟩
theorem q_268R [Inhabited gh_] (hV : VT Mx Mq) (h9 : lbl9 Mx Mq) {v : Int} (h : K (lbl Mq v) Mq) : Tr_ wd0 pg0 (d + 1) 268 [.inr (.inr 6), .inl (Mq 6 61), .inr (.inl v)] Mq (ri_ K) Qt := by
  obtain ⟨v1, v2, v3, v4, v5, v6, v7, v8⟩ := hV
  obtain ⟨u1, u2⟩ := h9
  obtain ⟨m, hm⟩ := Int.eq_ofNat_of_zero_le u1.1
  have hm2 : (Mq 175 (Mq 6 61)).toNat = m := by rw [v2, u1.2.2, hm]; rfl
  refine q_268 (m := m) (by rw [v2]; exact v3) (by rw [v2]; exact v4) (by rw [v2, u1.2.2, hm]) (by have := u1.2.1; omega) ?_
  unfold lbl at h; rw [hm2] at h; exact h
theorem x_113R [Inhabited gh_] (hT : Tks Mx Mq) (hV : VT Mx Mq) (h9 : lbl9 Mx Mq) (ht : nm9_ Mx t) (h : K (lbl Mq (Mq 151 t)) Mx) : Tr_ wd0 pg0 (d + 2) 113 [.inr (.inr 1), .inr (.inr 62), .inl (w32 (10 * Mx 1 18)), .inl (Mx 128 (Mx 1 18)), .inl t] Mx (ri_ K) Qt := by
  obtain ⟨v1, v2, v3, v4, v5, v6, v7, v8⟩ := hV
  obtain ⟨u1, u2⟩ := h9
  obtain ⟨m, hm⟩ := Int.eq_ofNat_of_zero_le u1.1
  have hm2 : (Mq 175 (Mq 6 61)).toNat = m := by rw [v2, u1.2.2, hm]; rfl
  rw [hm, w32_id (by omega) (by omega)]
  refine x_113g (η := Mq 151) (m := m) (by omega) (by have := u1.2.1; omega) (tk9_of hT ht.1) (fun k h1 h2 => ?_) ?_
  · have := u2 (k - 10 * Mx 1 18) (by omega) (by rw [hm]; omega)
    rw [show 10 * Mx 1 18 + (k - 10 * Mx 1 18) = k by omega] at this
    exact ⟨tk9_of hT this.1.1, lk_of hT this.1 ht⟩
  · unfold lbl at h
    rw [hm2, v2] at h
    rw [fi_cg (g' := fun i => Mq 180 (10 * Mx 1 18 + i)) (v' := Mq 151 t) m 0 (fun i h1 h2 => ?_)]
    · exact h
    · rw [(u2 i h1 (by rw [hm]; omega)).2]
theorem sgl_r [Inhabited gh_] (hV : VT Mx Mq) (h9 : sgl9 Mx Mq) {v : Int} : sgl Mq v = -1 ∨ (0 ≤ sgl Mq v ∧ sgl Mq v < Mq 6 17) := by
  have e : Mq 6 17 = Mx 5 0 := h9.1.2.2
  have h0 := h9.1.1
  rcases fi_r (fun i => Mq 152 (i)) v (Mq 6 17).toNat 0 with h | h
  · exact .inl h
  · exact .inr ⟨h.1, by have := h.2.1; unfold sgl; omega⟩
theorem q_251R [Inhabited gh_] (hV : VT Mx Mq) (h9 : sgl9 Mx Mq) {v : Int} (h : K (sgl Mq v) Mq) : Tr_ wd0 pg0 (d + 1) 251 [.inr (.inr 6), .inr (.inl v)] Mq (ri_ K) Qt := by
  obtain ⟨v1, v2, v3, v4, v5, v6, v7, v8⟩ := hV
  obtain ⟨u1, u2⟩ := h9
  obtain ⟨m, hm⟩ := Int.eq_ofNat_of_zero_le u1.1
  have hm2 : (Mq 6 17).toNat = m := by rw [u1.2.2, hm]; rfl
  refine q_251 (m := m) (by rw [u1.2.2, hm]) (by have := u1.2.1; omega) ?_
  unfold sgl at h; rw [hm2] at h; exact h
theorem x_112R [Inhabited gh_] (hT : Tks Mx Mq) (hV : VT Mx Mq) (h9 : sgl9 Mx Mq) (ht : nm9_ Mx t) (h : K (sgl Mq (Mq 151 t)) Mx) : Tr_ wd0 pg0 (d + 3) 112 [.inr (.inr 1), .inl t] Mx (ri_ K) Qt := by
  obtain ⟨v1, v2, v3, v4, v5, v6, v7, v8⟩ := hV
  obtain ⟨u1, u2⟩ := h9
  obtain ⟨m, hm⟩ := Int.eq_ofNat_of_zero_le u1.1
  have hm2 : (Mq 6 17).toNat = m := by rw [u1.2.2, hm]; rfl
  refine x_112 (η := Mq 151) (m := m) v1 hm (by have := u1.2.1; omega) (tk9_of hT ht.1) (fun k h1 h2 => ?_) ?_
  · have := u2 k h1 (by rw [hm]; exact h2)
    exact ⟨tk9_of hT this.1.1, lk_of hT this.1 ht⟩
  · unfold sgl at h
    rw [hm2] at h
    rw [fi_cg (g' := fun i => Mq 152 (i)) (v' := Mq 151 t) m 0 (fun i h1 h2 => ?_)]
    · exact h
    · rw [(u2 i h1 (by rw [hm]; omega)).2]
theorem rtl_r [Inhabited gh_] (hV : VT Mx Mq) (h9 : rtl9 Mx Mq) {v : Int} : rtl Mq v = -1 ∨ (0 ≤ rtl Mq v ∧ rtl Mq v < Mq 6 18) := by
  have e : Mq 6 18 = Mx 5 1 := h9.1.2.2
  have h0 := h9.1.1
  rcases fi_r (fun i => Mq 153 (i)) v (Mq 6 18).toNat 0 with h | h
  · exact .inl h
  · exact .inr ⟨h.1, by have := h.2.1; unfold rtl; omega⟩
theorem q_300R [Inhabited gh_] (hV : VT Mx Mq) (h9 : rtl9 Mx Mq) {v : Int} (h : K (rtl Mq v) Mq) : Tr_ wd0 pg0 (d + 1) 300 [.inr (.inr 6), .inr (.inl v)] Mq (ri_ K) Qt := by
  obtain ⟨v1, v2, v3, v4, v5, v6, v7, v8⟩ := hV
  obtain ⟨u1, u2⟩ := h9
  obtain ⟨m, hm⟩ := Int.eq_ofNat_of_zero_le u1.1
  have hm2 : (Mq 6 18).toNat = m := by rw [u1.2.2, hm]; rfl
  refine q_300 (m := m) (by rw [u1.2.2, hm]) (by have := u1.2.1; omega) ?_
  unfold rtl at h; rw [hm2] at h; exact h
theorem x_114R [Inhabited gh_] (hT : Tks Mx Mq) (hV : VT Mx Mq) (h9 : rtl9 Mx Mq) (ht : nm9_ Mx t) (h : K (rtl Mq (Mq 151 t)) Mx) : Tr_ wd0 pg0 (d + 3) 114 [.inr (.inr 1), .inl t] Mx (ri_ K) Qt := by
  obtain ⟨v1, v2, v3, v4, v5, v6, v7, v8⟩ := hV
  obtain ⟨u1, u2⟩ := h9
  obtain ⟨m, hm⟩ := Int.eq_ofNat_of_zero_le u1.1
  have hm2 : (Mq 6 18).toNat = m := by rw [u1.2.2, hm]; rfl
  refine x_114 (η := Mq 151) (m := m) v1 hm (by have := u1.2.1; omega) (tk9_of hT ht.1) (fun k h1 h2 => ?_) ?_
  · have := u2 k h1 (by rw [hm]; exact h2)
    exact ⟨tk9_of hT this.1.1, lk_of hT this.1 ht⟩
  · unfold rtl at h
    rw [hm2] at h
    rw [fi_cg (g' := fun i => Mq 153 (i)) (v' := Mq 151 t) m 0 (fun i h1 h2 => ?_)]
    · exact h
    · rw [(u2 i h1 (by rw [hm]; omega)).2]
theorem tpl_r [Inhabited gh_] (hV : VT Mx Mq) (h9 : tpl9 Mx Mq) {v : Int} : tpl Mq v = -1 ∨ (0 ≤ tpl Mq v ∧ tpl Mq v < Mq 6 19) := by
  have e : Mq 6 19 = Mx 5 2 := h9.1.2.2
  have h0 := h9.1.1
  rcases fi_r (fun i => Mq 154 (i)) v (Mq 6 19).toNat 0 with h | h
  · exact .inl h
  · exact .inr ⟨h.1, by have := h.2.1; unfold tpl; omega⟩
theorem q_247R [Inhabited gh_] (hV : VT Mx Mq) (h9 : tpl9 Mx Mq) {v : Int} (h : K (tpl Mq v) Mq) : Tr_ wd0 pg0 (d + 1) 247 [.inr (.inr 6), .inr (.inl v)] Mq (ri_ K) Qt := by
  obtain ⟨v1, v2, v3, v4, v5, v6, v7, v8⟩ := hV
  obtain ⟨u1, u2⟩ := h9
  obtain ⟨m, hm⟩ := Int.eq_ofNat_of_zero_le u1.1
  have hm2 : (Mq 6 19).toNat = m := by rw [u1.2.2, hm]; rfl
  refine q_247 (m := m) (by rw [u1.2.2, hm]) (by have := u1.2.1; omega) ?_
  unfold tpl at h; rw [hm2] at h; exact h
theorem x_115R [Inhabited gh_] (hT : Tks Mx Mq) (hV : VT Mx Mq) (h9 : tpl9 Mx Mq) (ht : nm9_ Mx t) (h : K (tpl Mq (Mq 151 t)) Mx) : Tr_ wd0 pg0 (d + 3) 115 [.inr (.inr 1), .inl t] Mx (ri_ K) Qt := by
  obtain ⟨v1, v2, v3, v4, v5, v6, v7, v8⟩ := hV
  obtain ⟨u1, u2⟩ := h9
  obtain ⟨m, hm⟩ := Int.eq_ofNat_of_zero_le u1.1
  have hm2 : (Mq 6 19).toNat = m := by rw [u1.2.2, hm]; rfl
  refine x_115 (η := Mq 151) (m := m) v1 hm (by have := u1.2.1; omega) (tk9_of hT ht.1) (fun k h1 h2 => ?_) ?_
  · have := u2 k h1 (by rw [hm]; exact h2)
    exact ⟨tk9_of hT this.1.1, lk_of hT this.1 ht⟩
  · unfold tpl at h
    rw [hm2] at h
    rw [fi_cg (g' := fun i => Mq 154 (i)) (v' := Mq 151 t) m 0 (fun i h1 h2 => ?_)]
    · exact h
    · rw [(u2 i h1 (by rw [hm]; omega)).2]
end TN
end T109_tb
section T110_la
/-! the last of a part: stop and join -/
section LA
variable {d dq n : Nat} {b F : Int} {Mx Mq MX MQ Mx1 Mq1 Mx2 Mq2 M : mm_} {a a1 o o1 s z me : Int} {K : Int → mm_ → Prop} {Kv G : mm_ → Prop} {Qt : qt_} {V : vv_}
theorem up_cg [Inhabited gh_] {M M1 : mm_} {r r' : Nat} {i v : Int} (h : M1 r = M r) : up_ M1 r' i v r = up_ M r' i v r := by
  by_cases c : r = r'
  · subst c
    funext j
    by_cases cj : j = i
    · rw [cj, up_at, up_at]
    · rw [up_off cj, up_off cj, h]
  · rw [up_ne c, up_ne c, h]
theorem ER_X [Inhabited gh_] (h : ER b F Mx Mq a o) (h70 : Mx1 70 = Mx 70) (h1 : Mx1 1 = Mx 1) (h5 : Mx1 5 = Mx 5) : ER b F Mx1 Mq a o := by
  unfold ER NR gd_ at *
  rw [h70, h1, h5]; exact h
/-- masks that change on both sides: the act is seen from there -/
theorem AM_base [Inhabited gh_] {rx rq : Nat} {i v j w : Int} (hx : rx = 63 ∨ rx = 65) (hq : rq = 213 ∨ rq = 214) (h : AM b F Mx Mq Mx1 Mq1 a a1 o1 s z) : AM b F (up_ Mx rx i v) (up_ Mq rq j w) (up_ Mx1 rx i v) (up_ Mq1 rq j w) a a1 o1 s z := by
  obtain ⟨h1, h2, h3, h4, h5, h6, h7, h8, h9, h10, h11, h12, h13⟩ := h
  have X : ∀ (M : mm_) (r : Nat), r ≠ 63 → r ≠ 65 → up_ M rx i v r = M r := fun M r a b => up_ne (by omega)
  have Q : ∀ (M : mm_) (r : Nat), r ≠ 213 → r ≠ 214 → up_ M rq j w r = M r := fun M r a b => up_ne (by omega)
  have xa : XA Mx (up_ Mx rx i v) := XA_ur (by rcases hx with e | e <;> rw [e] <;> decide) (by omega) (by omega)
  have qa : QA Mq (up_ Mq rq j w) := QA_ur (by rcases hq with e | e <;> rw [e] <;> decide) (by omega)
  obtain ⟨t1, t2, t3, t4, t5, t6⟩ := h1
  refine ⟨⟨Tks_a xa qa t1, VT_a xa qa t2, ?_, by rw [Q _ 6 (by decide) (by decide)]; exact t4, by rw [Q _ 6 (by decide) (by decide)]; exact t5, by rw [X _ 5 (by decide) (by decide)]; exact t6⟩, h2, ⟨fun r hr => up_cg (h3.1 r hr), fun k hk => by rw [X _ 1 (by decide) (by decide), X _ 1 (by decide) (by decide)]; exact h3.2.1 k hk, fun k hk => by rw [X _ 5 (by decide) (by decide), X _ 5 (by decide) (by decide)]; exact h3.2.2 k hk⟩, ⟨fun r hr => up_cg (h4.1 r hr), fun k hk => by rw [Q _ 6 (by decide) (by decide), Q _ 6 (by decide) (by decide)]; exact h4.2 k hk⟩, ?_, by rw [Q _ 6 (by decide) (by decide), Q _ 6 (by decide) (by decide)]; exact h6, fun k x y => ?_, by rw [X _ 5 (by decide) (by decide), X _ 5 (by decide) (by decide)]; exact h8, fun k x y => ?_, fun r k hr x y => ?_, fun k x y => ?_, by rw [X _ 1 (by decide) (by decide), X _ 1 (by decide) (by decide)]; exact h12, by rw [Q _ 6 (by decide) (by decide), Q _ 6 (by decide) (by decide)]; exact h13⟩
  · have e1 : up_ Mx rx i v 1 6 = Mx 1 6 := by rw [X _ 1 (by decide) (by decide)]
    rw [e1]
    exact ER_Q (ER_X t3 (X _ _ (by decide) (by decide)) (X _ _ (by decide) (by decide)) (X _ _ (by decide) (by decide))) (by rw [Q _ 6 (by decide) (by decide)]) (by rw [Q _ 6 (by decide) (by decide)]) (by rw [Q _ 6 (by decide) (by decide)]) (by rw [Q _ 6 (by decide) (by decide)]) (by rw [Q _ 6 (by decide) (by decide)])
  · exact ER_Q (ER_X h5 (X _ _ (by decide) (by decide)) (X _ _ (by decide) (by decide)) (X _ _ (by decide) (by decide))) (by rw [Q _ 6 (by decide) (by decide)]) (by rw [Q _ 6 (by decide) (by decide)]) (by rw [Q _ 6 (by decide) (by decide)]) (by rw [Q _ 6 (by decide) (by decide)]) (by rw [Q _ 6 (by decide) (by decide)])
  · rw [Q _ 6 (by decide) (by decide)] at y
    rw [Q _ 227 (by decide) (by decide), Q _ 228 (by decide) (by decide), Q _ 227 (by decide) (by decide), Q _ 228 (by decide) (by decide)]; exact h7 k x y
  · rw [X _ 5 (by decide) (by decide)] at y
    rw [X _ 142 (by decide) (by decide), X _ 142 (by decide) (by decide)]; exact h9 k x y
  · rw [Q _ 6 (by decide) (by decide)] at y
    have n1 : r ≠ 213 := fun e => absurd hr (by rw [e]; decide)
    have n2 : r ≠ 214 := fun e => absurd hr (by rw [e]; decide)
    rw [Q _ r n1 n2, Q _ r n1 n2]; exact h10 r k hr x y
  · rw [Q _ 6 (by decide) (by decide)] at y
    rw [Q _ 209 (by decide) (by decide), Q _ 209 (by decide) (by decide)]; exact h11 k x y
/-- masks of the trans at hand -/
def LM (b : Int) (Mx Mq : mm_) (me : Int) (MX MQ : mm_) : Prop := (MX = Mx ∧ MQ = Mq) ∨ (b = 1 ∧ ∃ k : Int, (0 ≤ k ∧ k < 12) ∧ ((k < Mx 123 (Mx 1 18) ∧ MX = up_ Mx 63 (Mx 1 29 - 1) (or_ (Mx 63 (Mx 1 29 - 1)) (sl_ 1 k)) ∧ MQ = up_ Mq 213 me (or_ (Mq 213 me) (sl_ 1 k))) ∨ (k < 10 ∧ MX = up_ Mx 65 (Mx 1 29 - 1) (or_ (Mx 65 (Mx 1 29 - 1)) (sl_ 1 k)) ∧ MQ = up_ Mq 214 me (or_ (Mq 214 me) (sl_ 1 k)))))
theorem LM_A [Inhabited gh_] (h : LM b Mx Mq me MX MQ) : XA Mx MX ∧ QA Mq MQ := by
  rcases h with ⟨h1, h2⟩ | ⟨_, k, _, ⟨_, h1, h2⟩ | ⟨_, h1, h2⟩⟩
  · rw [h1, h2]; exact ⟨XA_rf, QA_rf⟩
  · rw [h1, h2]; exact ⟨XA_ur (by decide) (by decide) (by decide), QA_ur (by decide) (by decide)⟩
  · rw [h1, h2]; exact ⟨XA_ur (by decide) (by decide) (by decide), QA_ur (by decide) (by decide)⟩
theorem SQ_q [Inhabited gh_] (hq : QA Mq MQ) {Mx' M' : mm_} (h : SQ Mx' MQ M') : SQ Mx' Mq M' := ⟨h.1, h.2.1, h.2.2.1, h.2.2.2.1, QA_tr hq h.2.2.2.2⟩
theorem SQ_c [Inhabited gh_] {Mx' Ms Ms' : mm_} (h : SQ Mx' M Ms) (hq : QA Ms Ms') (e : ∀ i : Int, i = 12 ∨ i = 13 ∨ i = 14 ∨ i = 16 → Ms' 6 i = Ms 6 i) : SQ Mx' M Ms' := by
  obtain ⟨g1, g2, g3, g4, g5⟩ := h
  refine ⟨?_, ?_, ?_, ?_, QA_tr g5 hq⟩
  · unfold sp_ at *; rw [e 13 (by omega), e 16 (by omega)]; exact g1
  · unfold in9_ at *; rw [e 12 (by omega)]; exact g2
  · rw [e 13 (by omega)]; exact g3
  · exact ⟨by rw [e 14 (by omega)]; exact g4.1, g4.2⟩
theorem SQ_em [Inhabited gh_] {Mx' Ms : mm_} {w p : Int} (h : SQ Mx' M Ms) : SQ Mx' M (em_ Ms w p) := SQ_c h (QC_QA em_QC) (fun i hi => em_6 (by omega))
theorem SQ_ur [Inhabited gh_] {Mx' Ms : mm_} {r : Nat} {i v : Int} (h : SQ Mx' M Ms) (hr : r ∈ qaL) (h6 : r ≠ 6) : SQ Mx' M (up_ Ms r i v) := SQ_c h (QA_ur hr h6) (fun i hi => by rw [up_ne (fun e => h6 e.symm)])
/-- the sign at the end -/
theorem y_endl [Inhabited gh_] {d2 d3 m3 : Nat} {as3 : List pv_} (hL : LM b Mx Mq me MX MQ) (A : AM b F MX MQ Mx1 Mq1 a a1 o s z) (hS : b = 1 → tS (Mx 70) 259 a1 ≠ none) (pre : ∀ (Kv : mm_ → Prop) (Qtq : qt_), Tr_ wd0 pg0 (d2 + 3) 244 [.inr (.inr 6), .inl 59] Mq1 (rv_ Kv) Qtq → Tr_ wd0 pg0 d3 m3 as3 Mq (rv_ Kv) Qtq)
    (hz : -5 ≤ z) (ha : a + 1 ≤ a1) (h75 : Mq1 6 75 = Mq 6 75 + 1) (hs : s ≤ 6 * (a1 - a) + 7) {w v : Int} (h204 : Mq1 204 (Mq 6 75) = Mx 71 a ∧ Mq1 203 (Mq 6 75) = w ∧ (w = 2 ∨ w = 5 → Mq1 205 (Mq 6 75) = v)) (hop : b = 1 → Mq1 6 13 = 0 → OPC Mx1 Mq1 (Mq 6 61) (Mq 6 75) (Mx 5 3) (Mx1 5 3) (Mq1 6 104))
    (hK : ∀ MX MQ Mx' Mq' a', LM b Mx Mq me MX MQ → AR b F MX MQ Mx' Mq' a a' o w v → tS (Mx 70) 259 a1 = some a' → (∀ (Kv : mm_ → Prop) (Qtq : qt_), Kv Mq' → Tr_ wd0 pg0 d3 m3 as3 Mq (rv_ Kv) Qtq) → G Mx')
    (hQ : b = 0 → ∀ Mx', XA Mx Mx' → (∀ (Kv : mm_ → Prop) (Qtq : qt_), (∀ M', SQ Mx' Mq M' → Kv M') → Tr_ wd0 pg0 d3 m3 as3 Mq (rv_ Kv) Qtq) → Qt 8 Mx') :
    Tr_ wd0 pg0 (d + 3) 121 [.inr (.inr 1), .inl 59] Mx1 (rv_ G) Qt := by
  have hE := AM_E A
  have hT := AM_T A
  obtain ⟨lx, lq⟩ := LM_A hL
  have l70 : MX 70 = Mx 70 := XA_r lx (by decide)
  have l71 : MX 71 = Mx 71 := XA_r lx (by decide)
  have l6 : MQ 6 75 = Mq 6 75 ∧ MQ 6 61 = Mq 6 61 := by
    rcases hL with ⟨h1, h2⟩ | ⟨_, k, _, ⟨_, h1, h2⟩ | ⟨_, h1, h2⟩⟩
    · rw [h2]; exact ⟨rfl, rfl⟩
    · rw [h2, up_ne (by decide)]; exact ⟨rfl, rfl⟩
    · rw [h2, up_ne (by decide)]; exact ⟨rfl, rfl⟩
  have l5 : MX 5 3 = Mx 5 3 := by
    rcases hL with ⟨h1, h2⟩ | ⟨_, k, _, ⟨_, h1, h2⟩ | ⟨_, h1, h2⟩⟩
    · rw [h1]
    · rw [h1, up_ne (by decide)]
    · rw [h1, up_ne (by decide)]
  have e70 : Mx1 70 = Mx 70 := (AM_70 A).trans l70
  have e71 : Mx1 71 = Mx 71 := (AM_71 A).trans l71
  have hx := XA_tr lx (XC_XA (AM_X A))
  have hq := QA_tr lq (QC_QA (AM_Q A))
  refine y_121 hE (by decide) (fun hb => by rw [e70]; exact hS hb) (fun k1 h12 hE1 => ?_) (fun hb k1 h12 => ?_) (fun hb k1 => ?_)
  · have A1 := AM_go A hE1
    refine hK MX MQ _ (nx_ Mq1) (a1 + 1) hL (AR_fin A1 (by omega) (by omega) (by rw [nx_6 (by decide), l6.1]; exact h75) (by omega) (by rw [nx_ne (by decide), nx_ne (by decide), nx_ne (by decide), l6.1, l71]; exact h204) (fun hb h0 => ?_)) (tS_e (by rw [← e70]; exact k1) h12) (fun Kv Qtq hk => pre _ _ (j_244t hT hE (by decide) k1 h12 hk))
    have := OPC_n (hop hb (by rw [nx_6 (by decide)] at h0; exact h0))
    rw [nX_ne (by decide), nx_6 (by decide), l6.1, l6.2, l5]
    exact this
  · refine hQ hb _ (XA_tr hx (XF_XA fl_XF)) fun Kv Qtq hk9 => pre _ _ (j_244r hT hE hb (by decide) k1 h12 (hk9 _ (SQ_bf hE hb (by decide) hq)))
  · refine hQ hb _ (XA_tr hx (XF_XA fl_XF)) fun Kv Qtq hk9 => pre _ _ (j_244w hT hE hb (by decide) k1 (hk9 _ (SQ_bf hE hb (by decide) hq)))
/-- stop -/
theorem y_140s [Inhabited gh_] (h : TA b F Mx Mq a o) (hk : Mx 70 a = 12) (hS : b = 1 → laS (Mx 70) a ≠ none)
    (hK : ∀ MX MQ Mx' Mq' a', LM b Mx Mq me MX MQ → AR b F MX MQ Mx' Mq' a a' o 9 0 → laS (Mx 70) a = some a' → (∀ (Kv : mm_ → Prop) (Qtq : qt_), Kv Mq' → Tr_ wd0 pg0 (dq + 6) 264 [.inr (.inr 6), .inl me] Mq (rv_ Kv) Qtq) → Kv Mx')
    (hQ : b = 0 → ∀ Mx', XA Mx Mx' → (∀ (Kv : mm_ → Prop) (Qtq : qt_), (∀ M', SQ Mx' Mq M' → Kv M') → Tr_ wd0 pg0 (dq + 6) 264 [.inr (.inr 6), .inl me] Mq (rv_ Kv) Qtq) → Qt 8 Mx') :
    Tr_ wd0 pg0 (d + 7) 140 [.inr (.inr 1)] Mx (rv_ Kv) Qt := by
  have hsyn : laS (Mx 70) a = (gS a).bind (tS (Mx 70) 259) := by unfold laS; rw [if_pos hk]
  rw [hsyn] at hS
  have A0 := AM_rf h
  have hE := AM_E A0
  have hT := AM_T A0
  have h01 := hE.2.2.2.2.2.2.2.2.1
  have hc := h.2.2.2.1
  have hae := ER_a hE
  have hp0 : Mq 150 (Mq 6 12) = Mx 71 a := (ER_k hT hE).2.1
  refine t_140 fun V hV hW => b_140_0 (Tr_mono _) hV hW Mx ?_
  refine y_103 hE (fun _ => ?_) (fun e => absurd hk e)
  rw [if_neg (by decide)]
  refine y_105 hE (by omega) (fun hb => by intro c; have := hS hb; rw [c] at this; exact this rfl) (fun h12 hE1 => ?_) (fun hb h12 => ?_)
  rotate_left
  · refine hQ hb _ (XF_XA fl_XF) fun Kv Qtq hk9 => ?_
    have hsp := SQ_bf hE hb (k := 2) (by decide) QA_rf
    refine t_264 fun V hV hW => b_264_0 (Tr_mono _) hV hW me Mq ⟨(ER_k hT hE).2.2.1, j_228f hT hE (by decide) (by omega) ?_⟩
    rw [if_pos rfl]
    refine j_228r hT hE hb (by decide) hk h12 ?_
    rw [if_neg (by decide), hp0]
    have q75 : bf_ Mq 2 (Mx 71 a) 6 75 = Mq 6 75 := bf_6 (by decide) (by decide)
    refine q_266 (by omega) (by omega) ?_
    have hsp2 := SQ_em (w := 9) (p := Mx 71 a) hsp
    exact q_244s hsp2.1 (rv_i (hk9 _ hsp2))
  have A1 := AM_go A0 hE1
  have hp := PXL_1 (v := 41) hE1.2.2.2.2.2.2.1 h01 (PXL_0 (b := b) (M := nX_ Mx))
  have A2 := AM_p A1 hp (by simp only [List.length_cons, List.length_nil]; omega)
  have q75 : nx_ Mq 6 75 = Mq 6 75 := nx_6 (by decide)
  have A3 := AM_em (w := 9) (p := Mx 71 a) A2 q75
  refine x_138 (AM_V A1).1 (ER_st hE1).1 (ER_st hE1).2 ?_
  rw [gS_e h12, Option.bind_some] at hS
  refine y_endl (d2 := dq + 2) (Mx := Mx) (Mq := Mq) (me := me) (.inl ⟨rfl, rfl⟩) A3 hS (fun Kv Qtq hq => ?_) (by omega) (by omega) (by rw [em_75, q75]) (by simp only [List.length_cons, List.length_nil]; omega) ⟨by rw [← q75, em_204], by rw [← q75, em_203], fun h => absurd h (by decide)⟩ (fun hb h0 => ?_) (fun MX MQ Mx' Mq' a' hL hA hs hq => rv_i (hK MX MQ Mx' Mq' a' hL hA (by rw [hsyn, gS_e h12, Option.bind_some]; exact hs) hq)) hQ
  · refine t_264 fun V hV hW => b_264_0 (Tr_mono _) hV hW me Mq ⟨(ER_k hT hE).2.2.1, j_228f hT hE (by decide) (by omega) ?_⟩
    rw [if_pos rfl]
    refine j_228t hT hE (by decide) hk h12 ?_
    rw [if_neg (by decide), hp0]
    refine q_266 (by omega) (by omega) ?_
    exact Tr_rv hq
  · have hp4 := hp.2.2.2.1 hb
    obtain ⟨s2, _⟩ := hp4.2
    have e53 : nX_ Mx 5 3 = Mx 5 3 := by rw [nX_ne (by decide)]
    rw [e53] at hp4 s2
    refine .inr (.inr (.inr (.inr (.inr (.inr (.inl ⟨?_, ?_, ?_⟩))))))
    · rw [← q75, em_203]
    · simpa using s2
    · rw [hp4.1]; rfl
end LA
end T110_la
section T111_la
/-! the last of a part: join -/
section LJ
variable {d dq n : Nat} {b F : Int} {Mx Mq MX MQ Mx1 Mq1 Mx2 Mq2 M : mm_} {a a1 o o1 s z me : Int} {K : Int → mm_ → Prop} {Kv G : mm_ → Prop} {Qt : qt_} {V : vv_}
theorem lbl_c [Inhabited gh_] {Mq' : mm_} (h : QC Mq Mq') {v : Int} : lbl Mq' v = lbl Mq v := by unfold lbl; rw [h.1 180 (by decide), h.1 175 (by decide), h.2 61 (by decide)]
theorem lbl9_c [Inhabited gh_] {Mx' Mq' : mm_} (hx : XC Mx Mx') (hq : QC Mq Mq') (h : lbl9 Mx Mq) : lbl9 Mx' Mq' := by
  unfold lbl9 nm9_ gd_ at *
  rw [hx.1 70 (by decide), hx.1 62 (by decide), hx.1 128 (by decide), hx.2.1 18 (by decide), hq.1 180 (by decide), hq.1 175 (by decide), hq.1 151 (by decide)]
  exact h
/-- Q: a last with a name, up to its op -/
theorem q_264j [Inhabited gh_] {l : Int} (h : TA b F Mx Mq a o) (h9 : lbl9 Mx Mq) (hk : Mx 70 a = 13) (h12 : a < 1200) (hE1 : ER b F (nX_ Mx) (nx_ Mq) (a + 1) o) (k1 : Mx 70 (a + 1) = 100) (h13 : a + 1 < 1200) (hE2 : ER b F (nX_ (nX_ Mx)) (nx_ (nx_ Mq)) (a + 1 + 1) o) (hl : l = lbl Mq (Mq 151 (a + 1)))
    (hm : 0 ≤ me ∧ me < 1300) (hq : Tr_ wd0 pg0 (dq + 5) 244 [.inr (.inr 6), .inl 59] (up_ (em_ (if b = 0 ∨ l < 0 then Qn_ (nx_ (nx_ Mq)) b (k4g_ l) (Mx 71 (a + 1)) else up_ (nx_ (nx_ Mq)) 214 me (or_ (Mq 214 me) (sl_ 1 l))) 10 (Mx 71 a)) 205 (Mq 6 75) l) (rv_ Kv) Qt) :
    Tr_ wd0 pg0 (dq + 6) 264 [.inr (.inr 6), .inl me] Mq (rv_ Kv) Qt := by
  have A0 := AM_rf h
  have A1 := AM_go A0 hE1
  have A2 := AM_go A1 hE2
  have hE := AM_E A0
  have hT := AM_T A0
  have h01 := hE.2.2.2.2.2.2.2.2.1
  have hc := h.2.2.2.1
  have hae := ER_a hE
  have hp0 : Mq 150 (Mq 6 12) = Mx 71 a := (ER_k hT hE).2.1
  have hp1 : nx_ (nx_ Mq) 150 (a + 1) = Mx 71 (a + 1) := by
    have := (ER_k (AM_T A1) hE1).2.1
    rw [hE1.2.2.1, AM_71 A1] at this
    rw [nx_ne (by decide)]; exact this
  have l9 := lbl9_c (AM_X A2) (AM_Q A2) h9
  have hlr := lbl_r (AM_V A0) h9 (v := Mq 151 (a + 1))
  rw [← hl] at hlr
  refine t_264 fun V hV hW => b_264_0 (Tr_mono _) hV hW me Mq ⟨(ER_k hT hE).2.2.1, j_228f hT hE (by decide) (by omega) ?_⟩
  rw [if_pos rfl]
  refine j_228f hT hE (by decide) (by omega) ?_
  rw [if_pos rfl]
  refine j_228t hT hE (by decide) hk h12 ?_
  rw [if_neg (by decide)]
  refine j_233t (AM_T A1) hE1 (by rw [AM_70 A1]; exact k1) h13 ?_
  refine q_227g (ER_goq hE2) ?_
  rw [if_pos rfl]
  refine ⟨by omega, q_268R (AM_V A2) l9 ?_⟩
  rw [show nx_ (nx_ Mq) 151 = Mq 151 by rw [nx_ne (by decide), nx_ne (by decide)], lbl_c (AM_Q A2), ← hl, hp0]
  have e16 : nx_ (nx_ Mq) 6 16 = b := hE2.2.2.2.2.2.2.2.1
  have q75 : nx_ (nx_ Mq) 6 75 = Mq 6 75 := by rw [nx_6 (by decide), nx_6 (by decide)]
  intro _
  rw [e16]
  by_cases cb : b = 0
  · rw [if_pos cb]
    rw [if_pos (.inl cb)] at hq
    unfold Qn_ at hq
    rw [if_pos (.inl cb)] at hq
    refine b_264_109 (Tr_mono _) hV hW _ _ _ _ _ ?_
    intro _
    rw [e16, if_pos cb]
    refine q_266 (by omega) (by omega) ?_
    rw [q75]
    exact ⟨by omega, Tr_rv hq⟩
  · rw [if_neg cb]
    by_cases cl : l < 0
    · rw [if_pos cl]
      rw [if_pos (.inr cl)] at hq
      have e4 : k4g_ l = 4 := by unfold k4g_; rw [if_pos (by omega)]
      unfold Qn_ at hq
      rw [if_neg (by omega), e4] at hq
      refine ⟨by omega, q_236 ?_⟩
      rw [hp1]
      refine b_264_109 (Tr_mono _) hV hW _ _ _ _ _ ?_
      intro _
      have e162 : nt_ (nx_ (nx_ Mq)) 4 (Mx 71 (a + 1)) 6 16 = b := by rw [nt_6 (by decide) (by decide)]; exact e16
      have q752 : nt_ (nx_ (nx_ Mq)) 4 (Mx 71 (a + 1)) 6 75 = Mq 6 75 := by rw [nt_6 (by decide) (by decide)]; exact q75
      rw [e162, if_neg cb, if_pos cl]
      refine q_266 (by omega) (by omega) ?_
      rw [q752]
      exact ⟨by omega, Tr_rv hq⟩
    · rw [if_neg cl]
      rw [if_neg (by omega)] at hq
      refine b_264_109 (Tr_mono _) hV hW _ _ _ _ _ ?_
      intro _
      have e214 : nx_ (nx_ Mq) 214 me = Mq 214 me := by rw [nx_ne (by decide), nx_ne (by decide)]
      rw [e16, if_neg cb, if_neg cl, e214]
      have q752 : up_ (nx_ (nx_ Mq)) 214 me (or_ (Mq 214 me) (sl_ 1 l)) 6 75 = Mq 6 75 := by rw [up_ne (by decide)]; exact q75
      refine ⟨hm, hm, q_266 (by omega) (by omega) ?_⟩
      rw [q752]
      exact ⟨by omega, Tr_rv hq⟩
end LJ
end T111_la
section T112_la
/-! the last of a part: join, X and Q in step -/
section LJ
variable {d dq n : Nat} {b F : Int} {Mx Mq MX MQ Mx1 Mq1 Mx2 Mq2 M : mm_} {a a1 o o1 s z me : Int} {K : Int → mm_ → Prop} {Kv G : mm_ → Prop} {Qt : qt_} {V : vv_}
theorem y_140j [Inhabited gh_] (h : TA b F Mx Mq a o) (h9 : lbl9 Mx Mq) (htr : 1 ≤ Mx 1 29 ∧ Mx 1 29 ≤ 600) (hm : 0 ≤ me ∧ me < 1300) (hk : Mx 70 a = 13) (hS : b = 1 → laS (Mx 70) a ≠ none)
    (hK : ∀ MX MQ Mx' Mq' a', LM b Mx Mq me MX MQ → AR b F MX MQ Mx' Mq' a a' o 10 0 → laS (Mx 70) a = some a' → (∀ (Kv : mm_ → Prop) (Qtq : qt_), Kv Mq' → Tr_ wd0 pg0 (dq + 6) 264 [.inr (.inr 6), .inl me] Mq (rv_ Kv) Qtq) → Kv Mx')
    (hQ : b = 0 → ∀ Mx', XA Mx Mx' → (∀ (Kv : mm_ → Prop) (Qtq : qt_), (∀ M', SQ Mx' Mq M' → Kv M') → Tr_ wd0 pg0 (dq + 6) 264 [.inr (.inr 6), .inl me] Mq (rv_ Kv) Qtq) → Qt 8 Mx') :
    Tr_ wd0 pg0 (d + 7) 140 [.inr (.inr 1)] Mx (rv_ Kv) Qt := by
  have hsyn : laS (Mx 70) a = (gS a).bind fun a1 => (tS (Mx 70) 100 a1).bind (tS (Mx 70) 259) := by
    unfold laS; rw [if_neg (by omega), if_pos hk]
    cases gS a with
    | none => rfl
    | some a1 => rfl
  rw [hsyn] at hS
  have A0 := AM_rf h
  have hE := AM_E A0
  have hT := AM_T A0
  have h01 := hE.2.2.2.2.2.2.2.2.1
  have hc := h.2.2.2.1
  have hae := ER_a hE
  have hp0 : Mq 150 (Mq 6 12) = Mx 71 a := (ER_k hT hE).2.1
  refine t_140 fun V hV hW => b_140_0 (Tr_mono _) hV hW Mx ?_
  refine y_103 hE (fun e => by omega) (fun _ => ?_)
  rw [if_pos rfl]
  refine y_103 hE (fun _ => ?_) (fun e => absurd hk e)
  rw [if_neg (by decide)]
  refine y_105 hE (by omega) (fun hb => by intro c; have := hS hb; rw [c] at this; exact this rfl) (fun h12 hE1 => ?_) (fun hb h12 => ?_)
  rotate_left
  · refine hQ hb _ (XF_XA fl_XF) fun Kv Qtq hk9 => ?_
    have hsp := SQ_bf hE hb (k := 2) (by decide) QA_rf
    refine t_264 fun V hV hW => b_264_0 (Tr_mono _) hV hW me Mq ⟨(ER_k hT hE).2.2.1, j_228f hT hE (by decide) (by omega) ?_⟩
    rw [if_pos rfl]
    refine j_228f hT hE (by decide) (by omega) ?_
    rw [if_pos rfl]
    refine j_228r hT hE hb (by decide) hk h12 ?_
    rw [if_neg (by decide)]
    refine q_233s hsp.1 ?_
    refine q_227s hsp.1 ?_
    rw [if_neg (by decide)]
    exact rv_i (hk9 _ hsp)
  have A1 := AM_go A0 hE1
  have e70 := AM_70 A1
  rw [gS_e h12, Option.bind_some] at hS
  refine y_107 hE1 (fun hb => by rw [e70]; intro e; rw [e] at hS; exact hS hb rfl) (fun k1 h13 hE2 => ?_) (fun hb k1 h13 => ?_) (fun hb k1 => ?_)
  rotate_left
  · refine hQ hb _ (XA_tr (XC_XA (AM_X A1)) (XF_XA fl_XF)) fun Kv Qtq hk9 => ?_
    have hsp := SQ_bf hE1 hb (k := 2) (by decide) (QC_QA (AM_Q A1))
    refine t_264 fun V hV hW => b_264_0 (Tr_mono _) hV hW me Mq ⟨(ER_k hT hE).2.2.1, j_228f hT hE (by decide) (by omega) ?_⟩
    rw [if_pos rfl]
    refine j_228f hT hE (by decide) (by omega) ?_
    rw [if_pos rfl]
    refine j_228t hT hE (by decide) hk h12 ?_
    rw [if_neg (by decide)]
    refine j_233r (AM_T A1) hE1 hb k1 h13 ?_
    refine q_227s hsp.1 ?_
    rw [if_neg (by decide)]
    exact rv_i (hk9 _ hsp)
  · refine hQ hb _ (XA_tr (XC_XA (AM_X A1)) (XF_XA fl_XF)) fun Kv Qtq hk9 => ?_
    have hsp := SQ_bf hE1 hb (k := 1) (by decide) (QC_QA (AM_Q A1))
    refine t_264 fun V hV hW => b_264_0 (Tr_mono _) hV hW me Mq ⟨(ER_k hT hE).2.2.1, j_228f hT hE (by decide) (by omega) ?_⟩
    rw [if_pos rfl]
    refine j_228f hT hE (by decide) (by omega) ?_
    rw [if_pos rfl]
    refine j_228t hT hE (by decide) hk h12 ?_
    rw [if_neg (by decide)]
    refine j_233w (AM_T A1) hE1 hb k1 ?_
    refine q_227s hsp.1 ?_
    rw [if_neg (by decide)]
    exact rv_i (hk9 _ hsp)
  have A2 := AM_go A1 hE2
  have hT2 := AM_T A2
  have hV2 := AM_V A2
  have k1' : Mx 70 (a + 1) = 100 := by rw [← e70]; exact k1
  have hg1 : gd_ Mx (a + 1) := gd_c e70.symm hE1.1
  have hnm : nm9_ (nX_ (nX_ Mx)) (a + 1) := ⟨gd_c (AM_70 A2) hg1, by rw [AM_70 A2]; exact k1'⟩
  rw [tS_e k1' h13, Option.bind_some] at hS
  have hend : laS (Mx 70) a = tS (Mx 70) 259 (a + 1 + 1) := by rw [hsyn, gS_e h12, Option.bind_some, tS_e k1' h13, Option.bind_some]
  obtain ⟨l, hl⟩ : ∃ l, l = lbl Mq (Mq 151 (a + 1)) := ⟨_, rfl⟩
  have hlr := lbl_r (AM_V A0) h9 (v := Mq 151 (a + 1))
  rw [← hl] at hlr
  have h8 : nX_ (nX_ Mx) 1 8 = b := hE2.2.2.2.2.2.2.1
  have pre := fun (Kv : mm_ → Prop) (Qtq : qt_) hq => q_264j (me := me) (dq := dq) (Kv := Kv) (Qt := Qtq) h h9 hk h12 hE1 k1' h13 hE2 hl hm hq
  have q75 : nx_ (nx_ Mq) 6 75 = Mq 6 75 := by rw [nx_6 (by decide), nx_6 (by decide)]
  have x53 : nX_ (nX_ Mx) 5 3 = Mx 5 3 := by rw [nX_ne (by decide), nX_ne (by decide)]
  intro _
  rw [h8]
  rcases h01 with hb | hb
  · -- the first pass
    rw [if_pos hb]
    rw [if_pos (.inl hb)] at pre
    unfold Qn_ at pre
    rw [if_pos (.inl hb)] at pre
    have A3 := AM_up (r := 205) (v := l) (AM_em (w := 10) (p := Mx 71 a) A2 q75) (by decide) (rfl : Mq 6 75 = Mq 6 75)
    refine y_endl (d2 := dq + 2) (Mx := Mx) (Mq := Mq) (me := me) (.inl ⟨rfl, rfl⟩) A3 hS pre (by omega) (by omega) (by rw [up_ne (by decide), em_75, q75]) (by omega) ⟨by rw [up_ne (by decide), ← q75, em_204], by rw [up_ne (by decide), ← q75, em_203], fun h => absurd h (by decide)⟩ (fun hb1 => by omega) (fun MX MQ Mx' Mq' a' hL hA hs hq => rv_i (hK MX MQ Mx' Mq' a' hL hA (by rw [hend]; exact hs) hq)) hQ
  · -- the second
    rw [if_neg (by omega)]
    have h18 : nX_ (nX_ Mx) 1 18 = Mq 6 61 := by rw [nX_1 (by decide), nX_1 (by decide)]; exact h.2.1.2.1.symm
    have hT0 : 0 ≤ Mq 6 61 ∧ Mq 6 61 < 6 := by rw [h.2.1.2.1]; exact ⟨h.2.1.2.2.1, h.2.1.2.2.2.1⟩
    have hl10 : Mq 175 (Mq 6 61) ≤ 10 := by rw [h.2.1.2.1, h9.1.2.2]; exact h9.1.2.1
    refine ⟨hV2.1, by rw [h18]; exact hT0, x_113R hT2 hV2 (lbl9_c (AM_X A2) (AM_Q A2) h9) hnm ?_⟩
    rw [show nx_ (nx_ Mq) 151 = Mq 151 by rw [nx_ne (by decide), nx_ne (by decide)], lbl_c (AM_Q A2), ← hl]
    by_cases cl : l = -1
    · -- no such label
      rw [if_pos cl]
      rw [if_pos (.inr (by omega))] at pre
      have e4 : k4g_ l = 4 := by unfold k4g_; rw [if_pos cl]
      rw [e4] at pre
      obtain ⟨A3, hz3⟩ := AM_m (k := 4) (tk := a + 1) A2 (by omega) hg1 (by omega)
      have eX : Xn_ (nX_ (nX_ Mx)) b 4 (a + 1) = nt1_ (nX_ (nX_ Mx)) 4 (a + 1) := by unfold Xn_; rw [if_neg (by omega)]
      refine x_116 (by omega) (by omega) (ER_fl hE2).1 (ER_fl hE2).2 ?_
      rw [← eX]
      generalize hX3 : Xn_ (nX_ (nX_ Mx)) b 4 (a + 1) = Mx3 at *
      have hQ3 : Qn_ (nx_ (nx_ Mq)) b 4 (Mx 71 (a + 1)) 6 75 = Mq 6 75 := by rw [Qn_6 (by decide) (by decide)]; exact q75
      generalize Qn_ (nx_ (nx_ Mq)) b 4 (Mx 71 (a + 1)) = Mq3 at *
      have hE3 := AM_E A3
      have hp1 := PXL_1 (v := 42) hE3.2.2.2.2.2.2.1 (.inr hb) (PXL_0 (b := b) (M := Mx3))
      have A4 := AM_p A3 hp1 (by simp only [List.length_cons, List.length_nil]; omega)
      refine b_140_107 (Tr_mono _) hV hW _ _ _ ?_
      refine x_138 (AM_V A3).1 (ER_st hE3).1 (ER_st hE3).2 ?_
      refine x_138 (AM_V A4).1 (ER_st (AM_E A4)).1 (ER_st (AM_E A4)).2 ?_
      have hp := PXL_1 (v := w32 (w32 (10 * pX_ Mx3 42 1 18) + if 0 < l then l else 0)) hE3.2.2.2.2.2.2.1 (.inr hb) hp1
      have A5 := AM_p A3 hp (by simp only [List.length_cons, List.length_nil]; omega)
      have A6 := AM_up (r := 205) (v := l) (AM_em (w := 10) (p := Mx 71 a) A5 hQ3) (by decide) (rfl : Mq 6 75 = Mq 6 75)
      refine y_endl (d2 := dq + 2) (Mx := Mx) (Mq := Mq) (me := me) (.inl ⟨rfl, rfl⟩) A6 hS pre (by omega) (by omega) (by rw [up_ne (by decide), em_75, hQ3]) (by simp only [List.length_cons, List.length_nil]; omega) ⟨by rw [up_ne (by decide), ← hQ3, em_204], by rw [up_ne (by decide), ← hQ3, em_203], fun h => absurd h (by decide)⟩ (fun hb1 h0 => ?_) (fun MX MQ Mx' Mq' a' hL hA hs hq => rv_i (hK MX MQ Mx' Mq' a' hL hA (by rw [hend]; exact hs) hq)) hQ
      exfalso
      have := hz3 hb (by rw [up_ne (by decide), em_6 (by decide)] at h0; exact h0)
      omega
    · -- a label
      rw [if_neg cl]
      rw [if_neg (by omega)] at pre
      have e29 : w32 (nX_ (nX_ Mx) 1 29 - 1) = Mx 1 29 - 1 := by rw [nX_1 (by decide), nX_1 (by decide), w32_id (by omega) (by omega)]
      have e65 : nX_ (nX_ Mx) 65 = Mx 65 := by rw [nX_ne (by decide), nX_ne (by decide)]
      rw [e29, e65]
      refine ⟨by omega, by omega, ?_⟩
      have A3 := AM_base (rx := 65) (rq := 214) (i := Mx 1 29 - 1) (v := or_ (Mx 65 (Mx 1 29 - 1)) (sl_ 1 l)) (j := me) (w := or_ (Mq 214 me) (sl_ 1 l)) (.inr rfl) (.inr rfl) A2
      have hL : LM b Mx Mq me (up_ Mx 65 (Mx 1 29 - 1) (or_ (Mx 65 (Mx 1 29 - 1)) (sl_ 1 l))) (up_ Mq 214 me (or_ (Mq 214 me) (sl_ 1 l))) := .inr ⟨hb, l, ⟨by omega, by omega⟩, .inr ⟨by omega, rfl, rfl⟩⟩
      have y53 : up_ (nX_ (nX_ Mx)) 65 (Mx 1 29 - 1) (or_ (Mx 65 (Mx 1 29 - 1)) (sl_ 1 l)) 5 3 = Mx 5 3 := by rw [up_ne (by decide)]; exact x53
      have y18 : up_ (nX_ (nX_ Mx)) 65 (Mx 1 29 - 1) (or_ (Mx 65 (Mx 1 29 - 1)) (sl_ 1 l)) 1 18 = Mq 6 61 := by rw [up_ne (by decide)]; exact h18
      have hQ3 : up_ (nx_ (nx_ Mq)) 214 me (or_ (Mq 214 me) (sl_ 1 l)) 6 75 = Mq 6 75 := by rw [up_ne (by decide)]; exact q75
      have q175 : up_ (nx_ (nx_ Mq)) 214 me (or_ (Mq 214 me) (sl_ 1 l)) 175 = Mq 175 := by rw [up_ne (by decide), nx_ne (by decide), nx_ne (by decide)]
      have b75 : up_ Mq 214 me (or_ (Mq 214 me) (sl_ 1 l)) 6 75 = Mq 6 75 := by rw [up_ne (by decide)]
      generalize up_ (nX_ (nX_ Mx)) 65 (Mx 1 29 - 1) (or_ (Mx 65 (Mx 1 29 - 1)) (sl_ 1 l)) = Mx3 at *
      generalize up_ (nx_ (nx_ Mq)) 214 me (or_ (Mq 214 me) (sl_ 1 l)) = Mq3 at *
      have hE3 := AM_E A3
      have hp1 := PXL_1 (v := 42) hE3.2.2.2.2.2.2.1 (.inr hb) (PXL_0 (b := b) (M := Mx3))
      have A4 := AM_p A3 hp1 (by simp only [List.length_cons, List.length_nil]; omega)
      refine b_140_107 (Tr_mono _) hV hW _ _ _ ?_
      refine x_138 (AM_V A3).1 (ER_st hE3).1 (ER_st hE3).2 ?_
      refine x_138 (AM_V A4).1 (ER_st (AM_E A4)).1 (ER_st (AM_E A4)).2 ?_
      have ev : w32 (w32 (10 * pX_ Mx3 42 1 18) + if 0 < l then l else 0) = 10 * Mq 6 61 + l := by
        rw [pX_1, y18, w32_id (x := 10 * Mq 6 61) (by omega) (by omega)]
        split
        · rw [w32_id (by omega) (by omega)]
        · rw [w32_id (by omega) (by omega)]; omega
      rw [ev]
      have hp := PXL_1 (v := 10 * Mq 6 61 + l) hE3.2.2.2.2.2.2.1 (.inr hb) hp1
      have A5 := AM_p A3 hp (by simp only [List.length_cons, List.length_nil]; omega)
      have A6 := AM_up (r := 205) (v := l) (AM_em (w := 10) (p := Mx 71 a) A5 (hQ3.trans b75.symm)) (by decide) (b75.symm : Mq 6 75 = _)
      refine y_endl (d2 := dq + 2) (Mx := Mx) (Mq := Mq) (me := me) hL A6 hS pre (by omega) (by omega) (by rw [up_ne (by decide), em_75, hQ3]) (by simp only [List.length_cons, List.length_nil]; omega) ⟨by rw [up_ne (by decide), ← hQ3, em_204], by rw [up_ne (by decide), ← hQ3, em_203], fun h => absurd h (by decide)⟩ (fun hb1 h0 => ?_) (fun MX MQ Mx' Mq' a' hL hA hs hq => rv_i (hK MX MQ Mx' Mq' a' hL hA (by rw [hend]; exact hs) hq)) hQ
      have hp4 := hp.2.2.2.1 hb
      obtain ⟨s1, s2, _⟩ := hp4.2
      rw [y53] at s1 s2 hp4
      refine .inr (.inr (.inr (.inr (.inr (.inr (.inr ⟨?_, ?_, ?_, ?_, ?_⟩))))))
      · rw [up_ne (by decide), ← hQ3, em_203]
      · rw [up_at, up_ne (by decide), em_r (.inl (by decide)) (by decide), q175]; omega
      · simpa using s2
      · rw [up_at]; exact s1
      · rw [hp4.1]; rfl
end LJ
end T112_la
section T113_ln
/-! the last of a part: next -/
section LN
variable {d dq n : Nat} {b F : Int} {Mx Mq MX MQ Mx1 Mq1 Mx2 Mq2 M : mm_} {a a1 o o1 s z me : Int} {K : Int → mm_ → Prop} {Kv G : mm_ → Prop} {Qt : qt_} {V : vv_}
theorem stt_c [Inhabited gh_] {Mq' : mm_} (h : QC Mq Mq') {v : Int} : stt Mq' v = stt Mq v := by unfold stt; rw [h.1 179 (by decide), h.1 174 (by decide), h.2 61 (by decide)]
theorem stt9_c [Inhabited gh_] {Mx' Mq' : mm_} (hx : XC Mx Mx') (hq : QC Mq Mq') (h : stt9 Mx Mq) : stt9 Mx' Mq' := by
  unfold stt9 nm9_ gd_ at *
  rw [hx.1 70 (by decide), hx.1 59 (by decide), hx.1 123 (by decide), hx.2.1 18 (by decide), hq.1 179 (by decide), hq.1 174 (by decide), hq.1 151 (by decide)]
  exact h
theorem up_cm [Inhabited gh_] {M : mm_} {r : Nat} {i j v w : Int} (h : i ≠ j) : up_ (up_ M r i v) r j w = up_ (up_ M r j w) r i v := by
  funext r' k
  by_cases c : r' = r
  · subst c
    by_cases ci : k = i
    · subst ci; rw [up_off h, up_at, up_at]
    · by_cases cj : k = j
      · subst cj; rw [up_at, up_off ci, up_at]
      · rw [up_off cj, up_off ci, up_off ci, up_off cj]
  · rw [up_ne c, up_ne c, up_ne c, up_ne c]
theorem nx_Qn [Inhabited gh_] {k p : Int} : nx_ (Qn_ M b k p) = Qn_ (nx_ M) b k p := by
  unfold Qn_
  by_cases c : b = 0 ∨ k = 0
  · rw [if_pos c, if_pos c]
  · rw [if_neg c, if_neg c]
    unfold nt_
    have e16 : nx_ M 6 16 = M 6 16 := nx_6 (by decide)
    have e13 : nx_ M 6 13 = M 6 13 := nx_6 (by decide)
    have e14 : nx_ M 6 14 = M 6 14 := nx_6 (by decide)
    rw [e16, e13, e14]
    by_cases c1 : M 6 16 = 0
    · rw [if_pos c1, if_pos c1]
    · rw [if_neg c1, if_neg c1]
      by_cases c2 : M 6 13 = 0 ∨ p < M 6 14 ∨ p = M 6 14 ∧ k < M 6 13
      · rw [if_pos c2, if_pos c2]
        have e12 : bf_ M k p 6 12 = M 6 12 := bf_6 (by decide) (by decide)
        unfold nx_
        rw [e12]
        unfold bf_
        rw [up_cm (i := 14) (j := 12) (by decide), up_cm (i := 13) (j := 12) (by decide)]
      · rw [if_neg c2, if_neg c2]
/-- Q: next - -/
theorem q_264d [Inhabited gh_] (h : TA b F Mx Mq a o) (hk : Mx 70 a = 11) (h12 : a < 1200) (hE1 : ER b F (nX_ Mx) (nx_ Mq) (a + 1) o) (k1 : Mx 70 (a + 1) = 245) (h13 : a + 1 < 1200)
    (hm : 0 ≤ me ∧ me < 1300) (hq : Tr_ wd0 pg0 (dq + 5) 244 [.inr (.inr 6), .inl 59] (em_ (nx_ (Qn_ (nx_ Mq) b (if Mq 215 me = 0 then 0 else 6) (Mx 71 (a + 1)))) 8 (Mx 71 a)) (rv_ Kv) Qt) :
    Tr_ wd0 pg0 (dq + 6) 264 [.inr (.inr 6), .inl me] Mq (rv_ Kv) Qt := by
  have A0 := AM_rf h
  have A1 := AM_go A0 hE1
  have hE := AM_E A0
  have hT := AM_T A0
  have h01 := hE.2.2.2.2.2.2.2.2.1
  have hc := h.2.2.2.1
  have hae := ER_a hE
  have hp0 : Mq 150 (Mq 6 12) = Mx 71 a := (ER_k hT hE).2.1
  obtain ⟨f1, f2, f3, f4, f5, f6⟩ := ER_k (AM_T A1) hE1
  rw [AM_71 A1] at f2
  refine t_264 fun V hV hW => b_264_0 (Tr_mono _) hV hW me Mq ⟨(ER_k hT hE).2.2.1, j_228t hT hE (by decide) hk h12 ?_⟩
  rw [if_neg (by decide), hp0]
  refine t_265 fun V hV hW => b_265_0 (Tr_mono _) hV hW me (Mx 71 a) (nx_ Mq) ⟨f3, j_242t (AM_T A1) hE1 (by decide) (by rw [AM_70 A1]; exact k1) h13 ?_⟩
  rw [if_neg (by decide), f2]
  refine ⟨hm, ?_⟩
  intro _
  have e215 : nx_ (nx_ Mq) 215 me = Mq 215 me := by rw [nx_ne (by decide), nx_ne (by decide)]
  have e16 : nx_ (nx_ Mq) 6 16 = b := by rw [nx_6 (by decide)]; exact hE1.2.2.2.2.2.2.2.1
  have q75 : nx_ (nx_ Mq) 6 75 = Mq 6 75 := by rw [nx_6 (by decide), nx_6 (by decide)]
  rw [e215]
  rw [nx_Qn] at hq
  by_cases c : Mq 215 me = 0
  · rw [if_pos c]
    rw [if_pos c] at hq
    unfold Qn_ at hq
    rw [if_pos (.inr rfl)] at hq
    exact q_266 (by omega) (by omega) (rv_i (Tr_rv hq))
  · rw [if_neg c]
    rw [if_neg c] at hq
    refine q_236 ?_
    have e75 : nt_ (nx_ (nx_ Mq)) 6 (Mx 71 (a + 1)) 6 75 = Mq 6 75 := by rw [nt_6 (by decide) (by decide)]; exact q75
    refine q_266 (by omega) (by omega) (rv_i (Tr_rv ?_))
    unfold Qn_ at hq
    rcases h01 with hb | hb
    · rw [if_pos (.inl hb)] at hq
      have : nt_ (nx_ (nx_ Mq)) 6 (Mx 71 (a + 1)) = nx_ (nx_ Mq) := by unfold nt_; rw [if_pos (by omega)]
      rw [this]; exact hq
    · rw [if_neg (by omega)] at hq; exact hq
/-- Q: next and a name -/
theorem q_264n [Inhabited gh_] {l : Int} (h : TA b F Mx Mq a o) (h9 : stt9 Mx Mq) (hk : Mx 70 a = 11) (h12 : a < 1200) (hE1 : ER b F (nX_ Mx) (nx_ Mq) (a + 1) o) (k1 : Mx 70 (a + 1) = 100) (h13 : a + 1 < 1200) (hE2 : ER b F (nX_ (nX_ Mx)) (nx_ (nx_ Mq)) (a + 1 + 1) o) (hl : l = stt Mq (Mq 151 (a + 1)))
    (hm : 0 ≤ me ∧ me < 1300) (hq : Tr_ wd0 pg0 (dq + 5) 244 [.inr (.inr 6), .inl 59] (up_ (em_ (if b = 0 ∨ l < 0 then Qn_ (nx_ (nx_ Mq)) b (k4g_ l) (Mx 71 (a + 1)) else up_ (nx_ (nx_ Mq)) 213 me (or_ (Mq 213 me) (sl_ 1 l))) 8 (Mx 71 a)) 205 (Mq 6 75) l) (rv_ Kv) Qt) :
    Tr_ wd0 pg0 (dq + 6) 264 [.inr (.inr 6), .inl me] Mq (rv_ Kv) Qt := by
  have A0 := AM_rf h
  have A1 := AM_go A0 hE1
  have A2 := AM_go A1 hE2
  have hE := AM_E A0
  have hT := AM_T A0
  have h01 := hE.2.2.2.2.2.2.2.2.1
  have hc := h.2.2.2.1
  have hae := ER_a hE
  have hp0 : Mq 150 (Mq 6 12) = Mx 71 a := (ER_k hT hE).2.1
  obtain ⟨f1, f2, f3, f4, f5, f6⟩ := ER_k (AM_T A1) hE1
  have hp1 : nx_ (nx_ Mq) 150 (a + 1) = Mx 71 (a + 1) := by
    have := f2
    rw [hE1.2.2.1, AM_71 A1] at this
    rw [nx_ne (by decide)]; exact this
  have l9 := stt9_c (AM_X A2) (AM_Q A2) h9
  have hlr := stt_r (AM_V A0) h9 (v := Mq 151 (a + 1))
  rw [← hl] at hlr
  refine t_264 fun V hV hW => b_264_0 (Tr_mono _) hV hW me Mq ⟨(ER_k hT hE).2.2.1, j_228t hT hE (by decide) hk h12 ?_⟩
  rw [if_neg (by decide), hp0]
  refine t_265 fun V hV hW => b_265_0 (Tr_mono _) hV hW me (Mx 71 a) (nx_ Mq) ⟨f3, j_242f (AM_T A1) hE1 (by decide) (by rw [AM_70 A1, k1]; decide) ?_⟩
  rw [if_pos rfl]
  refine j_233t (AM_T A1) hE1 (by rw [AM_70 A1]; exact k1) h13 ?_
  refine q_227g (ER_goq hE2) ?_
  rw [if_pos rfl]
  refine ⟨by omega, q_267R (AM_V A2) l9 ?_⟩
  rw [show nx_ (nx_ Mq) 151 = Mq 151 by rw [nx_ne (by decide), nx_ne (by decide)], stt_c (AM_Q A2), ← hl]
  have e16 : nx_ (nx_ Mq) 6 16 = b := hE2.2.2.2.2.2.2.2.1
  have q75 : nx_ (nx_ Mq) 6 75 = Mq 6 75 := by rw [nx_6 (by decide), nx_6 (by decide)]
  intro _
  rw [e16]
  by_cases cb : b = 0
  · rw [if_pos cb]
    rw [if_pos (.inl cb)] at hq
    unfold Qn_ at hq
    rw [if_pos (.inl cb)] at hq
    refine b_265_99 (Tr_mono _) hV hW _ _ _ _ _ _ ?_
    intro _
    rw [e16, if_pos cb]
    refine q_266 (by omega) (by omega) ?_
    rw [q75]
    exact ⟨by omega, rv_i (Tr_rv hq)⟩
  · rw [if_neg cb]
    by_cases cl : l < 0
    · rw [if_pos cl]
      rw [if_pos (.inr cl)] at hq
      have e4 : k4g_ l = 4 := by unfold k4g_; rw [if_pos (by omega)]
      unfold Qn_ at hq
      rw [if_neg (by omega), e4] at hq
      refine ⟨by omega, q_236 ?_⟩
      rw [hp1]
      refine b_265_99 (Tr_mono _) hV hW _ _ _ _ _ _ ?_
      intro _
      have e162 : nt_ (nx_ (nx_ Mq)) 4 (Mx 71 (a + 1)) 6 16 = b := by rw [nt_6 (by decide) (by decide)]; exact e16
      have q752 : nt_ (nx_ (nx_ Mq)) 4 (Mx 71 (a + 1)) 6 75 = Mq 6 75 := by rw [nt_6 (by decide) (by decide)]; exact q75
      rw [e162, if_neg cb, if_pos cl]
      refine q_266 (by omega) (by omega) ?_
      rw [q752]
      exact ⟨by omega, rv_i (Tr_rv hq)⟩
    · rw [if_neg cl]
      rw [if_neg (by omega)] at hq
      refine b_265_99 (Tr_mono _) hV hW _ _ _ _ _ _ ?_
      intro _
      have e214 : nx_ (nx_ Mq) 213 me = Mq 213 me := by rw [nx_ne (by decide), nx_ne (by decide)]
      rw [e16, if_neg cb, if_neg cl, e214]
      have q752 : up_ (nx_ (nx_ Mq)) 213 me (or_ (Mq 213 me) (sl_ 1 l)) 6 75 = Mq 6 75 := by rw [up_ne (by decide)]; exact q75
      refine ⟨hm, hm, q_266 (by omega) (by omega) ?_⟩
      rw [q752]
      exact ⟨by omega, rv_i (Tr_rv hq)⟩
end LN
end T113_ln
section T114_ln
/-! the last of a part: next, X and Q in step -/
section LN
variable {d dq n : Nat} {b F : Int} {Mx Mq MX MQ Mx1 Mq1 Mx2 Mq2 M : mm_} {a a1 o o1 s z me : Int} {K : Int → mm_ → Prop} {Kv G : mm_ → Prop} {Qt : qt_} {V : vv_}
theorem y_140n [Inhabited gh_] (h : TA b F Mx Mq a o) (h9 : stt9 Mx Mq) (htr : 1 ≤ Mx 1 29 ∧ Mx 1 29 ≤ 600) (hm : 0 ≤ me ∧ me < 1300) (hst : b = 1 → (Mx 66 (Mx 1 29 - 1) = -1 ↔ Mq 215 me ≠ 0)) (hk : Mx 70 a = 11) (hS : b = 1 → laS (Mx 70) a ≠ none)
    (hK : ∀ MX MQ Mx' Mq' a', LM b Mx Mq me MX MQ → AR b F MX MQ Mx' Mq' a a' o 8 0 → laS (Mx 70) a = some a' → (∀ (Kv : mm_ → Prop) (Qtq : qt_), Kv Mq' → Tr_ wd0 pg0 (dq + 6) 264 [.inr (.inr 6), .inl me] Mq (rv_ Kv) Qtq) → Kv Mx')
    (hQ : b = 0 → ∀ Mx', XA Mx Mx' → (∀ (Kv : mm_ → Prop) (Qtq : qt_), (∀ M', SQ Mx' Mq M' → Kv M') → Tr_ wd0 pg0 (dq + 6) 264 [.inr (.inr 6), .inl me] Mq (rv_ Kv) Qtq) → Qt 8 Mx') :
    Tr_ wd0 pg0 (d + 8) 140 [.inr (.inr 1)] Mx (rv_ Kv) Qt := by
  have hsyn : laS (Mx 70) a = (gS a).bind fun a1 => (neS (Mx 70) a1).bind (tS (Mx 70) 259) := by
    unfold laS; rw [if_neg (by omega), if_neg (by omega)]
    cases gS a with
    | none => rfl
    | some a1 => rfl
  rw [hsyn] at hS
  have A0 := AM_rf h
  have hE := AM_E A0
  have hT := AM_T A0
  have h01 := hE.2.2.2.2.2.2.2.2.1
  have hc := h.2.2.2.1
  have hae := ER_a hE
  have hp0 : Mq 150 (Mq 6 12) = Mx 71 a := (ER_k hT hE).2.1
  refine t_140 fun V hV hW => b_140_0 (Tr_mono _) hV hW Mx ?_
  refine y_103 hE (fun e => by omega) (fun _ => ?_)
  rw [if_pos rfl]
  refine y_103 hE (fun e => by omega) (fun _ => ?_)
  rw [if_pos rfl]
  -- Q within next
  have stop : ∀ {Mx' Ms : mm_}, SQ Mx' Mq Ms → ∀ (Kv : mm_ → Prop) (Qtq : qt_), (∀ M', SQ Mx' Mq M' → Kv M') → rv_ (fun M11 => Tr_ wd0 pg0 (dq + 5) 244 [.inr (.inr 6), .inl 59] M11 (rv_ fun M12 => rv_ Kv [] M12) Qtq) [] Ms := fun hs Kv Qtq hk9 => rv_i (q_244s hs.1 (rv_i (hk9 _ hs)))
  refine y_105 hE (by omega) (fun hb => by intro c; have := hS hb; rw [c] at this; exact this rfl) (fun h12 hE1 => ?_) (fun hb h12 => ?_)
  rotate_left
  · refine hQ hb _ (XF_XA fl_XF) fun Kv Qtq hk9 => ?_
    have hsp := SQ_bf hE hb (k := 2) (by decide) QA_rf
    refine t_264 fun V hV hW => b_264_0 (Tr_mono _) hV hW me Mq ⟨(ER_k hT hE).2.2.1, j_228r hT hE hb (by decide) hk h12 ?_⟩
    rw [if_neg (by decide)]
    refine t_265 fun V hV hW => b_265_0 (Tr_mono _) hV hW me _ _ ⟨hsp.2.1, q_242s hsp.1 ?_⟩
    rw [if_pos rfl]
    refine q_233s hsp.1 ?_
    refine q_227s hsp.1 ?_
    rw [if_neg (by decide)]
    exact stop hsp Kv Qtq hk9
  have A1 := AM_go A0 hE1
  have hT1 := AM_T A1
  have e70 := AM_70 A1
  have q1 := (ER_k hT1 hE1).2.2.1
  have hg1 : gd_ Mx (a + 1) := gd_c e70.symm hE1.1
  have h18 : nX_ Mx 1 8 = b := hE1.2.2.2.2.2.2.1
  have e29 : w32 (nX_ Mx 1 29 - 1) = Mx 1 29 - 1 := by rw [nX_1 (by decide), w32_id (by omega) (by omega)]
  rw [gS_e h12, Option.bind_some] at hS
  have pr1 : ∀ (Kv : mm_ → Prop) (Qtq : qt_), Tr_ wd0 pg0 (dq + 5) 265 [.inr (.inr 6), .inl me, .inl (Mx 71 a)] (nx_ Mq) (rv_ fun M11 => Tr_ wd0 pg0 (dq + 5) 244 [.inr (.inr 6), .inl 59] M11 (rv_ fun M12 => rv_ Kv [] M12) Qtq) Qtq → Tr_ wd0 pg0 (dq + 6) 264 [.inr (.inr 6), .inl me] Mq (rv_ Kv) Qtq := by
    intro Kv Qtq hq
    refine t_264 fun V hV hW => b_264_0 (Tr_mono _) hV hW me Mq ⟨(ER_k hT hE).2.2.1, j_228t hT hE (by decide) hk h12 ?_⟩
    rw [if_neg (by decide), hp0]
    exact hq
  refine t_141 fun V hV hW => b_141_0 (Tr_mono _) hV hW (nX_ Mx) ?_
  refine y_117 hE1 (by decide) (fun k1 => ?_) (fun k1 => ?_)
  · -- next -
    rw [if_neg (by decide)]
    have k1' : Mx 70 (a + 1) = 245 := by rw [← e70]; exact k1
    obtain ⟨kk, hkk⟩ : ∃ kk, kk = if Mq 215 me = 0 then (0 : Int) else 6 := ⟨_, rfl⟩
    obtain ⟨A2, hz2⟩ := AM_m (k := kk) (tk := a + 1) A1 (by rw [hkk]; split <;> omega) hg1 (by omega)
    have hne : neS (Mx 70) (a + 1) = gS (a + 1) := by unfold neS; rw [if_pos k1']
    rw [hne] at hS
    have x3 : nX_ Mx 1 3 = a + 1 := hE1.2.1
    have go : ∀ M2, M2 = Xn_ (nX_ Mx) b kk (a + 1) → Tr_ wd0 pg0 (d + 6) 105 [.inr (.inr 1)] M2 (rv_ fun M9 => Tr_ wd0 pg0 (d + 6) 138 [.inr (.inr 1), .inl 40] M9 (rv_ fun M10 => rv_ (fun M4 => Tr_ wd0 pg0 (d + 7) 121 [.inr (.inr 1), .inl 59] M4 (rv_ fun M5 => rv_ Kv [] M5) Qt) [] M10) Qt) Qt := by
      intro M2 hM2
      subst hM2
      have hE2 := AM_E A2
      have m70 := AM_70 A2
      refine y_105 hE2 (by rw [m70]; omega) (fun hb => by intro c; have := hS hb; rw [c] at this; exact this rfl) (fun h13 hE3 => ?_) (fun hb h13 => ?_)
      rotate_left
      · refine hQ hb _ (XA_tr (XC_XA (AM_X A2)) (XF_XA fl_XF)) fun Kv Qtq hk9 => pr1 _ _ ?_
        have hXn : Xn_ (nX_ Mx) b kk (a + 1) = nX_ Mx := by unfold Xn_; rw [if_pos (.inl hb)]
        rw [hXn] at hk9
        have hsp := SQ_bf hE1 hb (k := 2) (by decide) (QC_QA (AM_Q A1))
        refine t_265 fun V hV hW => b_265_0 (Tr_mono _) hV hW me _ _ ⟨q1, j_242r hT1 hE1 hb (by decide) k1 h13 ?_⟩
        rw [if_neg (by decide)]
        refine ⟨hm, ?_⟩
        intro _
        have q75 : bf_ (nx_ Mq) 2 (nX_ Mx 71 (a + 1)) 6 75 = Mq 6 75 := by rw [bf_6 (by decide) (by decide), nx_6 (by decide)]
        have fin := stop (SQ_em (w := 8) (p := Mx 71 a) hsp) Kv Qtq hk9
        by_cases c : bf_ (nx_ Mq) 2 (nX_ Mx 71 (a + 1)) 215 me = 0
        · rw [if_pos c]
          exact q_266 (by omega) (by omega) fin
        · rw [if_neg c]
          refine q_236 ?_
          have e : nt_ (bf_ (nx_ Mq) 2 (nX_ Mx 71 (a + 1))) 6 (nx_ Mq 150 (nx_ Mq 6 12)) = bf_ (nx_ Mq) 2 (nX_ Mx 71 (a + 1)) := by unfold nt_; rw [if_pos hsp.1.2]
          rw [e]
          exact q_266 (by omega) (by omega) fin
      have A3 := AM_go A2 hE3
      have hend : laS (Mx 70) a = tS (Mx 70) 259 (a + 1 + 1) := by rw [hsyn, gS_e h12, Option.bind_some, hne, gS_e h13, Option.bind_some]
      rw [gS_e h13, Option.bind_some] at hS
      have pre : ∀ (Kv : mm_ → Prop) (Qtq : qt_), Tr_ wd0 pg0 (dq + 2 + 3) 244 [.inr (.inr 6), .inl 59] (em_ (nx_ (Qn_ (nx_ Mq) b kk (Mx 71 (a + 1)))) 8 (Mx 71 a)) (rv_ Kv) Qtq → Tr_ wd0 pg0 (dq + 6) 264 [.inr (.inr 6), .inl me] Mq (rv_ Kv) Qtq := fun Kv Qtq hq => q_264d h hk h12 hE1 k1' h13 hm (by rw [← hkk]; exact hq)
      have x53 : nX_ (Xn_ (nX_ Mx) b kk (a + 1)) 5 3 = Mx 5 3 := by rw [nX_ne (by decide), Xn_r (by decide), nX_ne (by decide)]
      have q75 : nx_ (Qn_ (nx_ Mq) b kk (Mx 71 (a + 1))) 6 75 = Mq 6 75 := by rw [nx_6 (by decide), Qn_6 (by decide) (by decide), nx_6 (by decide)]
      generalize nX_ (Xn_ (nX_ Mx) b kk (a + 1)) = Mx3 at *
      generalize nx_ (Qn_ (nx_ Mq) b kk (Mx 71 (a + 1))) = Mq3 at *
      have hp := PXL_1 (v := 40) hE3.2.2.2.2.2.2.1 h01 (PXL_0 (b := b) (M := Mx3))
      have A4 := AM_em (w := 8) (p := Mx 71 a) (AM_p A3 hp (by simp only [List.length_cons, List.length_nil]; omega)) q75
      refine x_138 (AM_V A3).1 (ER_st hE3).1 (ER_st hE3).2 (rv_i ?_)
      refine y_endl (d2 := dq + 2) (Mx := Mx) (Mq := Mq) (me := me) (.inl ⟨rfl, rfl⟩) A4 hS pre (by omega) (by omega) (by rw [em_75, q75]) (by simp only [List.length_cons, List.length_nil]; omega) ⟨by rw [← q75, em_204], by rw [← q75, em_203], fun h => absurd h (by decide)⟩ (fun hb1 h0 => ?_) (fun MX MQ Mx' Mq' a' hL hA hs hq => rv_i (hK MX MQ Mx' Mq' a' hL hA (by rw [hend]; exact hs) hq)) hQ
      have hp4 := hp.2.2.2.1 hb1
      obtain ⟨s2, _⟩ := hp4.2
      rw [x53] at s2 hp4
      refine .inr (.inr (.inr (.inr (.inr (.inl ⟨?_, .inl ⟨?_, ?_, ?_⟩⟩)))))
      · rw [← q75, em_203]
      · rw [← q75, em_205]
      · simpa using s2
      · rw [hp4.1]; rfl
    intro _
    rw [h18]
    rcases h01 with hb | hb
    · rw [if_pos hb]
      exact go _ (by unfold Xn_; rw [if_pos (.inl hb)])
    · rw [if_neg (by omega), e29, x3]
      have e66 : nX_ Mx 66 = Mx 66 := nX_ne (by decide)
      rw [e66]
      refine ⟨by omega, ?_⟩
      by_cases c : Mx 66 (Mx 1 29 - 1) = -1
      · rw [if_pos c]
        have k6 : kk = 6 := by rw [hkk, if_neg ((hst hb).mp c)]
        refine x_116 (by omega) (by have := hg1.2.1; omega) (ER_fl hE1).1 (ER_fl hE1).2 ?_
        exact go _ (by unfold Xn_; rw [if_neg (by omega), k6])
      · rw [if_neg c]
        have k6 : kk = 0 := by
          rw [hkk]
          by_cases c2 : Mq 215 me = 0
          · rw [if_pos c2]
          · exact absurd ((hst hb).mpr c2) c
        exact go _ (by unfold Xn_; rw [if_pos (.inr k6)])
  · -- next and a name
    rw [if_pos rfl]
    have k0 : Mx 70 (a + 1) ≠ 245 := by rw [← e70]; exact k1
    have hne : neS (Mx 70) (a + 1) = tS (Mx 70) 100 (a + 1) := by unfold neS; rw [if_neg k0]
    rw [hne] at hS
    have pr2 : ∀ {Ms : mm_} {r : Int} (Kv : mm_ → Prop) (Qtq : qt_), Tr_ wd0 pg0 (dq + 4) 233 [.inr (.inr 6)] (nx_ Mq) (ri_ fun v2 M2 => v2 = r ∧ M2 = Ms) Qtq → sp_ Ms → rv_ (fun M11 => Tr_ wd0 pg0 (dq + 5) 244 [.inr (.inr 6), .inl 59] M11 (rv_ fun M12 => rv_ Kv [] M12) Qtq) [] Ms → Tr_ wd0 pg0 (dq + 6) 264 [.inr (.inr 6), .inl me] Mq (rv_ Kv) Qtq := by
      intro Ms r Kv Qtq h233 hsp hfin
      refine pr1 _ _ (t_265 fun V hV hW => b_265_0 (Tr_mono _) hV hW me _ _ ⟨q1, j_242f hT1 hE1 (by decide) k1 ?_⟩)
      rw [if_pos rfl]
      refine Tr_m h233 (fun vs M hh => ?_) (fun _ _ hh => hh)
      obtain ⟨x, hx, h1, h2⟩ := hh
      refine ⟨x, hx, ?_⟩
      rw [h2]
      refine q_227s hsp ?_
      rw [if_neg (by decide)]
      exact hfin
    refine y_107 hE1 (fun hb => by rw [e70]; intro e; rw [e] at hS; exact hS hb rfl) (fun k2 h13 hE2 => ?_) (fun hb k2 h13 => ?_) (fun hb k2 => ?_)
    rotate_left
    · refine hQ hb _ (XA_tr (XC_XA (AM_X A1)) (XF_XA fl_XF)) fun Kv Qtq hk9 => ?_
      have hsp := SQ_bf hE1 hb (k := 2) (by decide) (QC_QA (AM_Q A1))
      exact pr2 (r := a + 1) Kv Qtq (j_233r hT1 hE1 hb k2 h13 ⟨rfl, rfl⟩) hsp.1 (stop hsp Kv Qtq hk9)
    · refine hQ hb _ (XA_tr (XC_XA (AM_X A1)) (XF_XA fl_XF)) fun Kv Qtq hk9 => ?_
      have hsp := SQ_bf hE1 hb (k := 1) (by decide) (QC_QA (AM_Q A1))
      exact pr2 (r := a + 1) Kv Qtq (j_233w hT1 hE1 hb k2 ⟨rfl, rfl⟩) hsp.1 (stop hsp Kv Qtq hk9)
    have A2 := AM_go A1 hE2
    have hT2 := AM_T A2
    have hV2 := AM_V A2
    have k1' : Mx 70 (a + 1) = 100 := by rw [← e70]; exact k2
    have hnm : nm9_ (nX_ (nX_ Mx)) (a + 1) := ⟨gd_c (AM_70 A2) hg1, by rw [AM_70 A2]; exact k1'⟩
    rw [tS_e k1' h13, Option.bind_some] at hS
    have hend : laS (Mx 70) a = tS (Mx 70) 259 (a + 1 + 1) := by rw [hsyn, gS_e h12, Option.bind_some, hne, tS_e k1' h13, Option.bind_some]
    obtain ⟨l, hl⟩ : ∃ l, l = stt Mq (Mq 151 (a + 1)) := ⟨_, rfl⟩
    have hlr := stt_r (AM_V A0) h9 (v := Mq 151 (a + 1))
    rw [← hl] at hlr
    have h8 : nX_ (nX_ Mx) 1 8 = b := hE2.2.2.2.2.2.2.1
    have pre := fun (Kv : mm_ → Prop) (Qtq : qt_) hq => q_264n (me := me) (dq := dq) (Kv := Kv) (Qt := Qtq) h h9 hk h12 hE1 k1' h13 hE2 hl hm hq
    have q75 : nx_ (nx_ Mq) 6 75 = Mq 6 75 := by rw [nx_6 (by decide), nx_6 (by decide)]
    have x53 : nX_ (nX_ Mx) 5 3 = Mx 5 3 := by rw [nX_ne (by decide), nX_ne (by decide)]
    have h12q : Mq 174 (Mq 6 61) ≤ 12 := by rw [h.2.1.2.1, h9.1.2.2]; exact h9.1.2.1
    intro _
    rw [h8]
    rcases h01 with hb | hb
    · rw [if_pos hb]
      rw [if_pos (.inl hb)] at pre
      unfold Qn_ at pre
      rw [if_pos (.inl hb)] at pre
      have A3 := AM_up (r := 205) (v := l) (AM_em (w := 8) (p := Mx 71 a) A2 q75) (by decide) (rfl : Mq 6 75 = Mq 6 75)
      refine rv_i (y_endl (d2 := dq + 2) (Mx := Mx) (Mq := Mq) (me := me) (.inl ⟨rfl, rfl⟩) A3 hS pre (by omega) (by omega) (by rw [up_ne (by decide), em_75, q75]) (by omega) ⟨by rw [up_ne (by decide), ← q75, em_204], by rw [up_ne (by decide), ← q75, em_203], fun h => absurd h (by decide)⟩ (fun hb1 => by omega) (fun MX MQ Mx' Mq' a' hL hA hs hq => rv_i (hK MX MQ Mx' Mq' a' hL hA (by rw [hend]; exact hs) hq)) hQ)
    · rw [if_neg (by omega)]
      refine x_142R hT2 hV2 (stt9_c (AM_X A2) (AM_Q A2) h9) hnm ?_
      rw [show nx_ (nx_ Mq) 151 = Mq 151 by rw [nx_ne (by decide), nx_ne (by decide)], stt_c (AM_Q A2), ← hl]
      by_cases cl : l = -1
      · rw [if_pos cl]
        rw [if_pos (.inr (by omega))] at pre
        have e4 : k4g_ l = 4 := by unfold k4g_; rw [if_pos cl]
        rw [e4] at pre
        obtain ⟨A3, hz3⟩ := AM_m (k := 4) (tk := a + 1) A2 (by omega) hg1 (by omega)
        have eX : Xn_ (nX_ (nX_ Mx)) b 4 (a + 1) = nt1_ (nX_ (nX_ Mx)) 4 (a + 1) := by unfold Xn_; rw [if_neg (by omega)]
        refine x_116 (by omega) (by omega) (ER_fl hE2).1 (ER_fl hE2).2 ?_
        rw [← eX]
        generalize hX3 : Xn_ (nX_ (nX_ Mx)) b 4 (a + 1) = Mx3 at *
        have hQ3 : Qn_ (nx_ (nx_ Mq)) b 4 (Mx 71 (a + 1)) 6 75 = Mq 6 75 := by rw [Qn_6 (by decide) (by decide)]; exact q75
        generalize Qn_ (nx_ (nx_ Mq)) b 4 (Mx 71 (a + 1)) = Mq3 at *
        have hE3 := AM_E A3
        have hp1 := PXL_1 (v := 39) hE3.2.2.2.2.2.2.1 (.inr hb) (PXL_0 (b := b) (M := Mx3))
        have A4 := AM_p A3 hp1 (by simp only [List.length_cons, List.length_nil]; omega)
        refine x_138 (AM_V A3).1 (ER_st hE3).1 (ER_st hE3).2 ?_
        refine x_138 (AM_V A4).1 (ER_st (AM_E A4)).1 (ER_st (AM_E A4)).2 ?_
        have hp := PXL_1 (v := l) hE3.2.2.2.2.2.2.1 (.inr hb) hp1
        have A5 := AM_p A3 hp (by simp only [List.length_cons, List.length_nil]; omega)
        have A6 := AM_up (r := 205) (v := l) (AM_em (w := 8) (p := Mx 71 a) A5 hQ3) (by decide) (rfl : Mq 6 75 = Mq 6 75)
        refine rv_i (y_endl (d2 := dq + 2) (Mx := Mx) (Mq := Mq) (me := me) (.inl ⟨rfl, rfl⟩) A6 hS pre (by omega) (by omega) (by rw [up_ne (by decide), em_75, hQ3]) (by simp only [List.length_cons, List.length_nil]; omega) ⟨by rw [up_ne (by decide), ← hQ3, em_204], by rw [up_ne (by decide), ← hQ3, em_203], fun h => absurd h (by decide)⟩ (fun hb1 h0 => ?_) (fun MX MQ Mx' Mq' a' hL hA hs hq => rv_i (hK MX MQ Mx' Mq' a' hL hA (by rw [hend]; exact hs) hq)) hQ)
        exfalso
        have := hz3 hb (by rw [up_ne (by decide), em_6 (by decide)] at h0; exact h0)
        omega
      · rw [if_neg cl]
        rw [if_neg (by omega)] at pre
        have e29' : w32 (nX_ (nX_ Mx) 1 29 - 1) = Mx 1 29 - 1 := by rw [nX_1 (by decide), nX_1 (by decide), w32_id (by omega) (by omega)]
        have e63 : nX_ (nX_ Mx) 63 = Mx 63 := by rw [nX_ne (by decide), nX_ne (by decide)]
        rw [e29', e63]
        refine ⟨by omega, by omega, ?_⟩
        have A3 := AM_base (rx := 63) (rq := 213) (i := Mx 1 29 - 1) (v := or_ (Mx 63 (Mx 1 29 - 1)) (sl_ 1 l)) (j := me) (w := or_ (Mq 213 me) (sl_ 1 l)) (.inl rfl) (.inl rfl) A2
        have hL : LM b Mx Mq me (up_ Mx 63 (Mx 1 29 - 1) (or_ (Mx 63 (Mx 1 29 - 1)) (sl_ 1 l))) (up_ Mq 213 me (or_ (Mq 213 me) (sl_ 1 l))) := .inr ⟨hb, l, ⟨by omega, by omega⟩, .inl ⟨by have e61 := h.2.1.2.1; have e174 := h9.1.2.2; rw [e61, e174] at hlr; omega, rfl, rfl⟩⟩
        have y53 : up_ (nX_ (nX_ Mx)) 63 (Mx 1 29 - 1) (or_ (Mx 63 (Mx 1 29 - 1)) (sl_ 1 l)) 5 3 = Mx 5 3 := by rw [up_ne (by decide)]; exact x53
        have hQ3 : up_ (nx_ (nx_ Mq)) 213 me (or_ (Mq 213 me) (sl_ 1 l)) 6 75 = Mq 6 75 := by rw [up_ne (by decide)]; exact q75
        have q174 : up_ (nx_ (nx_ Mq)) 213 me (or_ (Mq 213 me) (sl_ 1 l)) 174 = Mq 174 := by rw [up_ne (by decide), nx_ne (by decide), nx_ne (by decide)]
        have b75 : up_ Mq 213 me (or_ (Mq 213 me) (sl_ 1 l)) 6 75 = Mq 6 75 := by rw [up_ne (by decide)]
        generalize up_ (nX_ (nX_ Mx)) 63 (Mx 1 29 - 1) (or_ (Mx 63 (Mx 1 29 - 1)) (sl_ 1 l)) = Mx3 at *
        generalize up_ (nx_ (nx_ Mq)) 213 me (or_ (Mq 213 me) (sl_ 1 l)) = Mq3 at *
        have hE3 := AM_E A3
        have hp1 := PXL_1 (v := 39) hE3.2.2.2.2.2.2.1 (.inr hb) (PXL_0 (b := b) (M := Mx3))
        have A4 := AM_p A3 hp1 (by simp only [List.length_cons, List.length_nil]; omega)
        refine x_138 (AM_V A3).1 (ER_st hE3).1 (ER_st hE3).2 ?_
        refine x_138 (AM_V A4).1 (ER_st (AM_E A4)).1 (ER_st (AM_E A4)).2 ?_
        have hp := PXL_1 (v := l) hE3.2.2.2.2.2.2.1 (.inr hb) hp1
        have A5 := AM_p A3 hp (by simp only [List.length_cons, List.length_nil]; omega)
        have A6 := AM_up (r := 205) (v := l) (AM_em (w := 8) (p := Mx 71 a) A5 (hQ3.trans b75.symm)) (by decide) (b75.symm : Mq 6 75 = _)
        refine rv_i (y_endl (d2 := dq + 2) (Mx := Mx) (Mq := Mq) (me := me) hL A6 hS pre (by omega) (by omega) (by rw [up_ne (by decide), em_75, hQ3]) (by simp only [List.length_cons, List.length_nil]; omega) ⟨by rw [up_ne (by decide), ← hQ3, em_204], by rw [up_ne (by decide), ← hQ3, em_203], fun h => absurd h (by decide)⟩ (fun hb1 h0 => ?_) (fun MX MQ Mx' Mq' a' hL hA hs hq => rv_i (hK MX MQ Mx' Mq' a' hL hA (by rw [hend]; exact hs) hq)) hQ)
        have hp4 := hp.2.2.2.1 hb
        obtain ⟨s1, s2, _⟩ := hp4.2
        rw [y53] at s1 s2 hp4
        refine .inr (.inr (.inr (.inr (.inr (.inl ⟨?_, .inr ⟨?_, ?_, ?_, ?_, ?_⟩⟩)))))
        · rw [up_ne (by decide), ← hQ3, em_203]
        · rw [up_at]; omega
        · rw [up_at, up_ne (by decide), em_r (.inl (by decide)) (by decide), q174]; omega
        · simpa using s2
        · rw [up_at]; exact s1
        · rw [hp4.1]; rfl
end LN
end T114_ln
section T115_va
/-! values: what may begin an e -/
section VB
variable {d dq n : Nat} {b F : Int} {Mx Mq M : mm_} {a o w : Int} {K : Int → mm_ → Prop} {Kv G : mm_ → Prop} {Qt : qt_} {V : vv_}
abbrev bE_ (k : Int) : Prop := k = 101 ∨ k = 100 ∨ (31 ≤ k ∧ k ≤ 41) ∨ k = 240 ∨ k = 245
theorem y_159 [Inhabited gh_] (hE : ER b F Mx Mq a o) (ht : bE_ (Mx 70 a) → K 1 Mx) (hf : ¬ bE_ (Mx 70 a) → K 0 Mx) : Tr_ wd0 pg0 (d + 2) 159 [.inr (.inr 1)] Mx (ri_ K) Qt := t_159 fun V hV hW => b_159_0 (Tr_mono _) hV hW Mx (by
  refine x_120 (ER_iX hE) ?_
  rw [hE.2.1]
  generalize Mx 70 a = k at *
  by_cases c : bE_ k
  · have h1 : bl_ 1 ∧ ri_ K [.inl 1] Mx := ⟨.inr rfl, ri_i (ht c)⟩
    by_cases c1 : k = 101
    · rw [if_pos c1]; exact h1
    · rw [if_neg c1]
      by_cases c2 : k = 100
      · rw [if_pos c2]; exact h1
      · rw [if_neg c2]
        by_cases c3 : k < 31
        · exfalso; unfold bE_ at c; omega
        · rw [if_neg c3]
          by_cases c4 : k ≤ 41
          · rw [if_pos c4]; exact h1
          · rw [if_neg c4]
            by_cases c5 : k = 240
            · rw [if_pos c5]; exact h1
            · rw [if_neg c5, if_pos (by unfold bE_ at c; omega)]; exact h1
  · have h1 : bl_ 0 ∧ ri_ K [.inl 0] Mx := ⟨.inl rfl, ri_i (hf c)⟩
    unfold bE_ at c
    rw [if_neg (by omega), if_neg (by omega)]
    by_cases c3 : k < 31
    · rw [if_pos c3, if_neg (by omega), if_neg (by omega)]; exact h1
    · rw [if_neg c3, if_neg (by omega), if_neg (by omega), if_neg (by omega)]; exact h1)
/-- X: an e that cannot begin -/
theorem x_145b [Inhabited gh_] (hE : ER b F Mx Mq a o) (hn : ¬ bE_ (Mx 70 a)) (h : Qt 8 (flX_ Mx 1 a)) : Tr_ wd0 pg0 (d + 10) 145 [.inr (.inr 1), .inl w] Mx (rv_ Kv) Qt := by
  have e3 := hE.2.1
  unfold bE_ at hn
  refine t_145 fun V hV hW => b_145_0 (Tr_mono _) hV hW w Mx ?_
  refine t_146 fun V hV hW => b_146_0 (Tr_mono _) hV hW Mx ?_
  refine t_147 fun V hV hW => b_147_0 (Tr_mono _) hV hW Mx ?_
  refine t_148 fun V hV hW => b_148_0 (Tr_mono _) hV hW Mx ?_
  refine t_149 fun V hV hW => b_149_0 (Tr_mono _) hV hW Mx ?_
  refine t_150 fun V hV hW => b_150_0 (Tr_mono _) hV hW Mx ?_
  refine t_151 fun V hV hW => b_151_0 (Tr_mono _) hV hW Mx ?_
  refine y_117 hE (by decide) (fun e => by rw [show skk_ 45 = 245 from rfl] at e; omega) (fun _ => ?_)
  rw [if_pos rfl]
  refine y_103 hE (fun e => by omega) (fun _ => ?_)
  rw [if_pos rfl]
  refine t_152 fun V hV hW => b_152_0 (Tr_mono _) hV hW Mx ?_
  refine x_120 (ER_iX hE) ?_
  rw [e3, if_neg (by omega), if_neg (by omega), if_neg (by omega), if_neg (by omega), if_neg (by omega), if_neg (by omega), if_neg (by omega), if_neg (by omega), if_neg (by omega), if_neg (by omega), if_neg (by omega), if_neg (by omega), if_neg (by omega)]
  refine x_109 (ER_iX hE) ?_
  rw [if_neg (by decide), e3]
  exact h
/-- Q: a fourth value -/
theorem j_299 [Inhabited gh_] (hT : Tks Mx Mq) (hE : ER b F Mx Mq a o) (hb : b = 0) (h : Kv (bf_ Mq (if bE_ (Mx 70 a) then 2 else 1) (Mx 71 a))) : Tr_ wd0 pg0 (d + 3) 299 [.inr (.inr 6)] Mq (rv_ Kv) Qt := by
  obtain ⟨e1, e2, e3, e4, e5, e6⟩ := ER_k hT hE
  have hok := ER_ok hE hb
  refine t_299 fun V hV hW => b_299_0 (Tr_mono _) hV hW Mq ?_
  have r2 : bE_ (Mx 70 a) → V 89 [rr 6, none] [] Mq := fun c => b_299_89 (Tr_mono _) hV hW Mq (by
    rw [if_pos c] at h
    rw [if_neg (by decide)]
    exact ⟨e3, q_231o hok.1 (rv_i (by rw [e2]; exact h))⟩)
  have r1 : ¬ bE_ (Mx 70 a) → V 93 [rr 6, none] [] Mq := fun c => b_299_93 (Tr_mono _) hV hW Mq (by
    rw [if_neg c] at h
    rw [if_pos rfl]
    exact q_234o e3 hok.1 (rv_i (by rw [e2]; exact h)))
  have n1 := kq_n e1
  have n2 := kq_u e1
  refine ⟨e3, ?_⟩
  by_cases c1 : Mq 149 (Mq 6 12) = 1
  · rw [if_pos c1]; exact r2 (.inr (.inl (n1.mp c1)))
  · rw [if_neg c1]
    refine ⟨e3, ?_⟩
    by_cases c2 : Mq 149 (Mq 6 12) = 2
    · rw [if_pos c2]; exact r2 (.inl (n2.mp c2))
    · rw [if_neg c2]
      by_cases c3 : Mx 70 a = 240
      · refine j_237t hT hE (by decide) c3 ?_
        rw [if_neg (by decide)]; exact r2 (.inr (.inr (.inr (.inl c3))))
      · refine j_237f hT hE (by decide) c3 ?_
        rw [if_pos rfl]
        by_cases c4 : Mx 70 a = 245
        · refine j_237t hT hE (by decide) c4 ?_
          rw [if_neg (by decide)]; exact r2 (.inr (.inr (.inr (.inr c4))))
        · refine j_237f hT hE (by decide) c4 ?_
          rw [if_pos rfl]
          refine ⟨e3, ?_⟩
          by_cases c5 : Mq 149 (Mq 6 12) = 4
          · have ek : Mq 151 (Mq 6 12) = Mx 70 a := by unfold KQ at e1; omega
            rw [if_pos c5, ek]
            refine ⟨e3, ?_⟩
            by_cases c6 : Mx 70 a < 31
            · rw [if_pos c6, if_pos (by decide)]; exact r1 (by unfold bE_; omega)
            · have c6' : ¬ (if Mx 70 a < 31 then (-1 : Int) else if Mx 70 a = 31 then 0 else 1) < 0 := by
                rw [if_neg c6]; split <;> omega
              rw [if_neg c6']
              refine ⟨e3, ?_⟩
              by_cases c7 : Mx 70 a ≤ 41
              · have c7' : (if Mx 70 a < 41 then (-1 : Int) else if Mx 70 a = 41 then 0 else 1) ≤ 0 := by
                  split
                  · omega
                  · split <;> omega
                rw [if_pos c7']; exact r2 (by unfold bE_; omega)
              · have c7' : ¬ (if Mx 70 a < 41 then (-1 : Int) else if Mx 70 a = 41 then 0 else 1) ≤ 0 := by
                  rw [if_neg (by omega), if_neg (by omega)]; omega
                rw [if_neg c7']; exact r1 (by unfold KQ at e1; unfold bE_; omega)
          · rw [if_neg c5]; exact r1 (by unfold KQ at e1; unfold bE_; omega)
end VB
end T115_va
