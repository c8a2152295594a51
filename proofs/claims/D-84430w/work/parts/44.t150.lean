section T150_bb
/-! a decide: a branch, X and Q -/
def QP3 (dq : Nat) (st mk me : Int) (T : vv_ → Prop) (N : mm_) (dd : Int) : Prop := ∃ k : Int, ∀ (V : vv_) (Kv : mm_ → Prop) (Qt : qt_), Cl_ wd0 (Tr_ wd0 pg0 (dq + 15)) V (rv_ Kv) Qt m_260 → Wk_ V
  → (∀ V' : vv_, Cl_ wd0 (Tr_ wd0 pg0 (dq + 14)) V' (rv_ fun M1 => V 77 (LSz st mk me 0) [] M1) Qt m_303 → Wk_ V' → Tr_ wd0 pg0 (dq + 14) 292 [.inr (.inr 6)] N (ri_ fun v2 M2 => if v2 = 0 then V' 83 [rr 6, ii dd, ii k, none] [] M2 else Tr_ wd0 pg0 (dq + 14) 291 [.inr (.inr 6)] M2 (rv_ fun M3 => rv_ (fun M1 => V 77 (LSz st mk me 0) [] M1) [] M3) Qt) Qt)
  → T V
section BB
variable {d dq m mm : Nat} {b F F' : Int} {Mx Mq M N Mx1 M' : mm_} {a a0 o st mk me x1 x2 x3 x4 x5 c1 i : Int} {K : Int → mm_ → Prop} {Kv G : mm_ → Prop} {Qt : qt_} {V : vv_} {T : vv_ → Prop}
theorem ER_X3 [Inhabited gh_] (h : ER b F Mx Mq a o) (e70 : Mx1 70 = Mx 70) (e1 : Mx1 1 = Mx 1) (h5 : 0 ≤ Mx1 5 3 ∧ Mx1 5 3 ≤ 9 * a + 1000) : ER b F Mx1 Mq a o := by
  obtain ⟨e1', e2, e3, e4, e5, e6, e7, e8, e9, e10, e11, e12, e13, e14, e15⟩ := h
  exact ⟨gd_c e70 e1', by rw [e1]; exact e2, e3, by rw [e1]; exact e4, e5, e6, by rw [e1]; exact e7, e8, e9, e10, by unfold NR; rw [e1]; exact e11, by rw [e1]; exact e12, by rw [e1]; exact e13, h5.1, h5.2⟩
theorem SQ_103 [Inhabited gh_] {v : Int} (h : SQ Mx N M) : SQ Mx N (up_ M 6 103 v) := ⟨⟨by rw [up_off (by decide)]; exact h.1.1, by rw [up_off (by decide)]; exact h.1.2⟩, by unfold in9_; rw [up_off (by decide)]; exact h.2.1, by rw [up_off (by decide)]; exact h.2.2.1, ⟨by rw [up_off (by decide)]; exact h.2.2.2.1.1, h.2.2.2.1.2⟩, QA_tr h.2.2.2.2 (QA_u6 (by decide))⟩
theorem afS_e [Inhabited gh_] {κ : Int → Int} {pt : sj_ → Option sj_} {a j r : Int} {s : sj_} (h : pt (a, j) = some s) : afS κ pt a j r = if isR κ s.1 then LQ (dcT1 κ pt) (s, r) else some s := by
  unfold afS; rw [h, Option.bind_some]
theorem afS_n [Inhabited gh_] {κ : Int → Int} {pt : sj_ → Option sj_} {a j r : Int} (h : afS κ pt a j r ≠ none) : pt (a, j) ≠ none := fun e => h (by unfold afS; rw [e, Option.bind_none])
theorem Mp_r [Inhabited gh_] {r : Nat} (h5 : r ≠ 5) (h1 : r ≠ 142) : Mp_ b M c1 i r = M r := by
  unfold Mp_; split
  · rfl
  · rw [pX_r h5 h1, up_ne h1]
theorem Mp_5 [Inhabited gh_] {j : Int} (h : j ≠ 3) : Mp_ b M c1 i 5 j = M 5 j := by
  unfold Mp_; split
  · rfl
  · rw [pX_5 h, up_ne (by decide)]
theorem Mp_XF [Inhabited gh_] : XF M (Mp_ b M c1 i) := ⟨fun r h => Mp_r (fun e => h (by rw [e]; decide)) (fun e => h (by rw [e]; decide)), fun i _ _ _ _ _ => by rw [Mp_r (by decide) (by decide)], fun i h => Mp_5 h⟩
theorem Mp_53 [Inhabited gh_] (h01 : b = 0 ∨ b = 1) (h8 : M 1 8 = b) : Mp_ b M c1 i 5 3 = M 5 3 + (if b = 0 then 0 else 1) := by
  rcases h01 with hb | hb
  · unfold Mp_; rw [if_pos hb, if_pos hb]; omega
  · unfold Mp_; rw [if_neg (by omega), if_neg (by omega), pX_v (by rw [up_ne (by decide)]; omega), up_at, up_ne (by decide)]
theorem Mp_142 [Inhabited gh_] (hb : b = 1) (h8 : M 1 8 = b) (hc : c1 < M 5 3) {j : Int} (hj : j < M 5 3) : Mp_ b M c1 i 142 j = if j = c1 then i else M 142 j := by
  unfold Mp_
  have e : up_ M 142 c1 i 5 3 = M 5 3 := by rw [up_ne (by decide)]
  rw [if_neg (by omega), pX_v (by rw [up_ne (by decide)]; (clear hc hj e; lia)), up_ne (by decide), e, up_of2 (by omega)]
  by_cases c : j = c1
  · rw [if_pos c, c, up_at]
  · rw [if_neg c, up_of2 c]
theorem BPX_m [Inhabited gh_] (h01 : b = 0 ∨ b = 1) (h8 : M 1 8 = b) {N' : mm_} {a1 dd : Int} (hB : BLR b F' (M0_ b M) N M' N' a a1 o dd i) (hi : 0 ≤ i) (hc : c1 = if b = 0 then M 5 3 else M 5 3 + 1) : BPX b M (nX_ (Mp_ b M' c1 i)) M' i ∧ XF M (nX_ (Mp_ b M' c1 i)) := by
  have hx := hB.2.1
  have h8' : M' 1 8 = b := hB.1.2.2.2.2.2.2.1
  have e53 := hB.2.2.2.2.2.2.2.1
  rw [M0_53 h01 h8] at e53
  refine ⟨⟨fun r h1 h5 h2 => ?_, ?_, fun j hj => ?_, fun hb => ?_⟩, XF_tr M0_XF (XF_tr hx (XF_tr Mp_XF nX_XF))⟩
  · rw [nX_ne h1, Mp_r h5 h2, XF_70 hx h1 h5 h2, M0_r h5 h2]
  · rw [nX_ne (by decide), Mp_53 h01 h8', e53.1]
    rcases h01 with hb | hb
    · simp only [if_pos hb]; omega
    · simp only [if_neg (show ¬ b = 0 by omega)]; (clear h8 hB hi hc hx h8' e53 hb; lia)
  · rw [nX_ne (by decide)]
    rcases h01 with hb | hb
    · have q := e53.2 j (by rw [if_pos hb]; (clear h8 hB hi hc hx h8' e53 hb; omega))
      unfold Mp_; rw [if_pos hb, q]; unfold M0_; rw [if_pos hb]
    · rw [if_neg (by omega)] at hc
      have q := e53.2 j (by rw [if_neg (by omega)]; (clear h8 hB hi hc hx h8' hb; omega))
      have z := e53.1
      rw [if_neg (by omega), if_neg (by omega)] at z
      rw [Mp_142 hb h8' (by (clear h8 hB hx h8' hj hb q; omega)) (by omega), if_neg (by omega), q, (M0_b hb h8).2.2 j hj]
  · rw [if_neg (by omega)] at hc
    have z := e53.1
    rw [if_neg (by omega), if_neg (by omega)] at z
    refine ⟨?_, ?_, fun j x y => ?_⟩
    · rw [nX_ne (by decide), Mp_142 hb h8' (by omega) (by (clear h01 h8 hB hc hx h8' hb; omega)), if_neg (by omega), e53.2 _ (by rw [if_neg (by omega)]; omega), (M0_b hb h8).2.1]
    · rw [nX_ne (by decide), Mp_142 hb h8' (by omega) (by omega), if_pos hc.symm]
    · rw [nX_ne (by decide), Mp_142 hb h8' (by (clear h01 h8 hB hx h8' hb x y; omega)) (by (clear h01 h8 hB hi hc hx h8' hb x; omega)), if_neg (by omega)]
end BB
end T150_bb
section T151_bm
/-! a decide: a branch, joined -/
section BM
variable {d dq m mm : Nat} {b F F' : Int} {Mx Mq M N Mx1 M' : mm_} {a a0 o st mk me x1 x2 x3 x4 x5 c1 i : Int} {K : Int → mm_ → Prop} {Kv G : mm_ → Prop} {Qt : qt_} {V : vv_} {T : vv_ → Prop}
theorem y_161b [Inhabited gh_] (hsp : SPART dq m) (hm : m + 1 ≤ 12) (ho : o = 11 - (m : Int)) (hp : PS b F Mx Mq a0 o me) (h : DHS b F F' Mx Mq M N a0 a o me x2 x3 x4 x5 mm) (hpre : QPR dq st mk me T N)
    (hS : b = 1 → LQ (dcT1 (Mx 70) (PTj (Mx 70) (LMT Mx) m)) ((a, lc_ b M), x3) ≠ none)
    (hV : Cl_ wd0 (Tr_ wd0 pg0 (9 * m + 24)) V (ri_ K) Qt m_161) (hW : Wk_ V)
    (hK : ∀ F2 M4 N4 a3 y3 y4 y5 y7 y8 y10 y11, DHS b F F2 Mx Mq M4 N4 a0 a3 o me x2 y3 y4 y5 (mm + 1) → x3 < y3 → LKP b M M4 → (∀ lm, LOK b lm M M4 → LQ (dcT1 (Mx 70) (PTj (Mx 70) lm m)) ((a, lc_ b M), x3) = if isR (Mx 70) a3 then LQ (dcT1 (Mx 70) (PTj (Mx 70) lm m)) ((a3, lc_ b M4), y3) else some (a3, lc_ b M4)) → QP3 dq st mk me T N4 (Mq 6 102) → a < a3 → N4 6 103 = 0 → 0 ≤ N4 222 (Mq 6 102)
      → (isR (Mx 70) a3 → V 50 [rr 1, ii x1, ii x2, ii y3, ii y4, ii y5, none, none, none, none, none, none, none] [] M4) ∧ (¬ isR (Mx 70) a3 → XEND m V Qt x1 x2 y3 y5 y7 y8 0 y10 y11 y4 M4))
    (hQ : b = 0 → ∀ Mx', XA Mx Mx' → STT dq T Mq Mx' → Qt 8 Mx') :
    V 50 [rr 1, ii x1, ii x2, ii x3, ii x4, ii x5, none, none, none, none, none, none, none] [] M := by
  have dq2 := hp.2.2.2.2.2.2.2.1
  have hps : PS b F' M N a (o + 1) me := PS_D hp h.1 (by omega) ⟨by have := h.2.1; omega, by have := h.2.1; omega⟩
  obtain ⟨⟨hT, hVT, hE, t4, t5, t6⟩, hG, hL, hst, u, w7, r90, d102, msk, c19, s53⟩ := hps
  have h' := h
  obtain ⟨d1, d2, ⟨d3, d4, d5, d6, d7, d8, d9, d10, d11⟩, d12, d13, d14, d15, d16⟩ := h'
  clear d16 d15 d14 d7
  have m8 : M 1 8 = b := hE.2.2.2.2.2.2.1
  have h01 := bl01 hE
  have ha := ER_a hE
  have st0 := ER_st hE
  have xM := PRD_X d1
  have qM := PRD_Q d1
  have m70 : M 70 = Mx 70 := xM.1 70 (by decide)
  have q75 := hp.1.2.2.2.1
  have e0_70 : M0_ b M 70 = Mx 70 := by rw [M0_r (by decide) (by decide), m70]
  have s0 := M0_53 h01 m8
  have s0' : M 5 3 ≤ M0_ b M 5 3 ∧ M0_ b M 5 3 ≤ M 5 3 + 2 := by rw [s0]; split <;> omega
  have hE0 : ER b F' (M0_ b M) N a (o + 1) := ER_X3 hE (M0_r (by decide) (by decide)) (M0_r (by decide) (by decide)) (by (clear hsp hm ho hp h hpre hS hV hW hK hQ dq2 hT hVT hE t4 t5 t6 hG hL hst u w7 r90 d102 msk c19 d1 d2 d3 d4 d5 d6 d8 d9 d10 d11 d12 d13 m8 h01 ha xM qM m70 q75 e0_70; lia))
  have lk : b = 1 → LMT M = LMT Mx := (LKP_P d1).2.2.2
  refine x_161_50 (d := 9 * m + 21) hV hW m8 h01 hVT.1 st0.1 (by (clear hsp hm ho hp h hpre hS hV hW hK hQ dq2 hT hVT hE t4 t5 t6 hG hL hst u w7 r90 d102 msk c19 d1 d2 d3 d4 d5 d6 d8 d9 d10 d11 d12 d13 m8 h01 xM qM m70 q75 e0_70 s0' hE0 lk; omega)) ?_
  suffices hh : V 87 [rr 1, ii x1, ii x2, ii (x3 + 0), ii x4, ii x5, ii 0, ii (M 5 3), ii (if b = 0 then M 5 3 else M 5 3 + 1), ii 1, none, none, none] [] (M0_ b M) by rw [Int.add_zero] at hh; exact hh
  refine l_161r (D := 9 * m + 18) (dq := dq + 6) (F := F') (dd := Mq 6 102) (jj := lc_ b M) (pt := PTj (Mx 70) (LMT Mx) m) (jw_PTj m).1 (Tks_a (XF_XA M0_XF) QA_rf hT) (VT_a (XF_XA M0_XF) QA_rf hVT) (by (clear hsp hp h hpre hS hV hW hK hQ hT hVT hE t4 t5 t6 hG hL hst u w7 r90 msk c19 s53 d1 d3 d4 d5 d6 d8 d9 d10 d11 d12 d13 m8 h01 ha st0 xM qM m70 q75 e0_70 s0 s0' hE0 lk; omega)) (by (clear hsp hm ho hp h hpre hS hV hW hK hQ dq2 hT hVT hE t4 t5 t6 hG hL hst u w7 r90 d102 msk c19 s53 d1 d3 d4 d5 d6 d8 d9 d10 d11 d12 d13 m8 h01 ha st0 xM qM m70 q75 e0_70 s0 s0' hE0 lk; omega)) (by (clear hsp hm ho hp h hpre hS hV hW hK hQ hT hVT hE t4 t5 t6 hG hL hst u w7 r90 d102 msk c19 s53 d1 d3 d4 d5 d6 d8 d9 d10 d11 d12 d13 m8 h01 ha st0 xM qM m70 q75 e0_70 s0 s0' hE0 lk; omega)) r90 d6 (by (clear hsp hm ho hp h hpre hS hV hW hK hQ dq2 hT hVT hE t5 t6 hG hL hst u w7 r90 d102 msk c19 s53 d1 d2 d4 d5 d6 d8 d9 d10 d11 d13 m8 h01 st0 xM qM m70 e0_70 s0 s0' hE0 lk; omega)) ⟨d4, d5.1⟩ d8 (by rw [M0_r (by decide) (by decide)]; (clear hsp hm ho hp h hpre hS hV hW hK hQ dq2 hT hVT hE t4 t5 t6 hG hL hst u r90 d102 msk c19 s53 d1 d2 d3 d4 d5 d6 d8 d9 d10 d11 d12 d13 m8 h01 ha st0 xM qM m70 q75 e0_70 s0 s0' hE0 lk; omega)) (by (clear hsp hm ho hp h hpre hS hV hW hK hQ dq2 hT hVT hE t4 t5 t6 hG hL hst u w7 r90 d102 msk c19 d1 d2 d3 d4 d5 d6 d8 d9 d10 d11 d12 d13 m8 h01 ha st0 xM qM m70 q75 e0_70 hE0 lk; omega)) hV hW ?_ (8 - x3).toNat 0 (M0_ b M) N a (by (clear hsp hm ho hp h hpre hS hV hW hK hQ dq2 hT hVT hE t4 t5 t6 hG hL hst u w7 r90 d102 msk c19 s53 d1 d2 d3 d4 d6 d8 d9 d10 d11 d12 d13 m8 h01 ha st0 xM qM m70 q75 e0_70 s0 s0' hE0 lk; omega)) (BLR_0 hE0) (by omega) ?_ ?_ ?_
  · intro hb Mx' hx hq
    exact hQ hb Mx' (XA_tr xM (XA_tr (XF_XA M0_XF) (XF_XA hx))) (fun V Kv Qtq hV hW hk => hpre V Kv Qtq hV hW (hq _ _ fun M' hsq => ⟨q_260s77 hV hW (SQ_103 (SQ_q qM hsq)) hk, fun _ => q_260s77 hV hW (SQ_q qM hsq) hk⟩))
  · intro Kv Qtq hq
    refine t_291 fun V hV hW => b_291_0 (Tr_mono _) hV hW _ ?_
    rw [d2, show Mq 6 102 + 1 - 1 = Mq 6 102 by omega, w32_id (by (clear hsp hm ho hp h hpre hS hK hQ hT hVT hE t4 t5 t6 hG hL hst u w7 r90 d102 msk c19 s53 d1 d3 d4 d5 d6 d8 d9 d10 d11 d12 d13 m8 h01 ha st0 xM qM m70 q75 e0_70 s0 s0' hE0 lk hq hV hW; omega)) (by (clear hsp hp h hpre hS hK hQ dq2 hT hVT hE t4 t5 t6 hG hL hst u w7 r90 msk c19 s53 d1 d3 d4 d5 d6 d8 d9 d10 d11 d12 d13 m8 h01 ha st0 xM qM m70 q75 e0_70 s0 s0' hE0 lk hq hV hW; omega))]
    exact hq V hV hW
  · intro hb
    rw [e0_70, Int.add_zero]
    exact hS hb
  · intro M' N' a1 i hB hi hi8 hai k244 hsyn hS' hq
    rw [e0_70] at hS' k244
    have hE1 := hB.1
    have hxM' := XF_tr M0_XF hB.2.1
    have ha1 := ER_a hE1
    have st1 := ER_st hE1
    have qa : QA N N' := ⟨fun r hr => hB.2.2.2.1.1 r (fun e => hr (by revert e; unfold qaL; simp only [List.mem_cons, List.not_mem_nil, or_false]; (clear hsp hm ho hp h hpre hS hV hW hK hQ dq2 hT hVT hE t4 t5 t6 hG hL hst u w7 r90 d102 msk c19 s53 d1 d2 d3 d4 d5 d6 d8 d9 d10 d11 d12 d13 m8 h01 ha st0 xM qM m70 q75 e0_70 s0 s0' hE0 lk hB hi hi8 hai k244 hsyn hS' hq hE1 hxM' ha1 st1 hr; lia))), fun j hj => hB.2.2.2.1.2.1 j (nm_i hj (by decide)) (nm_i hj (by decide)) (nm_i hj (by decide)) (nm_i hj (by decide))⟩
    have v12 : M' 1 2 = 5 := by rw [hxM'.2.1 2 (by decide) (by decide) (by decide) (by decide) (by decide)]; exact hVT.1
    have e53 := hB.2.2.2.2.2.2.2.1.1
    rw [s0] at e53
    have n53 : M 5 3 ≤ M' 5 3 ∧ M' 5 3 ≤ M 5 3 + 2 + 2 * i := by rw [e53]; split <;> (clear hsp hm ho hp h hpre hS hV hW hK hQ dq2 hT hVT hE t4 t5 t6 hG hL hst u w7 r90 d102 msk c19 s53 d1 d2 d3 d4 d5 d6 d8 d9 d10 d11 d12 d13 m8 h01 ha st0 xM qM m70 q75 e0_70 s0 s0' hE0 lk hB hi8 hai k244 hsyn hS' hq hE1 hxM' ha1 st1 qa v12 e53; lia)
    obtain ⟨c1, hc1⟩ : ∃ c1 : Int, c1 = if b = 0 then M 5 3 else M 5 3 + 1 := ⟨_, rfl⟩
    rw [← hc1]
    have bc1 : b = 1 → c1 = M 5 3 + 1 ∧ M' 5 3 = M 5 3 + 2 + 2 * i := fun hb => by
      rw [if_neg (by (clear hsp hm ho hp h hpre hS hV hW hK hQ dq2 hT hVT hE t4 t5 t6 hG hL hst u w7 r90 d102 msk c19 s53 d1 d2 d3 d4 d5 d6 d8 d9 d10 d11 d12 d13 m8 h01 ha st0 xM qM m70 q75 e0_70 s0 s0' hE0 lk hB hi hi8 hai k244 hsyn hS' hq hE1 hxM' ha1 st1 qa v12 e53 n53 hc1; lia))] at hc1 e53
      rw [if_neg (by (clear hsp hm ho hp h hpre hS hV hW hK hQ dq2 hT hVT hE t4 t5 t6 hG hL hst u w7 r90 d102 msk c19 s53 d1 d2 d3 d4 d5 d6 d8 d9 d10 d11 d12 d13 m8 h01 ha st0 xM qM m70 q75 e0_70 s0 s0' hE0 lk hB hi hi8 hai k244 hsyn hS' hq hE1 hxM' ha1 st1 qa v12 e53 n53 hc1; lia))] at e53
      exact ⟨hc1, by omega⟩
    refine x_161_87 (d := 9 * m + 21) hV hW hE1.2.2.2.2.2.2.1 h01 v12 st1.1 st1.2 (fun hb => by have := bc1 hb; (clear hsp hm ho hp h hpre hS hV hW hK hQ dq2 hT hVT hE t4 t5 t6 hG hL hst u w7 r90 d102 msk c19 s53 d1 d2 d3 d4 d5 d6 d8 d9 d10 d11 d12 d13 m8 h01 ha xM qM m70 q75 e0_70 s0' hE0 lk hB hi8 hai k244 hsyn hS' hq hE1 hxM' ha1 qa v12 bc1 hb; lia)) ?_
    obtain ⟨hBP, hxf⟩ := BPX_m h01 m8 hB (by (clear hsp hm ho hp h hpre hS hV hW hK hQ dq2 hT hVT hE t4 t5 t6 hG hL hst u w7 r90 d102 msk c19 s53 d1 d2 d3 d4 d5 d6 d8 d9 d10 d11 d12 d13 m8 h01 ha st0 xM qM m70 q75 e0_70 s0 s0' hE0 lk hB hi8 hai k244 hsyn hS' hq hE1 hxM' ha1 st1 qa v12 e53 n53 hc1 bc1; lia)) hc1
    have p53 := Mp_53 (c1 := c1) (i := i) h01 hE1.2.2.2.2.2.2.1
    have p53' : M' 5 3 ≤ Mp_ b M' c1 i 5 3 ∧ Mp_ b M' c1 i 5 3 ≤ M' 5 3 + 1 := by rw [p53]; split <;> (clear hsp hm ho hp h hpre hS hV hW hK hQ dq2 hT hVT hE t4 t5 t6 hG hL hst u w7 r90 d102 msk c19 s53 d1 d2 d3 d4 d5 d6 d8 d9 d10 d11 d12 d13 m8 h01 ha st0 xM qM m70 q75 e0_70 s0 s0' hE0 lk hB hi hi8 hai k244 hsyn hS' hq hE1 hxM' ha1 st1 qa v12 e53 n53 hc1 bc1 hBP hxf p53; lia)
    have hEm : ER b F' (Mp_ b M' c1 i) N' a1 (o + 1) := ER_X3 hE1 (Mp_r (by decide) (by decide)) (Mp_r (by decide) (by decide)) (by (clear hsp hm ho hp h hpre hS hV hW hK hQ dq2 hT hVT hE t4 t5 t6 hG hL hst u w7 r90 d102 msk c19 d1 d2 d3 d4 d6 d8 d9 d10 d11 d12 d13 m8 h01 ha xM qM m70 q75 e0_70 s0' hE0 lk hB k244 hsyn hS' hq hE1 hxM' qa v12 hc1 bc1 hBP hxf; lia))
    have xa1 : XA M (Mp_ b M' c1 i) := XF_XA (XF_tr hxM' Mp_XF)
    have hTm : Tks (Mp_ b M' c1 i) N' := Tks_a xa1 qa hT
    have pm70 : Mp_ b M' c1 i 70 = Mx 70 := by rw [Mp_r (by decide) (by decide), XF_70 hxM' (by decide) (by decide) (by decide), m70]
    have pm71 : Mp_ b M' c1 i 71 = M' 71 := Mp_r (by decide) (by decide)
    refine y_121 hEm (by decide) (fun hb => by rw [pm70]; intro e; have e' : tS (Mx 70) 258 a1 = none := e; have := hS' hb; rw [e'] at this; exact this rfl) (fun k1 h12 hE2 => ?_) (fun hb k1 h12 => ?_) (fun hb k1 => ?_)
    rotate_left
    · have hsp := SQ_bf hEm hb (k := 2) (by decide) (QA_tr qM qa)
      exact hQ hb _ (XA_tr xM (XA_tr xa1 (XF_XA fl_XF))) (fun V Kv Qtq hV hW hk => hpre V Kv Qtq hV hW (hq _ _ fun V2 hV2 hW2 => j_244r hTm hEm hb (by decide) k1 h12 ⟨q_260s77 hV hW (SQ_103 hsp) hk, fun _ => q_260s77 hV hW hsp hk⟩))
    · have hsp := SQ_bf hEm hb (k := 1) (by decide) (QA_tr qM qa)
      exact hQ hb _ (XA_tr xM (XA_tr xa1 (XF_XA fl_XF))) (fun V Kv Qtq hV hW hk => hpre V Kv Qtq hV hW (hq _ _ fun V2 hV2 hW2 => j_244w hTm hEm hb (by decide) k1 ⟨q_260s77 hV hW (SQ_103 hsp) hk, fun _ => q_260s77 hV hW hsp hk⟩))
    have k1' : Mx 70 a1 = 258 := by rw [← pm70]; exact k1
    rw [tS_e k1' h12, Option.bind_some] at hS'
    have hpre2 : ∀ (V : vv_) (Kv : mm_ → Prop) (Qt : qt_), Cl_ wd0 (Tr_ wd0 pg0 (dq + 15)) V (rv_ Kv) Qt m_260 → Wk_ V → V 77 (LSz st mk me 0) [] (up_ (nx_ N') 6 103 0) → T V := fun V Kv Qtq hV hW hk => hpre V Kv Qtq hV hW (hq _ _ fun V2 hV2 hW2 => j_244t hTm hEm (by decide) k1 h12 ⟨hk, fun e0 => by rw [up_id' (by rw [nx_6 (by decide), hB.2.2.2.1.2.1 103 (by decide) (by decide) (by decide) (by decide)]; exact e0)] at hk; exact hk⟩)
    have hEp : ER b F' (nX_ (Mp_ b M' c1 i)) (up_ (nx_ N') 6 103 0) (a1 + 1) (o + 1) := ER_Q hE2 (up_off (by decide)) (up_off (by decide)) (up_off (by decide)) (up_off (by decide)) (up_off (by decide))
    have hBQ : BPQ N' (up_ (nx_ N') 6 103 0) := ⟨fun r hr => by rw [up_ne hr, nx_ne hr], fun j h1 h2 => by rw [up_off h2, nx_6 h1], up_at⟩
    obtain ⟨hPD, hPp⟩ := DHS_p hp h hB hi (by omega) (fun r h5 h1 => M0_r h5 h1) hBP hBQ hxf hEp (by (clear hsp hm ho hp h hpre hS hV hW hK hQ dq2 hT hVT hE t4 t5 t6 hG hL hst u w7 r90 d102 msk c19 s53 d1 d2 d3 d4 d5 d6 d8 d9 d10 d11 d12 d13 m8 h01 ha st0 xM qM m70 q75 e0_70 s0 s0' hE0 lk hB hi hi8 hai k244 hsyn hS' hq hE1 hxM' ha1 st1 qa v12 e53 n53 hc1 bc1 hBP hxf p53 p53' hEm xa1 hTm pm70 pm71 k1 h12 hE2 k1' hpre2 hEp hBQ; omega)) (by rw [nX_1 (by decide), Mp_r (by decide) (by decide)])
    have g70 : nX_ (Mp_ b M' c1 i) 70 = Mx 70 := by rw [nX_ne (by decide)]; exact pm70
    have lkp := LKP_F (b := b) hxf
    have n103 : up_ (nx_ N') 6 103 0 6 103 = 0 := up_at
    have n102 : up_ (nx_ N') 6 103 0 6 102 = Mq 6 102 + 1 := by rw [up_off (by decide), nx_6 (by decide), hB.2.2.2.1.2.1 102 (by decide) (by decide) (by decide) (by decide)]; exact d2
    have n225 : up_ (nx_ N') 6 103 0 225 (Mq 6 102) = 0 := by rw [up_ne (by decide), nx_ne (by decide), hB.2.2.2.1.1 225 (by decide)]; exact d9
    have n226 : up_ (nx_ N') 6 103 0 226 (Mq 6 102) = x5 := by rw [up_ne (by decide), nx_ne (by decide), hB.2.2.2.1.1 226 (by decide)]; exact d10
    have p53'' : nX_ (Mp_ b M' c1 i) 5 3 = Mp_ b M' c1 i 5 3 := by rw [nX_ne (by decide)]
    have hlcp : lc_ b (nX_ (Mp_ b M' c1 i)) = lc_ b M := lkp.2
    have hlmp : b = 1 → LMT (nX_ (Mp_ b M' c1 i)) = LMT Mx := fun hb => (lkp.1.2.2.2 hb).trans (lk hb)
    have bsk : b = 1 → M' 5 3 < Mp_ b M' c1 i 5 3 := fun hb => by rw [p53, if_neg (by (clear hsp hm ho hp h hpre hS hV hW hK hQ dq2 hT hVT hE t4 t5 t6 hG hL hst u w7 r90 d102 msk c19 s53 d1 d2 d3 d4 d5 d6 d8 d9 d10 d11 d12 d13 m8 h01 ha st0 xM qM m70 q75 e0_70 s0 s0' hE0 lk hB hi hi8 hai k244 hsyn hS' hq hE1 hxM' ha1 st1 qa v12 e53 n53 hc1 bc1 hBP hxf p53 p53' hEm xa1 hTm pm70 pm71 k1 h12 hE2 k1' hpre2 hEp hBQ hPD hPp g70 lkp n103 n102 n225 n226 p53'' hlcp hlmp; lia))]; (clear hsp hm ho hp h hpre hS hV hW hK hQ dq2 hT hVT hE t4 t5 t6 hG hL hst u w7 r90 d102 msk c19 s53 d1 d2 d3 d4 d5 d6 d8 d9 d10 d11 d12 d13 m8 h01 ha st0 xM qM m70 q75 e0_70 s0 s0' hE0 lk hB hi hi8 hai k244 hsyn hS' hq hE1 hxM' ha1 st1 qa v12 e53 n53 hc1 bc1 hBP hxf p53 p53' hEm xa1 hTm pm70 pm71 k1 h12 hE2 k1' hpre2 hEp hBQ hPD hPp g70 lkp n103 n102 n225 n226 p53'' hlcp hlmp hb; lia)
    clear hE2 hEm hTm
    generalize nX_ (Mp_ b M' c1 i) = Mp at *
    generalize up_ (nx_ N') 6 103 0 = Np at *
    have ho' : (12 : Int) - (m : Int) = o + 1 := by omega
    refine Tr_le (d := 9 * m + 19) (by (clear hsp hm ho hp h hpre hS hV hW hK hQ dq2 hT hVT hE t4 t5 t6 hG hL hst u w7 r90 d102 msk c19 s53 d1 d2 d3 d4 d5 d6 d8 d9 d10 d11 d12 d13 m8 h01 ha st0 xM qM m70 q75 e0_70 s0 s0' hE0 lk hB hi hi8 hai k244 hsyn hS' hq hE1 hxM' ha1 st1 qa v12 e53 n53 hc1 bc1 p53 p53' xa1 pm70 pm71 k1 h12 k1' bsk hBP hxf g70 lkp p53'' hlcp hlmp hpre2 hBQ n103 n102 n225 n226 hEp hPD hPp ho'; lia)) ?_
    have hsp' := hsp b F' Mp Np (a1 + 1) me st mk
    rw [ho'] at hsp'
    refine hsp' _ Qt hPp n103 (fun hb => ?_) (fun F2 M3 N3 a3 v c hR hM hv h103 hc hsy hRT => ?_) (fun hb Mx' hx hstq => ?_)
    · rw [g70, hlcp, hlmp hb]
      exact afS_n (hS' hb)
    · have hE3 := hR.2.1
      have xa3 := XA_tr (PRD_X hPD) hR.2.2.1.1
      have qa3 := QA_tr (PRD_Q hPD) hR.2.2.1.2
      have b3 := hR.2.2.2.2.1
      have ha3 := ER_a hE3
      have st3 := ER_st hE3
      have pS3 := PS_tr hPp hR (by (clear hsp hm ho hp h hpre hS hV hW hK hQ dq2 hT hVT hE t4 t5 t6 hG hL hst u w7 r90 d102 msk c19 s53 d1 d2 d3 d4 d5 d6 d8 d9 d10 d11 d12 d13 m8 h01 ha st0 xM qM m70 q75 e0_70 s0 s0' hE0 lk hB hi hi8 hai k244 hsyn hS' hq hE1 hxM' ha1 st1 qa v12 e53 n53 hc1 bc1 p53 p53' xa1 pm70 pm71 k1 h12 k1' bsk hBP hxf g70 lkp p53'' hlcp hlmp hpre2 hBQ n103 n102 n225 n226 hEp hPD hPp ho' hsp' hR hM hv h103 hc hsy hRT hE3 xa3 qa3 b3 ha3 st3; lia))
      have m370 : M3 70 = Mx 70 := xa3.1 70 (by decide)
      have v32 : M3 1 2 = 5 := by rw [xa3.2.1 2 (by decide)]; exact (hp.1.2.1).1
      have t53 : M3 5 3 ≤ 9 * a3 + 400 := pS3.2.2.2.2.2.2.2.2.2.2
      have mono53 : Mp 5 3 ≤ M3 5 3 := b3.2.2.2.1.1
      have sk3 : b = 1 → 0 ≤ M' 5 3 ∧ M' 5 3 < M3 5 3 := fun hb => ⟨st1.1, by have := bsk hb; (clear hsp hm ho hp h hpre hS hV hW hK hQ dq2 hT hVT hE t4 t5 t6 hG hL hst u w7 r90 d102 msk c19 s53 d1 d2 d3 d4 d5 d6 d8 d9 d10 d11 d12 d13 m8 h01 ha st0 xM qM m70 q75 e0_70 s0 s0' hE0 lk hB hi hi8 hai k244 hsyn hS' hq hE1 hxM' ha1 st1 qa v12 e53 n53 hc1 bc1 xa1 pm70 pm71 k1 h12 k1' bsk hBP hxf g70 lkp hlcp hlmp hpre2 hBQ n103 n102 n225 n226 hEp hPD hPp ho' hsp' hR hM hv h103 hc hsy hRT hE3 xa3 qa3 b3 ha3 st3 pS3 m370 v32 t53 hb; omega)⟩
      have k6 := hR.2.2.2.1.1.2.2.2.2.2
      have g102 : N3 6 102 = Mq 6 102 + 1 := k6.2.trans n102
      have g225 : N3 225 (Mq 6 102) = 0 := by rw [k6.1 225 _ (by decide) (by (clear hsp hm ho hp h hpre hS hV hW hK hQ hT hVT hE t4 t5 t6 hG hL hst u w7 r90 d102 msk c19 s53 d1 d3 d4 d5 d6 d8 d9 d10 d11 d12 d13 m8 h01 ha st0 xM qM m70 q75 e0_70 s0 s0' hE0 lk hB hi hi8 hai k244 hsyn hS' hq hE1 hxM' ha1 st1 qa v12 e53 n53 hc1 bc1 p53 p53' xa1 pm70 pm71 k1 h12 k1' bsk hBP hxf g70 lkp p53'' hlcp hlmp hpre2 hBQ n103 n225 n226 hEp hPD hPp ho' hsp' hR hM hv h103 hc hsy hRT hE3 xa3 qa3 b3 ha3 st3 pS3 m370 v32 t53 mono53 sk3 g102; omega)) (by (clear hsp hm ho hp h hpre hS hV hW hK hQ dq2 hT hVT hE t4 t5 t6 hG hL hst u w7 r90 d102 msk c19 s53 d1 d3 d4 d5 d6 d8 d9 d10 d11 d12 d13 m8 h01 ha st0 xM qM m70 q75 e0_70 s0 s0' hE0 lk hB hi hi8 hai k244 hsyn hS' hq hE1 hxM' ha1 st1 qa v12 e53 n53 hc1 bc1 p53 p53' xa1 pm70 pm71 k1 h12 k1' bsk hBP hxf g70 lkp p53'' hlcp hlmp hpre2 hBQ n103 n225 n226 hEp hPD hPp ho' hsp' hR hM hv h103 hc hsy hRT hE3 xa3 qa3 b3 ha3 st3 pS3 m370 v32 t53 mono53 sk3 k6 g102; omega))]; exact n225
      have g226 : N3 226 (Mq 6 102) = x5 := by rw [k6.1 226 _ (by decide) (by omega) (by omega)]; exact n226
      have g75 := pS3.1.2.2.2.1
      have B4 := N4_BQ (N := N3) (dd := Mq 6 102) (x := if x5 = 0 ∨ v = 0 then 0 else 1)
      have hE4 : ER b F2 (M4_ b M3 (M' 5 3) x4) (N4_ N3 (Mq 6 102) (if x5 = 0 ∨ v = 0 then 0 else 1)) a3 (o + 1) := ER_Q (M4_E hE3 (by (clear hsp hm ho hp h hpre hS hV hW hK hQ dq2 hT hVT hE t4 t5 t6 hG hL hst u w7 r90 d102 msk c19 s53 d1 d2 d3 d4 d5 d6 d8 d9 d10 d11 d12 d13 m8 h01 ha st0 xM qM m70 q75 e0_70 s0 s0' hE0 lk hB hi hi8 hai k244 hsyn hS' hq hE1 hxM' ha1 st1 qa v12 e53 n53 hc1 bc1 p53 p53' xa1 pm70 pm71 k1 h12 k1' bsk hBP hxf g70 lkp p53'' hlcp hlmp hpre2 hBQ n103 n102 n225 n226 hEp hPD hPp ho' hsp' hR hM hv h103 hc hsy hRT hE3 xa3 qa3 b3 ha3 st3 pS3 m370 v32 mono53 sk3 k6 g102 g225 g226 g75 B4; lia)) (fun hb => (sk3 hb).2)) (B4.2.1 12 (by decide) (by decide)) (B4.2.1 13 (by decide) (by decide)) (B4.2.1 14 (by decide) (by decide)) (B4.2.1 15 (by decide) (by decide)) (B4.2.1 16 (by decide) (by decide))
      have BX : BX4 b M3 (M4_ b M3 (M' 5 3) x4) (M' 5 3) x4 := M4_BX hE3.2.2.2.2.2.2.1 h01 (fun hb => (sk3 hb).2)
      have BX' : BX4 b M3 (M4_ b M3 (M' 5 3) x4) (M 5 3 + 2 * i + 2) x4 := ⟨BX.1, BX.2.1, BX.2.2.1, fun hb => by have q := BX.2.2.2 hb; rw [(bc1 hb).2, show M 5 3 + 2 + 2 * i = M 5 3 + 2 * i + 2 by (clear hsp hm ho hp h hpre hS hV hW hK hQ dq2 hT hVT hE t4 t5 t6 hG hL hst u w7 r90 d102 msk c19 s53 d1 d2 d3 d4 d5 d6 d8 d9 d10 d11 d12 d13 m8 h01 ha st0 xM qM m70 q75 e0_70 s0 s0' hE0 lk hB hi hi8 hai k244 hsyn hS' hq hE1 hxM' ha1 st1 qa v12 e53 n53 hc1 bc1 p53 p53' xa1 pm70 pm71 k1 h12 k1' bsk hBP hxf g70 lkp p53'' hlcp hlmp hpre2 hBQ n103 n102 n225 n226 hEp hPD hPp ho' hsp' hR hM hv h103 hc hsy hRT hE3 xa3 qa3 b3 ha3 st3 pS3 m370 v32 t53 mono53 sk3 k6 g102 g225 g226 g75 B4 hE4 BX hb q; lia)] at q; rw [show M' 5 3 = M 5 3 + 2 * i + 2 by have := (bc1 hb).2; (clear hsp hm ho hp h hpre hS hV hW hK hQ dq2 hT hVT hE t4 t5 t6 hG hL hst u w7 r90 d102 msk c19 s53 d1 d2 d3 d4 d5 d6 d8 d9 d10 d11 d12 d13 m8 h01 ha st0 xM qM m70 q75 e0_70 s0' hE0 lk hB hi hi8 hai k244 hsyn hS' hq hE1 hxM' ha1 st1 qa v12 n53 hc1 bc1 p53 p53' xa1 pm70 pm71 k1 h12 k1' bsk hBP hxf g70 lkp p53'' hlcp hlmp hpre2 hBQ n103 n102 n225 n226 hEp hPD hPp ho' hsp' hR hM hv h103 hc hsy hRT hE3 xa3 qa3 b3 ha3 st3 pS3 m370 v32 t53 mono53 sk3 k6 g102 g225 g226 g75 B4 hE4 BX hb q; lia)]; exact q⟩
      have D4 := DHS_n hp h hB hi (by omega) s0 (by (clear hsp hm ho hp h hpre hS hV hW hK hQ dq2 hT hVT hE t4 t5 t6 hG hL hst u w7 r90 d102 msk c19 s53 d1 d2 d3 d4 d5 d6 d8 d9 d10 d11 d12 d13 m8 h01 ha st0 xM qM m70 q75 e0_70 s0 s0' hE0 lk hB hi hi8 hai k244 hsyn hS' hq hE1 hxM' ha1 st1 qa v12 e53 n53 hc1 bc1 p53 p53' xa1 pm70 pm71 k1 h12 k1' bsk hBP hxf g70 lkp p53'' hlcp hlmp hpre2 hBQ n103 n102 n225 n226 hEp hPD hPp ho' hsp' hR hM hv h103 hc hsy hRT hE3 xa3 qa3 b3 ha3 st3 pS3 m370 v32 t53 mono53 sk3 k6 g102 g225 g226 g75 B4 hE4 BX BX'; lia)) hBP hBQ hxf hPD hPp hR hM hv BX' B4 hE4 hi8
      have g222 : 0 ≤ N4_ N3 (Mq 6 102) (if x5 = 0 ∨ v = 0 then 0 else 1) 222 (Mq 6 102) := by
        rw [B4.1 222 (by decide), k6.1 222 _ (by decide) (by (clear hsp hm ho hp h hpre hS hV hW hK hQ hT hVT hE t4 t5 t6 hG hL hst u w7 r90 d102 msk c19 s53 d1 d3 d4 d5 d6 d8 d9 d10 d11 d12 d13 m8 h01 ha st0 xM qM m70 q75 e0_70 s0 s0' hE0 lk hB hi hi8 hai k244 hsyn hS' hq hE1 hxM' ha1 st1 qa v12 e53 n53 hc1 bc1 p53 p53' xa1 pm70 pm71 k1 h12 k1' bsk hBP hxf g70 lkp p53'' hlcp hlmp hpre2 hBQ n103 n225 n226 hEp hPD hPp ho' hsp' hR hM hv h103 hc hsy hRT hE3 xa3 qa3 b3 ha3 st3 pS3 m370 v32 t53 mono53 sk3 g102 g225 g226 g75 B4 hE4 BX BX' D4; lia)) (by omega), hBQ.1 222 (by decide), hB.2.2.2.2.1.2.2.1, if_neg (by (clear hsp hm ho hp h hpre hS hV hW hK hQ dq2 hT hVT hE t4 t5 t6 hG hL hst u w7 r90 d102 msk c19 s53 d1 d2 d3 d4 d5 d6 d8 d9 d10 d11 d12 d13 m8 h01 ha st0 xM qM m70 q75 e0_70 s0 s0' hE0 lk hB hi8 hai k244 hsyn hS' hq hE1 hxM' ha1 st1 qa v12 e53 n53 hc1 bc1 p53 p53' xa1 pm70 pm71 k1 h12 k1' bsk hBP hxf g70 lkp p53'' hlcp hlmp hpre2 hBQ n103 n102 n225 n226 hEp hPD hPp ho' hsp' hR hM hv h103 hc hsy hRT hE3 xa3 qa3 b3 ha3 st3 pS3 m370 v32 t53 mono53 sk3 k6 g102 g225 g226 g75 B4 hE4 BX BX' D4; omega))]
        (clear hsp hm ho hp h hpre hS hV hW hK hQ dq2 hT hVT hE t4 t5 t6 hG hL hst u w7 d102 msk c19 s53 d1 d2 d3 d4 d6 d8 d9 d10 d11 d12 d13 m8 h01 ha st0 xM qM m70 q75 e0_70 s0 s0' hE0 lk hB hai k244 hsyn hS' hq hE1 hxM' ha1 st1 qa v12 e53 n53 hc1 bc1 p53 p53' xa1 pm70 pm71 k1 h12 k1' bsk hBP hxf g70 lkp p53'' hlcp hlmp hpre2 hBQ n103 n102 n225 n226 hEp hPD hPp ho' hsp' hR hM hv h103 hc hsy hRT hE3 xa3 qa3 b3 ha3 st3 pS3 m370 v32 t53 mono53 sk3 k6 g102 g225 g226 g75 B4 hE4 BX BX' D4; omega)
      have lk34 := LKP_X (b := b) (BX.1 62 (by decide) (by decide)) (BX.1 128 (by decide) (by decide)) (by rw [BX.1 1 (by decide) (by decide)]) (by rw [BX.1 1 (by decide) (by decide)])
      have lkM : LKP b M (M4_ b M3 (M' 5 3) x4) := LKP_tr lkp.1 (LKP_tr (LKP_P hR) lk34.1)
      refine x_161_209 hV hW hE3.2.2.2.2.2.2.1 h01 v32 st3.1 (by (clear hsp hm ho hp h hpre hS hV hW hK hQ dq2 hT hVT hE t4 t5 t6 hG hL hst u w7 r90 d102 msk c19 s53 d1 d2 d3 d4 d5 d6 d8 d9 d10 d11 d12 d13 m8 h01 ha st0 xM qM m70 q75 e0_70 s0 s0' hE0 lk hB hi hi8 hai k244 hsyn hS' hq hE1 hxM' ha1 st1 qa v12 e53 n53 hc1 bc1 p53 p53' xa1 pm70 pm71 k1 h12 k1' bsk hBP hxf g70 lkp p53'' hlcp hlmp hpre2 hBQ n103 n102 n225 n226 hEp hPD hPp ho' hsp' hR hM hv h103 hc hsy hRT hE3 xa3 qa3 b3 pS3 m370 v32 mono53 sk3 k6 g102 g225 g226 g75 B4 hE4 BX BX' D4 g222 lk34 lkM; omega)) sk3 hE4 ?_
      rw [m370]
      refine hK F2 _ _ a3 (x3 + i) _ _ _ _ _ _ D4 (by (clear hsp hm ho hp h hpre hS hV hW hK hQ dq2 hT hVT hE t4 t5 t6 hG hL hst u w7 r90 d102 msk c19 s53 d1 d2 d3 d4 d5 d6 d8 d9 d10 d11 d12 d13 m8 h01 ha st0 xM qM m70 q75 e0_70 s0 s0' hE0 lk hB hi8 hai k244 hsyn hS' hq hE1 hxM' ha1 st1 qa v12 e53 n53 hc1 bc1 p53 p53' xa1 pm70 pm71 k1 h12 k1' bsk hBP hxf g70 lkp p53'' hlcp hlmp hpre2 hBQ n103 n102 n225 n226 hEp hPD hPp ho' hsp' hR hM hv h103 hc hsy hRT hE3 xa3 qa3 b3 ha3 st3 pS3 m370 v32 t53 mono53 sk3 k6 g102 g225 g226 g75 B4 hE4 BX BX' D4 g222 lk34 lkM; omega)) lkM (fun lm hlm => ?_) ⟨N3 6 75, fun V Kv Qtq hV hW hk => ?_⟩ (by have := b3.1; (clear hsp hm ho hp h hpre hS hV hW hK hQ dq2 hT hVT hE t4 t5 t6 hG hL hst u w7 r90 d102 msk c19 s53 d1 d2 d3 d4 d6 d8 d9 d10 d11 d12 d13 m8 h01 ha st0 xM qM m70 q75 e0_70 s0 s0' hE0 lk hB k244 hsyn hS' hq hE1 hxM' ha1 st1 qa v12 e53 n53 hc1 bc1 p53 p53' xa1 pm70 pm71 k1 h12 k1' bsk hBP hxf g70 lkp p53'' hlcp hlmp hpre2 hBQ n103 n102 n225 n226 hEp hPD hPp ho' hsp' hR hM hv h103 hc hsy hRT hE3 xa3 qa3 b3 ha3 st3 pS3 m370 v32 t53 mono53 sk3 k6 g102 g225 g226 g75 B4 hE4 BX BX' D4 g222 lk34 lkM; lia)) B4.2.2.2.1 g222
      · have l1 := (LOK_s lkp.1 (LKP_tr (LKP_P hR) lk34.1) hlm).2
        have l2 := (LOK_s (LKP_P hR) lk34.1 l1).1
        have e1 := hsyn (PTj (Mx 70) lm m) (jw_PTj m).1
        rw [e0_70, tS_e k1' h12, Option.bind_some, Int.add_zero] at e1
        have e2 := hsy lm l2
        rw [g70, hlcp] at e2
        rw [lk34.2]
        exact e1.trans (afS_e e2)
      · refine hpre2 V Kv Qtq hV hW (hRT V Kv Qtq hV hW ?_)
        have hT3 : Tks M3 N3 := pS3.1.1
        have hc' : c = 1 ∨ (c = 0 ∧ ¬ isA (M3 70) a3 ∧ ¬ isL (M3 70) a3) := by
          rw [g70] at hc
          rw [m370]
          rcases hc with q | q
          · exact .inl q.1
          · exact .inr q
        refine q_77e hT3 hE3 hc' hV hW (q_208b (by (clear hsp hm ho hp h hpre hS hK hQ hT hVT hE t4 t5 t6 hG hL hst u w7 r90 d102 msk c19 s53 d1 d3 d4 d5 d6 d8 d9 d10 d11 d12 d13 m8 h01 ha st0 xM qM m70 q75 e0_70 s0 s0' hE0 lk hB hi hi8 hai k244 hsyn hS' hq hE1 hxM' ha1 st1 qa v12 e53 n53 hc1 bc1 p53 p53' xa1 pm70 pm71 k1 h12 k1' bsk hBP hxf g70 lkp p53'' hlcp hlmp hpre2 hBQ n103 n225 n226 hEp hPD hPp ho' hsp' hR hM hv h103 hc hsy hRT hE3 xa3 qa3 b3 ha3 st3 pS3 m370 v32 t53 mono53 sk3 g102 g225 g226 g75 B4 hE4 BX BX' D4 g222 lk34 lkM hV hW hk hT3 hc'; omega)) hV hW (q_303a (d := dq + 12) (x5 := x5) g102 (by (clear hsp hp h hpre hS hK hQ hT hVT hE t4 t5 t6 hG hL hst u w7 r90 msk c19 s53 d1 d3 d4 d5 d6 d8 d9 d10 d11 d12 d13 m8 h01 ha st0 xM qM m70 q75 e0_70 s0 s0' hE0 lk hB hi hi8 hai k244 hsyn hS' hq hE1 hxM' ha1 st1 qa v12 e53 n53 hc1 bc1 p53 p53' xa1 pm70 pm71 k1 h12 k1' bsk hBP hxf g70 lkp p53'' hlcp hlmp hpre2 hBQ n103 n225 n226 hEp hPD hPp ho' hsp' hR hM hv h103 hc hsy hRT hE3 xa3 qa3 b3 ha3 st3 pS3 m370 v32 t53 mono53 sk3 g102 g225 g226 g75 B4 hE4 BX BX' D4 g222 lk34 lkM hV hW hk hT3 hc'; omega)) g226 d11 h103 hv (by (clear hsp hm ho hp h hpre hS hK hQ dq2 hT hVT hE t4 t5 t6 hG hL hst u w7 r90 d102 msk c19 s53 d1 d2 d3 d4 d5 d6 d8 d9 d10 d11 d12 d13 m8 h01 ha st0 xM qM m70 q75 e0_70 s0 s0' hE0 lk hB hi hi8 hai k244 hsyn hS' hq hE1 hxM' ha1 st1 qa v12 e53 n53 hc1 bc1 p53 p53' xa1 pm70 pm71 k1 h12 k1' bsk hBP hxf g70 lkp p53'' hlcp hlmp hpre2 hBQ n103 n102 n225 n226 hEp hPD hPp ho' hsp' hR hM hv h103 hc hsy hRT hE3 xa3 qa3 b3 st3 pS3 m370 v32 t53 mono53 sk3 k6 g102 g225 g226 B4 hE4 BX BX' D4 g222 lk34 lkM hV hW hk hT3 hc'; omega)) (by have := hE3.2.2.1; (clear hsp hm ho hp h hpre hS hK hQ dq2 hT hVT hE t4 t5 t6 hG hL hst u w7 r90 d102 msk c19 s53 d1 d2 d3 d4 d5 d6 d8 d9 d10 d11 d12 d13 m8 h01 ha st0 xM qM m70 q75 e0_70 s0 s0' hE0 lk hB hi hi8 hai k244 hsyn hS' hq hE1 hxM' ha1 st1 qa v12 e53 n53 hc1 bc1 p53 p53' xa1 pm70 pm71 k1 h12 k1' bsk hBP hxf g70 lkp p53'' hlcp hlmp hpre2 hBQ n103 n102 n225 n226 hEp hPD hPp ho' hsp' hR hM hv h103 hc hsy hRT hE3 xa3 qa3 b3 st3 pS3 m370 v32 t53 mono53 sk3 k6 g102 g225 g226 g75 B4 hE4 BX BX' D4 g222 lk34 lkM hV hW hk hT3 hc'; omega)) fun V' hV' hW' => ?_))
        rw [if_pos g225]
        exact hk V' hV' hW'
    · exact hQ hb Mx' (XA_tr (PRD_X hPD) hx) (fun V Kv Qtq hV hW hk => hpre2 V Kv Qtq hV hW (hstq V Kv Qtq hV hW (fun M' hsq => hk M' (SQ_q (PRD_Q hPD) hsq))))
end BM
end T151_bm
section T152_dt
/-! a decide: its end, patches -/
def M9_ (b : Int) (M : mm_) (o x4 : Int) (mm : Nat) : mm_ := if b = 0 then up_ (nX_ M) 1 6 o else xpt (M 5 3) mm (up_ (nX_ M) 1 6 o) x4
def N9_ (N : mm_) (o dd : Int) : mm_ := up_ (up_ (nx_ (nx_ N)) 6 15 o) 6 102 dd
def N8_ (N : mm_) (o dd vv : Int) (mq : Nat) : mm_ := up_ (up_ (qpt (N 6 75) mq (N9_ N o dd) (N 224 dd)) 208 (N 220 dd) (N 6 75)) 6 103 vv
section DT
variable {d dq m : Nat} {b F : Int} {Mx Mq M N : mm_} {a o x1 x2 x3 x4 x5 x6 x7 x8 x9 x10 x11 x12 lo hi k0 kc dd k z w : Int} {K : Int → mm_ → Prop} {Kv : mm_ → Prop} {G : Int → mm_ → Prop} {Qt : qt_} {V : vv_}
theorem x_161_321 [Inhabited gh_] (hlo : 0 ≤ lo) (hhi : hi ≤ 12000) (hV : Cl_ wd0 (Tr_ wd0 pg0 (d + 1)) V (ri_ K) Qt m_161) (hW : Wk_ V) (hz : x6 = 0 ∨ x6 = 1) (hw : x5 = 0 ∨ x5 = 1) : ∀ (n : Nat) {M : mm_} {x4 x7 : Int}, XHO lo hi n M x4 → M 1 8 = 1 → M 1 2 = 5 → K (if x5 = 0 ∨ x6 = 0 then 0 else 1) (xpt (M 5 3) n M x4) → V 321 [rr 1, ii x1, ii x2, ii x3, ii x4, ii x5, ii x6, ii x7, ii x8, ii x9, ii x10, ii x11, ii x12] [] M
  | 0, M, x4, x7, hx, h8, h2, h => by
    have e : x4 = -1 := hx
    refine b_161_321 (Tr_mono _) hV hW _ _ _ _ _ _ _ _ _ _ _ _ _ fun _ => ?_
    rw [if_neg (by omega), if_pos e]
    have h' : K (if x5 = 0 ∨ x6 = 0 then 0 else 1) M := h
    by_cases c : x5 = 0
    · rw [if_pos c]; rw [if_pos (.inl c)] at h'; exact ⟨.inl rfl, ri_i h'⟩
    · rw [if_neg c]
      by_cases c2 : x6 = 0
      · rw [if_pos c2]; rw [if_pos (.inr c2)] at h'; exact ⟨.inl rfl, ri_i h'⟩
      · rw [if_neg c2]; rw [if_neg (by (clear hlo hhi hV hW hz hw hx h8 h2 h e h'; lia))] at h'; exact ⟨.inr rfl, ri_i h'⟩
  | n + 1, M, x4, x7, hx, h8, h2, h => by
    obtain ⟨hb, hd, hr⟩ := hx
    refine b_161_321 (Tr_mono _) hV hW _ _ _ _ _ _ _ _ _ _ _ _ _ fun _ => ?_
    rw [if_neg (by omega), if_neg (by omega)]
    refine ⟨h2, by omega, x_166 (.inr h8) h2 (fun _ => by omega) ?_⟩
    rw [if_neg (by omega)]
    have e53 : up_ M 142 x4 (M 5 3) 5 3 = M 5 3 := by rw [up_ne (by decide)]
    refine x_161_321 hlo hhi hV hW hz hw n (XHO_u n hd hr) (by rw [up_ne (by decide)]; exact h8) (by rw [up_ne (by decide)]; exact h2) ?_
    rw [e53]; exact h
theorem q_303_179 [Inhabited gh_] (h0 : 0 ≤ k0) (hkc : kc ≤ 1300) (hdd : 0 ≤ dd ∧ dd < 14) (hV : Cl_ wd0 (Tr_ wd0 pg0 d) V (rv_ Kv) Qt m_303) (hW : Wk_ V) (hz : z = 0 ∨ z = 1) (hw : w = 0 ∨ w = 1) : ∀ (n : Nat) {N : mm_} {g : Int}, QHO k0 kc n N g → N 225 dd = z → N 226 dd = w → 0 ≤ N 220 dd ∧ N 220 dd < 1300 → Kv (up_ (up_ (qpt (N 6 75) n N g) 208 (N 220 dd) (N 6 75)) 6 103 (if w = 0 ∨ z = 0 then 0 else 1)) → V 179 [rr 6, ii dd, ii k, ii g] [] N
  | 0, N, g, hx, e5, e6, e20, h => by
    have e : g = -1 := hx
    refine b_303_179 (Tr_mono _) hV hW _ _ _ _ ?_
    rw [if_pos (by omega), e5, e6]
    have h' : Kv (up_ (up_ N 208 (N 220 dd) (N 6 75)) 6 103 (if w = 0 ∨ z = 0 then 0 else 1)) := h
    refine ⟨hdd, e20, hdd, fun _ => ?_⟩
    by_cases c : z = 0
    · rw [if_pos c]; rw [if_pos (.inr c)] at h'; exact ⟨.inl rfl, rv_i h'⟩
    · rw [if_neg c]
      refine ⟨hdd, fun _ => ?_⟩
      by_cases c2 : w = 0
      · rw [if_pos c2]; rw [if_pos (.inl c2)] at h'; exact ⟨.inl rfl, rv_i h'⟩
      · rw [if_neg c2]; rw [if_neg (by (clear h0 hkc hdd hV hW hz hw hx e5 e6 e20 h e h'; lia))] at h'; exact ⟨.inr rfl, rv_i h'⟩
  | n + 1, N, g, hx, e5, e6, e20, h => by
    obtain ⟨hb, hd, hr⟩ := hx
    refine b_303_179 (Tr_mono _) hV hW _ _ _ _ ?_
    rw [if_neg (by omega)]
    refine ⟨by (clear hdd hV hW hz hw e5 e6 e20 h hd hr; omega), by omega, ?_⟩
    have e75 : up_ N 205 g (N 6 75) 6 75 = N 6 75 := by rw [up_ne (by decide)]
    have e220 : up_ N 205 g (N 6 75) 220 dd = N 220 dd := by rw [up_ne (by decide)]
    refine q_303_179 h0 hkc hdd hV hW hz hw n (QHO_c (k1 := 0) (Int.le_refl _) (fun j _ _ => by rw [up_ne (by decide)]) n hr) (by rw [up_ne (by decide)]; exact e5) (by rw [up_ne (by decide)]; exact e6) (by rw [e220]; exact e20) ?_
    rw [e75, e220]; exact h
theorem ER_od [Inhabited gh_] (h : ER b F M N a (o + 1)) (h0 : 0 ≤ o) : ER b F (up_ M 1 6 o) (up_ N 6 15 o) a o := by
  obtain ⟨e1, e2, e3, e4, e5, e6, e7, e8, e9, e10, e11, e12, e13, e14, e15⟩ := h
  refine ⟨gd_c (by rw [up_ne (by decide)]) e1, by rw [up_off (by decide)]; exact e2, by rw [up_off (by decide)]; exact e3, up_at, up_at, by (clear e1 e2 e3 e7 e8 e9 e10 e11 e12 e13 e14 e15; lia), by rw [up_off (by decide)]; exact e7, by rw [up_off (by decide)]; exact e8, e9, fun hb => by rw [up_off (by decide)]; exact e10 hb, ?_, by rw [up_off (by decide)]; exact e12, by rw [up_off (by decide)]; exact e13, by rw [up_ne (by decide)]; exact e14, by rw [up_ne (by decide)]; exact e15⟩
  unfold NR
  rw [up_off (by decide), up_off (by decide), up_off (by decide), up_off (by decide), up_off (by decide), up_off (by decide)]
  exact e11
theorem M9_r [Inhabited gh_] {r : Nat} {mm : Nat} (h1 : r ≠ 1) (h2 : r ≠ 142) : M9_ b M o x4 mm r = M r := by
  unfold M9_; split
  · rw [up_ne h1, nX_ne h1]
  · rw [xpt_r h2, up_ne h1, nX_ne h1]
theorem M9_1 [Inhabited gh_] {mm : Nat} : M9_ b M o x4 mm 1 = up_ (nX_ M) 1 6 o 1 := by
  unfold M9_; split
  · rfl
  · rw [xpt_r (by decide)]
theorem M9_XF [Inhabited gh_] {mm : Nat} : XF M (M9_ b M o x4 mm) := ⟨fun r h => M9_r (fun e => h (by rw [e]; decide)) (fun e => h (by rw [e]; decide)), fun i h3 _ _ h6 _ => by rw [M9_1, up_off h6, nX_1 h3], fun i h => by rw [M9_r (by decide) (by decide)]⟩
end DT
end T152_dt
section T153_dt
/-! a decide: END and the semicolon -/
section DU
variable {d dq m : Nat} {b F : Int} {Mx Mq M N : mm_} {a o x1 x2 x3 x4 x5 x6 x7 x8 x9 x10 x11 x12 lo hi k0 kc dd k z w : Int} {K : Int → mm_ → Prop} {Kv : mm_ → Prop} {G : Int → mm_ → Prop} {Qt : qt_} {V : vv_}
/-- where a decide's END and semicolon end -/
def enT (κ : Int → Int) (a : Int) : Option Int := (tS κ 20 a).bind fun a9 => tS κ 259 a9
theorem N9_6 [Inhabited gh_] {i : Int} (h1 : i ≠ 12) (h2 : i ≠ 15) (h3 : i ≠ 102) : N9_ N o dd 6 i = N 6 i := by unfold N9_; rw [up_off h3, up_off h2, nx_6 h1, nx_6 h1]
theorem N9_r [Inhabited gh_] {r : Nat} (h : r ≠ 6) : N9_ N o dd r = N r := by unfold N9_; rw [up_ne h, up_ne h, nx_ne h, nx_ne h]
theorem N8_6 [Inhabited gh_] {i vv : Int} {mq : Nat} (h : i ≠ 103) : N8_ N o dd vv mq 6 i = N9_ N o dd 6 i := by unfold N8_; rw [up_off h, up_ne (by decide), qpt_r (by decide)]
theorem N8_103 [Inhabited gh_] {vv : Int} {mq : Nat} : N8_ N o dd vv mq 6 103 = vv := by unfold N8_; rw [up_at]
theorem y_161t [Inhabited gh_] {mm mq : Nat} (hT : Tks M N) (hE : ER b F M N a (o + 1)) (h2 : M 1 2 = 5) (h0 : 0 ≤ o) (hx : b = 1 → XHO lo hi mm M x4) (hlo : 0 ≤ lo) (hhi : hi ≤ 12000) (hq : QHO k0 kc mq N (N 224 dd)) (hk0 : 0 ≤ k0) (hkc : kc ≤ 1300) (hdd : 0 ≤ dd ∧ dd < 14) (h220 : 0 ≤ N 220 dd ∧ N 220 dd < 1300) (h102 : N 6 102 = dd + 1) (h225 : N 225 dd = x6) (h226 : b = 0 ∨ True → N 226 dd = x5) (hz : x6 = 0 ∨ x6 = 1) (hw : x5 = 0 ∨ x5 = 1)
    (hS : b = 1 → enT (M 70) a ≠ none)
    (hV : Cl_ wd0 (Tr_ wd0 pg0 (9 * m + 24)) V (ri_ fun v M5 => Tr_ wd0 pg0 (d + 3) 121 [.inr (.inr 1), .inl 59] M5 (rv_ (G v)) Qt) Qt m_161) (hW : Wk_ V)
    (hG : enT (M 70) a = some (a + 2) → ER b F (nX_ (M9_ b M o x4 mm)) (N8_ N o dd (if x5 = 0 ∨ x6 = 0 then 0 else 1) mq) (a + 2) o → (∀ (V' : vv_) (Kv : mm_ → Prop) (Qtq : qt_), Cl_ wd0 (Tr_ wd0 pg0 (dq + 14)) V' (rv_ Kv) Qtq m_303 → Wk_ V' → Kv (N8_ N o dd (if x5 = 0 ∨ x6 = 0 then 0 else 1) mq) → V' 132 [rr 6, ii dd, ii k, none] [] N) → G (if x5 = 0 ∨ x6 = 0 then 0 else 1) (nX_ (M9_ b M o x4 mm)))
    (hQ : b = 0 → ∀ Mx', XA M Mx' → (∀ (V' : vv_) (Kv : mm_ → Prop) (Qtq : qt_), Cl_ wd0 (Tr_ wd0 pg0 (dq + 14)) V' (rv_ Kv) Qtq m_303 → Wk_ V' → (∀ M', SQ Mx' N M' → Kv M') → V' 132 [rr 6, ii dd, ii k, none] [] N) → Qt 8 Mx') :
    Tr_ wd0 pg0 (9 * m + 24) 108 [.inr (.inr 1), .inl 20] M (rv_ fun M5 => V 321 [rr 1, ii x1, ii x2, ii x3, ii x4, ii x5, ii x6, ii x7, ii x8, ii x9, ii x10, ii x11, ii x12] [] (up_ M5 1 6 (w32 ((M5 1 6) - 1)))) Qt := by
  have ha := ER_a hE
  have h01 := bl01 hE
  have ho12 := hE.2.2.2.2.2.1
  have h226' := h226 (.inr trivial)
  refine y_108 hE (by decide) (fun hb e => by have := hS hb; unfold enT at this; rw [e] at this; exact this rfl) (fun k1 h12 hE9 => ?_) (fun hb k1 h12 => ?_) (fun hb k1 => ?_)
  rotate_left
  · have hsp := SQ_bf hE hb (k := 2) (by decide) QA_rf
    refine hQ hb _ (XF_XA fl_XF) fun V' Kv Qtq hV' hW' hk => b_303_132 (Tr_mono _) hV' hW' _ _ _ (j_250r hT hE hb (by decide) k1 h12 (q_244s hsp.1 (q_227s hsp.1 ?_)))
    rw [if_neg (by decide)]
    exact rv_i (hk _ hsp)
  · have hsp := SQ_bf hE hb (k := 1) (by decide) QA_rf
    refine hQ hb _ (XF_XA fl_XF) fun V' Kv Qtq hV' hW' hk => b_303_132 (Tr_mono _) hV' hW' _ _ _ (j_250w hT hE hb (by decide) k1 (q_244s hsp.1 (q_227s hsp.1 ?_)))
    rw [if_neg (by decide)]
    exact rv_i (hk _ hsp)
  have hT9 : Tks (nX_ M) (nx_ N) := Tks_c nX_XF nx_QF hT
  have e6 : nX_ M 1 6 = o + 1 := hE9.2.2.2.1
  rw [e6, show o + 1 - 1 = o by omega, w32_id (by (clear hT hE h2 hx hlo hhi hq hk0 hkc hdd h220 h102 h225 h226 hz hw hS hV hW hG hQ ha h01 h226' k1 h12 hE9 hT9; lia)) (by (clear hT hE h2 hx hlo hhi hq hk0 hkc hdd h220 h102 h225 h226 hz hw hS hV hW hG hQ ha h01 h226' k1 h12 hE9 hT9; omega))]
  have hEo := ER_od hE9 h0
  have g53 : up_ (nX_ M) 1 6 o 5 3 = M 5 3 := by rw [up_ne (by decide), nX_ne (by decide)]
  have hE5 : ER b F (M9_ b M o x4 mm) (up_ (nx_ N) 6 15 o) (a + 1) o := ER_X3 hEo (by rw [M9_r (by decide) (by decide), up_ne (by decide), nX_ne (by decide)]) M9_1 (by rw [M9_r (by decide) (by decide)]; have := hEo.2.2.2.2.2.2.2.2.2.2.2.2.2; rw [g53] at this; exact this)
  have m70 : M9_ b M o x4 mm 70 = M 70 := M9_r (by decide) (by decide)
  have m71 : M9_ b M o x4 mm 71 = M 71 := M9_r (by decide) (by decide)
  have x71 : nX_ M 71 = M 71 := nX_ne (by decide)
  have x70 : nX_ M 70 = M 70 := nX_ne (by decide)
  have eS : enT (M 70) a = tS (M 70) 259 (a + 1) := by unfold enT; rw [tS_e k1 h12, Option.bind_some]
  rw [eS] at hS hG
  have main : Tr_ wd0 pg0 (d + 3) 121 [.inr (.inr 1), .inl 59] (M9_ b M o x4 mm) (rv_ (G (if x5 = 0 ∨ x6 = 0 then 0 else 1))) Qt := by
    refine y_121 hE5 (by decide) (fun hb => by rw [m70]; exact hS hb) (fun k2 h13 hE6 => ?_) (fun hb k2 h13 => ?_) (fun hb k2 => ?_)
    rotate_left
    · have hsp := SQ_bf (a := a + 1) hE9 hb (k := 2) (by decide) (QF_QA nx_QF)
      have e : flX_ (M9_ b M o x4 mm) 2 (a + 1) 1 4 = flX_ (nX_ M) 2 (a + 1) 1 4 ∧ flX_ (M9_ b M o x4 mm) 2 (a + 1) 1 5 = flX_ (nX_ M) 2 (a + 1) 1 5 := by
        unfold flX_; rw [up_off (by decide), up_at, up_off (by decide), up_at, up_at, up_at, m71, x71]; exact ⟨rfl, rfl⟩
      have hsp' : SQ (flX_ (M9_ b M o x4 mm) 2 (a + 1)) N (bf_ (nx_ N) 2 (nX_ M 71 (a + 1))) := ⟨hsp.1, hsp.2.1, by rw [e.1]; exact hsp.2.2.1, ⟨by rw [e.2]; exact hsp.2.2.2.1.1, fl_b7 hE5⟩, hsp.2.2.2.2⟩
      refine hQ hb _ (XF_XA (XF_tr M9_XF fl_XF)) fun V' Kv Qtq hV' hW' hk => b_303_132 (Tr_mono _) hV' hW' _ _ _ (j_250t hT hE (by decide) k1 h12 (j_244r hT9 hE9 hb (by decide) (by rw [x70, ← m70]; exact k2) h13 (q_227s hsp.1 ?_)))
      rw [if_neg (by decide)]
      exact rv_i (hk _ hsp')
    · have hsp := SQ_bf (a := a + 1) hE9 hb (k := 1) (by decide) (QF_QA nx_QF)
      have e : flX_ (M9_ b M o x4 mm) 1 (a + 1) 1 4 = flX_ (nX_ M) 1 (a + 1) 1 4 ∧ flX_ (M9_ b M o x4 mm) 1 (a + 1) 1 5 = flX_ (nX_ M) 1 (a + 1) 1 5 := by
        unfold flX_; rw [up_off (by decide), up_at, up_off (by decide), up_at, up_at, up_at, m71, x71]; exact ⟨rfl, rfl⟩
      have hsp' : SQ (flX_ (M9_ b M o x4 mm) 1 (a + 1)) N (bf_ (nx_ N) 1 (nX_ M 71 (a + 1))) := ⟨hsp.1, hsp.2.1, by rw [e.1]; exact hsp.2.2.1, ⟨by rw [e.2]; exact hsp.2.2.2.1.1, fl_b7 hE5⟩, hsp.2.2.2.2⟩
      refine hQ hb _ (XF_XA (XF_tr M9_XF fl_XF)) fun V' Kv Qtq hV' hW' hk => b_303_132 (Tr_mono _) hV' hW' _ _ _ (j_250t hT hE (by decide) k1 h12 (j_244w hT9 hE9 hb (by decide) (by rw [x70, ← m70]; exact k2) (q_227s hsp.1 ?_)))
      rw [if_neg (by decide)]
      exact rv_i (hk _ hsp')
    have k2' : M 70 (a + 1) = 259 := by rw [← m70]; exact k2
    have o15 : nx_ (nx_ N) 6 15 = o + 1 := by rw [nx_6 (by decide), nx_6 (by decide)]; exact hE.2.2.2.2.1
    have o102 : nx_ (nx_ N) 6 102 = dd + 1 := by rw [nx_6 (by decide), nx_6 (by decide)]; exact h102
    have hE10 : ER b F (nX_ (nX_ M)) (nx_ (nx_ N)) (a + 1 + 1) (o + 1) := (ER_go hE9 h13 (by rw [x70, k2']; decide)).1
    refine hG (by rw [tS_e k2' h13]; congr 1; (clear hT hE h2 h0 hx hlo hhi hq hk0 hkc hdd h220 h102 h225 h226 hz hw hS hV hW hG hQ ha h01 ho12 h226' k1 h12 hE9 hT9 e6 hEo g53 hE5 m70 m71 x71 x70 eS k2 h13 hE6 k2' o15 o102 hE10; lia)) ?_ (fun V' Kv Qtq hV' hW' hk => b_303_132 (Tr_mono _) hV' hW' _ _ _ (j_250t hT hE (by decide) k1 h12 (j_244t hT9 hE9 (by decide) (by rw [x70]; exact k2') h13 (q_227g (ER_goq hE10) ?_))))
    · rw [show a + 2 = a + 1 + 1 by (clear hT hE h2 h0 hx hlo hhi hq hk0 hkc hdd h220 h102 h225 h226 hz hw hS hV hW hG hQ ha h01 ho12 h226' k1 h12 hE9 hT9 e6 hEo g53 hE5 m70 m71 x71 x70 eS k2 h13 hE6 k2' o15 o102 hE10; lia)]
      refine ER_Q hE6 ?_ ?_ ?_ ?_ ?_
      · rw [N8_6 (by decide)]; unfold N9_; rw [up_off (by decide), up_off (by decide)]; unfold nx_; rw [up_at, up_at, up_at, up_off (by decide), up_at]
      · rw [N8_6 (by decide), N9_6 (by decide) (by decide) (by decide), nx_6 (by decide), up_off (by decide), nx_6 (by decide)]
      · rw [N8_6 (by decide), N9_6 (by decide) (by decide) (by decide), nx_6 (by decide), up_off (by decide), nx_6 (by decide)]
      · rw [N8_6 (by decide), nx_6 (by decide), up_at]; unfold N9_; rw [up_off (by decide), up_at]
      · rw [N8_6 (by decide), N9_6 (by decide) (by decide) (by decide), nx_6 (by decide), up_off (by decide), nx_6 (by decide)]
    · rw [if_pos rfl]
      refine ⟨hdd, ?_⟩
      rw [o15, o102, show o + 1 - 1 = o by omega, show dd + 1 - 1 = dd by omega, w32_id (by (clear hT hE h2 hx hlo hhi hq hk0 hkc hdd h220 h102 h225 h226 hz hw hS hV hW hG hQ ha h01 h226' k1 h12 hE9 hT9 hEo g53 hE5 m70 m71 x71 x70 eS k2 h13 hE6 k2' o102 hE10 hV' hW' hk; lia)) (by (clear hT hE h2 hx hlo hhi hq hk0 hkc hdd h220 h102 h225 h226 hz hw hS hV hW hG hQ ha h01 h226' k1 h12 hE9 hT9 hEo g53 hE5 m70 m71 x71 x70 eS k2 h13 hE6 k2' o102 hE10 hV' hW' hk; omega)), w32_id (by (clear hT hE h2 h0 hx hlo hhi hq hk0 hkc h220 h225 h226 hz hw hS hV hW hG hQ ha h01 ho12 h226' k1 h12 hE9 hT9 e6 hEo g53 hE5 m70 m71 x71 x70 eS k2 h13 hE6 k2' o15 hE10 hV' hW' hk; lia)) (by (clear hT hE h2 h0 hx hlo hhi hq hk0 hkc h220 h225 h226 hz hw hS hV hW hG hQ ha h01 ho12 h226' k1 h12 hE9 hT9 e6 hEo g53 hE5 m70 m71 x71 x70 eS k2 h13 hE6 k2' o15 hE10 hV' hW' hk; lia))]
      have e224 : nx_ (nx_ N) 224 dd = N 224 dd := by rw [nx_ne (by decide), nx_ne (by decide)]
      rw [e224]
      have e9 : ∀ r : Nat, r ≠ 6 → N9_ N o dd r = N r := fun r h => N9_r h
      show V' 179 [rr 6, ii dd, ii k, ii (N 224 dd)] [] (N9_ N o dd)
      refine q_303_179 hk0 hkc hdd hV' hW' hz hw mq (QHO_c (k1 := 0) (Int.le_refl _) (fun j _ _ => by rw [e9 206 (by decide)]) mq hq) (by rw [e9 225 (by decide)]; exact h225) (by rw [e9 226 (by decide)]; exact h226') (by rw [e9 220 (by decide)]; exact h220) ?_
      rw [e9 220 (by decide), N9_6 (by decide) (by decide) (by decide)]
      exact hk
  rcases h01 with hb | hb
  · have e : M9_ b M o x4 mm = up_ (nX_ M) 1 6 o := by unfold M9_; rw [if_pos hb]
    rw [e] at main
    refine b_161_321 (Tr_mono _) hV hW _ _ _ _ _ _ _ _ _ _ _ _ _ fun _ => ?_
    rw [if_pos (by rw [up_off (by decide), nX_1 (by decide), hE.2.2.2.2.2.2.1]; exact hb)]
    by_cases c : x5 = 0
    · rw [if_pos c]; rw [if_pos (.inl c)] at main; exact ⟨.inl rfl, ri_i main⟩
    · rw [if_neg c]
      by_cases c2 : x6 = 0
      · rw [if_pos c2]; rw [if_pos (.inr c2)] at main; exact ⟨.inl rfl, ri_i main⟩
      · rw [if_neg c2]; rw [if_neg (by (clear hT hE h2 h0 hx hlo hhi hq hk0 hkc hdd h220 h102 h225 h226 hz hw hS hV hW hG hQ ha ho12 h226' k1 h12 hE9 hT9 e6 hEo g53 hE5 m70 m71 x71 x70 eS main hb e; lia))] at main; exact ⟨.inr rfl, ri_i main⟩
  · have e : M9_ b M o x4 mm = xpt (M 5 3) mm (up_ (nX_ M) 1 6 o) x4 := by unfold M9_; rw [if_neg (by omega)]
    refine x_161_321 (d := 9 * m + 23) hlo hhi hV hW hz hw mm (XHO_c (Int.le_refl _) (Int.le_refl _) (fun j _ _ => by rw [up_ne (by decide), nX_ne (by decide)]) mm (hx hb)) (by rw [up_off (by decide), nX_1 (by decide), hE.2.2.2.2.2.2.1]; exact hb) (by rw [up_off (by decide), nX_1 (by decide)]; exact h2) ?_
    rw [g53, ← e]
    exact main
end DU
end T153_dt
section T154_e0
/-! a decide: its end without ELSE -/
section E0
variable {d dq m mm : Nat} {b F F' F2 : Int} {Mx Mq M N M' N' : mm_} {a a0 o st mk me x1 x2 x3 x4 x5 x7 x8 x9 x10 x11 x12 lo hi k0 kc v : Int} {K : Int → mm_ → Prop} {Kv : mm_ → Prop} {G : Int → mm_ → Prop} {Qt : qt_} {V : vv_}
theorem xpt_c [Inhabited gh_] : ∀ (n : Nat) {M M' : mm_} {h : Int}, XHO lo hi n M h → (∀ j, j < hi → M' 142 j = M 142 j) → ∀ j, j < hi → xpt v n M' h 142 j = xpt v n M h 142 j
  | 0, M, M', h, _, he, j, hj => he j hj
  | n + 1, M, M', h, hx, he, j, hj => by
    obtain ⟨hb, hd, hr⟩ := hx
    show xpt v n (up_ M' 142 h v) (M' 142 h) 142 j = xpt v n (up_ M 142 h v) (M 142 h) 142 j
    rw [he h hb.2]
    refine xpt_c n (XHO_u n hd hr) (fun i hi => ?_) j hj
    by_cases c : i = h
    · rw [c, up_at, up_at]
    · rw [up_of2 c, up_of2 c, he i hi]
theorem qpt_c [Inhabited gh_] : ∀ (n : Nat) {N N' : mm_} {g : Int}, N' 205 = N 205 → N' 206 = N 206 → qpt v n N' g 205 = qpt v n N g 205
  | 0, N, N', g, h5, _ => h5
  | n + 1, N, N', g, h5, h6 => by
    show qpt v n (up_ N' 205 g v) (N' 206 g) 205 = qpt v n (up_ N 205 g v) (N 206 g) 205
    rw [h6]
    refine qpt_c n ?_ (by rw [up_ne (by decide), up_ne (by decide), h6])
    funext i
    by_cases c : i = g
    · rw [c, up_at, up_at]
    · rw [up_of2 c, up_of2 c, h5]
theorem qpt_lo [Inhabited gh_] : ∀ (n : Nat) {N : mm_} {g j : Int}, QHO k0 kc n N g → j ≤ k0 ∨ kc ≤ j → qpt v n N g 205 j = N 205 j
  | 0, N, g, j, _, _ => rfl
  | n + 1, N, g, j, hx, hj => by
    obtain ⟨hb, hd, hr⟩ := hx
    show qpt v n (up_ N 205 g v) (N 206 g) 205 j = N 205 j
    rw [qpt_lo n (N := up_ N 205 g v) (QHO_c (k1 := 0) (Int.le_refl _) (fun j _ _ => by rw [up_ne (by decide)]) n hr) hj, up_of2 (by omega)]
theorem N8_r [Inhabited gh_] {o dd vv : Int} {mq r : Nat} (h6 : r ≠ 6) (h5 : r ≠ 205) (h8 : r ≠ 208) : N8_ N o dd vv mq r = N r := by
  unfold N8_; rw [up_ne h6, up_ne h8, qpt_r h5, N9_r h6]
theorem N8_205 [Inhabited gh_] {o dd vv : Int} {mq : Nat} : N8_ N o dd vv mq 205 = qpt (N 6 75) mq N (N 224 dd) 205 := by
  unfold N8_; rw [up_ne (by decide), up_ne (by decide)]
  exact qpt_c mq (N9_r (by decide)) (N9_r (by decide))
theorem N8_208 [Inhabited gh_] {o dd vv j : Int} {mq : Nat} : N8_ N o dd vv mq 208 j = if j = N 220 dd then N 6 75 else N 208 j := by
  unfold N8_; rw [up_ne (by decide)]
  by_cases c : j = N 220 dd
  · rw [if_pos c, c, up_at]
  · rw [if_neg c, up_of2 c, qpt_r (by decide), N9_r (by decide)]
theorem N8_QD [Inhabited gh_] {dd vv : Int} {mq : Nat} (h102 : True) : QD N (N8_ N o dd vv mq) := by
  refine ⟨fun r hr => N8_r (fun e => hr (by rw [e]; decide)) (fun e => hr (by rw [e]; decide)) (fun e => hr (by rw [e]; decide)), fun i hi => ?_⟩
  rw [N8_6 (nm_i hi (by decide)), N9_6 (nm_i hi (by decide)) (nm_i hi (by decide)) (nm_i hi (by decide))]
theorem N8_102 [Inhabited gh_] {dd vv : Int} {mq : Nat} : N8_ N o dd vv mq 6 102 = dd := by rw [N8_6 (by decide)]; unfold N9_; rw [up_at]
theorem N8_i [Inhabited gh_] {dd vv i : Int} {mq : Nat} (h1 : i ≠ 12) (h2 : i ≠ 15) (h3 : i ≠ 102) (h4 : i ≠ 103) : N8_ N o dd vv mq 6 i = N 6 i := by rw [N8_6 h4, N9_6 h1 h2 h3]
/-- the memories behind the end -/
theorem e_KB [Inhabited gh_] {mq : Nat} {vv : Int} {M0 N0 : mm_} (h : PRD b F F' Mx Mq M0 N0 a0 a o (o + 1) me) (xf : XF M0 M) (qd : QD N0 N) (kb : KB Mx Mq M0 N0 M N) (z5 : M0 5 3 ≤ M 5 3 ∧ M 5 3 ≤ M0 5 3 + 9 ∧ (b = 0 → M 5 3 = M0 5 3)) (z75 : N0 6 75 ≤ N 6 75 ∧ N 6 75 ≤ N0 6 75 + 1) (z104 : N 6 104 = N0 6 104) (z90 : N 6 90 = N0 6 90) (z7 : M 1 7 = M0 1 7)
    (hx : b = 1 → XHO (Mx 5 3) hi mm M x4) (hq : QHO (Mq 6 75) kc mq N (N 224 (Mq 6 102))) (h220 : N 220 (Mq 6 102) = Mq 6 75)
    (hE : ER b F' (nX_ (M9_ b M o x4 mm)) (N8_ N o (Mq 6 102) vv mq) (a + 2) o) : PRC b F F' Mx Mq (nX_ (M9_ b M o x4 mm)) (N8_ N o (Mq 6 102) vv mq) a0 (a + 2) o o me := by
  have pb := PRD_PB h
  obtain ⟨p1, p2, p3, p4, p5, p6⟩ := pb
  have h01 := bl01 hE
  have s5 : nX_ (M9_ b M o x4 mm) 5 3 = M 5 3 := by rw [nX_ne (by decide), M9_r (by decide) (by decide)]
  have s7 : nX_ (M9_ b M o x4 mm) 1 7 = M 1 7 := by rw [nX_1 (by decide), M9_1, up_off (by decide), nX_1 (by decide)]
  have i75 : N8_ N o (Mq 6 102) vv mq 6 75 = N 6 75 := N8_i (by decide) (by decide) (by decide) (by decide)
  have i104 : N8_ N o (Mq 6 102) vv mq 6 104 = N 6 104 := N8_i (by decide) (by decide) (by decide) (by decide)
  have i90 : N8_ N o (Mq 6 102) vv mq 6 90 = N 6 90 := N8_i (by decide) (by decide) (by decide) (by decide)
  refine PRD_C (PRD_s h hE (XF_tr xf (XF_tr M9_XF nX_XF)) (QD_tr qd (N8_QD trivial)) (KB_tr kb ⟨fun i x y => ?_, fun r i hr x y => ?_, fun i x y => ?_, fun i x y => ?_, fun r i hr x y => ?_, fun r i hr x y => ?_⟩) ⟨by omega, by rw [i75]; (clear h xf qd kb z5 z104 z90 z7 hx hq h220 hE p1 p3 p4 p5 p6 h01 s5 s7 i104 i90; lia), by rw [i104]; (clear h xf qd kb z5 z75 z90 z7 hx hq h220 hE p1 p2 p4 p5 p6 h01 s5 s7 i75 i90; lia), ⟨by (clear h xf qd kb z75 z104 z90 z7 hx hq h220 hE p1 p2 p3 p5 p6 h01 s7 i75 i104 i90; omega), by (clear h xf qd kb z75 z104 z90 z7 hx hq h220 hE p1 p2 p3 p5 p6 h01 s7 i75 i104 i90; lia), fun hb => by rw [s5, z5.2.2 hb]; exact p4.2.2 hb⟩, by rw [i90]; (clear h xf qd kb z5 z75 z104 z7 hx hq h220 hE p1 p2 p3 p4 p6 h01 s5 s7 i75 i104; lia), by (clear h xf qd kb z5 z75 z104 z90 hx hq h220 hE p1 p2 p3 p4 p5 h01 s5 i75 i104 i90; omega)⟩ (by (clear h xf qd kb z5 z75 z104 z90 z7 hx hq h220 hE p1 p2 p3 p4 p5 p6 h01 s5 s7 i75 i104 i90; omega))) N8_102
  · rw [nX_ne (by decide)]
    unfold M9_
    rcases h01 with hb | hb
    · rw [if_pos hb, up_ne (by decide), nX_ne (by decide)]
    · rw [if_neg (by (clear h xf qd kb z5 z75 z104 z90 z7 hx hq h220 hE p1 p2 p3 p4 p5 p6 s5 s7 i75 i104 i90 x y; lia)), xpt_hi mm (XHO_c (M := M) (Int.le_refl _) (Int.le_refl _) (fun j _ _ => by rw [up_ne (by decide), nX_ne (by decide)]) mm (hx hb)) (.inr y), up_ne (by decide), nX_ne (by decide)]
  · by_cases c : r = 205
    · rw [c, N8_205, qpt_lo mq hq (.inl (by (clear h xf qd kb z5 z75 z104 z90 z7 hx hq h220 hE p1 p2 p3 p4 p5 p6 h01 s5 s7 i75 i104 i90 hr x c; omega)))]
    · by_cases c2 : r = 208
      · rw [c2, N8_208, if_neg (by (clear h xf qd kb z5 z75 z104 z90 z7 hx hq hE p1 p2 p3 p4 p5 p6 h01 s5 s7 i75 i104 i90 hr x c c2; lia))]
      · rw [N8_r (fun e => absurd hr (by rw [e]; decide)) c c2]
  · rw [N8_r (by decide) (by decide) (by decide)]
  · rw [N8_r (by decide) (by decide) (by decide), N8_r (by decide) (by decide) (by decide)]; exact ⟨rfl, rfl⟩
  · rw [N8_r (fun e => absurd hr (by rw [e]; decide)) (fun e => absurd hr (by rw [e]; decide)) (fun e => absurd hr (by rw [e]; decide))]
  · rw [N8_r (fun e => absurd hr (by rw [e]; decide)) (fun e => absurd hr (by rw [e]; decide)) (fun e => absurd hr (by rw [e]; decide))]
end E0
end T154_e0
section T155_e0
/-! a decide: its end without ELSE, joined -/
section E1
variable {d dq m mm : Nat} {b F F' F2 : Int} {Mx Mq M N M' N' : mm_} {a a0 o st mk me x1 x2 x3 x4 x5 x7 x8 x9 x10 x11 x12 lo hi k0 kc v : Int} {K : Int → mm_ → Prop} {Kv : mm_ → Prop} {G : Int → mm_ → Prop} {Qt : qt_} {V : vv_} {T : vv_ → Prop}
theorem y_161e0 [Inhabited gh_] (hp : PS b F Mx Mq a0 o me) (h : DHS b F F' Mx Mq M N a0 a o me x2 x3 x4 x5 mm) (hl : 0 ≤ N 222 (Mq 6 102)) (hq3 : QP3 dq st mk me T N (Mq 6 102)) (hnR : ¬ isR (Mx 70) a) (h19 : Mx 70 a ≠ 19)
    (hS : b = 1 → enT (Mx 70) a ≠ none)
    (hV : Cl_ wd0 (Tr_ wd0 pg0 (9 * m + 24)) V (ri_ fun v M5 => Tr_ wd0 pg0 (d + 3) 121 [.inr (.inr 1), .inl 59] M5 (rv_ (G v)) Qt) Qt m_161) (hW : Wk_ V)
    (hG : ∀ M6 N6, PRC b F F' Mx Mq M6 N6 a0 (a + 2) o o me → SEM b Mx Mq M6 N6 0 → Mq 6 75 < N6 6 75 → N6 6 103 = 0 → enT (Mx 70) a = some (a + 2) → LKP b M M6 ∧ lc_ b M6 = lc_ b M → RTq dq st mk me T 0 N6 → G 0 M6)
    (hQ : b = 0 → ∀ Mx', XA Mx Mx' → STT dq T Mq Mx' → Qt 8 Mx') :
    Tr_ wd0 pg0 (9 * m + 24) 108 [.inr (.inr 1), .inl 20] (pX_ M 44) (rv_ fun M5 => V 321 [rr 1, ii x1, ii x2, ii x3, ii x4, ii x5, ii 0, ii x7, ii x8, ii x9, ii x10, ii x11, ii x12] [] (up_ M5 1 6 (w32 ((M5 1 6) - 1)))) Qt := by
  have dq2 := hp.2.2.2.2.2.2.2.1
  have ho := hp.1.2.2.1.2.2.2.2.2.1
  have hps : PS b F' M N a (o + 1) me := PS_D hp h.1 (by omega) ⟨by have := h.2.1; omega, by have := h.2.1; omega⟩
  obtain ⟨⟨hT, hVT, hE, t4, t5, t6⟩, hG', hL, hst, u, w7, r90, d102, msk, c19, s53⟩ := hps
  have h' := h
  obtain ⟨d1, d2, ⟨d3, d4, d5, d6, d7, d8, d9, d10, d11⟩, d12, d13, d14, d15, d16⟩ := h'
  have m8 : M 1 8 = b := hE.2.2.2.2.2.2.1
  have h01 := bl01 hE
  have st0 := ER_st hE
  have st1 := (ER_st hp.1.2.2.1).1
  have ha := ER_a hE
  have q75 := hp.1.2.2.2.1
  have q104 := hp.1.2.2.2.2.1
  have q90 := hp.2.2.2.2.2.2.1
  have xM := PRD_X d1
  have qM := PRD_Q d1
  have m70 : M 70 = Mx 70 := xM.1 70 (by decide)
  have p70 : pX_ M 44 70 = Mx 70 := by rw [pX_r (by decide) (by decide)]; exact m70
  have hE5 : ER b F' (pX_ M 44) N a (o + 1) := ER_pX hE (by omega)
  have hT5 : Tks (pX_ M 44) N := Tks_c pX_XF QF_rf hT
  have c142 : ∀ j, j < M 5 3 → pX_ M 44 142 j = M 142 j := fun j hj => by
    rcases h01 with hb | hb
    · rw [pX_0 (by (clear hp h hl hq3 hnR h19 hS hV hW hG hQ dq2 ho hT hVT hE t4 t5 t6 hG' hL hst u w7 r90 d102 msk c19 s53 d1 d2 d3 d4 d5 d6 d7 d8 d9 d10 d11 d12 d13 d14 d15 d16 st0 st1 ha q75 q104 q90 xM qM m70 p70 hE5 hT5 hj; lia))]
    · rw [pX_v (by (clear hp h hl hq3 hnR h19 hS hV hW hG hQ dq2 ho hT hVT hE t4 t5 t6 hG' hL hst u w7 r90 d102 msk c19 s53 d1 d2 d3 d4 d5 d6 d7 d8 d9 d10 d11 d12 d13 d14 d15 d16 st0 st1 ha q75 q104 q90 xM qM m70 p70 hE5 hT5 hj; lia)), up_ne (by decide), up_of2 (by (clear hp h hl hq3 hnR h19 hS hV hW hG hQ dq2 ho hT hVT hE t4 t5 t6 hG' hL hst u w7 r90 d102 msk c19 s53 d1 d2 d3 d4 d5 d6 d7 d8 d9 d10 d11 d12 d13 d14 d15 d16 m8 st0 st1 ha q75 q104 q90 xM qM m70 p70 hE5 hT5 hb; lia))]
  have c53 : M 5 3 ≤ pX_ M 44 5 3 ∧ pX_ M 44 5 3 ≤ M 5 3 + 1 ∧ (b = 0 → pX_ M 44 5 3 = M 5 3) ∧ (b = 1 → pX_ M 44 5 3 = M 5 3 + 1) := by
    rcases h01 with hb | hb
    · rw [pX_0 (by (clear hp h hl hq3 hnR h19 hS hV hW hG hQ dq2 ho hT hVT hE t4 t5 t6 hG' hL hst u w7 r90 d102 msk c19 s53 d1 d2 d3 d4 d5 d6 d7 d8 d9 d10 d11 d12 d13 d14 d15 d16 st0 st1 ha q75 q104 q90 xM qM m70 p70 hE5 hT5 c142; lia))]; exact ⟨by omega, by omega, fun _ => rfl, fun h => by omega⟩
    · rw [pX_v (by (clear hp h hl hq3 hnR h19 hS hV hW hG hQ dq2 ho hT hVT hE t4 t5 t6 hG' hL hst u w7 r90 d102 msk c19 s53 d1 d2 d3 d4 d5 d6 d7 d8 d9 d10 d11 d12 d13 d14 d15 d16 st0 st1 ha q75 q104 q90 xM qM m70 p70 hE5 hT5 c142; lia)), up_at]; exact ⟨by omega, by omega, fun h => by omega, fun _ => rfl⟩
  have hx5 : b = 1 → XHO (Mx 5 3) (M 5 3) mm (pX_ M 44) x4 := fun hb => XHO_c (Int.le_refl _) (Int.le_refl _) (fun j _ hj => c142 j hj) mm (d15 hb)
  obtain ⟨k, hq3⟩ := hq3
  have toQ : ∀ (V : vv_) (Kv : mm_ → Prop) (Qt : qt_), Cl_ wd0 (Tr_ wd0 pg0 (dq + 15)) V (rv_ Kv) Qt m_260 → Wk_ V → (∀ V' : vv_, Cl_ wd0 (Tr_ wd0 pg0 (dq + 14)) V' (rv_ fun M1 => V 77 (LSz st mk me 0) [] M1) Qt m_303 → Wk_ V' → V' 132 [rr 6, ii (Mq 6 102), ii k, none] [] N) → T V := by
    intro V Kv Qtq hV hW hk
    refine hq3 V Kv Qtq hV hW fun V' hV' hW' => j_292 hT hE (fun c => absurd (by rw [m70] at c; exact c) hnR) (fun _ => ?_)
    rw [if_pos rfl]
    refine b_303_83 (Tr_mono _) hV' hW' _ _ _ ⟨by (clear hp h hl hnR h19 hS hG hQ hT hVT hE t4 t5 t6 hG' hL hst u w7 r90 d102 msk c19 s53 d1 d3 d4 d5 d6 d7 d8 d9 d10 d11 d12 d13 d14 d15 d16 m8 h01 st0 st1 ha q75 q104 q90 xM qM m70 p70 hE5 hT5 c142 c53 hx5 hq3 hV hW hk hV' hW'; omega), fun _ => ?_⟩
    rw [if_pos d9]
    refine j_228f hT hE (by decide) (by rw [m70]; exact h19) ?_
    rw [if_pos rfl]
    exact hk V' hV' hW'
  refine y_161t (dq := dq) (lo := Mx 5 3) (hi := M 5 3) (k0 := Mq 6 75) (kc := N 6 75) (dd := Mq 6 102) (k := k) (mm := mm) (mq := mm) hT5 hE5 (by rw [pX_1]; exact hVT.1) (by omega) hx5 st1 (by omega) d14 q75.1 (by omega) (by omega) (by rw [d3]; omega) d2 d9 (fun _ => d10) (.inl rfl) d11 (fun hb => by rw [p70]; exact hS hb) hV hW (fun hen hE6 hq => ?_) (fun hb Mx' hx hq => ?_)
  rotate_left
  · exact hQ hb Mx' (XA_tr xM (XA_tr (XF_XA pX_XF) hx)) (fun V Kv Qtq hV hW hk => toQ V Kv Qtq hV hW fun V' hV' hW' => hq V' _ _ hV' hW' (fun M' hsq => q_260s77 hV hW (SQ_q qM hsq) hk))
  have ev : (if x5 = 0 ∨ (0 : Int) = 0 then (0 : Int) else 1) = 0 := if_pos (.inr rfl)
  rw [ev] at hE6 hq ⊢
  rw [p70] at hen
  have P := e_KB (hi := M 5 3) (kc := N 6 75) d1 pX_XF QD_rf ⟨fun i x y => c142 i (by have := (PRD_PB d1).2.2.2.1.1; (clear hp h hl hnR h19 hS hV hW hG hQ dq2 ho hT hVT hE t4 t5 t6 hG' hL hst u w7 r90 d102 msk c19 s53 d1 d2 d3 d4 d5 d6 d7 d8 d9 d10 d11 d12 d13 d14 d15 d16 m8 h01 st0 st1 ha q75 q104 q90 xM qM m70 p70 hE5 hT5 c142 c53 hx5 hq3 toQ hen hE6 hq ev x; omega)), fun _ _ _ _ _ => rfl, fun _ _ _ => rfl, fun _ _ _ => ⟨rfl, rfl⟩, fun _ _ _ _ _ => rfl, fun _ _ _ _ _ => rfl⟩ ⟨c53.1, by (clear hp h hl hnR h19 hS hV hW hG hQ dq2 ho hT hVT hE t4 t5 t6 hG' hL hst u w7 r90 d102 msk c19 s53 d1 d2 d3 d4 d5 d6 d7 d8 d9 d10 d11 d12 d13 d14 d15 d16 m8 h01 st0 st1 ha q75 q104 q90 xM qM m70 p70 hE5 hT5 c142 hx5 hq3 toQ hen hE6 hq ev; omega), c53.2.2.1⟩ (by omega) rfl rfl (by rw [pX_1]) hx5 d14 d3 hE6
  have xf6 : XF M (nX_ (M9_ b (pX_ M 44) o x4 mm)) := XF_tr pX_XF (XF_tr M9_XF nX_XF)
  refine hG _ _ P ?_ (by rw [N8_i (by decide) (by decide) (by decide) (by decide)]; exact d12) N8_103 hen (LKP_F xf6) (fun V Kv Qtq hV hW hk => toQ V Kv Qtq hV hW fun V' hV' hW' => hq V' _ _ hV' hW' hk)
  intro hb h0
  have i75 : N8_ N o (Mq 6 102) 0 mm 6 75 = N 6 75 := N8_i (by decide) (by decide) (by decide) (by decide)
  have i104 : N8_ N o (Mq 6 102) 0 mm 6 104 = N 6 104 := N8_i (by decide) (by decide) (by decide) (by decide)
  have i90 : N8_ N o (Mq 6 102) 0 mm 6 90 = N 6 90 := N8_i (by decide) (by decide) (by decide) (by decide)
  rw [N8_i (by decide) (by decide) (by decide) (by decide)] at h0
  obtain ⟨g0, hD⟩ := d16 hb h0
  have e53 : nX_ (M9_ b (pX_ M 44) o x4 mm) 5 3 = M 5 3 + 1 := by rw [nX_ne (by decide), M9_r (by decide) (by decide)]; exact c53.2.2.2 hb
  have e19 : nX_ (M9_ b (pX_ M 44) o x4 mm) 1 19 = M 1 19 := xf6.2.1 19 (by decide) (by decide) (by decide) (by decide) (by decide)
  have e142 : nX_ (M9_ b (pX_ M 44) o x4 mm) 142 = xpt (M 5 3 + 1) mm (up_ (nX_ (pX_ M 44)) 1 6 o) x4 142 := by
    rw [nX_ne (by decide)]; unfold M9_; rw [if_neg (by (clear hp h hl hnR h19 hS hV hW hG hQ dq2 ho hT hVT hE t4 t5 t6 hG' hL hst u w7 r90 d102 msk c19 s53 d1 d2 d3 d4 d5 d6 d7 d8 d9 d10 d11 d12 d13 d14 d15 d16 m8 h01 st0 st1 ha q75 q104 q90 xM qM m70 p70 hE5 hT5 c142 c53 hx5 hq3 toQ hen hE6 hq ev P xf6 h0 i75 i104 i90 g0 hD e53 e19; lia)), c53.2.2.2 hb]
  have xh := d15 hb
  have c142' : ∀ j, j < M 5 3 → up_ (nX_ (pX_ M 44)) 1 6 o 142 j = M 142 j := fun j hj => by rw [up_ne (by decide), nX_ne (by decide)]; exact c142 j hj
  have xlt : x4 < M 5 3 := by
    cases mm with
    | zero => have : x4 = -1 := xh; (clear hp hl hnR h19 hS hV hW hG hQ dq2 ho hT hVT hE t4 t5 t6 hG' hL hst u w7 r90 d102 msk c19 s53 d1 d2 d3 d4 d5 d6 d7 d8 d9 d10 d11 d12 d13 m8 h01 st1 ha q75 q104 q90 xM qM m70 p70 hE5 hT5 c142 c53 hq3 toQ hen ev hb h0 g0 c142' h d14 d15 d16 hx5 hE6 hq P xf6 i75 i104 i90 hD e19 e142 xh; lia)
    | succ n => exact xh.1.2
  refine ⟨g0, ?_, ?_⟩
  · rw [i75, e53, e19]
    refine DS_e0 hD st1 ⟨q75.1, d12⟩ hl i104 ⟨q90.1, i90⟩ (fun j _ hj => ?_) ?_ (fun r j hr x y h5 h8 => ?_) (fun j x y => by rw [N8_205]) (by rw [N8_208, if_pos d3.symm]) d13 (fun j _ _ => by rw [N8_r (by decide) (by decide) (by decide)]) (fun j _ _ => by rw [N8_r (by decide) (by decide) (by decide), N8_r (by decide) (by decide) (by decide)]; exact ⟨rfl, rfl⟩) ?_ (fun j _ _ => ?_) (fun l _ _ => ?_)
    · rw [e142]; exact xpt_c mm xh c142' j hj
    · rw [e142, xpt_hi mm (XHO_c (M := M) (lo := Mx 5 3) (hi := M 5 3) (Int.le_refl _) (Int.le_refl _) (fun j _ hj => c142' j hj) mm xh) (.inl xlt), up_ne (by decide), nX_ne (by decide), pX_v (by (clear hp h hl hnR h19 hS hV hW hG hQ dq2 ho hT hVT hE t4 t5 t6 hG' hL hst u w7 r90 d102 msk c19 s53 d1 d2 d3 d4 d5 d6 d7 d8 d9 d10 d11 d12 d13 d14 d15 d16 h01 st0 st1 ha q75 q104 q90 xM qM m70 p70 hE5 hT5 c142 c53 hx5 hq3 toQ hen hE6 hq ev P xf6 h0 i75 i104 i90 g0 hD e53 e19 e142 xh c142' xlt; lia)), up_ne (by decide), up_at]
    · by_cases c2 : r = 208
      · rw [c2, N8_208, if_neg (by rcases h8 with q | q; · exact absurd c2 q
                                   · (clear hp h hl hnR h19 hS hV hW hG hQ dq2 ho hT hVT hE t4 t5 t6 hG' hL hst u w7 r90 d102 msk c19 s53 d1 d2 d4 d5 d6 d7 d8 d9 d10 d11 d12 d13 d14 d15 d16 m8 h01 st0 st1 ha q75 q104 q90 xM qM m70 p70 hE5 hT5 c142 c53 hx5 hq3 toQ hen hE6 hq ev P xf6 hb h0 i75 i104 i90 g0 hD e53 e19 e142 xh c142' xlt hr x y h5 c2; lia))]
      · rw [N8_r (fun e => absurd hr (by rw [e]; decide)) h5 c2]
    · refine ⟨⟨?_, ?_, ?_, ?_, ?_⟩, ?_, ?_, ?_, ?_, ?_, ?_, ?_, ?_⟩
      all_goals first
        | exact N8_r (by decide) (by decide) (by decide)
        | exact N8_i (by decide) (by decide) (by decide) (by decide)
        | rw [N8_r (by decide) (by decide) (by decide)]
    · rw [N8_r (by decide) (by decide) (by decide), N8_r (by decide) (by decide) (by decide), N8_r (by decide) (by decide) (by decide), N8_r (by decide) (by decide) (by decide)]; exact ⟨rfl, rfl, rfl, rfl⟩
    · rw [XF_70 xf6 (by decide) (by decide) (by decide), N8_r (by decide) (by decide) (by decide)]; exact ⟨rfl, rfl⟩
  · obtain ⟨px, L, c1, t, pb, lb, ⟨g3, g6, g5, g7⟩, hall, hh, he, lab, sb⟩ := hD
    have key : ∀ (w s : Int), w ≠ 7 → ((∃ k, (Mq 6 75 ≤ k ∧ k < N8_ N o (Mq 6 102) 0 mm 6 75) ∧ N8_ N o (Mq 6 102) 0 mm 203 k = w ∧ N8_ N o (Mq 6 102) 0 mm 205 k = s) ↔ (∃ k, (Mq 6 75 ≤ k ∧ k < N 6 75) ∧ N 203 k = w ∧ N 205 k = s)) := by
      intro w s hw
      rw [i75, N8_r (by decide) (by decide) (by decide), N8_205]
      have q205 := qpt_205 (v := N 6 75) mm (N := N) (g := N 224 (Mq 6 102))
      have nk : ∀ k, N 203 k = w → ¬ INH N mm (N 224 (Mq 6 102)) k := fun k e hi => by have := (HOL_i mm hh k hi).1; (clear hp h hl hnR h19 hS hV hW hG hQ dq2 ho hT hVT hE t4 t5 t6 hG' hL hst u w7 r90 d102 msk c19 s53 d1 d2 d3 d4 d5 d6 d7 d8 d9 d10 d11 d12 d13 d14 d15 d16 m8 h01 st0 st1 ha q75 q104 q90 xM qM m70 p70 hE5 hT5 c142 c53 hx5 hq3 toQ hen hE6 hq ev P xf6 hb h0 i75 i104 i90 g0 e53 e19 e142 xh c142' xlt pb lb g3 g6 g5 g7 hall hh he lab sb q205 hi; lia)
      constructor
      · rintro ⟨k, h1, h2, h3⟩
        rw [q205.2 k (nk k h2)] at h3
        exact ⟨k, h1, h2, h3⟩
      · rintro ⟨k, h1, h2, h3⟩
        exact ⟨k, h1, h2, by rw [q205.2 k (nk k h2)]; exact h3⟩
    have y21 := xf6.2.1 21 (by decide) (by decide) (by decide) (by decide) (by decide)
    have y23 := xf6.2.1 23 (by decide) (by decide) (by decide) (by decide) (by decide)
    refine ⟨fun q x y => ?_, fun q x y => ?_⟩
    · rw [y21, key 2 q (by decide)]; exact sb.1 q x y
    · rw [y23, key 5 q (by decide)]; exact sb.2 q x y
end E1
end T155_e0
section T156_e1
/-! a decide: its end with ELSE: what it means -/
def EPQ (Mq N Np : mm_) : Prop := (∀ r : Nat, r ≠ 6 → r ≠ 207 → r ≠ 225 → Np r = N r) ∧ (∀ i : Int, i ≠ 12 → Np 6 i = N 6 i) ∧ Np 207 (Mq 6 75) = N 6 75 ∧ (∀ j, j ≠ Mq 6 75 → Np 207 j = N 207 j) ∧ Np 225 (Mq 6 102) = 1 ∧ (∀ j, j ≠ Mq 6 102 → Np 225 j = N 225 j)
def EPX (b : Int) (M Mp : mm_) : Prop := XF M Mp ∧ Mp 1 7 = M 1 7 ∧ (b = 0 → Mp 5 3 = M 5 3) ∧ (b = 1 → Mp 5 3 = M 5 3 + 1 ∧ Mp 142 (M 5 3) = 44) ∧ (∀ j, j < M 5 3 → Mp 142 j = M 142 j)
section E2
variable {d dq m mm : Nat} {b F F' F2 : Int} {Mx Mq M N M' N' Mp Np M3 N3 : mm_} {a a0 a2 a3 o st mk me x1 x2 x3 x4 x5 lo hi k0 kc v y : Int}
theorem qpt_k [Inhabited gh_] (h0 : 0 ≤ k0) : ∀ (n : Nat) {N N' : mm_} {g : Int}, QHO k0 kc n N g → (∀ j, 0 ≤ j → j < kc → N' 205 j = N 205 j) → (∀ j, 0 ≤ j → j < kc → N' 206 j = N 206 j) → ∀ j, 0 ≤ j → j < kc → qpt v n N' g 205 j = qpt v n N g 205 j
  | 0, N, N', g, _, h5, _, j, x, y => h5 j x y
  | n + 1, N, N', g, hx, h5, h6, j, x, y => by
    obtain ⟨hb, hd, hr⟩ := hx
    show qpt v n (up_ N' 205 g v) (N' 206 g) 205 j = qpt v n (up_ N 205 g v) (N 206 g) 205 j
    rw [h6 g (by (clear h5 h6 x y hd hr; lia)) hb.2]
    refine qpt_k h0 n (QHO_c (k1 := 0) (Int.le_refl _) (fun j _ _ => by rw [up_ne (by decide)]) n hr) (fun i x y => ?_) (fun i x y => by rw [up_ne (by decide), up_ne (by decide)]; exact h6 i x y) j x y
    by_cases c : i = g
    · rw [c, up_at, up_at]
    · rw [up_of2 c, up_of2 c, h5 i x y]
theorem xpt_k [Inhabited gh_] (h0 : 0 ≤ lo) : ∀ (n : Nat) {M M' : mm_} {h : Int}, XHO lo hi n M h → (∀ j, 0 ≤ j → j < hi → M' 142 j = M 142 j) → ∀ j, 0 ≤ j → j < hi → xpt v n M' h 142 j = xpt v n M h 142 j
  | 0, M, M', h, _, he, j, x, hj => he j x hj
  | n + 1, M, M', h, hx, he, j, x, hj => by
    obtain ⟨hb, hd, hr⟩ := hx
    show xpt v n (up_ M' 142 h v) (M' 142 h) 142 j = xpt v n (up_ M 142 h v) (M 142 h) 142 j
    rw [he h (by (clear he x hj hd hr; lia)) hb.2]
    refine xpt_k h0 n (XHO_u n hd hr) (fun i x hi => ?_) j x hj
    by_cases c : i = h
    · rw [c, up_at, up_at]
    · rw [up_of2 c, up_of2 c, he i x hi]
theorem e1_SEM [Inhabited gh_] (hp : PS b F Mx Mq a0 o me) (h : DHS b F F' Mx Mq M N a0 a o me x2 x3 x4 x5 mm) (hl : 0 ≤ N 222 (Mq 6 102)) (hX : EPX b M Mp) (hQ : EPQ Mq N Np) (hP : PRD b F F' Mx Mq Mp Np a0 a2 o (o + 1) me) (hR : PRC b F' F2 Mp Np M3 N3 a2 a3 (o + 1) (o + 1) me) (hM : SEM b Mp Np M3 N3 v) (hv : v = 0 ∨ v = 1)
    (hy : y = if x5 = 0 ∨ v = 0 then 0 else 1) : SEM b Mx Mq (nX_ (M9_ b M3 o x4 mm)) (N8_ (N4_ N3 (Mq 6 102) y) o (Mq 6 102) y (mm + 1)) y := by
  intro hb h0
  have B4 := N4_BQ (N := N3) (dd := Mq 6 102) (x := y)
  generalize N4_ N3 (Mq 6 102) y = N4 at *
  obtain ⟨z1, z2, z3, z4, z5, z6, z7, z8, z9, z10⟩ := B4
  rw [N8_i (by decide) (by decide) (by decide) (by decide), z2 13 (by decide) (by decide)] at h0
  obtain ⟨d1, d2, ⟨d3, d4, d5, d6, d7, d8, d9, d10, d11⟩, d12, d13, d14, d15, d16⟩ := h
  obtain ⟨q1, q2, q3, q4, q5, q6⟩ := hQ
  obtain ⟨xf, x7, xb0, xb1, x142⟩ := hX
  have xb := xb1 hb
  obtain ⟨hp0, hsg, hsb⟩ := hM hb h0
  rw [q2 13 (by decide)] at hp0
  obtain ⟨hq0, hD⟩ := d16 hb hp0
  have tcp3 := PRC_tc hb hR (T := Mq 6 61)
  have P3 := PRD_tr hp.1.2.2.2.1.1 (by rw [q2 102 (by decide)]; (clear hp hl hP hR hM hv hy hb h0 z1 z2 z3 z4 z5 z6 z7 z8 z9 z10 d1 d3 d4 d5 d6 d7 d8 d9 d10 d11 d12 d13 d14 d15 d16 q1 q2 q3 q4 q5 q6 xf x7 xb0 xb1 x142 xb hp0 hsg hsb hq0 hD tcp3; omega)) hP hR
  obtain ⟨p1, p2, p3, p4, p5, p6⟩ := PRD_PB d1
  obtain ⟨f1, e1, ⟨xx, qq⟩, ⟨⟨c1, c2, c3, c4, c5, c6, c7⟩, w1, w2, w3, w4⟩, ⟨s1, s2, s3, s4, s5, s6⟩, lbt, msk, t1, t2, t3⟩ := hR
  have a75 := hp.1.2.2.2.1
  have a90 := hp.2.2.2.2.2.2.1
  have a102 := hp.2.2.2.2.2.2.2.1.1
  have a104 := hp.1.2.2.2.2.1
  have a53 := (ER_st hp.1.2.2.1).1
  have n75 : Np 6 75 = N 6 75 := q2 75 (by decide)
  have n90 : Np 6 90 = N 6 90 := q2 90 (by decide)
  have n104 : Np 6 104 = N 6 104 := q2 104 (by decide)
  have n102 : Np 6 102 = Mq 6 102 + 1 := by rw [q2 102 (by decide)]; exact d2
  have n61 : Np 6 61 = Mq 6 61 := by rw [q2 61 (by decide)]; exact (PRD_Q d1).2 61 (by decide)
  have m19 : Mp 1 19 = M 1 19 := xf.2.1 19 (by decide) (by decide) (by decide) (by decide) (by decide)
  have hT : Mx 1 18 = Mq 6 61 := hp.1.2.1.2.1.symm
  have p18 : Mp 1 18 = Mx 1 18 := (PRD_X hP).2.1 18 (by decide)
  have lc1 : lc_ b Mp = Mp 1 19 := by unfold lc_; rw [if_neg (by (clear hp hl hP hM hv hy h0 z1 z2 z3 z4 z5 z6 z7 z8 z9 z10 d1 d2 d3 d4 d5 d6 d7 d8 d9 d10 d11 d12 d13 d14 d15 d16 q1 q2 q3 q4 q5 q6 xf x7 xb0 xb1 x142 xb hp0 hsg hsb hq0 hD tcp3 P3 p1 p2 p3 p4 p5 p6 f1 e1 xx qq c1 c2 c3 c4 c5 c6 c7 w1 w2 w3 w4 s1 s2 s3 s4 s5 s6 lbt msk t1 t2 t3 a75 a90 a102 a104 a53 n75 n90 n104 n102 n61 m19 hT p18; lia))]
  have lc3 : lc_ b M3 = M3 1 19 := by unfold lc_; rw [if_neg (by (clear hp hl hP hM hv hy h0 z1 z2 z3 z4 z5 z6 z7 z8 z9 z10 d1 d2 d3 d4 d5 d6 d7 d8 d9 d10 d11 d12 d13 d14 d15 d16 q1 q2 q3 q4 q5 q6 xf x7 xb0 xb1 x142 xb hp0 hsg hsb hq0 hD tcp3 P3 p1 p2 p3 p4 p5 p6 f1 e1 xx qq c1 c2 c3 c4 c5 c6 c7 w1 w2 w3 w4 s1 s2 s3 s4 s5 s6 lbt msk t1 t2 t3 a75 a90 a102 a104 a53 n75 n90 n104 n102 n61 m19 hT p18 lc1; lia))]
  rw [lc1, lc3] at t1
  rw [n61, n75, n90, m19, xb.1] at hsg
  rw [n75] at hsb
  -- the last memories
  have i75 : N8_ N4 o (Mq 6 102) y (mm + 1) 6 75 = N3 6 75 + 1 := by rw [N8_i (by decide) (by decide) (by decide) (by decide)]; exact z3
  have i104 : N8_ N4 o (Mq 6 102) y (mm + 1) 6 104 = N3 6 104 := by rw [N8_i (by decide) (by decide) (by decide) (by decide)]; exact z2 104 (by decide) (by decide)
  have i90 : N8_ N4 o (Mq 6 102) y (mm + 1) 6 90 = N3 6 90 := by rw [N8_i (by decide) (by decide) (by decide) (by decide)]; exact z2 90 (by decide) (by decide)
  have xf6 : XF M3 (nX_ (M9_ b M3 o x4 mm)) := XF_tr M9_XF nX_XF
  have e53 : nX_ (M9_ b M3 o x4 mm) 5 3 = M3 5 3 := by rw [nX_ne (by decide), M9_r (by decide) (by decide)]
  have e19 : nX_ (M9_ b M3 o x4 mm) 1 19 = M3 1 19 := xf6.2.1 19 (by decide) (by decide) (by decide) (by decide) (by decide)
  have e142 : nX_ (M9_ b M3 o x4 mm) 142 = xpt (M3 5 3) mm (up_ (nX_ M3) 1 6 o) x4 142 := by
    rw [nX_ne (by decide)]; unfold M9_; rw [if_neg (by (clear hp hl hP hM hv hy h0 z1 z2 z3 z4 z5 z6 z7 z8 z9 z10 d1 d2 d3 d4 d5 d6 d7 d8 d9 d10 d11 d12 d13 d14 d15 d16 q1 q2 q3 q4 q5 q6 xf x7 xb0 xb1 x142 xb hp0 hsg hsb hq0 hD tcp3 P3 p1 p2 p3 p4 p5 p6 f1 e1 xx qq c1 c2 c3 c4 c5 c6 c7 w1 w2 w3 w4 s1 s2 s3 s4 s5 s6 lbt msk t1 t2 t3 a75 a90 a102 a104 a53 n75 n90 n104 n102 n61 m19 hT p18 lc1 lc3 i75 i104 i90 xf6 e53 e19; lia))]
  have xh := d15 hb
  have u142 : up_ (nX_ M3) 1 6 o 142 = M3 142 := by rw [up_ne (by decide), nX_ne (by decide)]
  have c142' : ∀ j, 0 ≤ j → j < M 5 3 → M3 142 j = M 142 j := fun j x hj => by rw [c1 j x (by (clear hp hl hP hM hv hy hb h0 z1 z2 z3 z4 z5 z6 z7 z8 z9 z10 d1 d2 d3 d4 d5 d6 d7 d8 d9 d10 d11 d12 d13 d14 d15 d16 q1 q2 q3 q4 q5 q6 xf x7 xb0 xb1 x142 hp0 hsg hsb hq0 hD tcp3 P3 p1 p2 p3 p4 p5 p6 f1 e1 xx qq c1 c2 c3 c4 c5 c6 c7 w1 w2 w3 w4 s1 s2 s3 s4 s5 s6 lbt msk t1 t2 t3 a75 a90 a102 a104 a53 n75 n90 n104 n102 n61 m19 hT p18 lc1 lc3 i75 i104 i90 xf6 e53 e19 e142 xh u142 x; omega))]; exact x142 j hj
  have xlt : x4 < M 5 3 := by
    cases mm with
    | zero => have : x4 = -1 := xh; (clear hp hl hP hM hv hy hb h0 z1 z2 z3 z4 z5 z6 z7 z8 z9 z10 d1 d2 d3 d4 d5 d6 d7 d8 d9 d10 d11 d12 d13 q1 q2 q3 q4 q5 q6 xf x7 xb0 xb1 x142 xb hp0 hsg hsb hq0 tcp3 P3 p1 p2 p3 p5 p6 f1 e1 xx qq c1 c2 c3 c4 c5 c6 c7 w1 w2 w3 w4 s1 s2 s3 s4 s5 s6 lbt msk t1 t2 t3 a75 a90 a102 a104 n75 n90 n104 n102 n61 m19 hT p18 lc1 lc3 u142 c142' d14 d15 d16 hD i75 i104 i90 xf6 e53 e19 e142 xh; omega)
    | succ n => exact xh.1.2
  have xh3 : XHO (Mx 5 3) (M 5 3) mm (up_ (nX_ M3) 1 6 o) x4 := XHO_c (M := M) (Int.le_refl _) (Int.le_refl _) (fun j x hj => by rw [u142]; exact c142' j (by (clear hp hl hP hM hv hy hb h0 z1 z2 z3 z4 z5 z6 z7 z8 z9 z10 d1 d2 d3 d4 d5 d6 d7 d8 d9 d10 d11 d12 d13 d14 d15 d16 q1 q2 q3 q4 q5 q6 xf x7 xb0 xb1 x142 xb hp0 hsg hsb hq0 hD tcp3 P3 p1 p2 p3 p4 p5 p6 f1 e1 xx qq c1 c2 c3 c4 c5 c6 c7 w1 w2 w3 w4 s1 s2 s3 s4 s5 s6 lbt msk t1 t2 t3 a75 a90 a102 a104 n75 n90 n104 n102 n61 m19 hT p18 lc1 lc3 i75 i104 i90 xf6 e53 e19 e142 xh u142 c142' xlt hj; lia)) hj) mm xh
  have hi142 : ∀ j, M 5 3 ≤ j → nX_ (M9_ b M3 o x4 mm) 142 j = M3 142 j := fun j hj => by rw [e142, xpt_hi mm xh3 (.inl (by (clear hp hl hP hM hv hy hb h0 z1 z2 z3 z4 z5 z6 z7 z8 z9 z10 d1 d2 d3 d4 d5 d6 d7 d8 d9 d10 d11 d12 d13 d14 d15 d16 q1 q2 q3 q4 q5 q6 xf x7 xb0 xb1 x142 xb hp0 hsg hsb hq0 hD tcp3 P3 p1 p2 p3 p4 p5 p6 f1 e1 xx qq c1 c2 c3 c4 c5 c6 c7 w1 w2 w3 w4 s1 s2 s3 s4 s5 s6 lbt msk t1 t2 t3 a75 a90 a102 a104 a53 n75 n90 n104 n102 n61 m19 hT p18 lc1 lc3 i75 i104 i90 xf6 e53 e19 e142 xh u142 c142' xh3; omega))), u142]
  -- Q's ops
  have oN : ∀ r j, r ∈ opL → 0 ≤ j → j < N 6 75 → (r ≠ 207 ∨ j ≠ Mq 6 75) → N4 r j = N r j := fun r j hr x hj hn => by
    rw [z5 r j hr (by (clear hp hl hP hM hv hy hb h0 z1 z2 z3 z4 z5 z6 z7 z8 z10 d1 d2 d3 d4 d5 d6 d7 d8 d9 d10 d11 d12 d13 d14 d15 d16 q1 q2 q4 q5 q6 xf x7 xb0 xb1 x142 xb hp0 hsg hsb hq0 hD tcp3 P3 p1 p2 p3 p4 p5 p6 f1 e1 xx qq c1 c2 c3 c4 c5 c6 c7 w1 w2 w3 w4 s1 s3 s4 s5 s6 lbt msk t1 t2 t3 a75 a90 a102 a104 a53 n90 n104 n102 n61 m19 hT p18 lc1 lc3 i104 i90 xf6 e53 e19 e142 xh u142 c142' xlt xh3 hi142 hr x hn; lia)), c2 r j hr x (by (clear hp hl hP hM hv hy hb h0 z1 z2 z3 z4 z5 z6 z7 z8 z9 z10 d1 d2 d3 d4 d5 d6 d7 d8 d9 d10 d11 d12 d13 d14 d15 d16 q1 q2 q4 q5 q6 xf x7 xb0 xb1 x142 xb hp0 hsg hsb hq0 hD tcp3 P3 p1 p2 p3 p4 p5 p6 f1 e1 xx qq c1 c2 c3 c4 c5 c6 c7 w1 w2 w3 w4 s1 s2 s3 s4 s5 s6 lbt msk t1 t2 t3 a75 a90 a102 a104 a53 n90 n104 n102 n61 m19 hT p18 lc1 lc3 i75 i104 i90 xf6 e53 e19 e142 xh u142 c142' xlt xh3 hi142 hr x hn; omega))]
    by_cases c : r = 207
    · rw [c]; exact q4 j (by (clear hp hl hP hM hv hy hb h0 z1 z2 z3 z4 z5 z6 z7 z8 z9 z10 d1 d2 d3 d4 d5 d6 d7 d8 d9 d10 d11 d12 d13 d14 d15 d16 q1 q2 q3 q4 q5 q6 xf x7 xb0 xb1 x142 xb hp0 hsg hsb hq0 hD tcp3 P3 p1 p2 p3 p4 p5 p6 f1 e1 xx qq c1 c2 c3 c4 c5 c6 c7 w1 w2 w3 w4 s1 s2 s3 s4 s5 s6 lbt msk t1 t2 t3 a75 a90 a102 a104 a53 n75 n90 n104 n102 n61 m19 hT p18 lc1 lc3 i75 i104 i90 xf6 e53 e19 e142 xh u142 c142' xlt xh3 hi142 hr x hj; lia))
    · rw [q1 r (fun e => absurd hr (by rw [e]; decide)) c (fun e => absurd hr (by rw [e]; decide))]
  have o224 : N3 224 (Mq 6 102) = N 224 (Mq 6 102) := by rw [c6 224 _ (by decide) (by omega) (by (clear hp hl hP hM hv hy hb h0 z1 z2 z3 z4 z5 z6 z7 z8 z9 z10 d1 d2 d3 d4 d5 d6 d7 d8 d9 d10 d11 d12 d13 d14 d15 d16 q1 q2 q3 q4 q5 q6 xf x7 xb0 xb1 x142 xb hp0 hsg hsb hq0 hD tcp3 P3 p1 p2 p3 p4 p5 p6 f1 e1 xx qq c1 c2 c3 c4 c5 c6 c7 w1 w2 w3 w4 s1 s2 s3 s4 s5 s6 lbt msk t1 t2 t3 a75 a90 a102 a104 a53 n75 n90 n104 n61 m19 hT p18 lc1 lc3 i75 i104 i90 xf6 e53 e19 e142 xh u142 c142' xlt xh3 hi142 oN; omega)), q1 224 (by decide) (by decide) (by decide)]
  have o220 : N4 220 (Mq 6 102) = Mq 6 75 := by rw [z1 220 (by decide), c6 220 _ (by decide) (by omega) (by omega), q1 220 (by decide) (by decide) (by decide)]; exact d3
  have j205 : N8_ N4 o (Mq 6 102) y (mm + 1) 205 = qpt (N3 6 75 + 1) mm (up_ N4 205 (N3 6 75) (N3 6 75 + 1)) (N 224 (Mq 6 102)) 205 := by
    rw [N8_205, z3, z9]
    show qpt (N3 6 75 + 1) mm (up_ N4 205 (N3 6 75) (N3 6 75 + 1)) (N4 206 (N3 6 75)) 205 = _
    rw [z8, o224]
  have qh : QHO (Mq 6 75) (N 6 75) mm (up_ N4 205 (N3 6 75) (N3 6 75 + 1)) (N 224 (Mq 6 102)) := QHO_c (k1 := 0) (Int.le_refl _) (fun j x hj => by rw [up_ne (by decide)]; exact oN 206 j (by decide) (by (clear hp hl hP hM hv hy hb h0 z1 z2 z3 z4 z5 z6 z7 z8 z9 z10 d1 d2 d3 d4 d5 d6 d7 d8 d9 d10 d11 d12 d13 d14 d15 d16 q1 q2 q3 q4 q5 q6 xf x7 xb0 xb1 x142 xb hp0 hsg hsb hq0 hD tcp3 P3 p1 p2 p3 p4 p5 p6 f1 e1 xx qq c1 c2 c3 c4 c5 c6 c7 w1 w2 w3 w4 s1 s2 s3 s4 s5 s6 lbt msk t1 t2 t3 a90 a102 a104 a53 n75 n90 n104 n102 n61 m19 hT p18 lc1 lc3 i75 i104 i90 xf6 e53 e19 e142 xh u142 c142' xlt xh3 hi142 oN o224 j205 hj; lia)) hj (.inl (by decide))) mm d14
  have j205a : ∀ j, 0 ≤ j → j < N 6 75 → N8_ N4 o (Mq 6 102) y (mm + 1) 205 j = qpt (N3 6 75 + 1) mm N (N 224 (Mq 6 102)) 205 j := fun j x hj => by
    rw [j205]
    exact qpt_k a75.1 mm d14 (fun i x y => by rw [up_of2 (by (clear hp hl hP hM hv hy hb h0 z1 z2 z3 z4 z5 z6 z7 z8 z10 d1 d2 d3 d4 d5 d6 d7 d8 d9 d10 d11 d12 d13 d14 d15 d16 q1 q2 q4 q5 q6 xf x7 xb0 xb1 x142 xb hp0 hsg hsb hq0 hD tcp3 P3 p1 p2 p3 p4 p5 p6 f1 e1 xx qq c1 c2 c3 c4 c5 c6 c7 w1 w2 w3 w4 s1 s3 s4 s5 s6 lbt msk t1 t2 t3 a75 a90 a102 a104 a53 n90 n104 n102 n61 m19 hT p18 lc1 lc3 i104 i90 xf6 e53 e19 e142 xh u142 c142' xlt xh3 hi142 oN o224 o220 j205 qh hj x; lia))]; exact oN 205 i (by decide) x y (.inl (by decide))) (fun i x y => by rw [up_ne (by decide)]; exact oN 206 i (by decide) x y (.inl (by decide))) j x hj
  have j205b : ∀ j, N 6 75 ≤ j → j ≠ N3 6 75 → N8_ N4 o (Mq 6 102) y (mm + 1) 205 j = N3 205 j := fun j x hj => by
    rw [j205, qpt_lo mm qh (.inr x), up_of2 hj, z5 205 j (by decide) hj]
  have j205c : N8_ N4 o (Mq 6 102) y (mm + 1) 205 (N3 6 75) = N3 6 75 + 1 := by
    rw [j205, qpt_lo mm qh (.inr (by (clear hp hl hP hM hv hy hb h0 z1 z2 z3 z4 z5 z6 z7 z8 z10 d1 d2 d3 d4 d5 d6 d7 d8 d9 d10 d11 d12 d13 d14 d15 d16 q1 q2 q4 q5 q6 xf x7 xb0 xb1 x142 xb hp0 hsg hsb hq0 hD tcp3 P3 p1 p2 p3 p4 p5 p6 f1 e1 xx qq c1 c2 c3 c4 c5 c6 c7 w1 w2 w3 w4 s1 s3 s4 s5 s6 lbt msk t1 t2 t3 a75 a90 a102 a104 a53 n90 n104 n102 n61 m19 hT p18 lc1 lc3 i104 i90 xf6 e53 e19 e142 xh u142 c142' xlt xh3 hi142 oN o224 o220 j205 qh j205a j205b; lia))), up_at]
  have j208 : ∀ j, j ≠ Mq 6 75 → N8_ N4 o (Mq 6 102) y (mm + 1) 208 j = N4 208 j := fun j hj => by rw [N8_208, o220, if_neg hj]
  have jr : ∀ r : Nat, r ≠ 6 → r ≠ 205 → r ≠ 208 → N8_ N4 o (Mq 6 102) y (mm + 1) r = N4 r := fun r h6 h5 h8 => N8_r h6 h5 h8
  have j6 : ∀ i : Int, i ≠ 12 → i ≠ 15 → i ≠ 102 → i ≠ 103 → N8_ N4 o (Mq 6 102) y (mm + 1) 6 i = N4 6 i := fun i h1 h2 h3 h4 => N8_i h1 h2 h3 h4
  generalize N8_ N4 o (Mq 6 102) y (mm + 1) = N6 at *
  generalize nX_ (M9_ b M3 o x4 mm) = M6 at *
  have tc36 : tc_ (Mq 6 61) N3 N6 := by
    refine ⟨⟨?_, ?_, ?_, ?_, ?_⟩, ?_, ?_, ?_, ?_, ?_, ?_, ?_, ?_⟩
    all_goals first
      | exact (jr _ (by decide) (by decide) (by decide)).trans (z1 _ (by decide))
      | exact (j6 _ (by decide) (by decide) (by decide) (by decide)).trans (z2 _ (by decide) (by decide))
      | rw [jr _ (by decide) (by decide) (by decide), z1 _ (by decide)]
  have tcN : tc_ (Mq 6 61) N N6 := by
    obtain ⟨⟨u1, u2, u3, u4, u5⟩, u6, u7, u8, u9, u10, u11, u12, u13⟩ := tcp3
    obtain ⟨⟨v1, v2, v3, v4, v5⟩, v6, v7, v8, v9, v10, v11, v12, v13⟩ := tc36
    have r6 : ∀ r : Nat, r ≠ 6 → r ≠ 207 → r ≠ 225 → Np r = N r := q1
    exact ⟨⟨by rw [v1, u1, r6 171 (by decide) (by decide) (by decide)], by rw [v2, u2, r6 173 (by decide) (by decide) (by decide)], by rw [v3, u3, r6 182 (by decide) (by decide) (by decide)], by rw [v4, u4, r6 183 (by decide) (by decide) (by decide)], by rw [v5, u5, r6 184 (by decide) (by decide) (by decide)]⟩, by rw [v6, u6, r6 156 (by decide) (by decide) (by decide)], by rw [v7, u7, r6 157 (by decide) (by decide) (by decide)], by rw [v8, u8, r6 170 (by decide) (by decide) (by decide)], by rw [v9, u9, r6 174 (by decide) (by decide) (by decide)], by rw [v10, u10, r6 175 (by decide) (by decide) (by decide)], by rw [v11, u11]; exact q2 17 (by decide), by rw [v12, u12]; exact q2 18 (by decide), by rw [v13, u13]; exact q2 19 (by decide)⟩
  have sg6 : SEG M6 N6 (Mq 6 61) (N 6 75) (N3 6 75) (M 5 3 + 1) (M3 5 3) (N 6 90) (N6 6 90) (N6 6 104) (M 1 19) (M6 1 19) v := by
    rw [i90, e19, i104]
    refine SEG_c hsg (fun j x _ => hi142 j (by (clear hp hl hP hM hv hy hb h0 z1 z2 z3 z4 z5 z6 z7 z8 z9 z10 d1 d2 d3 d4 d5 d6 d7 d8 d9 d10 d11 d12 d13 d14 d15 d16 q1 q2 q3 q4 q5 q6 xf x7 xb0 xb1 x142 xb hp0 hsg hsb hq0 hD tcp3 P3 p1 p2 p3 p4 p5 p6 f1 e1 xx qq c1 c2 c3 c4 c5 c6 c7 w1 w2 w3 w4 s1 s2 s3 s4 s5 s6 lbt msk t1 t2 t3 a75 a90 a102 a104 a53 n75 n90 n104 n102 n61 m19 hT p18 lc1 lc3 xh u142 c142' xlt xh3 oN o224 o220 qh i75 i104 i90 j205 j205a j205b j205c j208 jr j6 xf6 e53 e19 e142 hi142 tc36 tcN; omega))) (fun j _ _ => ?_) (fun r j hr x hj => ?_) (fun j _ _ => by rw [jr 209 (by decide) (by decide) (by decide), z1 209 (by decide)]) (fun j _ _ => by rw [jr 227 (by decide) (by decide) (by decide), jr 228 (by decide) (by decide) (by decide), z1 227 (by decide), z1 228 (by decide)]; exact ⟨rfl, rfl⟩) tc36 (Int.le_refl _) (fun l _ _ => by rw [XF_70 xf6 (by decide) (by decide) (by decide), jr 188 (by decide) (by decide) (by decide), z1 188 (by decide)]; exact ⟨rfl, rfl⟩)
    · rw [jr 216 (by decide) (by decide) (by decide), jr 217 (by decide) (by decide) (by decide), jr 218 (by decide) (by decide) (by decide), jr 219 (by decide) (by decide) (by decide), z1 216 (by decide), z1 217 (by decide), z1 218 (by decide), z1 219 (by decide)]; exact ⟨rfl, rfl, rfl, rfl⟩
    · by_cases c5 : r = 205
      · rw [c5]; exact j205b j x (by (clear hp hl hP hM hv hy hb h0 z1 z2 z3 z4 z5 z6 z7 z8 z10 d1 d2 d3 d4 d5 d6 d7 d8 d9 d10 d11 d12 d13 d14 d15 d16 q1 q2 q3 q4 q5 q6 xf x7 xb0 xb1 x142 xb hp0 hsg hsb hq0 hD tcp3 P3 p1 p2 p3 p4 p5 p6 f1 e1 xx qq c1 c2 c3 c4 c6 c7 w1 w2 w3 w4 s1 s2 s3 s4 s5 s6 lbt msk t1 t2 t3 a75 a90 a102 a104 a53 n75 n90 n104 n102 n61 m19 hT p18 lc1 lc3 xh u142 c142' xlt xh3 oN o224 o220 qh i104 i90 j205 j205a j205b j208 jr j6 xf6 e53 e19 e142 hi142 tc36 tcN hr x c5; omega))
      · by_cases c8 : r = 208
        · rw [c8, j208 j (by (clear hp hl hP hM hv hy hb h0 z1 z2 z3 z4 z5 z6 z7 z8 z9 z10 d1 d2 d3 d4 d5 d6 d7 d8 d9 d10 d11 d13 d14 d15 d16 q1 q2 q4 q5 q6 xf x7 xb0 xb1 x142 xb hp0 hsg hsb hq0 hD tcp3 P3 p1 p2 p3 p4 p5 p6 f1 e1 xx qq c1 c2 c3 c4 c6 c7 w1 w2 w3 w4 s1 s2 s3 s4 s5 s6 lbt msk t1 t2 t3 a75 a90 a102 a104 a53 n90 n104 n102 n61 m19 hT p18 lc1 lc3 xh u142 c142' xlt xh3 oN o224 qh i75 i104 i90 j205 j205a j205b j205c j208 jr j6 xf6 e53 e19 e142 hi142 tc36 tcN hr hj c5 c8; omega))]; exact z5 208 j (by decide) (by (clear hp hl hP hM hv hy hb h0 z1 z2 z3 z4 z5 z6 z7 z8 z10 d1 d2 d3 d4 d5 d6 d7 d8 d9 d10 d11 d12 d13 d14 d15 d16 q1 q2 q3 q4 q5 q6 xf x7 xb0 xb1 x142 xb hp0 hsg hsb hq0 hD tcp3 P3 p1 p2 p3 p4 p5 p6 f1 e1 xx qq c1 c2 c3 c4 c6 c7 w1 w2 w3 w4 s1 s2 s3 s4 s5 s6 lbt msk t1 t2 t3 a75 a90 a102 a104 a53 n75 n90 n104 n102 n61 m19 hT p18 lc1 lc3 xh u142 c142' xlt xh3 oN o224 o220 qh i104 i90 j205 j205a j205b j208 jr j6 xf6 e53 e19 e142 hi142 tc36 tcN hr x c5 c8; omega))
        · rw [jr r (fun e => absurd hr (by rw [e]; decide)) c5 c8]; exact z5 r j hr (by (clear hp hl hP hM hv hy hb h0 z1 z2 z3 z4 z5 z6 z7 z8 z10 d1 d2 d3 d4 d5 d6 d7 d8 d9 d10 d11 d12 d13 d14 d15 d16 q1 q2 q3 q4 q5 q6 xf x7 xb0 xb1 x142 xb hp0 hsg hsb hq0 hD tcp3 P3 p1 p2 p3 p4 p5 p6 f1 e1 xx qq c1 c2 c3 c4 c6 c7 w1 w2 w3 w4 s1 s2 s3 s4 s5 s6 lbt msk t1 t2 t3 a75 a90 a102 a104 a53 n75 n90 n104 n102 n61 m19 hT p18 lc1 lc3 xh u142 c142' xlt xh3 oN o224 o220 qh i104 i90 j205 j205a j205b j208 jr j6 xf6 e53 e19 e142 hi142 tc36 tcN hr x c5 c8; omega))
  refine ⟨hq0, ?_, ?_⟩
  · rw [i75, e53, hy]
    refine DS_e1 hD d11 hv a53 ⟨a75.1, d12⟩ hl (by (clear hp hl hP hM hv hy hb h0 z1 z2 z3 z4 z5 z6 z7 z8 z9 z10 d1 d2 d3 d4 d5 d6 d7 d8 d9 d10 d11 d12 d13 d14 d15 d16 q1 q2 q3 q4 q5 q6 xf x7 xb0 xb1 x142 xb hp0 hsg hsb hq0 hD tcp3 P3 p1 p2 p3 p4 p5 p6 f1 e1 xx qq c1 c2 c3 c4 c5 c6 c7 w1 w2 w3 w4 s1 s2 s4 s5 s6 lbt msk t1 t2 t3 a75 a90 a102 a104 a53 n75 n90 n102 n61 m19 hT p18 lc1 lc3 xh u142 c142' xlt xh3 oN o224 o220 qh i75 i90 j205 j205a j205b j205c j208 jr j6 xf6 e53 e19 e142 hi142 tc36 tcN sg6; lia)) ⟨a90.1, by (clear hp hl hP hM hv hy hb h0 z1 z2 z3 z4 z5 z6 z7 z8 z9 z10 d1 d2 d3 d4 d5 d6 d7 d8 d9 d10 d11 d12 d13 d14 d15 d16 q1 q2 q3 q4 q5 q6 xf x7 xb0 xb1 x142 xb hp0 hsg hsb hq0 hD tcp3 P3 p1 p2 p3 p4 p5 p6 f1 e1 xx qq c1 c2 c3 c4 c5 c6 c7 w1 w2 w3 w4 s1 s2 s3 s4 s6 lbt msk t1 t2 t3 a75 a90 a102 a104 a53 n75 n104 n102 n61 m19 hT p18 lc1 lc3 xh u142 c142' xlt xh3 oN o224 o220 qh i75 i104 j205 j205a j205b j205c j208 jr j6 xf6 e53 e19 e142 hi142 tc36 tcN sg6; omega)⟩ (by (clear hp hl hP hM hv hy hb h0 z1 z2 z3 z4 z5 z6 z7 z8 z9 z10 d1 d2 d3 d4 d5 d6 d7 d8 d9 d10 d11 d12 d13 d14 d15 d16 q1 q2 q3 q4 q5 q6 xf x7 xb0 xb1 x142 xb hp0 hsg hsb hq0 hD tcp3 P3 p1 p2 p3 p4 p5 p6 f1 e1 xx qq c1 c2 c3 c4 c5 c6 c7 w1 w2 w3 w4 s1 s2 s3 s4 s5 s6 lbt msk t2 t3 a75 a90 a102 a104 a53 n75 n90 n104 n102 n61 hT p18 xh u142 c142' xlt xh3 oN o224 o220 qh i75 i104 i90 j205 j205a j205b j205c j208 jr j6 xf6 e53 e142 hi142 tc36 tcN sg6; lia)) (by (clear hp hl hP hM hv hy hb h0 z1 z2 z3 z4 z5 z6 z7 z8 z10 d1 d2 d3 d4 d5 d6 d7 d8 d9 d10 d11 d12 d13 d14 d15 d16 q1 q2 q4 q5 q6 xf x7 xb0 xb1 x142 xb hp0 hsg hsb hq0 hD tcp3 P3 p1 p2 p3 p4 p5 p6 f1 e1 xx qq c1 c2 c3 c4 c5 c6 c7 w1 w2 w3 w4 s1 s3 s4 s5 s6 lbt msk t1 t2 t3 a75 a90 a102 a104 a53 n90 n104 n102 n61 m19 hT p18 lc1 lc3 xh u142 c142' xlt xh3 oN o224 o220 qh i104 i90 j205 j205a j205b j208 jr j6 xf6 e53 e19 e142 hi142 tc36 tcN sg6; lia)) (fun j x hj => ?_) ?_ (fun r j hr x hj h5 h8 => ?_) j205a ?_ (fun j x hj => ?_) (fun j x hj => ?_) tcN (fun j x hj => ?_) (fun l x hj => ?_) sg6 ?_ j205c
    · rw [e142]; exact xpt_k a53 mm xh (fun i x hi => by rw [u142]; exact c142' i x hi) j x hj
    · rw [hi142 _ (Int.le_refl _), c1 _ (by (clear hp hl hP hM hv hy hb h0 z1 z2 z3 z4 z5 z6 z7 z8 z9 z10 d1 d2 d3 d4 d5 d6 d7 d8 d9 d10 d11 d12 d13 d14 d15 d16 q1 q2 q3 q4 q5 q6 xf x7 xb0 xb1 x142 xb hp0 hsg hsb hq0 hD tcp3 P3 p1 p2 p3 p5 p6 f1 e1 xx qq c1 c2 c3 c4 c5 c6 c7 w1 w2 w3 w4 s1 s2 s3 s4 s5 s6 lbt msk t1 t2 t3 a75 a90 a102 a104 n75 n90 n104 n102 n61 m19 hT p18 lc1 lc3 xh u142 c142' xlt xh3 oN o224 o220 qh i75 i104 i90 j205 j205a j205b j205c j208 jr j6 xf6 e53 e19 e142 hi142 tc36 tcN sg6; lia)) (by (clear hp hl hP hM hv hy hb h0 z1 z2 z3 z4 z5 z6 z7 z8 z9 z10 d1 d2 d3 d4 d5 d6 d7 d8 d9 d10 d11 d12 d13 d14 d15 d16 q1 q2 q3 q4 q5 q6 xf x7 xb0 xb1 x142 hp0 hsg hsb hq0 hD tcp3 P3 p1 p2 p3 p4 p5 p6 f1 e1 xx qq c1 c2 c3 c4 c5 c6 c7 w1 w2 w3 w4 s1 s2 s3 s4 s5 s6 lbt msk t1 t2 t3 a75 a90 a102 a104 a53 n75 n90 n104 n102 n61 m19 hT p18 lc1 lc3 xh u142 c142' xlt xh3 oN o224 o220 qh i75 i104 i90 j205 j205a j205b j205c j208 jr j6 xf6 e53 e19 e142 hi142 tc36 tcN sg6; omega))]; exact xb.2
    · by_cases c8 : r = 208
      · rw [c8, j208 j (by (clear hp hl hP hM hv hy hb h0 z1 z2 z3 z4 z5 z6 z7 z8 z9 z10 d1 d2 d3 d4 d5 d6 d7 d8 d9 d10 d11 d12 d13 d14 d15 d16 q1 q2 q3 q4 q5 q6 xf x7 xb0 xb1 x142 xb hp0 hsg hsb hq0 hD tcp3 P3 p1 p2 p3 p4 p5 p6 f1 e1 xx qq c1 c2 c3 c4 c5 c6 c7 w1 w2 w3 w4 s1 s2 s3 s4 s5 s6 lbt msk t1 t2 t3 a75 a90 a102 a104 a53 n75 n90 n104 n102 n61 m19 hT p18 lc1 lc3 xh u142 c142' xlt xh3 oN o224 qh i75 i104 i90 j205 j205a j205b j205c j208 jr j6 xf6 e53 e19 e142 hi142 tc36 tcN sg6 hr x hj h5; lia))]; exact oN 208 j (by decide) x hj (.inl (by decide))
      · rw [jr r (fun e => absurd hr (by rw [e]; decide)) h5 c8]; exact oN r j hr x hj (by (clear hp hl hP hM hv hy hb h0 z1 z2 z3 z4 z5 z6 z7 z8 z9 z10 d1 d2 d3 d4 d5 d6 d7 d8 d9 d10 d11 d12 d13 d14 d15 d16 q1 q2 q3 q4 q5 q6 xf x7 xb0 xb1 x142 xb hp0 hsg hsb hq0 hD tcp3 P3 p1 p2 p3 p4 p5 p6 f1 e1 xx qq c1 c2 c3 c4 c5 c6 c7 w1 w2 w3 w4 s1 s2 s3 s4 s5 s6 lbt msk t1 t2 t3 a75 a90 a102 a104 a53 n75 n90 n104 n102 n61 m19 hT p18 lc1 lc3 xh u142 c142' xlt xh3 oN o224 qh i75 i104 i90 j205 j205a j205b j205c j208 jr j6 xf6 e53 e19 e142 hi142 tc36 tcN sg6 hr x hj h5; lia))
    · rw [jr 207 (by decide) (by decide) (by decide), z5 207 _ (by decide) (by (clear hp hl hP hM hv hy hb h0 z1 z2 z3 z4 z5 z6 z7 z8 z10 d1 d2 d3 d4 d5 d6 d7 d8 d9 d10 d11 d13 d14 d15 d16 q1 q2 q4 q5 q6 xf x7 xb0 xb1 x142 xb hp0 hsg hsb hq0 hD tcp3 P3 p1 p2 p3 p4 p5 p6 f1 e1 xx qq c1 c2 c3 c4 c5 c6 c7 w1 w2 w3 w4 s1 s3 s4 s5 s6 lbt msk t1 t2 t3 a75 a90 a102 a104 a53 n90 n104 n102 n61 m19 hT p18 lc1 lc3 xh u142 c142' xlt xh3 oN o224 qh i104 i90 j205 j205a j205b j208 jr j6 xf6 e53 e19 e142 hi142 tc36 tcN sg6; lia)), c2 207 _ (by decide) a75.1 (by (clear hp hl hP hM hv hy hb h0 z1 z2 z3 z4 z5 z6 z7 z8 z9 z10 d1 d2 d3 d4 d5 d6 d7 d8 d9 d10 d11 d13 d14 d15 d16 q1 q2 q4 q5 q6 xf x7 xb0 xb1 x142 xb hp0 hsg hsb hq0 hD tcp3 P3 p1 p2 p3 p4 p5 p6 f1 e1 xx qq c1 c2 c3 c4 c5 c6 c7 w1 w2 w3 w4 s1 s2 s3 s4 s5 s6 lbt msk t1 t2 t3 a75 a90 a102 a104 a53 n90 n104 n102 n61 m19 hT p18 lc1 lc3 xh u142 c142' xlt xh3 oN o224 qh i75 i104 i90 j205 j205a j205b j205c j208 jr j6 xf6 e53 e19 e142 hi142 tc36 tcN sg6; lia))]; exact q3
    · rw [jr 209 (by decide) (by decide) (by decide), z1 209 (by decide), c3 j x (by (clear hp hl hP hM hv hy hb h0 z1 z2 z3 z4 z5 z6 z7 z8 z9 z10 d1 d2 d3 d4 d5 d6 d7 d8 d9 d10 d11 d12 d13 d14 d15 d16 q1 q2 q4 q5 q6 xf x7 xb0 xb1 x142 xb hp0 hsg hsb hq0 hD tcp3 P3 p1 p2 p3 p4 p5 p6 f1 e1 xx qq c1 c2 c3 c4 c5 c6 c7 w1 w2 w3 w4 s1 s2 s3 s4 s5 s6 lbt msk t1 t2 t3 a75 a90 a102 a104 a53 n90 n104 n102 n61 m19 hT p18 lc1 lc3 xh u142 c142' xlt xh3 oN o224 o220 qh i75 i104 i90 j205 j205a j205b j205c j208 jr j6 xf6 e53 e19 e142 hi142 tc36 tcN sg6 x; lia)), q1 209 (by decide) (by decide) (by decide)]
    · rw [jr 227 (by decide) (by decide) (by decide), jr 228 (by decide) (by decide) (by decide), z1 227 (by decide), z1 228 (by decide), (c4 j x (by (clear hp hl hP hM hv hy hb h0 z1 z2 z3 z4 z5 z6 z7 z8 z9 z10 d1 d2 d3 d4 d5 d6 d7 d8 d9 d10 d11 d12 d13 d14 d15 d16 q1 q2 q3 q4 q5 q6 xf x7 xb0 xb1 x142 xb hp0 hsg hsb hq0 hD tcp3 P3 p1 p2 p3 p4 p5 p6 f1 e1 xx qq c1 c2 c3 c4 c5 c6 c7 w1 w2 w3 w4 s1 s2 s3 s4 s5 s6 lbt msk t1 t2 t3 a75 a90 a102 a104 a53 n75 n90 n102 n61 m19 hT p18 lc1 lc3 xh u142 c142' xlt xh3 oN o224 o220 qh i75 i104 i90 j205 j205a j205b j205c j208 jr j6 xf6 e53 e19 e142 hi142 tc36 tcN sg6 x; omega))).1, (c4 j x (by omega)).2, q1 227 (by decide) (by decide) (by decide), q1 228 (by decide) (by decide) (by decide)]; exact ⟨rfl, rfl⟩
    · rw [jr 216 (by decide) (by decide) (by decide), jr 217 (by decide) (by decide) (by decide), jr 218 (by decide) (by decide) (by decide), jr 219 (by decide) (by decide) (by decide), z1 216 (by decide), z1 217 (by decide), z1 218 (by decide), z1 219 (by decide), c5 216 j (by decide) x (by (clear hp hl hP hM hv hy hb h0 z1 z2 z3 z4 z5 z6 z7 z8 z9 z10 d1 d2 d3 d4 d5 d6 d7 d8 d9 d10 d11 d12 d13 d14 d15 d16 q1 q2 q3 q4 q5 q6 xf x7 xb0 xb1 x142 xb hp0 hsg hsb hq0 hD tcp3 P3 p1 p2 p3 p4 p5 p6 f1 e1 xx qq c1 c2 c3 c4 c5 c6 c7 w1 w2 w3 w4 s1 s2 s3 s4 s5 s6 lbt msk t1 t2 t3 a75 a90 a102 a104 a53 n75 n104 n102 n61 m19 hT p18 lc1 lc3 xh u142 c142' xlt xh3 oN o224 o220 qh i75 i104 i90 j205 j205a j205b j205c j208 jr j6 xf6 e53 e19 e142 hi142 tc36 tcN sg6 x; omega)), c5 217 j (by decide) x (by omega), c5 218 j (by decide) x (by (clear hp hl hP hM hv hy hb h0 z1 z2 z3 z4 z5 z6 z7 z8 z9 z10 d1 d2 d3 d4 d5 d6 d7 d8 d9 d10 d11 d12 d13 d14 d15 d16 q1 q2 q3 q4 q5 q6 xf x7 xb0 xb1 x142 xb hp0 hsg hsb hq0 hD tcp3 P3 p1 p2 p3 p4 p5 p6 f1 e1 xx qq c1 c2 c3 c4 c5 c6 c7 w1 w2 w3 w4 s1 s2 s3 s4 s5 s6 lbt msk t1 t2 t3 a75 a90 a102 a104 a53 n75 n104 n102 n61 m19 hT p18 lc1 lc3 xh u142 c142' xlt xh3 oN o224 o220 qh i75 i104 i90 j205 j205a j205b j205c j208 jr j6 xf6 e53 e19 e142 hi142 tc36 tcN sg6 x; omega)), c5 219 j (by decide) x (by (clear hp hl hP hM hv hy hb h0 z1 z2 z3 z4 z5 z6 z7 z8 z9 z10 d1 d2 d3 d4 d5 d6 d7 d8 d9 d10 d11 d12 d13 d14 d15 d16 q1 q2 q3 q4 q5 q6 xf x7 xb0 xb1 x142 xb hp0 hsg hsb hq0 hD tcp3 P3 p1 p2 p3 p4 p5 p6 f1 e1 xx qq c1 c2 c3 c4 c5 c6 c7 w1 w2 w3 w4 s1 s2 s3 s4 s5 s6 lbt msk t1 t2 t3 a75 a90 a102 a104 a53 n75 n104 n102 n61 m19 hT p18 lc1 lc3 xh u142 c142' xlt xh3 oN o224 o220 qh i75 i104 i90 j205 j205a j205b j205c j208 jr j6 xf6 e53 e19 e142 hi142 tc36 tcN sg6 x; omega)), q1 216 (by decide) (by decide) (by decide), q1 217 (by decide) (by decide) (by decide), q1 218 (by decide) (by decide) (by decide), q1 219 (by decide) (by decide) (by decide)]; exact ⟨rfl, rfl, rfl, rfl⟩
    · have q := w4 (10 * Mq 6 61 + l) (.inl (by rw [p18, hT, lc1, m19]; (clear hp hl hP hM hv hy hb h0 z1 z2 z3 z4 z5 z6 z7 z8 z9 z10 d1 d2 d3 d4 d5 d6 d7 d8 d9 d10 d11 d12 d13 d14 d15 d16 q1 q2 q3 q4 q5 q6 xf x7 xb0 xb1 x142 xb hp0 hsg hsb hq0 hD tcp3 P3 p1 p2 p3 p4 p5 p6 f1 e1 xx qq c1 c2 c3 c4 c5 c6 c7 w1 w2 w3 w4 s1 s2 s3 s4 s5 s6 lbt msk t1 t2 t3 a75 a90 a102 a104 a53 n75 n90 n104 n102 n61 hT p18 lc3 xh u142 c142' xlt xh3 oN o224 o220 qh i75 i104 i90 j205 j205a j205b j205c j208 jr j6 xf6 e53 e19 e142 hi142 tc36 tcN sg6 x; lia)))
      rw [XF_70 xf6 (by decide) (by decide) (by decide), jr 188 (by decide) (by decide) (by decide), z1 188 (by decide), q.1.2, q.2.2.2.1, XF_70 xf (by decide) (by decide) (by decide), q1 188 (by decide) (by decide) (by decide)]; exact ⟨rfl, rfl⟩
    · rw [jr 203 (by decide) (by decide) (by decide)]; exact z7
  · obtain ⟨px, L, c1', t, pb, lb, ⟨g3, g6, g5, g7⟩, hall, hh, he, lab, sb⟩ := hD
    have key : ∀ (w s : Int), w ≠ 7 → ((∃ k, (Mq 6 75 ≤ k ∧ k < N6 6 75) ∧ N6 203 k = w ∧ N6 205 k = s) ↔ ((∃ k, (Mq 6 75 ≤ k ∧ k < N 6 75) ∧ N 203 k = w ∧ N 205 k = s) ∨ (∃ k, (N 6 75 ≤ k ∧ k < N3 6 75) ∧ N3 203 k = w ∧ N3 205 k = s))) := by
      intro w s hw
      rw [i75, jr 203 (by decide) (by decide) (by decide)]
      have q205 := qpt_205 (v := N3 6 75 + 1) mm (N := N) (g := N 224 (Mq 6 102))
      have nk : ∀ k, N 203 k = w → ¬ INH N mm (N 224 (Mq 6 102)) k := fun k e hi => by have := (HOL_i mm hh k hi).1; (clear hp hl hP hM hv hy hb h0 z1 z2 z3 z4 z5 z6 z7 z8 z9 z10 d1 d2 d3 d4 d5 d6 d7 d8 d9 d10 d11 d12 d13 d14 d15 d16 q1 q2 q3 q4 q5 q6 xf x7 xb0 xb1 x142 xb hp0 hsg hsb hq0 tcp3 P3 p1 p2 p3 p4 p5 p6 f1 e1 xx qq c1 c2 c3 c4 c5 c6 c7 w1 w2 w3 w4 s1 s2 s3 s4 s5 s6 lbt msk t1 t2 t3 a75 a90 a102 a104 a53 n75 n90 n104 n102 n61 m19 hT p18 lc1 lc3 xh u142 c142' xlt xh3 oN o224 o220 qh i75 i104 i90 j205 j205a j205b j205c j208 jr j6 xf6 e53 e19 e142 hi142 tc36 tcN sg6 pb lb g3 g6 g5 g7 hall hh he lab sb q205 hi; lia)
      constructor
      · rintro ⟨k, h1, h2, h3⟩
        have kn : k ≠ N3 6 75 := fun e => by rw [e, z7] at h2; exact hw h2.symm
        by_cases c : k < N 6 75
        · have e3 := oN 203 k (by decide) (by (clear hp hl hP hM hv hy hb h0 z1 z2 z3 z4 z5 z6 z7 z8 z9 z10 d1 d2 d3 d4 d5 d6 d7 d8 d9 d10 d11 d12 d13 d14 d15 d16 q1 q2 q3 q4 q5 q6 xf x7 xb0 xb1 x142 xb hp0 hsg hsb hq0 tcp3 P3 p1 p2 p3 p4 p5 p6 f1 e1 xx qq c1 c2 c3 c4 c5 c6 c7 w1 w2 w3 w4 s1 s2 s3 s4 s5 s6 lbt msk t1 t2 t3 a90 a102 a104 a53 n75 n90 n104 n102 n61 m19 hT p18 lc1 lc3 xh u142 c142' xlt xh3 oN o224 qh i75 i104 i90 j205 j205a j205b j205c j208 jr j6 xf6 e53 e19 e142 hi142 tc36 tcN sg6 pb lb g3 g6 g5 g7 hall hh he lab sb hw q205 nk h2 h3 kn c; omega)) c (.inl (by decide))
          rw [e3] at h2
          rw [j205a k (by (clear hp hl hP hM hv hy hb h0 z1 z2 z3 z4 z5 z6 z7 z8 z9 z10 d1 d2 d3 d4 d5 d6 d7 d8 d9 d10 d11 d12 d13 d14 d15 d16 q1 q2 q3 q4 q5 q6 xf x7 xb0 xb1 x142 xb hp0 hsg hsb hq0 tcp3 P3 p1 p2 p3 p4 p5 p6 f1 e1 xx qq c1 c2 c3 c4 c5 c6 c7 w1 w2 w3 w4 s1 s2 s3 s4 s5 s6 lbt msk t1 t2 t3 a90 a102 a104 a53 n75 n90 n104 n102 n61 m19 hT p18 lc1 lc3 xh u142 c142' xlt xh3 oN o224 qh i75 i104 i90 j205 j205a j205b j205c j208 jr j6 xf6 e53 e19 e142 hi142 tc36 tcN sg6 pb lb g3 g6 g5 g7 hall hh he lab sb hw q205 nk h2 h3 kn c e3; lia)) c, q205.2 k (nk k h2)] at h3
          exact .inl ⟨k, ⟨h1.1, c⟩, h2, h3⟩
        · rw [z5 203 k (by decide) kn] at h2
          rw [j205b k (by (clear hp hl hP hM hv hy hb h0 z1 z2 z3 z4 z5 z6 z7 z8 z9 z10 d1 d2 d3 d4 d5 d6 d7 d8 d9 d10 d11 d12 d13 d14 d15 d16 q1 q2 q4 q5 q6 xf x7 xb0 xb1 x142 xb hp0 hsg hsb hq0 tcp3 P3 p1 p2 p3 p4 p5 p6 f1 e1 xx qq c1 c2 c3 c4 c5 c6 c7 w1 w2 w3 w4 s1 s2 s3 s4 s5 s6 lbt msk t1 t2 t3 a75 a90 a102 a104 a53 n90 n104 n102 n61 m19 hT p18 lc1 lc3 xh u142 c142' xlt xh3 oN o224 o220 qh i75 i104 i90 j205 j205a j205b j205c j208 jr j6 xf6 e53 e19 e142 hi142 tc36 tcN sg6 pb lb g3 g6 g5 g7 hall hh he lab sb hw q205 nk h1 h2 h3 kn; omega)) kn] at h3
          exact .inr ⟨k, ⟨by (clear hp hl hP hM hv hy hb h0 z1 z2 z3 z4 z5 z6 z7 z8 z9 z10 d1 d2 d3 d4 d5 d6 d7 d8 d9 d10 d11 d12 d13 d14 d15 d16 q1 q2 q4 q5 q6 xf x7 xb0 xb1 x142 xb hp0 hsg hsb hq0 tcp3 P3 p1 p2 p3 p4 p5 p6 f1 e1 xx qq c1 c2 c3 c4 c5 c6 c7 w1 w2 w3 w4 s1 s2 s3 s4 s5 s6 lbt msk t1 t2 t3 a75 a90 a102 a104 a53 n90 n104 n102 n61 m19 hT p18 lc1 lc3 xh u142 c142' xlt xh3 oN o224 o220 qh i75 i104 i90 j205 j205a j205b j205c j208 jr j6 xf6 e53 e19 e142 hi142 tc36 tcN sg6 pb lb g3 g6 g5 g7 hall hh he lab sb hw q205 nk h1 h2 h3 kn; lia), by (clear hp hl hP hM hv hy hb h0 z1 z2 z3 z4 z5 z6 z7 z8 z10 d1 d2 d3 d4 d5 d6 d7 d8 d9 d10 d11 d12 d13 d14 d15 d16 q1 q2 q3 q4 q5 q6 xf x7 xb0 xb1 x142 xb hp0 hsg hsb hq0 tcp3 P3 p1 p2 p3 p4 p5 p6 f1 e1 xx qq c1 c2 c3 c4 c5 c6 c7 w1 w2 w3 w4 s1 s2 s3 s4 s5 s6 lbt msk t1 t2 t3 a75 a90 a102 a104 a53 n75 n90 n104 n102 n61 m19 hT p18 lc1 lc3 xh u142 c142' xlt xh3 oN o224 o220 qh i104 i90 j205 j205a j205b j208 jr j6 xf6 e53 e19 e142 hi142 tc36 tcN sg6 pb lb g3 g6 g5 g7 hall hh he lab sb hw q205 nk h2 h3 c; lia)⟩, h2, h3⟩
      · rintro (⟨k, h1, h2, h3⟩ | ⟨k, h1, h2, h3⟩)
        · refine ⟨k, ⟨h1.1, by (clear hp hl hP hM hv hy hb h0 z1 z2 z3 z4 z5 z6 z7 z8 z10 d1 d2 d3 d4 d5 d6 d7 d8 d9 d10 d11 d12 d13 d14 d15 d16 q1 q2 q4 q5 q6 xf x7 xb0 xb1 x142 xb hp0 hsg hsb hq0 tcp3 P3 p1 p2 p3 p4 p5 p6 f1 e1 xx qq c1 c2 c3 c4 c5 c6 c7 w1 w2 w3 w4 s1 s3 s4 s5 s6 lbt msk t1 t2 t3 a75 a90 a102 a104 a53 n90 n104 n102 n61 m19 hT p18 lc1 lc3 xh u142 c142' xlt xh3 oN o224 o220 qh i104 i90 j205 j205a j205b j208 jr j6 xf6 e53 e19 e142 hi142 tc36 tcN sg6 pb lb g3 g6 g5 g7 hall hh he lab sb hw q205 nk h2 h3; lia)⟩, ?_, ?_⟩
          · rw [oN 203 k (by decide) (by (clear hp hl hP hM hv hy hb h0 z1 z2 z3 z4 z5 z6 z7 z8 z9 z10 d1 d2 d3 d4 d5 d6 d7 d8 d9 d10 d11 d12 d13 d14 d15 d16 q1 q2 q3 q4 q5 q6 xf x7 xb0 xb1 x142 xb hp0 hsg hsb hq0 tcp3 P3 p1 p2 p3 p4 p5 p6 f1 e1 xx qq c1 c2 c3 c4 c5 c6 c7 w1 w2 w3 w4 s1 s2 s3 s4 s5 s6 lbt msk t1 t2 t3 a90 a102 a104 a53 n75 n90 n104 n102 n61 m19 hT p18 lc1 lc3 xh u142 c142' xlt xh3 oN o224 qh i75 i104 i90 j205 j205a j205b j205c j208 jr j6 xf6 e53 e19 e142 hi142 tc36 tcN sg6 pb lb g3 g6 g5 g7 hall hh he lab sb hw q205 nk h2 h3; lia)) h1.2 (.inl (by decide))]; exact h2
          · rw [j205a k (by omega) h1.2, q205.2 k (nk k h2)]; exact h3
        · refine ⟨k, ⟨by (clear hp hl hP hM hv hy hb h0 z1 z2 z3 z4 z5 z6 z7 z8 z9 z10 d1 d2 d3 d4 d5 d6 d7 d8 d9 d10 d11 d13 d14 d15 d16 q1 q2 q4 q5 q6 xf x7 xb0 xb1 x142 xb hp0 hsg hsb hq0 tcp3 P3 p1 p2 p3 p4 p5 p6 f1 e1 xx qq c1 c2 c3 c4 c5 c6 c7 w1 w2 w3 w4 s1 s2 s3 s4 s5 s6 lbt msk t1 t2 t3 a75 a90 a102 a104 a53 n90 n104 n102 n61 m19 hT p18 lc1 lc3 xh u142 c142' xlt xh3 oN o224 qh i75 i104 i90 j205 j205a j205b j205c j208 jr j6 xf6 e53 e19 e142 hi142 tc36 tcN sg6 pb lb g3 g6 g5 g7 hall hh he lab sb hw q205 nk h2 h3; lia), by (clear hp hl hP hM hv hy hb h0 z1 z2 z3 z4 z5 z6 z7 z8 z10 d1 d2 d3 d4 d5 d6 d7 d8 d9 d10 d11 d12 d13 d14 d15 d16 q1 q2 q3 q4 q5 q6 xf x7 xb0 xb1 x142 xb hp0 hsg hsb hq0 tcp3 P3 p1 p2 p3 p4 p5 p6 f1 e1 xx qq c1 c2 c3 c4 c5 c6 c7 w1 w2 w3 w4 s1 s2 s3 s4 s5 s6 lbt msk t1 t2 t3 a75 a90 a102 a104 a53 n75 n90 n104 n102 n61 m19 hT p18 lc1 lc3 xh u142 c142' xlt xh3 oN o224 o220 qh i104 i90 j205 j205a j205b j208 jr j6 xf6 e53 e19 e142 hi142 tc36 tcN sg6 pb lb g3 g6 g5 g7 hall hh he lab sb hw q205 nk h2 h3; omega)⟩, ?_, ?_⟩
          · rw [z5 203 k (by decide) (by (clear hp hl hP hM hv hy hb h0 z1 z2 z3 z4 z5 z6 z7 z8 z10 d1 d2 d3 d4 d5 d6 d7 d8 d9 d10 d11 d12 d13 d14 d15 d16 q1 q2 q3 q4 q5 q6 xf x7 xb0 xb1 x142 xb hp0 hsg hsb hq0 tcp3 P3 p1 p2 p3 p4 p5 p6 f1 e1 xx qq c1 c2 c3 c4 c5 c6 c7 w1 w2 w3 w4 s1 s2 s3 s4 s5 s6 lbt msk t1 t2 t3 a75 a90 a102 a104 a53 n75 n90 n104 n102 n61 m19 hT p18 lc1 lc3 xh u142 c142' xlt xh3 oN o224 o220 qh i104 i90 j205 j205a j205b j208 jr j6 xf6 e53 e19 e142 hi142 tc36 tcN sg6 pb lb g3 g6 g5 g7 hall hh he lab sb hw q205 nk h2 h3; omega))]; exact h2
          · rw [j205b k h1.1 (by (clear hp hl hP hM hv hy hb h0 z1 z2 z3 z4 z5 z6 z7 z8 z10 d1 d2 d3 d4 d5 d6 d7 d8 d9 d10 d11 d12 d13 d14 d15 d16 q1 q2 q3 q4 q5 q6 xf x7 xb0 xb1 x142 xb hp0 hsg hsb hq0 tcp3 P3 p1 p2 p3 p4 p5 p6 f1 e1 xx qq c1 c2 c3 c4 c5 c6 c7 w1 w2 w3 w4 s1 s2 s3 s4 s5 s6 lbt msk t1 t2 t3 a75 a90 a102 a104 a53 n75 n90 n104 n102 n61 m19 hT p18 lc1 lc3 xh u142 c142' xlt xh3 oN o224 o220 qh i104 i90 j205 j205a j205b j208 jr j6 xf6 e53 e19 e142 hi142 tc36 tcN sg6 pb lb g3 g6 g5 g7 hall hh he lab sb hw q205 nk h2 h3; lia))]; exact h3
    have y21 := xf6.2.1 21 (by decide) (by decide) (by decide) (by decide) (by decide)
    have y23 := xf6.2.1 23 (by decide) (by decide) (by decide) (by decide) (by decide)
    have v21 := xf.2.1 21 (by decide) (by decide) (by decide) (by decide) (by decide)
    have v23 := xf.2.1 23 (by decide) (by decide) (by decide) (by decide) (by decide)
    refine ⟨fun q x y => ?_, fun q x y => ?_⟩
    · rw [y21, hsb.1 q x y, v21, sb.1 q x y, key 2 q (by decide), or_assoc]
    · rw [y23, hsb.2 q x y, v23, sb.2 q x y, key 5 q (by decide), or_assoc]
end E2
end T156_e1
section T157_e1
/-! a decide: its end with ELSE, joined -/
/-- an end from the last part on, with its semicolon -/
def elU (κ : Int → Int) (pt : sj_ → Option sj_) (s : sj_) : Option sj_ := (if κ s.1 = 19 then (gS s.1).bind fun a1 => (tS κ 258 a1).bind fun a2 => pt (a2, s.2) else some s).bind fun s2 => (enT κ s2.1).bind fun a3 => some (a3, s2.2)
section E3
variable {d dq m mm : Nat} {b F F' F2 : Int} {Mx Mq M N M' N' Mp Np M3 N3 : mm_} {a a0 a2 a3 o st mk me x1 x2 x3 x4 x5 x7 x8 x9 x10 x11 x12 lo hi k0 kc v y : Int} {K : Int → mm_ → Prop} {Kv : mm_ → Prop} {G : Int → mm_ → Prop} {Qt : qt_} {V : vv_} {T : vv_ → Prop} {κ : Int → Int} {pt : sj_ → Option sj_}
theorem elU_e [Inhabited gh_] {s : sj_} : (elT κ pt s).bind (fun s1 => (tS κ 259 s1.1).bind fun a2 => some (a2, s1.2)) = elU κ pt s := by
  unfold elT elU
  generalize (if κ s.1 = 19 then (gS s.1).bind fun a1 => (tS κ 258 a1).bind fun a2 => pt (a2, s.2) else some s) = X
  cases X with
  | none => rfl
  | some s2 =>
    rw [Option.bind_some, Option.bind_some]
    unfold enT
    cases tS κ 20 s2.1 with
    | none => rfl
    | some a3 => rw [Option.bind_some, Option.bind_some, Option.bind_some]
theorem elU_0 [Inhabited gh_] {j : Int} (h : κ a ≠ 19) : elU κ pt (a, j) = (enT κ a).bind fun a3 => some (a3, j) := by
  unfold elU; rw [if_neg h, Option.bind_some]
theorem elU_1 [Inhabited gh_] {j : Int} (h : κ a = 19) : elU κ pt (a, j) = ((gS a).bind fun a1 => (tS κ 258 a1).bind fun a2 => pt (a2, j)).bind fun s2 => (enT κ s2.1).bind fun a3 => some (a3, s2.2) := by
  unfold elU; rw [if_pos h]
theorem SQ_uq [Inhabited gh_] {r : Nat} {i v : Int} (h6 : r ≠ 6) (hr : r ∈ qaL) (h : SQ Mx N M) : SQ Mx N (up_ M r i v) := ⟨⟨by rw [up_ne (Ne.symm h6)]; exact h.1.1, by rw [up_ne (Ne.symm h6)]; exact h.1.2⟩, by unfold in9_; rw [up_ne (Ne.symm h6)]; exact h.2.1, by rw [up_ne (Ne.symm h6)]; exact h.2.2.1, ⟨by rw [up_ne (Ne.symm h6)]; exact h.2.2.2.1.1, h.2.2.2.1.2⟩, QA_tr h.2.2.2.2 (QA_ur hr h6)⟩
theorem N4_QD [Inhabited gh_] {dd x : Int} : QD N (N4_ N dd x) := by
  obtain ⟨z1, z2, z3, z4, z5, z6, z7, z8, z9, z10⟩ := N4_BQ (N := N) (dd := dd) (x := x)
  exact ⟨fun r hr => z1 r (fun e => hr (by revert e; unfold qdL; simp only [List.mem_cons, List.not_mem_nil, or_false]; (clear z1 z2 z3 z4 z5 z6 z7 z8 z9 z10 hr; lia))), fun i hi => z2 i (nm_i hi (by decide)) (nm_i hi (by decide))⟩
theorem y_161e1 [Inhabited gh_] (hsp : SPART dq m) (ho : o = 11 - (m : Int)) (hp : PS b F Mx Mq a0 o me) (h : DHS b F F' Mx Mq M N a0 a o me x2 x3 x4 x5 mm) (hl : 0 ≤ N 222 (Mq 6 102)) (h103 : N 6 103 = 0) (hq3 : QP3 dq st mk me T N (Mq 6 102)) (hnR : ¬ isR (Mx 70) a) (h19 : Mx 70 a = 19)
    (hS : b = 1 → elU (Mx 70) (PTj (Mx 70) (LMT Mx) m) (a, lc_ b M) ≠ none)
    (hV : Cl_ wd0 (Tr_ wd0 pg0 (9 * m + 24)) V (ri_ fun v M5 => Tr_ wd0 pg0 (d + 3) 121 [.inr (.inr 1), .inl 59] M5 (rv_ (G v)) Qt) Qt m_161) (hW : Wk_ V)
    (hG : ∀ F2 M6 N6 a6 v, PRC b F F2 Mx Mq M6 N6 a0 a6 o o me → SEM b Mx Mq M6 N6 v → Mq 6 75 < N6 6 75 → (v = 0 ∨ v = 1) → N6 6 103 = v → LKP b M M6 → (∀ lm, LOK b lm M M6 → elU (Mx 70) (PTj (Mx 70) lm m) (a, lc_ b M) = some (a6, lc_ b M6)) → RTq dq st mk me T 0 N6 → G v M6)
    (hQ : b = 0 → ∀ Mx', XA Mx Mx' → STT dq T Mq Mx' → Qt 8 Mx') :
       Tr_ wd0 pg0 (9 * m + 24) 105 [.inr (.inr 1)] (pX_ M 44) (rv_ fun M6 =>
        Tr_ wd0 pg0 (9 * m + 24) 121 [.inr (.inr 1), .inl 58] M6 (rv_ fun M7 =>
         Tr_ wd0 pg0 (9 * m + 24) 133 [.inr (.inr 1)] M7 (ri_ fun v3 M8 =>
          (if v3 = 0 then
           Tr_ wd0 pg0 (9 * m + 24) 108 [.inr (.inr 1), .inl 20] M8 (rv_ fun M9 =>
            V 321 [rr 1, ii x1, ii x2, ii x3, ii x4, ii 0, ii 1, ii x7, ii x8, ii x9, ii x10, ii x11, ii x12] [] (up_ M9 1 6 (w32 ((M9 1 6) - 1)))) Qt
          else
           (if x5 = 0 then
            Tr_ wd0 pg0 (9 * m + 24) 108 [.inr (.inr 1), .inl 20] M8 (rv_ fun M10 =>
             V 321 [rr 1, ii x1, ii x2, ii x3, ii x4, ii 0, ii 1, ii x7, ii x8, ii x9, ii x10, ii x11, ii x12] [] (up_ M10 1 6 (w32 ((M10 1 6) - 1)))) Qt
           else
            Tr_ wd0 pg0 (9 * m + 24) 108 [.inr (.inr 1), .inl 20] M8 (rv_ fun M11 =>
             V 321 [rr 1, ii x1, ii x2, ii x3, ii x4, ii 1, ii 1, ii x7, ii x8, ii x9, ii x10, ii x11, ii x12] [] (up_ M11 1 6 (w32 ((M11 1 6) - 1)))) Qt))) Qt) Qt) Qt := by
  have dq2 := hp.2.2.2.2.2.2.2.1
  have hps : PS b F' M N a (o + 1) me := PS_D hp h.1 (by (clear hsp ho hp h hl h103 hq3 hnR h19 hS hV hW hG hQ dq2; lia)) ⟨by have := h.2.1; (clear hsp ho hp h hl h103 hq3 hnR h19 hS hV hW hG hQ; omega), by have := h.2.1; omega⟩
  obtain ⟨⟨hT, hVT, hE, t4, t5, t6⟩, hG', hL, hst, u, w7, r90, d102, msk, c19, s53⟩ := hps
  have h' := h
  obtain ⟨d1, d2, ⟨d3, d4, d5, d6, d7, d8, d9, d10, d11⟩, d12, d13, d14, d15, d16⟩ := h'
  clear d16 d7
  have m8 : M 1 8 = b := hE.2.2.2.2.2.2.1
  have h01 := bl01 hE
  have st0 := ER_st hE
  have st1 := (ER_st hp.1.2.2.1).1
  have ha := ER_a hE
  have q75 := hp.1.2.2.2.1
  have q104 := hp.1.2.2.2.2.1
  have q90 := hp.2.2.2.2.2.2.1
  have xM := PRD_X d1
  have qM := PRD_Q d1
  have m70 : M 70 = Mx 70 := xM.1 70 (by decide)
  have p70 : pX_ M 44 70 = Mx 70 := by rw [pX_r (by decide) (by decide)]; exact m70
  have hE5 : ER b F' (pX_ M 44) N a (o + 1) := ER_pX hE (by (clear hsp ho hp h hl h103 hq3 hnR h19 hS hV hW hG hQ dq2 hT hVT hE t4 t5 t6 hG' hL hst u w7 r90 d102 msk c19 d1 d2 d3 d4 d5 d6 d8 d9 d10 d11 d12 d13 d14 d15 m8 h01 st0 st1 ha q75 q104 q90 xM qM m70 p70; lia))
  have hT5 : Tks (pX_ M 44) N := Tks_c pX_XF QF_rf hT
  have c142 : ∀ j, j < M 5 3 → pX_ M 44 142 j = M 142 j := fun j hj => by
    rcases h01 with hb | hb
    · rw [pX_0 (by (clear hsp ho hp h hl h103 hq3 hnR h19 hS hV hW hG hQ dq2 hT hVT hE t4 t5 t6 hG' hL hst u w7 r90 d102 msk c19 s53 d1 d2 d3 d4 d5 d6 d8 d9 d10 d11 d12 d13 d14 d15 st0 st1 ha q75 q104 q90 xM qM m70 p70 hE5 hT5 hj; lia))]
    · rw [pX_v (by (clear hsp ho hp h hl h103 hq3 hnR h19 hS hV hW hG hQ dq2 hT hVT hE t4 t5 t6 hG' hL hst u w7 r90 d102 msk c19 s53 d1 d2 d3 d4 d5 d6 d8 d9 d10 d11 d12 d13 d14 d15 st0 st1 ha q75 q104 q90 xM qM m70 p70 hE5 hT5 hj; lia)), up_ne (by decide), up_of2 (by (clear hsp ho hp h hl h103 hq3 hnR h19 hS hV hW hG hQ dq2 hT hVT hE t4 t5 t6 hG' hL hst u w7 r90 d102 msk c19 s53 d1 d2 d3 d4 d5 d6 d8 d9 d10 d11 d12 d13 d14 d15 m8 st0 st1 ha q75 q104 q90 xM qM m70 p70 hE5 hT5 hb; lia))]
  have c53 : M 5 3 ≤ pX_ M 44 5 3 ∧ pX_ M 44 5 3 ≤ M 5 3 + 1 ∧ (b = 0 → pX_ M 44 5 3 = M 5 3) ∧ (b = 1 → pX_ M 44 5 3 = M 5 3 + 1 ∧ pX_ M 44 142 (M 5 3) = 44) := by
    rcases h01 with hb | hb
    · rw [pX_0 (by (clear hsp ho hp h hl h103 hq3 hnR h19 hS hV hW hG hQ dq2 hT hVT hE t4 t5 t6 hG' hL hst u w7 r90 d102 msk c19 s53 d1 d2 d3 d4 d5 d6 d8 d9 d10 d11 d12 d13 d14 d15 st0 st1 ha q75 q104 q90 xM qM m70 p70 hE5 hT5 c142; lia))]; exact ⟨by omega, by omega, fun _ => rfl, fun h => by omega⟩
    · rw [pX_v (by (clear hsp ho hp h hl h103 hq3 hnR h19 hS hV hW hG hQ dq2 hT hVT hE t4 t5 t6 hG' hL hst u w7 r90 d102 msk c19 s53 d1 d2 d3 d4 d5 d6 d8 d9 d10 d11 d12 d13 d14 d15 st0 st1 ha q75 q104 q90 xM qM m70 p70 hE5 hT5 c142; lia)), up_at]; exact ⟨by omega, by omega, fun h => by (clear hsp ho hp hl h103 hq3 hnR h19 hS hV hW hG hQ dq2 hT hVT hE t4 t5 t6 hG' hL hst u w7 r90 d102 msk c19 s53 d1 d2 d3 d4 d5 d6 d8 d9 d10 d11 d12 d13 d14 d15 m8 st0 st1 ha q75 q104 q90 xM qM m70 p70 hE5 hT5 c142; lia), fun _ => ⟨rfl, by rw [up_ne (by decide), up_at]⟩⟩
  obtain ⟨k, hq3⟩ := hq3
  have toQ : ∀ (V : vv_) (Kv : mm_ → Prop) (Qt : qt_), Cl_ wd0 (Tr_ wd0 pg0 (dq + 15)) V (rv_ Kv) Qt m_260 → Wk_ V → Tr_ wd0 pg0 (dq + 14) 228 [.inr (.inr 6), .inl 19] N (ri_ fun v1 M1 => if v1 = 0 then False else Tr_ wd0 pg0 (dq + 14) 244 [.inr (.inr 6), .inl 58] M1 (rv_ fun M2 => M2 220 (Mq 6 102) = Mq 6 75 ∧ V 77 (LSz st mk me 0) [] (up_ (up_ M2 225 (Mq 6 102) 1) 207 (Mq 6 75) (M2 6 75))) Qt) Qt → T V := by
    intro V Kv Qtq hV hW hk
    refine hq3 V Kv Qtq hV hW fun V' hV' hW' => j_292 hT hE (fun c => absurd (by rw [m70] at c; exact c) hnR) (fun _ => ?_)
    rw [if_pos rfl]
    have bdd : 0 ≤ Mq 6 102 ∧ Mq 6 102 < 14 := by (clear hsp hp h hl h103 hnR h19 hS hG hQ hT hVT hE t4 t5 t6 hG' hL hst u w7 r90 msk c19 s53 d1 d3 d4 d5 d6 d8 d9 d10 d11 d12 d13 d14 d15 m8 h01 st0 st1 ha q75 q104 q90 xM qM m70 p70 hE5 hT5 c142 c53 hq3 hV hW hk hV' hW'; omega)
    refine b_303_83 (Tr_mono _) hV' hW' _ _ _ ⟨bdd, fun _ => ?_⟩
    rw [if_pos d9]
    refine Tr_ric hk fun v1 M1 h1 => ?_
    by_cases c : v1 = 0
    · rw [if_pos c] at h1; exact h1.elim
    · rw [if_neg c] at h1; rw [if_neg c]
      refine Tr_rc h1 fun M2 h2 => ⟨⟨bdd, .inr rfl⟩, bdd, by rw [h2.1]; (clear hsp ho hp h hl h103 hnR h19 hS hG hQ dq2 hT hVT hE t5 t6 hG' hL hst u w7 r90 d102 msk c19 s53 d1 d2 d3 d4 d5 d6 d8 d9 d10 d11 d13 d14 d15 m8 h01 st0 st1 q104 q90 xM qM m70 p70 hE5 hT5 c142 c53 hq3 hV hW hk hV' hW' bdd h1 c; omega), ?_⟩
      rw [h2.1]; exact rv_i h2.2
  have sQ : ∀ {Mx' M2 : mm_} {V : vv_} {Kv : mm_ → Prop} {Qtq : qt_} {x : Int}, SQ Mx' Mq M2 → Cl_ wd0 (Tr_ wd0 pg0 (dq + 15)) V (rv_ Kv) Qtq m_260 → Wk_ V → (∀ M', SQ Mx' Mq M' → Kv M') → V 77 (LSz st mk me 0) [] (up_ (up_ M2 225 (Mq 6 102) 1) 207 (Mq 6 75) x) := fun hs hV hW hk => q_260s77 hV hW (SQ_uq (by decide) (by decide) (SQ_uq (by decide) (by decide) hs)) hk
  have eU := elU_1 (pt := PTj (Mx 70) (LMT Mx) m) (j := lc_ b M) h19
  rw [eU] at hS
  refine y_105 hE5 (by rw [p70, h19]; decide) (fun hb e => by have := hS hb; rw [e] at this; exact this rfl) (fun h12 hE6 => ?_) (fun hb h12 => ?_)
  rotate_left
  · have hsp := SQ_bf hE5 hb (k := 2) (by decide) qM
    refine hQ hb _ (XA_tr xM (XF_XA (XF_tr pX_XF fl_XF))) (fun V Kv Qtq hV hW hk => toQ V Kv Qtq hV hW (j_228r hT5 hE5 hb (by decide) (by rw [p70]; exact h19) h12 ?_))
    rw [if_neg (by decide)]
    exact q_244s hsp.1 ⟨by unfold bf_; rw [up_ne (by decide), up_ne (by decide)]; exact d3, sQ hsp hV hW hk⟩
  rw [gS_e h12, Option.bind_some] at hS
  have toQ2 : ∀ (V : vv_) (Kv : mm_ → Prop) (Qt : qt_), Cl_ wd0 (Tr_ wd0 pg0 (dq + 15)) V (rv_ Kv) Qt m_260 → Wk_ V → Tr_ wd0 pg0 (dq + 14) 244 [.inr (.inr 6), .inl 58] (nx_ N) (rv_ fun M2 => M2 220 (Mq 6 102) = Mq 6 75 ∧ V 77 (LSz st mk me 0) [] (up_ (up_ M2 225 (Mq 6 102) 1) 207 (Mq 6 75) (M2 6 75))) Qt → T V := fun V Kv Qtq hV hW hk => toQ V Kv Qtq hV hW (j_228t hT5 hE5 (by decide) (by rw [p70]; exact h19) h12 (by rw [if_neg (by decide)]; exact hk))
  have hT6 : Tks (nX_ (pX_ M 44)) (nx_ N) := Tks_c nX_XF nx_QF hT5
  have x70 : nX_ (pX_ M 44) 70 = Mx 70 := by rw [nX_ne (by decide)]; exact p70
  have n220 : nx_ N 220 (Mq 6 102) = Mq 6 75 := by rw [nx_ne (by decide)]; exact d3
  refine y_121 hE6 (by decide) (fun hb => by rw [x70]; intro e; have e' : tS (Mx 70) 258 (a + 1) = none := e; have := hS hb; rw [e'] at this; exact this rfl) (fun k1 h13 hE7 => ?_) (fun hb k1 h13 => ?_) (fun hb k1 => ?_)
  rotate_left
  · have hsp := SQ_bf hE6 hb (k := 2) (by decide) (QA_tr qM (QF_QA nx_QF))
    exact hQ hb _ (XA_tr xM (XF_XA (XF_tr pX_XF (XF_tr nX_XF fl_XF)))) (fun V Kv Qtq hV hW hk => toQ2 V Kv Qtq hV hW (j_244r hT6 hE6 hb (by decide) k1 h13 ⟨by unfold bf_; rw [up_ne (by decide), up_ne (by decide)]; exact n220, sQ hsp hV hW hk⟩))
  · have hsp := SQ_bf hE6 hb (k := 1) (by decide) (QA_tr qM (QF_QA nx_QF))
    exact hQ hb _ (XA_tr xM (XF_XA (XF_tr pX_XF (XF_tr nX_XF fl_XF)))) (fun V Kv Qtq hV hW hk => toQ2 V Kv Qtq hV hW (j_244w hT6 hE6 hb (by decide) k1 ⟨by unfold bf_; rw [up_ne (by decide), up_ne (by decide)]; exact n220, sQ hsp hV hW hk⟩))
  have k1' : Mx 70 (a + 1) = 258 := by rw [← x70]; exact k1
  rw [tS_e k1' h13, Option.bind_some] at hS
  have e75 : nx_ (nx_ N) 6 75 = N 6 75 := by rw [nx_6 (by decide), nx_6 (by decide)]
  have toQ3 : ∀ (V : vv_) (Kv : mm_ → Prop) (Qt : qt_), Cl_ wd0 (Tr_ wd0 pg0 (dq + 15)) V (rv_ Kv) Qt m_260 → Wk_ V → V 77 (LSz st mk me 0) [] (up_ (up_ (nx_ (nx_ N)) 225 (Mq 6 102) 1) 207 (Mq 6 75) (N 6 75)) → T V := fun V Kv Qtq hV hW hk => toQ2 V Kv Qtq hV hW (j_244t hT6 hE6 (by decide) k1 h13 ⟨by rw [nx_ne (by decide)]; exact n220, by rw [e75]; exact hk⟩)
  -- where the part begins
  have hX : EPX b M (nX_ (nX_ (pX_ M 44))) := by
    refine ⟨XF_tr pX_XF (XF_tr nX_XF nX_XF), by rw [nX_1 (by decide), nX_1 (by decide), pX_1], fun hb => ?_, fun hb => ?_, fun j hj => ?_⟩
    · rw [nX_ne (by decide), nX_ne (by decide)]; exact c53.2.2.1 hb
    · rw [nX_ne (by decide), nX_ne (by decide), nX_ne (by decide), nX_ne (by decide)]; exact c53.2.2.2 hb
    · rw [nX_ne (by decide), nX_ne (by decide)]; exact c142 j hj
  have hQQ : EPQ Mq N (up_ (up_ (nx_ (nx_ N)) 225 (Mq 6 102) 1) 207 (Mq 6 75) (N 6 75)) := by
    refine ⟨fun r h6 h7 h5 => by rw [up_ne h7, up_ne h5, nx_ne h6, nx_ne h6], fun i hi => by rw [up_ne (by decide), up_ne (by decide), nx_6 hi, nx_6 hi], up_at, fun j hj => by rw [up_of2 hj, up_ne (by decide), nx_ne (by decide), nx_ne (by decide)], by rw [up_ne (by decide), up_at], fun j hj => by rw [up_ne (by decide), up_of2 hj, nx_ne (by decide), nx_ne (by decide)]⟩
  have hEp : ER b F' (nX_ (nX_ (pX_ M 44))) (up_ (up_ (nx_ (nx_ N)) 225 (Mq 6 102) 1) 207 (Mq 6 75) (N 6 75)) (a + 1 + 1) (o + 1) := ER_Q hE7 (by rw [up_ne (by decide), up_ne (by decide)]) (by rw [up_ne (by decide), up_ne (by decide)]) (by rw [up_ne (by decide), up_ne (by decide)]) (by rw [up_ne (by decide), up_ne (by decide)]) (by rw [up_ne (by decide), up_ne (by decide)])
  have g53 : nX_ (nX_ (pX_ M 44)) 5 3 = pX_ M 44 5 3 := by rw [nX_ne (by decide), nX_ne (by decide)]
  have qd : QD N (up_ (up_ (nx_ (nx_ N)) 225 (Mq 6 102) 1) 207 (Mq 6 75) (N 6 75)) := QD_tr (QN_QD QN_nx) (QD_tr (QN_QD QN_nx) (QD_tr (QD_ur (by decide) (by decide)) (QD_ur (by decide) (by decide))))
  clear hE5 hE6 hE7 toQ toQ2 hT5 hT6
  generalize nX_ (nX_ (pX_ M 44)) = Mp at *
  generalize up_ (up_ (nx_ (nx_ N)) 225 (Mq 6 102) 1) 207 (Mq 6 75) (N 6 75) = Np at *
  have hX' := hX
  have hQ' := hQQ
  obtain ⟨xf, xx7, xb0, xb1, x142⟩ := hX'
  obtain ⟨z1, z2, z3, z4, z5, z6⟩ := hQ'
  obtain ⟨b1, b2, b3, b4, b5, b6⟩ := PRD_PB d1
  have hPD : PRD b F F' Mx Mq Mp Np a0 (a + 1 + 1) o (o + 1) me := by
    refine PRD_s d1 hEp xf qd ⟨fun j x hj => x142 j (by (clear hsp ho hp h hl h103 hnR h19 hS hV hW hG hQ dq2 hT hVT hE t4 t5 t6 hG' hL hst u w7 r90 d102 msk c19 s53 d1 d2 d3 d4 d5 d6 d8 d9 d10 d11 d12 d13 d14 d15 m8 h01 st0 st1 ha q75 q104 q90 xM qM m70 p70 c142 c53 hq3 sQ eU h12 x70 n220 k1 h13 k1' e75 hX g53 toQ3 hQQ qd hEp xf xx7 xb0 xb1 x142 z1 z2 z3 z4 z5 z6 b1 b2 b3 b5 b6 x; omega)), fun r j hr x hj => ?_, fun j _ _ => by rw [z1 209 (by decide) (by decide) (by decide)], fun j _ _ => by rw [z1 227 (by decide) (by decide) (by decide), z1 228 (by decide) (by decide) (by decide)]; exact ⟨rfl, rfl⟩, fun r j hr x hj => ?_, fun r j hr x hj => ?_⟩ ⟨by (clear hsp ho hp h hl h103 hnR h19 hS hV hW hG hQ dq2 hT hVT hE t4 t5 t6 hG' hL hst u w7 r90 d102 msk c19 s53 d1 d2 d3 d4 d5 d6 d8 d9 d10 d11 d12 d13 d14 d15 m8 h01 st0 st1 ha q75 q104 q90 xM qM m70 p70 c142 c53 hq3 sQ eU h12 x70 n220 k1 h13 k1' e75 hX g53 toQ3 hQQ qd hEp xf xx7 xb0 xb1 x142 z1 z2 z3 z4 z5 z6 b2 b3 b4 b5 b6; lia), by rw [z2 75 (by decide)]; (clear hsp ho hp h hl h103 hnR h19 hS hV hW hG hQ dq2 hT hVT hE t4 t5 t6 hG' hL hst u w7 r90 d102 msk c19 s53 d1 d2 d3 d4 d5 d6 d8 d9 d10 d11 d13 d14 d15 m8 h01 st0 st1 ha q75 q104 q90 xM qM m70 p70 c142 c53 hq3 sQ eU h12 x70 k1 h13 k1' hX g53 toQ3 hQQ qd hEp xf xx7 xb0 xb1 x142 z1 z2 z4 z5 z6 b1 b3 b4 b5 b6; lia), by rw [z2 104 (by decide)]; (clear hsp ho hp h hl h103 hnR h19 hS hV hW hG hQ dq2 hT hVT hE t4 t5 t6 hG' hL hst u w7 r90 d102 msk c19 s53 d1 d2 d3 d4 d5 d6 d8 d9 d10 d11 d12 d13 d14 d15 m8 h01 st0 st1 ha q75 q104 q90 xM qM m70 p70 c142 c53 hq3 sQ eU h12 x70 n220 k1 h13 k1' e75 hX g53 toQ3 hQQ qd hEp xf xx7 xb0 xb1 x142 z1 z2 z3 z4 z5 z6 b1 b2 b4 b5 b6; omega), ⟨by (clear hsp ho hp h hl h103 hnR h19 hS hV hW hG hQ dq2 hT hVT hE t4 t5 t6 hG' hL hst u w7 r90 d102 msk c19 s53 d1 d2 d3 d4 d5 d6 d8 d9 d10 d11 d12 d13 d14 d15 m8 h01 st0 st1 ha q75 q104 q90 xM qM m70 p70 c142 hq3 sQ eU h12 x70 n220 k1 h13 k1' e75 hX toQ3 hQQ qd hEp xf xx7 xb0 xb1 x142 z1 z2 z3 z4 z5 z6 b1 b2 b3 b5 b6; omega), by (clear hsp ho hp h hl h103 hnR h19 hS hV hW hG hQ dq2 hT hVT hE t4 t5 t6 hG' hL hst u w7 r90 d102 msk c19 s53 d1 d2 d3 d4 d5 d6 d8 d9 d10 d11 d12 d13 d14 d15 m8 h01 st0 st1 ha q75 q104 q90 xM qM m70 p70 c142 hq3 sQ eU h12 x70 n220 k1 h13 k1' e75 hX toQ3 hQQ qd hEp xf xx7 xb0 xb1 x142 z1 z2 z3 z4 z5 z6 b1 b2 b3 b5 b6; lia), fun hb => by rw [xb0 hb]; exact b4.2.2 hb⟩, by rw [z2 90 (by decide)]; (clear hsp ho hp h hl h103 hnR h19 hS hV hW hG hQ dq2 hT hVT hE t4 t5 t6 hG' hL hst u w7 r90 d102 msk c19 s53 d1 d2 d3 d4 d5 d6 d8 d9 d10 d11 d12 d13 d14 d15 m8 h01 st0 st1 ha q75 q104 q90 xM qM m70 p70 c142 c53 hq3 sQ eU h12 x70 n220 k1 h13 k1' e75 hX g53 toQ3 hQQ qd hEp xf xx7 xb0 xb1 x142 z1 z2 z3 z4 z5 z6 b1 b2 b3 b4 b6; omega), by (clear hsp ho hp h hl h103 hnR h19 hS hV hW hG hQ dq2 hT hVT hE t4 t5 t6 hG' hL hst u w7 r90 d102 msk c19 s53 d1 d2 d3 d4 d5 d6 d8 d9 d10 d11 d12 d13 d14 d15 m8 h01 st0 st1 ha q75 q104 q90 xM qM m70 p70 c142 c53 hq3 sQ eU h12 x70 n220 k1 h13 k1' e75 hX g53 toQ3 hQQ qd hEp xf xb0 xb1 x142 z1 z2 z3 z4 z5 z6 b1 b2 b3 b4 b5; lia)⟩ (by (clear hsp ho hp h hl h103 hnR h19 hS hV hW hG hQ dq2 hT hVT hE t4 t5 t6 hG' hL hst u w7 r90 d102 msk c19 s53 d1 d2 d3 d4 d5 d6 d8 d9 d10 d11 d12 d13 d14 d15 m8 h01 st0 st1 ha q75 q104 q90 xM qM m70 p70 c142 c53 hq3 sQ eU h12 x70 n220 k1 h13 k1' e75 hX g53 toQ3 hQQ qd hEp xf xx7 xb0 xb1 x142 z1 z2 z3 z4 z5 z6 b1 b2 b3 b4 b5 b6; lia))
    · by_cases c : r = 207
      · rw [c]; exact z4 j (by (clear hsp ho hp h hl h103 hnR h19 hS hV hW hG hQ dq2 hT hVT hE t4 t5 t6 hG' hL hst u w7 r90 d102 msk c19 s53 d1 d2 d3 d4 d5 d6 d8 d9 d10 d11 d12 d13 d14 d15 m8 h01 st0 st1 ha q75 q104 q90 xM qM m70 p70 c142 c53 hq3 sQ eU h12 x70 k1 h13 k1' e75 hX g53 toQ3 hQQ qd hEp xf xx7 xb0 xb1 x142 z1 z2 z3 z4 z5 z6 b1 b2 b3 b4 b5 b6 hr x c; lia))
      · rw [z1 r (fun e => absurd hr (by rw [e]; decide)) c (fun e => absurd hr (by rw [e]; decide))]
    · rw [z1 r (fun e => absurd hr (by rw [e]; decide)) (fun e => absurd hr (by rw [e]; decide)) (fun e => absurd hr (by rw [e]; decide))]
    · by_cases c : r = 225
      · rw [c]; exact z6 j (by (clear hsp ho hp h hl h103 hnR h19 hS hV hW hG hQ dq2 hT hVT hE t4 t5 t6 hG' hL hst u w7 r90 d102 msk c19 s53 d1 d3 d4 d5 d6 d8 d9 d10 d11 d12 d13 d14 d15 m8 h01 st0 st1 ha q75 q104 q90 xM qM m70 p70 c142 c53 hq3 sQ eU h12 x70 n220 k1 h13 k1' e75 hX g53 toQ3 hQQ qd hEp xf xx7 xb0 xb1 x142 z1 z2 z3 z4 z5 z6 b1 b2 b3 b4 b5 b6 hr x c; omega))
      · rw [z1 r (fun e => absurd hr (by rw [e]; decide)) (fun e => absurd hr (by rw [e]; decide)) c]
  have n102 : Np 6 102 = Mq 6 102 + 1 := by rw [z2 102 (by decide)]; exact d2
  have hPp : PS b F' Mp Np (a + 1 + 1) (o + 1) me := PS_D hp hPD (by (clear hsp ho hp h hl h103 hnR h19 hS hV hW hG hQ dq2 hT hVT hE t4 t5 t6 hG' hL hst u w7 r90 d102 msk c19 s53 d1 d2 d3 d4 d5 d6 d8 d9 d10 d11 d12 d13 d14 d15 m8 h01 st0 st1 ha q75 q104 q90 xM qM m70 p70 c142 c53 hq3 sQ eU h12 x70 n220 k1 h13 k1' e75 hX g53 toQ3 hQQ qd hEp xf xx7 xb0 xb1 x142 z1 z2 z3 z4 z5 z6 b1 b2 b3 b4 b5 b6 hPD n102; lia)) (by (clear hsp hp h hl h103 hnR h19 hS hV hW hG hQ hT hVT hE t4 t5 t6 hG' hL hst u w7 r90 msk c19 s53 d1 d3 d4 d5 d6 d8 d9 d10 d11 d12 d13 d14 d15 m8 h01 st0 st1 ha q75 q104 q90 xM qM m70 p70 c142 c53 hq3 sQ eU h12 x70 n220 k1 h13 k1' e75 hX g53 toQ3 hQQ qd hEp xf xx7 xb0 xb1 x142 z1 z2 z3 z4 z5 z6 b1 b2 b3 b4 b5 b6 hPD; lia))
  have lkp := LKP_F (b := b) xf
  have g70 : Mp 70 = Mx 70 := (PRD_X hPD).1 70 (by decide)
  have ho' : (12 : Int) - (m : Int) = o + 1 := by (clear hsp hp h hl h103 hnR h19 hS hV hW hG hQ dq2 hT hVT hE t4 t5 t6 hG' hL hst u w7 r90 d102 msk c19 s53 d1 d2 d3 d4 d5 d6 d8 d9 d10 d11 d12 d13 d14 d15 m8 h01 st0 st1 ha q75 q104 q90 xM qM m70 p70 c142 c53 hq3 sQ eU h12 x70 n220 k1 h13 k1' e75 hX g53 toQ3 hQQ qd hEp xf xx7 xb0 xb1 x142 z1 z2 z3 z4 z5 z6 b1 b2 b3 b4 b5 b6 hPD n102 hPp lkp g70; omega)
  refine Tr_le (d := 9 * m + 19) (by (clear hsp ho hp h hl h103 hnR h19 hS hV hW hG hQ dq2 hT hVT hE t4 t5 t6 hG' hL hst u w7 r90 d102 msk c19 s53 d1 d2 d3 d4 d5 d6 d8 d9 d10 d11 d12 d13 d14 d15 m8 h01 st0 st1 ha q75 q104 q90 xM qM m70 p70 c142 c53 hq3 sQ eU h12 x70 n220 k1 h13 k1' e75 hX g53 toQ3 hQQ qd hEp xf xx7 xb0 xb1 x142 z1 z2 z3 z4 z5 z6 b1 b2 b3 b4 b5 b6 hPD n102 hPp lkp g70 ho'; lia)) ?_
  have hsp' := hsp b F' Mp Np (a + 1 + 1) me st mk
  rw [ho'] at hsp'
  refine hsp' _ Qt hPp (by rw [z2 103 (by decide)]; exact h103) (fun hb => ?_) (fun F2 M3 N3 a3 v c hR hM hv h103' hc hsy hRT => ?_) (fun hb Mx' hx hstq => ?_)
  · rw [g70, lkp.2, show LMT Mp = LMT Mx from (LKP_P hPD).2.2.2 hb]
    intro e; have := hS hb; rw [e] at this; exact this rfl
  · have hE3 := hR.2.1
    have P3 := PRD_tr q75.1 (by (clear hsp ho hp h hl h103 hnR h19 hS hV hW hG hQ dq2 hT hVT hE t4 t5 t6 hG' hL hst u w7 r90 d102 msk c19 s53 d1 d3 d4 d5 d6 d8 d9 d10 d11 d12 d13 d14 d15 m8 h01 st0 st1 ha q75 q104 q90 xM qM m70 p70 c142 c53 hq3 sQ eU h12 x70 n220 k1 h13 k1' e75 hX g53 toQ3 hQQ qd hEp xf xx7 xb0 xb1 x142 z1 z2 z3 z4 z5 z6 b1 b2 b3 b4 b5 b6 hPD hPp lkp g70 ho' hsp' hR hM hv h103' hc hsy hRT hE3; lia)) hPD hR
    have xa3 := PRD_X P3
    have b3' := hR.2.2.2.2.1
    have ha3 := ER_a hE3
    have st3 := ER_st hE3
    have pS3 := PS_tr hPp hR (by (clear hsp ho hp h hl h103 hnR h19 hS hV hW hG hQ dq2 hT hVT hE t4 t5 t6 hG' hL hst u w7 r90 d102 msk c19 s53 d1 d2 d3 d4 d5 d6 d8 d9 d10 d11 d12 d13 d14 d15 m8 h01 st0 st1 ha q75 q104 q90 xM qM m70 p70 c142 c53 hq3 sQ eU h12 x70 n220 k1 h13 k1' e75 hX g53 toQ3 hQQ qd hEp xf xx7 xb0 xb1 x142 z1 z2 z3 z4 z5 z6 b1 b2 b3 b4 b5 b6 hPD n102 hPp lkp g70 ho' hsp' hR hM hv h103' hc hsy hRT hE3 P3 xa3 b3' ha3 st3; lia))
    have m370 : M3 70 = Mx 70 := xa3.1 70 (by decide)
    have v32 : M3 1 2 = 5 := by rw [xa3.2.1 2 (by decide)]; exact (hp.1.2.1).1
    have k6 := hR.2.2.2.1.1
    have g102 : N3 6 102 = Mq 6 102 + 1 := k6.2.2.2.2.2.2.trans n102
    have dsr : ∀ r : Nat, r ∈ dsR → r ≠ 225 → N3 r (Mq 6 102) = N r (Mq 6 102) := fun r hr h5 => by rw [k6.2.2.2.2.2.1 r _ hr (by (clear hsp ho hp h hl h103 hnR h19 hS hV hW hG hQ hT hVT hE t4 t5 t6 hG' hL hst u w7 r90 d102 msk c19 s53 d1 d3 d4 d5 d6 d8 d9 d10 d11 d12 d13 d14 d15 m8 h01 st0 st1 ha q75 q104 q90 xM qM m70 p70 c142 c53 hq3 sQ eU h12 x70 n220 k1 h13 k1' e75 hX g53 toQ3 hQQ qd hEp xf xx7 xb0 xb1 x142 z1 z2 z3 z4 z5 z6 b1 b2 b3 b4 b5 b6 hPD hPp lkp g70 ho' hsp' hR hM hv h103' hc hsy hRT hE3 P3 xa3 b3' ha3 st3 pS3 m370 v32 g102 hr h5; omega)) (by (clear hsp ho hp h hl h103 hnR h19 hS hV hW hG hQ dq2 hT hVT hE t4 t5 t6 hG' hL hst u w7 r90 d102 msk c19 s53 d1 d3 d4 d5 d6 d8 d9 d10 d11 d12 d13 d14 d15 m8 h01 st0 st1 ha q75 q104 q90 xM qM m70 p70 c142 c53 hq3 sQ eU h12 x70 n220 k1 h13 k1' e75 hX g53 toQ3 hQQ qd hEp xf xx7 xb0 xb1 x142 z1 z2 z3 z4 z5 z6 b1 b2 b3 b4 b5 b6 hPD hPp lkp g70 ho' hsp' hR hM hv h103' hc hsy hRT hE3 P3 xa3 b3' ha3 st3 pS3 m370 v32 k6 g102 hr h5; omega)), z1 r (fun e => absurd hr (by rw [e]; decide)) (fun e => absurd hr (by rw [e]; decide)) h5]
    have g225 : N3 225 (Mq 6 102) = 1 := by rw [k6.2.2.2.2.2.1 225 _ (by decide) (by omega) (by omega)]; exact z5
    have g226 : N3 226 (Mq 6 102) = x5 := by rw [dsr 226 (by decide) (by decide)]; exact d10
    have g220 : N3 220 (Mq 6 102) = Mq 6 75 := by rw [dsr 220 (by decide) (by decide)]; exact d3
    have g75 := pS3.1.2.2.2.1
    have g75' : N 6 75 ≤ N3 6 75 := by have := b3'.2.1.1; rw [z2 75 (by decide)] at this; exact this
    obtain ⟨y, hy⟩ : ∃ y : Int, y = if x5 = 0 ∨ v = 0 then 0 else 1 := ⟨_, rfl⟩
    have hy01 : y = 0 ∨ y = 1 := by rw [hy]; split <;> (clear hsp ho hp h hl h103 hnR h19 hS hV hW hG hQ dq2 hT hVT hE t4 t5 t6 hG' hL hst u w7 r90 d102 msk c19 s53 d1 d2 d3 d4 d5 d6 d8 d9 d10 d11 d12 d13 d14 d15 m8 h01 st0 st1 ha q75 q104 q90 xM qM m70 p70 c142 c53 hq3 sQ eU h12 x70 n220 k1 h13 k1' e75 hX g53 toQ3 hQQ qd hEp xf xx7 xb0 xb1 x142 z1 z2 z3 z4 z5 z6 b1 b2 b3 b4 b5 b6 hPD n102 hPp lkp g70 ho' hsp' hR hM hv h103' hc hsy hRT hE3 P3 xa3 b3' ha3 st3 pS3 m370 v32 k6 g102 dsr g225 g226 g220 g75 g75' hy; lia)
    have S6 := e1_SEM (x2 := x2) (x3 := x3) hp h hl hX hQQ hPD hR hM hv hy
    have B4 := N4_BQ (N := N3) (dd := Mq 6 102) (x := y)
    have qd4 := N4_QD (N := N3) (dd := Mq 6 102) (x := y)
    have hT3 : Tks M3 N3 := pS3.1.1
    have hc' : c = 1 ∨ (c = 0 ∧ ¬ isA (M3 70) a3 ∧ ¬ isL (M3 70) a3) := by
      rw [g70] at hc
      rw [m370]
      rcases hc with q | q
      · exact .inl q.1
      · exact .inr q
    have bdd : 0 ≤ Mq 6 102 ∧ Mq 6 102 < 14 := by (clear hsp hp h hl h103 hnR h19 hS hV hW hG hQ hT hVT hE t4 t5 t6 hG' hL hst u w7 r90 msk c19 s53 d1 d3 d4 d5 d6 d8 d9 d10 d11 d12 d13 d14 d15 m8 h01 st0 st1 ha q75 q104 q90 xM qM m70 p70 c142 c53 hq3 sQ eU h12 x70 n220 k1 h13 k1' e75 hX g53 toQ3 hQQ qd hEp xf xx7 xb0 xb1 x142 z1 z2 z3 z4 z5 z6 b1 b2 b3 b4 b5 b6 hPD hPp lkp g70 ho' hsp' hR hM hv h103' hc hsy hRT hE3 P3 xa3 b3' ha3 st3 pS3 m370 v32 g102 dsr g225 g226 g220 g75 g75' hy hy01 S6 B4 qd4 hT3 hc'; omega)
    have toQ4 : ∀ (V : vv_) (Kv : mm_ → Prop) (Qt : qt_), Cl_ wd0 (Tr_ wd0 pg0 (dq + 15)) V (rv_ Kv) Qt m_260 → Wk_ V → (∀ V' : vv_, Cl_ wd0 (Tr_ wd0 pg0 (dq + 14)) V' (rv_ fun M1 => V 77 (LSz st mk me 0) [] M1) Qt m_303 → Wk_ V' → V' 132 [rr 6, ii (Mq 6 102), ii (N3 6 75), none] [] (N4_ N3 (Mq 6 102) y)) → T V := by
      intro V Kv Qtq hV hW hk
      refine toQ3 V Kv Qtq hV hW (hRT V Kv Qtq hV hW (q_77e hT3 hE3 hc' hV hW (q_208b (by (clear hsp ho hp h hl h103 hnR h19 hS hG hQ hT hVT hE t4 t5 t6 hG' hL hst u w7 r90 d102 msk c19 s53 d1 d3 d4 d5 d6 d8 d9 d10 d11 d12 d13 d14 d15 m8 h01 st0 st1 ha q75 q104 q90 xM qM m70 p70 c142 c53 hq3 sQ eU h12 x70 n220 k1 h13 k1' e75 hX g53 toQ3 hQQ qd hEp xf xx7 xb0 xb1 x142 z1 z2 z3 z4 z5 z6 b1 b2 b3 b4 b5 b6 hPD hPp lkp g70 ho' hsp' hR hM hv h103' hc hsy hRT hE3 P3 xa3 b3' ha3 st3 pS3 m370 v32 g102 dsr g225 g226 g220 g75 g75' hy hy01 S6 B4 qd4 hT3 hc' hV hW hk; omega)) hV hW (q_303a (d := dq + 12) (x5 := x5) g102 bdd g226 d11 h103' hv (by (clear hsp ho hp h hl h103 hnR h19 hS hG hQ dq2 hT hVT hE t4 t5 t6 hG' hL hst u w7 r90 d102 msk c19 s53 d1 d2 d3 d4 d5 d6 d8 d9 d10 d11 d12 d13 d14 d15 m8 h01 st0 st1 ha q75 q104 q90 xM qM m70 p70 c142 c53 hq3 sQ eU h12 x70 n220 k1 h13 k1' e75 hX g53 toQ3 hQQ qd hEp xf xx7 xb0 xb1 x142 z1 z2 z3 z4 z5 z6 b1 b2 b3 b4 b5 b6 hPD n102 hPp lkp g70 ho' hsp' hR hM hv h103' hc hsy hRT hE3 P3 xa3 b3' st3 pS3 m370 v32 k6 g102 dsr g225 g226 g220 g75' hy hy01 S6 B4 qd4 hT3 hc' bdd hV hW hk; omega)) (by have := hE3.2.2.1; (clear hsp ho hp h hl h103 hnR h19 hS hG hQ dq2 hT hVT hE t4 t5 t6 hG' hL hst u w7 r90 d102 msk c19 s53 d1 d2 d3 d4 d5 d6 d8 d9 d10 d11 d12 d13 d14 d15 m8 h01 st0 st1 ha q75 q104 q90 xM qM m70 p70 c142 c53 hq3 sQ eU h12 x70 n220 k1 h13 k1' e75 hX g53 toQ3 hQQ qd hEp xf xx7 xb0 xb1 x142 z1 z2 z3 z4 z5 z6 b1 b2 b3 b4 b5 b6 hPD n102 hPp lkp g70 ho' hsp' hR hM hv h103' hc hsy hRT hE3 P3 xa3 b3' st3 pS3 m370 v32 k6 g102 dsr g225 g226 g220 g75 g75' hy hy01 S6 B4 qd4 hT3 hc' bdd hV hW hk; omega)) fun V' hV' hW' => ?_))))
      rw [if_neg (by (clear hsp ho hp h hl h103 hnR h19 hS hG hQ dq2 hT hVT hE t4 t5 t6 hG' hL hst u w7 r90 d102 msk c19 s53 d1 d2 d3 d4 d5 d6 d8 d9 d10 d11 d12 d13 d14 d15 m8 h01 st0 st1 ha q75 q104 q90 xM qM m70 p70 c142 c53 hq3 sQ eU h12 x70 n220 k1 h13 k1' e75 hX g53 toQ3 hQQ qd hEp xf xx7 xb0 xb1 x142 z1 z2 z3 z4 z5 z6 b1 b2 b3 b4 b5 b6 hPD n102 hPp lkp g70 ho' hsp' hR hM hv h103' hc hsy hRT hE3 P3 xa3 b3' ha3 st3 pS3 m370 v32 k6 g102 dsr g226 g220 g75 g75' hy hy01 S6 B4 qd4 hT3 hc' bdd hV hW hk hV' hW'; omega)), ← hy]
      refine b_303_83 (Tr_mono _) hV' hW' _ _ _ ⟨bdd, fun _ => ?_⟩
      rw [if_neg (by rw [B4.1 225 (by decide)]; (clear hsp ho hp h hl h103 hnR h19 hS hG hQ dq2 hT hVT hE t4 t5 t6 hG' hL hst u w7 r90 d102 msk c19 s53 d1 d2 d3 d4 d5 d6 d8 d9 d10 d11 d12 d13 d14 d15 m8 h01 st0 st1 ha q75 q104 q90 xM qM m70 p70 c142 c53 hq3 sQ eU h12 x70 n220 k1 h13 k1' e75 hX g53 toQ3 hQQ qd hEp xf xx7 xb0 xb1 x142 z1 z2 z3 z4 z5 z6 b1 b2 b3 b4 b5 b6 hPD n102 hPp lkp g70 ho' hsp' hR hM hv h103' hc hsy hRT hE3 P3 xa3 b3' ha3 st3 pS3 m370 v32 k6 g102 dsr g226 g220 g75 g75' hy hy01 S6 B4 qd4 hT3 hc' bdd hV hW hk hV' hW'; lia))]
      exact hk V' hV' hW'
    have hE4 : ER b F2 M3 (N4_ N3 (Mq 6 102) y) a3 (o + 1) := ER_Q hE3 (B4.2.1 12 (by decide) (by decide)) (B4.2.1 13 (by decide) (by decide)) (B4.2.1 14 (by decide) (by decide)) (B4.2.1 15 (by decide) (by decide)) (B4.2.1 16 (by decide) (by decide))
    have hT4 : Tks M3 (N4_ N3 (Mq 6 102) y) := Tks_a XA_rf (QD_QA qd4) hT3
    have hx3 : b = 1 → XHO (Mx 5 3) (M 5 3) mm M3 x4 := fun hb => XHO_c (M := M) (Int.le_refl _) (Int.le_refl _) (fun j x hj => by rw [k6.1 j (by (clear hsp ho hp h hl h103 hnR h19 hS hV hW hG hQ dq2 hT hVT hE t4 t5 t6 hG' hL hst u w7 r90 d102 msk c19 s53 d1 d2 d3 d4 d5 d6 d8 d9 d10 d11 d12 d13 d14 d15 m8 h01 st0 ha q75 q104 q90 xM qM m70 p70 c142 c53 hq3 sQ eU h12 x70 n220 k1 h13 k1' e75 hX g53 toQ3 hQQ qd hEp xf xx7 xb0 xb1 x142 z1 z2 z3 z4 z5 z6 b1 b2 b3 b4 b5 b6 hPD n102 hPp lkp g70 ho' hsp' hR hM hv h103' hc hsy hRT hE3 P3 xa3 b3' ha3 st3 pS3 m370 v32 k6 g102 dsr g225 g226 g220 g75 g75' hy hy01 S6 B4 qd4 hT3 hc' bdd toQ4 hE4 hT4 hb hj; omega)) (by have := xb1 hb; (clear hsp ho hp h hl h103 hnR h19 hS hV hW hG hQ dq2 hT hVT hE t4 t5 t6 hG' hL hst u w7 r90 d102 msk c19 s53 d1 d2 d3 d4 d5 d6 d8 d9 d10 d11 d12 d13 d14 d15 m8 h01 st0 st1 ha q75 q104 q90 xM qM m70 p70 c142 c53 hq3 sQ eU h12 x70 n220 k1 h13 k1' e75 hX g53 toQ3 hQQ qd hEp xf xx7 xb0 xb1 x142 z1 z2 z3 z4 z5 z6 b1 b2 b3 b4 b5 b6 hPD n102 hPp lkp g70 ho' hsp' hR hM hv h103' hc hsy hRT hE3 P3 xa3 b3' ha3 st3 pS3 m370 v32 k6 g102 dsr g225 g226 g220 g75 g75' hy hy01 S6 B4 qd4 hT3 hc' bdd toQ4 hE4 hT4 hb x; lia))]; exact x142 j hj) mm (d15 hb)
    have glt : N 224 (Mq 6 102) < N 6 75 := by
      cases mm with
      | zero => have : N 224 (Mq 6 102) = -1 := d14; (clear hsp ho hp hl h103 hnR h19 hS hV hW hG hQ dq2 hT hVT hE t4 t5 t6 hG' hL hst u w7 r90 d102 msk c19 s53 d1 d2 d3 d4 d5 d6 d8 d9 d10 d11 d13 m8 h01 st0 st1 ha q104 q90 xM qM m70 p70 c142 c53 hq3 sQ eU h12 x70 k1 h13 k1' hX g53 toQ3 hQQ qd hEp xf xx7 xb0 xb1 x142 z1 z2 z4 z5 z6 b1 b2 b3 b4 b5 b6 hPD n102 hPp lkp g70 ho' hsp' hR hM hv h103' hc hsy hRT hE3 P3 xa3 b3' ha3 st3 pS3 m370 v32 k6 g102 dsr g225 g226 g75 g75' hy hy01 B4 qd4 hT3 hc' bdd toQ4 hE4 hT4 h d14 d15 S6 hx3; lia)
      | succ n => exact d14.1.2
    have hq4 : QHO (Mq 6 75) (N3 6 75 + 1) (mm + 1) (N4_ N3 (Mq 6 102) y) (N4_ N3 (Mq 6 102) y 224 (Mq 6 102)) := by
      rw [B4.2.2.2.2.2.2.2.2.1]
      refine ⟨by (clear hsp ho hp h hl h103 hnR h19 hS hV hW hG hQ dq2 hT hVT hE t4 t5 t6 hG' hL hst u w7 r90 d102 msk c19 s53 d1 d2 d3 d4 d5 d6 d8 d9 d10 d11 d13 d14 d15 m8 h01 st0 st1 ha q75 q104 q90 xM qM m70 p70 c142 c53 hq3 sQ eU h12 x70 k1 h13 k1' hX g53 toQ3 hQQ qd hEp xf xx7 xb0 xb1 x142 z1 z2 z4 z5 z6 b1 b2 b3 b4 b5 b6 hPD n102 hPp lkp g70 ho' hsp' hR hM hv h103' hc hsy hRT hE3 P3 xa3 b3' ha3 st3 pS3 m370 v32 k6 g102 dsr g225 g226 g75 hy hy01 S6 B4 qd4 hT3 hc' bdd toQ4 hE4 hT4 hx3 glt; lia), ?_, ?_⟩
      · rw [B4.2.2.2.2.2.2.2.1, dsr 224 (by decide) (by decide)]; (clear hsp ho hp h hl h103 hnR h19 hS hV hW hG hQ dq2 hT hVT hE t4 t5 t6 hG' hL hst u w7 r90 d102 msk c19 s53 d1 d2 d3 d4 d5 d6 d8 d9 d10 d11 d12 d13 d14 d15 m8 h01 st0 st1 ha q75 q104 q90 xM qM m70 p70 c142 c53 hq3 sQ eU h12 x70 n220 k1 h13 k1' hX g53 toQ3 hQQ qd hEp xf xx7 xb0 xb1 x142 z1 z2 z4 z5 z6 b1 b2 b3 b4 b5 b6 hPD n102 hPp lkp g70 ho' hsp' hR hM hv h103' hc hsy hRT hE3 P3 xa3 b3' ha3 st3 pS3 m370 v32 k6 g102 dsr g225 g226 g220 g75 hy hy01 S6 B4 qd4 hT3 hc' bdd toQ4 hE4 hT4 hx3; omega)
      · rw [B4.2.2.2.2.2.2.2.1, dsr 224 (by decide) (by decide)]
        refine QHO_c (k1 := 0) (by (clear hsp ho hp h hl h103 hnR h19 hS hV hW hG hQ dq2 hT hVT hE t4 t5 t6 hG' hL hst u w7 r90 d102 msk c19 s53 d1 d2 d3 d4 d5 d6 d8 d9 d10 d11 d12 d13 d14 d15 m8 h01 st0 st1 ha q75 q104 q90 xM qM m70 p70 c142 c53 hq3 sQ eU h12 x70 n220 k1 h13 k1' hX g53 toQ3 hQQ qd hEp xf xx7 xb0 xb1 x142 z1 z2 z4 z5 z6 b1 b2 b3 b4 b5 b6 hPD n102 hPp lkp g70 ho' hsp' hR hM hv h103' hc hsy hRT hE3 P3 xa3 b3' ha3 st3 pS3 m370 v32 k6 g102 dsr g225 g226 g220 g75 hy hy01 S6 B4 qd4 hT3 hc' bdd toQ4 hE4 hT4 hx3 glt; lia)) (fun j x hj => ?_) mm d14
        rw [B4.2.2.2.2.1 206 j (by decide) (by (clear hsp ho hp h hl h103 hnR h19 hS hV hW hG hQ dq2 hT hVT hE t4 t5 t6 hG' hL hst u w7 r90 d102 msk c19 s53 d1 d2 d3 d4 d5 d6 d8 d9 d10 d11 d12 d13 d14 d15 m8 h01 st0 st1 ha q75 q104 q90 xM qM m70 p70 c142 c53 hq3 sQ eU h12 x70 n220 k1 h13 k1' hX g53 toQ3 hQQ qd hEp xf xx7 xb0 xb1 x142 z1 z2 z4 z5 z6 b1 b2 b3 b4 b5 b6 hPD n102 hPp lkp g70 ho' hsp' hR hM hv h103' hc hsy hRT hE3 P3 xa3 b3' ha3 st3 pS3 m370 v32 k6 g102 dsr g225 g226 g220 g75 hy hy01 S6 B4 qd4 hT3 hc' bdd toQ4 hE4 hT4 hx3 glt x; lia)), k6.2.1 206 j (by decide) (by (clear hsp ho hp h hl h103 hnR h19 hS hV hW hG hQ dq2 hT hVT hE t4 t5 t6 hG' hL hst u w7 r90 d102 msk c19 s53 d1 d2 d3 d4 d5 d6 d8 d9 d10 d11 d12 d13 d14 d15 m8 h01 st0 st1 ha q104 q90 xM qM m70 p70 c142 c53 hq3 sQ eU h12 x70 k1 h13 k1' e75 hX g53 toQ3 hQQ qd hEp xf xx7 xb0 xb1 x142 z1 z2 z3 z4 z5 z6 b1 b2 b3 b4 b5 b6 hPD n102 hPp lkp g70 ho' hsp' hR hM hv h103' hc hsy hRT hE3 P3 xa3 b3' ha3 st3 pS3 m370 v32 k6 g102 dsr g225 g226 g75 g75' hy hy01 S6 B4 qd4 hT3 hc' bdd toQ4 hE4 hT4 hx3 glt hj; lia)) (by rw [z2 75 (by decide)]; exact hj), z1 206 (by decide) (by decide) (by decide)]
    have ey : (if y = 0 ∨ (1 : Int) = 0 then (0 : Int) else 1) = y := by rcases hy01 with e | e <;> rw [e] <;> decide
    have e4220 : N4_ N3 (Mq 6 102) y 220 (Mq 6 102) = Mq 6 75 := by rw [B4.1 220 (by decide)]; exact g220
    have fin : Tr_ wd0 pg0 (9 * m + 24) 108 [.inr (.inr 1), .inl 20] M3 (rv_ fun M5 => V 321 [rr 1, ii x1, ii x2, ii x3, ii x4, ii y, ii 1, ii x7, ii x8, ii x9, ii x10, ii x11, ii x12] [] (up_ M5 1 6 (w32 ((M5 1 6) - 1)))) Qt := by
      refine y_161t (dq := dq) (lo := Mx 5 3) (hi := M 5 3) (k0 := Mq 6 75) (kc := N3 6 75 + 1) (dd := Mq 6 102) (k := N3 6 75) (mm := mm) (mq := mm + 1) hT4 hE4 v32 (by (clear hsp hp h hl h103 hnR h19 hS hV hW hG hQ hT hVT hE t4 t5 t6 hG' hL hst u w7 r90 msk c19 s53 d1 d3 d4 d5 d6 d8 d9 d10 d11 d12 d13 d14 d15 m8 h01 st0 st1 ha q75 q104 q90 xM qM m70 p70 c142 c53 hq3 sQ eU h12 x70 n220 k1 h13 k1' e75 hX g53 toQ3 hQQ qd hEp xf xx7 xb0 xb1 x142 z1 z2 z3 z4 z5 z6 b1 b2 b3 b4 b5 b6 hPD hPp lkp g70 ho' hsp' hR hM hv h103' hc hsy hRT hE3 P3 xa3 b3' ha3 st3 pS3 m370 v32 g102 dsr g225 g226 g220 g75 g75' hy hy01 S6 B4 qd4 hT3 hc' toQ4 hE4 hT4 hx3 glt hq4 ey e4220; omega)) hx3 st1 (by (clear hsp ho hp h hl h103 hnR h19 hS hV hW hG hQ dq2 hT hVT hE t4 t5 t6 hG' hL hst u w7 r90 d102 msk c19 s53 d1 d2 d3 d4 d5 d6 d8 d9 d10 d11 d12 d13 d14 d15 m8 h01 st1 ha q75 q104 q90 xM qM m70 p70 c142 c53 hq3 sQ eU h12 x70 n220 k1 h13 k1' e75 hX g53 toQ3 hQQ qd hEp xf xx7 xb0 xb1 x142 z1 z2 z3 z4 z5 z6 b1 b2 b3 b4 b5 b6 hPD n102 hPp lkp g70 ho' hsp' hR hM hv h103' hc hsy hRT hE3 P3 xa3 b3' ha3 st3 pS3 m370 v32 k6 g102 dsr g225 g226 g220 g75 g75' hy hy01 S6 B4 qd4 hT3 hc' bdd toQ4 hE4 hT4 hx3 glt hq4 ey e4220; omega)) hq4 q75.1 (by (clear hsp ho hp h hl h103 hnR h19 hS hV hW hG hQ dq2 hT hVT hE t4 t5 t6 hG' hL hst u w7 r90 d102 msk c19 s53 d1 d2 d3 d4 d5 d6 d8 d9 d10 d11 d12 d13 d14 d15 m8 h01 st0 st1 ha q75 q104 q90 xM qM m70 p70 c142 c53 hq3 sQ eU h12 x70 n220 k1 h13 k1' e75 hX g53 toQ3 hQQ qd hEp xf xx7 xb0 xb1 x142 z1 z2 z3 z4 z5 z6 b1 b2 b3 b4 b5 b6 hPD n102 hPp lkp g70 ho' hsp' hR hM hv h103' hc hsy hRT hE3 P3 xa3 b3' st3 pS3 m370 v32 k6 g102 dsr g225 g226 g220 g75' hy hy01 S6 B4 qd4 hT3 hc' bdd toQ4 hE4 hT4 hx3 glt hq4 ey e4220; lia)) bdd (by rw [e4220]; (clear hsp ho hp h hl h103 hnR h19 hS hV hW hG hQ dq2 hT hVT hE t4 t5 t6 hG' hL hst u w7 r90 d102 msk c19 s53 d1 d2 d3 d4 d5 d6 d8 d9 d10 d11 d13 d14 d15 m8 h01 st0 st1 ha q104 q90 xM qM m70 p70 c142 c53 hq3 sQ eU h12 x70 k1 h13 k1' hX g53 toQ3 hQQ qd hEp xf xx7 xb0 xb1 x142 z1 z2 z4 z5 z6 b1 b2 b3 b4 b5 b6 hPD n102 hPp lkp g70 ho' hsp' hR hM hv h103' hc hsy hRT hE3 P3 xa3 b3' st3 pS3 m370 v32 k6 g102 dsr g225 g226 hy hy01 S6 B4 qd4 hT3 hc' bdd toQ4 hE4 hT4 hx3 glt hq4 ey; lia)) (by rw [B4.2.1 102 (by decide) (by decide)]; exact g102) (by rw [B4.1 225 (by decide)]; exact g225) (fun _ => B4.2.2.2.2.2.2.2.2.2) (.inr rfl) hy01 (fun hb => ?_) hV hW (fun hen hE6 hq => ?_) (fun hb Mx' hx hq => ?_)
      · have e2 := hsy (LMT Mx) ⟨fun h => by (clear hsp ho hp hl h103 hnR h19 hS hV hW hG hQ dq2 hT hVT hE t4 t5 t6 hG' hL hst u w7 r90 d102 msk c19 s53 d1 d2 d3 d4 d5 d6 d8 d9 d10 d11 d12 d13 d14 d15 m8 h01 st0 st1 ha q75 q104 q90 xM qM m70 p70 c142 c53 hq3 sQ eU h12 x70 n220 k1 h13 k1' e75 hX g53 toQ3 hQQ qd hEp xf xx7 xb0 xb1 x142 z1 z2 z3 z4 z5 z6 b1 b2 b3 b4 b5 b6 hPD n102 hPp lkp g70 ho' hsp' hR hM hv h103' hc hsy hRT hE3 P3 xa3 b3' ha3 st3 pS3 m370 v32 k6 g102 dsr g225 g226 g220 g75 g75' hy hy01 S6 B4 qd4 hT3 hc' bdd toQ4 hE4 hT4 hx3 glt hq4 ey e4220; lia), fun _ => ((LKP_P hPD).2.2.2 hb).symm⟩
        rw [g70, lkp.2] at e2
        have q := hS hb
        rw [e2, Option.bind_some] at q
        rw [m370]
        intro e; exact q (by rw [e]; rfl)
      · rw [ey] at hE6 hq ⊢
        rw [m370] at hen
        have P := e_KB (hi := M 5 3) (kc := N3 6 75 + 1) P3 XF_rf qd4 ⟨fun _ _ _ => rfl, fun r j hr x hj => B4.2.2.2.2.1 r j hr (by (clear hsp ho hp h hl h103 hnR h19 hS hV hW hG hQ dq2 hT hVT hE t4 t5 t6 hG' hL hst u w7 r90 d102 msk c19 s53 d1 d2 d3 d4 d5 d6 d8 d9 d10 d11 d13 d14 d15 m8 h01 st0 st1 ha q75 q104 q90 xM qM m70 p70 c142 c53 hq3 sQ eU h12 x70 k1 h13 k1' hX g53 toQ3 hQQ qd hEp xf xx7 xb0 xb1 x142 z1 z2 z4 z5 z6 b1 b2 b3 b4 b5 b6 hPD n102 hPp lkp g70 ho' hsp' hR hM hv h103' hc hsy hRT hE3 P3 xa3 b3' ha3 st3 pS3 m370 v32 k6 g102 dsr g225 g226 g75 hy hy01 S6 B4 qd4 hT3 hc' bdd toQ4 hE4 hT4 hx3 glt hq4 ey hen hE6 hq hr x; lia)), fun j _ _ => by rw [B4.1 209 (by decide)], fun j _ _ => by rw [B4.1 227 (by decide), B4.1 228 (by decide)]; exact ⟨rfl, rfl⟩, fun r j hr x hj => by rw [B4.1 r (by unfold rgR at hr; simp only [List.mem_cons, List.not_mem_nil, or_false] at hr ⊢; (clear hsp ho hp h hl h103 hnR h19 hS hV hW hG hQ dq2 hT hVT hE t4 t5 t6 hG' hL hst u w7 r90 d102 msk c19 s53 d1 d2 d3 d4 d5 d6 d8 d9 d10 d11 d12 d13 d14 d15 m8 h01 st0 st1 ha q75 q104 q90 xM qM m70 p70 c142 c53 hq3 sQ eU h12 x70 n220 k1 h13 k1' e75 hX g53 toQ3 hQQ qd hEp xf xx7 xb0 xb1 x142 z1 z2 z3 z4 z5 z6 b1 b2 b3 b4 b5 b6 hPD n102 hPp lkp g70 ho' hsp' hR hM hv h103' hc hsy hRT hE3 P3 xa3 b3' ha3 st3 pS3 m370 v32 k6 g102 dsr g225 g226 g220 g75 g75' hy hy01 S6 B4 qd4 hT3 hc' bdd toQ4 hE4 hT4 hx3 glt hq4 ey e4220 hen hE6 hq x hj; omega))], fun r j hr x hj => B4.2.2.2.2.2.1 r j hr (by (clear hsp ho hp h hl h103 hnR h19 hS hV hW hG hQ dq2 hT hVT hE t4 t5 t6 hG' hL hst u w7 r90 d102 msk c19 s53 d1 d3 d4 d5 d6 d8 d9 d10 d11 d12 d13 d14 d15 m8 h01 st0 st1 ha q75 q104 q90 xM qM m70 p70 c142 c53 hq3 sQ eU h12 x70 n220 k1 h13 k1' e75 hX g53 toQ3 hQQ qd hEp xf xx7 xb0 xb1 x142 z1 z2 z3 z4 z5 z6 b1 b2 b3 b4 b5 b6 hPD hPp lkp g70 ho' hsp' hR hM hv h103' hc hsy hRT hE3 P3 xa3 b3' ha3 st3 pS3 m370 v32 g102 dsr g225 g226 g220 g75 g75' hy hy01 S6 B4 qd4 hT3 hc' bdd toQ4 hE4 hT4 hx3 glt hq4 ey e4220 hen hE6 hq hr x; omega))⟩ ⟨Int.le_refl _, by (clear hsp ho hp h hl h103 hnR h19 hS hV hW hG hQ dq2 hT hVT hE t4 t5 t6 hG' hL hst u w7 r90 d102 msk c19 s53 d1 d2 d3 d4 d5 d6 d8 d9 d10 d11 d12 d13 d14 d15 m8 h01 st0 st1 ha q75 q104 q90 xM qM m70 p70 c142 c53 hq3 sQ eU h12 x70 n220 k1 h13 k1' e75 hX g53 toQ3 hQQ qd hEp xf xx7 xb0 xb1 x142 z1 z2 z3 z4 z5 z6 b1 b2 b3 b4 b5 b6 hPD n102 hPp lkp g70 ho' hsp' hR hM hv h103' hc hsy hRT hE3 P3 xa3 b3' ha3 st3 pS3 m370 v32 k6 g102 dsr g225 g226 g220 g75 g75' hy hy01 S6 B4 qd4 hT3 hc' bdd toQ4 hE4 hT4 hx3 glt hq4 ey e4220 hen hE6 hq; lia), fun _ => rfl⟩ (by rw [B4.2.2.1]; (clear hsp ho hp h hl h103 hnR h19 hS hV hW hG hQ dq2 hT hVT hE t4 t5 t6 hG' hL hst u w7 r90 d102 msk c19 s53 d1 d2 d3 d4 d5 d6 d8 d9 d10 d11 d12 d13 d14 d15 m8 h01 st0 st1 ha q75 q104 q90 xM qM m70 p70 c142 c53 hq3 sQ eU h12 x70 n220 k1 h13 k1' e75 hX g53 toQ3 hQQ qd hEp xf xx7 xb0 xb1 x142 z1 z2 z3 z4 z5 z6 b1 b2 b3 b4 b5 b6 hPD n102 hPp lkp g70 ho' hsp' hR hM hv h103' hc hsy hRT hE3 P3 xa3 b3' ha3 st3 pS3 m370 v32 k6 g102 dsr g225 g226 g220 g75 g75' hy hy01 S6 B4 qd4 hT3 hc' bdd toQ4 hE4 hT4 hx3 glt hq4 ey e4220 hen hE6 hq; lia)) (B4.2.1 104 (by decide) (by decide)) (B4.2.1 90 (by decide) (by decide)) rfl hx3 hq4 e4220 hE6
        have xf6 : XF M3 (nX_ (M9_ b M3 o x4 mm)) := XF_tr M9_XF nX_XF
        have lk6 := LKP_F (b := b) xf6
        have lkM := LKP_tr lkp.1 (LKP_tr (LKP_P hR) lk6.1)
        refine hG F2 _ _ _ y P S6 (by rw [N8_i (by decide) (by decide) (by decide) (by decide), B4.2.2.1]; (clear hsp ho hp h hl h103 hnR h19 hS hV hW hG hQ dq2 hT hVT hE t4 t5 t6 hG' hL hst u w7 r90 d102 msk c19 s53 d1 d2 d3 d4 d5 d6 d8 d9 d10 d11 d13 d14 d15 m8 h01 st0 st1 ha q75 q104 q90 xM qM m70 p70 c142 c53 hq3 sQ eU h12 x70 k1 h13 k1' hX g53 toQ3 hQQ qd hEp xf xx7 xb0 xb1 x142 z1 z2 z4 z5 z6 b1 b2 b3 b4 b5 b6 hPD n102 hPp lkp g70 ho' hsp' hR hM hv h103' hc hsy hRT hE3 P3 xa3 b3' ha3 st3 pS3 m370 v32 k6 g102 dsr g225 g226 g75 hy hy01 S6 B4 qd4 hT3 hc' bdd toQ4 hE4 hT4 hx3 glt hq4 ey hen hE6 hq P xf6 lk6 lkM; lia)) hy01 N8_103 lkM (fun lm hlm => ?_) (fun V Kv Qtq hV hW hk => toQ4 V Kv Qtq hV hW fun V' hV' hW' => hq V' _ _ hV' hW' hk)
        have l1 := (LOK_s lkp.1 (LKP_tr (LKP_P hR) lk6.1) hlm).2
        have l2 := (LOK_s (LKP_P hR) lk6.1 l1).1
        have e2 := hsy lm l2
        rw [g70, lkp.2] at e2
        rw [elU_1 h19, gS_e h12, Option.bind_some, tS_e k1' h13, Option.bind_some, e2, Option.bind_some, hen, Option.bind_some, lk6.2]
      · exact hQ hb Mx' (XA_tr xa3 hx) (fun V Kv Qtq hV hW hk => toQ4 V Kv Qtq hV hW fun V' hV' hW' => hq V' _ _ hV' hW' (fun M' hsq => q_260s77 hV hW (SQ_q (QA_tr (PRD_Q P3) (QD_QA qd4)) hsq) hk))
    by_cases c : v = 0
    · rw [if_pos c]; rw [if_pos (.inr c)] at hy; rw [hy] at fin; exact fin
    · rw [if_neg c]
      by_cases c2 : x5 = 0
      · rw [if_pos c2]; rw [if_pos (.inl c2)] at hy; rw [hy] at fin; exact fin
      · rw [if_neg c2]; rw [if_neg (by (clear hsp ho hp h hl h103 hnR h19 hS hV hW hG hQ dq2 hT hVT hE t4 t5 t6 hG' hL hst u w7 r90 d102 msk c19 s53 d1 d2 d3 d4 d5 d6 d8 d9 d10 d11 d12 d13 d14 d15 m8 h01 st0 st1 ha q75 q104 q90 xM qM m70 p70 c142 c53 hq3 sQ eU h12 x70 n220 k1 h13 k1' e75 hX g53 toQ3 hQQ qd hEp xf xx7 xb0 xb1 x142 z1 z2 z3 z4 z5 z6 b1 b2 b3 b4 b5 b6 hPD n102 hPp lkp g70 ho' hsp' hR hM hv h103' hc hsy hRT hE3 P3 xa3 b3' ha3 st3 pS3 m370 v32 k6 g102 dsr g225 g220 g75 g75' hy hy01 S6 B4 qd4 hT3 hc' bdd toQ4 hE4 hT4 hx3 glt hq4 ey e4220 fin; lia))] at hy; rw [hy] at fin; exact fin
  · exact hQ hb Mx' (XA_tr (PRD_X hPD) hx) (fun V Kv Qtq hV hW hk => toQ3 V Kv Qtq hV hW (hstq V Kv Qtq hV hW (fun M' hsq => hk M' (SQ_q (PRD_Q hPD) hsq))))
end E3
end T157_e1
section T158_dw
/-! a decide: whole -/
/-- where a decide ends, with its semicolon -/
def dcU (κ : Int → Int) (pt : sj_ → Option sj_) (o : Int) (s : sj_) : Option sj_ := (dcT κ pt o s).bind fun s1 => (tS κ 259 s1.1).bind fun a2 => some (a2, s1.2)
/-- what holds behind a decide -/
def DGT [Inhabited gh_] (dq m : Nat) (st mk : Int) (T : vv_ → Prop) (b F : Int) (Mx Mq : mm_) (a0 o me : Int) (G : Int → mm_ → Prop) : Prop := ∀ F2 M6 N6 a6 v, PRC b F F2 Mx Mq M6 N6 a0 a6 o o me → SEM b Mx Mq M6 N6 v → Mq 6 75 < N6 6 75 → (v = 0 ∨ v = 1) → N6 6 103 = v → (∀ lm, LOK b lm Mx M6 → dcU (Mx 70) (PTj (Mx 70) lm m) o (a0, lc_ b Mx) = some (a6, lc_ b M6)) → RTq dq st mk me T 0 N6 → G v M6
/-- how far a decide's text is gone through -/
def DIN (m : Nat) (b : Int) (Mx M : mm_) (a0 a o x3 : Int) : Prop := ∀ lm, LOK b lm Mx M → dcT (Mx 70) (PTj (Mx 70) lm m) o (a0, lc_ b Mx) = (LQ (dcT1 (Mx 70) (PTj (Mx 70) lm m)) ((a, lc_ b M), x3)).bind (elT (Mx 70) (PTj (Mx 70) lm m))
section DW
variable {d dq m mm : Nat} {b F F' F2 : Int} {Mx Mq M N M' N' Ma : mm_} {a a0 o st mk me x1 x2 x3 x4 x5 x7 x8 x9 x10 x11 : Int} {K : Int → mm_ → Prop} {Kv : mm_ → Prop} {G : Int → mm_ → Prop} {Qt : qt_} {V : vv_} {T : vv_ → Prop}
theorem bind_n [Inhabited gh_] {α β : Type} {X : Option α} {f : α → Option β} (h : X.bind f ≠ none) : X ≠ none := fun e => h (by rw [e]; rfl)
theorem LOK_1 [Inhabited gh_] (hb : b = 1) : LOK b (LMT Mx) Mx M := ⟨fun h => by omega, fun _ => rfl⟩
theorem y_161x [Inhabited gh_] (hsp : SPART dq m) (ho : o = 11 - (m : Int)) (hp : PS b F Mx Mq a0 o me) (h : DHS b F F' Mx Mq M N a0 a o me x2 x3 x4 x5 mm) (hl : 0 ≤ N 222 (Mq 6 102)) (h103 : N 6 103 = 0) (hq3 : QP3 dq st mk me T N (Mq 6 102)) (hnR : ¬ isR (Mx 70) a)
    (hlk : LKP b Mx M) (hU : ∀ lm, LOK b lm Mx M → dcU (Mx 70) (PTj (Mx 70) lm m) o (a0, lc_ b Mx) = elU (Mx 70) (PTj (Mx 70) lm m) (a, lc_ b M))
    (hS : b = 1 → dcU (Mx 70) (PTj (Mx 70) (LMT Mx) m) o (a0, lc_ b Mx) ≠ none)
    (hV : Cl_ wd0 (Tr_ wd0 pg0 (9 * m + 24)) V (ri_ fun v M5 => Tr_ wd0 pg0 (d + 3) 121 [.inr (.inr 1), .inl 59] M5 (rv_ (G v)) Qt) Qt m_161) (hW : Wk_ V)
    (hG : DGT dq m st mk T b F Mx Mq a0 o me G)
    (hQ : b = 0 → ∀ Mx', XA Mx Mx' → STT dq T Mq Mx' → Qt 8 Mx') :
    XEND m V Qt x1 x2 x3 x5 x7 x8 x9 x10 x11 x4 M := by
  have dq2 := hp.2.2.2.2.2.2.2.1
  have hps : PS b F' M N a (o + 1) me := PS_D hp h.1 (by (clear hsp ho hp h hl h103 hq3 hnR hlk hU hS hV hW hG hQ dq2; lia)) ⟨by have := h.2.1; (clear hsp ho hp h hl h103 hq3 hnR hlk hU hS hV hW hG hQ; omega), by have := h.2.1; omega⟩
  have hE := PS_E hps
  have s53 := hps.2.2.2.2.2.2.2.2.2.2
  have st0 := ER_st hE
  have ha := ER_a hE
  have m70 : M 70 = Mx 70 := (PRD_X h.1).1 70 (by decide)
  have p70 : pX_ M 44 70 = Mx 70 := by rw [pX_r (by decide) (by decide)]; exact m70
  have hS' : b = 1 → elU (Mx 70) (PTj (Mx 70) (LMT Mx) m) (a, lc_ b M) ≠ none := fun hb => by have := hS hb; rw [hU _ (LOK_1 hb)] at this; exact this
  unfold XEND
  refine x_138 hps.1.2.1.1 st0.1 st0.2 ?_
  refine y_103 (ER_pX hE (by omega)) (fun c => ?_) (fun c => ?_)
  · rw [p70] at c
    rw [if_neg (by decide)]
    refine y_161e1 hsp ho hp h hl h103 hq3 hnR c hS' hV hW (fun F2 M6 N6 a6 v P S hlt hv h3 lk hsy hrt => ?_) hQ
    exact hG F2 M6 N6 a6 v P S hlt hv h3 (fun lm hlm => (hU lm (LOK_s hlk lk hlm).1).trans (hsy lm (LOK_s hlk lk hlm).2)) hrt
  · rw [p70] at c
    rw [if_pos rfl]
    refine y_161e0 hp h hl hq3 hnR c (fun hb => by have := hS' hb; rw [elU_0 c] at this; exact bind_n this) hV hW (fun M6 N6 P S hlt h3 hen lk hrt => ?_) hQ
    exact hG F' M6 N6 _ 0 P S hlt (.inl rfl) h3 (fun lm hlm => (hU lm (LOK_s hlk lk.1 hlm).1).trans (by rw [elU_0 c, hen, Option.bind_some, lk.2])) hrt
theorem DIN_s [Inhabited gh_] {y3 a3 : Int} (h : DIN m b Mx M a0 a o x3) (hlk : LKP b Mx M) (hlk2 : LKP b M M') (hsy : ∀ lm, LOK b lm M M' → LQ (dcT1 (Mx 70) (PTj (Mx 70) lm m)) ((a, lc_ b M), x3) = LQ (dcT1 (Mx 70) (PTj (Mx 70) lm m)) ((a3, lc_ b M'), y3)) : DIN m b Mx M' a0 a3 o y3 := fun lm hlm => by
  have q := LOK_s hlk hlk2 hlm
  have e := h lm q.1
  rw [hsy lm q.2] at e
  exact e
theorem DIN_e [Inhabited gh_] {a3 : Int} (h : DIN m b Mx M a0 a o x3) (hlk : LKP b Mx M) (hlk2 : LKP b M M') (hsy : ∀ lm, LOK b lm M M' → LQ (dcT1 (Mx 70) (PTj (Mx 70) lm m)) ((a, lc_ b M), x3) = some (a3, lc_ b M')) : ∀ lm, LOK b lm Mx M' → dcU (Mx 70) (PTj (Mx 70) lm m) o (a0, lc_ b Mx) = elU (Mx 70) (PTj (Mx 70) lm m) (a3, lc_ b M') := fun lm hlm => by
  have q := LOK_s hlk hlk2 hlm
  have e := h lm q.1
  rw [hsy lm q.2, Option.bind_some] at e
  unfold dcU
  rw [e]
  exact elU_e
theorem DIN_n [Inhabited gh_] (hb : b = 1) (h : DIN m b Mx M a0 a o x3) (hS : dcU (Mx 70) (PTj (Mx 70) (LMT Mx) m) o (a0, lc_ b Mx) ≠ none) : LQ (dcT1 (Mx 70) (PTj (Mx 70) (LMT Mx) m)) ((a, lc_ b M), x3) ≠ none := by
  unfold dcU at hS
  have q := bind_n hS
  rw [h _ (LOK_1 hb)] at q
  exact bind_n q
theorem y_161s [Inhabited gh_] (hsp : SPART dq m) (hm : m + 1 ≤ 12) (ho : o = 11 - (m : Int)) (hp : PS b F Mx Mq a0 o me) (h : DHS b F F' Mx Mq M N a0 a o me x2 x3 x4 x5 mm) (hpre : QPR dq st mk me T N) (hlk : LKP b Mx M) (hI : DIN m b Mx M a0 a o x3)
    (hS : b = 1 → dcU (Mx 70) (PTj (Mx 70) (LMT Mx) m) o (a0, lc_ b Mx) ≠ none)
    (hV : Cl_ wd0 (Tr_ wd0 pg0 (9 * m + 24)) V (ri_ fun v M5 => Tr_ wd0 pg0 (d + 3) 121 [.inr (.inr 1), .inl 59] M5 (rv_ (G v)) Qt) Qt m_161) (hW : Wk_ V)
    (hG : DGT dq m st mk T b F Mx Mq a0 o me G)
    (hQ : b = 0 → ∀ Mx', XA Mx Mx' → STT dq T Mq Mx' → Qt 8 Mx')
    (ih : ∀ F2 M4 N4 a3 y3 y4 y5, DHS b F F2 Mx Mq M4 N4 a0 a3 o me x2 y3 y4 y5 (mm + 1) → x3 < y3 → QPR dq st mk me T N4 → LKP b Mx M4 → DIN m b Mx M4 a0 a3 o y3 → V 50 [rr 1, ii x1, ii x2, ii y3, ii y4, ii y5, none, none, none, none, none, none, none] [] M4) :
    V 50 [rr 1, ii x1, ii x2, ii x3, ii x4, ii x5, none, none, none, none, none, none, none] [] M := by
  refine y_161b hsp hm ho hp h hpre (fun hb => DIN_n hb hI (hS hb)) hV hW (fun F2 M4 N4 a3 y3 y4 y5 y7 y8 y10 y11 hD hlt lk4 hsy hq3 haa h103 h222 => ⟨fun hR => ?_, fun hnR => ?_⟩) hQ
  · have dq2 := hp.2.2.2.2.2.2.2.1
    have hps : PS b F2 M4 N4 a3 (o + 1) me := PS_D hp hD.1 (by omega) ⟨by have := hD.2.1; omega, by have := hD.2.1; omega⟩
    have m70 : M4 70 = Mx 70 := (PRD_X hD.1).1 70 (by decide)
    refine ih F2 M4 N4 a3 y3 y4 y5 hD hlt ?_ (LKP_tr hlk lk4) (DIN_s hI hlk lk4 (fun lm hlm => (hsy lm hlm).trans (if_pos hR)))
    obtain ⟨k, hq3⟩ := hq3
    intro V Kv Qtq hV hW hk
    refine hq3 V Kv Qtq hV hW fun V' hV' hW' => j_292 hps.1.1 (PS_E hps) (fun _ => ?_) (fun c => absurd (by rw [m70]; exact hR) c)
    rw [if_neg (by decide)]
    exact Tr_le (d := dq + 13) (by (clear hsp hm ho hp h hpre hlk hI hS hG hQ ih hD hlt lk4 hsy haa h103 h222 hR dq2 hps m70 hq3 hV hW hk hV' hW'; omega)) (Tr_rc hk fun M3 h3 => rv_i (h3.2 h103))
  · exact y_161x hsp ho hp hD h222 h103 hq3 hnR (LKP_tr hlk lk4) (DIN_e hI hlk lk4 (fun lm hlm => (hsy lm hlm).trans (if_neg hnR))) hS hV hW hG hQ
theorem y_161l [Inhabited gh_] (hsp : SPART dq m) (hm : m + 1 ≤ 12) (ho : o = 11 - (m : Int)) (hp : PS b F Mx Mq a0 o me)
    (hS : b = 1 → dcU (Mx 70) (PTj (Mx 70) (LMT Mx) m) o (a0, lc_ b Mx) ≠ none)
    (hV : Cl_ wd0 (Tr_ wd0 pg0 (9 * m + 24)) V (ri_ fun v M5 => Tr_ wd0 pg0 (d + 3) 121 [.inr (.inr 1), .inl 59] M5 (rv_ (G v)) Qt) Qt m_161) (hW : Wk_ V)
    (hG : DGT dq m st mk T b F Mx Mq a0 o me G)
    (hQ : b = 0 → ∀ Mx', XA Mx Mx' → STT dq T Mq Mx' → Qt 8 Mx') : ∀ (n : Nat) (F' : Int) (M N : mm_) (a x3 x4 x5 : Int) (mm : Nat), 8 - x3 ≤ (n : Int) → DHS b F F' Mx Mq M N a0 a o me x2 x3 x4 x5 mm → QPR dq st mk me T N → LKP b Mx M → DIN m b Mx M a0 a o x3 → V 50 [rr 1, ii x1, ii x2, ii x3, ii x4, ii x5, none, none, none, none, none, none, none] [] M
  | 0, F', M, N, a, x3, x4, x5, mm, hn, h, hpre, hlk, hI => y_161s hsp hm ho hp h hpre hlk hI hS hV hW hG hQ (fun F2 M4 N4 a3 y3 y4 y5 hD hlt _ _ _ => by have := hD.2.2.1.2.2.1; omega)
  | n + 1, F', M, N, a, x3, x4, x5, mm, hn, h, hpre, hlk, hI => y_161s hsp hm ho hp h hpre hlk hI hS hV hW hG hQ (fun F2 M4 N4 a3 y3 y4 y5 hD hlt h1 h2 h3 => y_161l hsp hm ho hp hS hV hW hG hQ n F2 M4 N4 a3 y3 y4 y5 (mm + 1) (by omega) hD h1 h2 h3)
/-- a decide whole: X's 161 and the semicolon behind it, Q from its loop's head -/
theorem y_161 [Inhabited gh_] (hsp : SPART dq m) (hm : m + 1 ≤ 12) (ho : o = 11 - (m : Int)) (hp : PS b F Mx Mq a0 o me) (hP : PXL b Mx Ma [Mx 71 a0, 30]) (hk : Mx 70 a0 = 18)
    (hS : b = 1 → dcU (Mx 70) (PTj (Mx 70) (LMT Mx) m) o (a0, lc_ b Mx) ≠ none)
    (hG : DGT dq m st mk T b F Mx Mq a0 o me G)
    (hQ : b = 0 → ∀ Mx', XA Mx Mx' → STT dq T Mq Mx' → Qt 8 Mx')
    (hq0 : ∀ (V : vv_) (Kv : mm_ → Prop) (Qt : qt_), Cl_ wd0 (Tr_ wd0 pg0 (dq + 15)) V (rv_ Kv) Qt m_260 → Wk_ V → Tr_ wd0 pg0 (dq + 15) 269 [.inr (.inr 6)] Mq (rv_ fun M3 => V 77 (LSz st mk me 0) [] (up_ M3 6 103 0)) Qt → T V) :
    Tr_ wd0 pg0 (9 * m + 25) 161 [.inr (.inr 1)] Ma (ri_ fun v M5 => Tr_ wd0 pg0 (d + 3) 121 [.inr (.inr 1), .inl 59] M5 (rv_ (G v)) Qt) Qt := by
  refine t_161 fun V hV hW => y_161h (dq := dq) hm ho hp hP hk (pt := PTj (Mx 70) (LMT Mx) m) (j := lc_ b Mx) (fun hb => bind_n (by have := hS hb; unfold dcU at this; exact this)) hV hW (fun M1 N1 a1 x1 x2 hD hxf hsy hq => ?_) (fun hb Mx' hx hq => ?_)
  · have lk1 := LKP_F (b := b) hxf
    refine y_161l hsp hm ho hp hS hV hW hG hQ 8 F M1 N1 a1 0 (-1) 1 0 (by decide) hD (fun V Kv Qtq hV hW h => hq0 V Kv Qtq hV hW (hq _ _ (Tr_rc h fun M3 h3 => h3.1))) lk1.1 (fun lm _ => ?_)
    rw [lk1.2]
    exact hsy _
  · exact hQ hb Mx' hx (fun V Kv Qtq hV hW hk => hq0 V Kv Qtq hV hW (hq _ _ fun M' hsq => q_260s77 hV hW (SQ_103 hsq) hk))
end DW
end T158_dw
section T159_pt
/-! parts: small steps -/
section P1
variable {d dq n : Nat} {b F F' : Int} {Mx Mq M N Mx1 Mq1 Mx2 Mq2 : mm_} {a a' o x st mk me x1 x2 x3 x4 x5 x6 v : Int} {K : Int → mm_ → Prop} {Kv : mm_ → Prop} {Qt : qt_} {V : vv_}
theorem y_135 [Inhabited gh_] (hE : ER b F Mx Mq a o) (ht : isL (Mx 70) a → K 1 Mx) (hf : ¬ isL (Mx 70) a → K 0 Mx) : Tr_ wd0 pg0 (d + 2) 135 [.inr (.inr 1)] Mx (ri_ K) Qt := by
  refine t_135 fun V hV hW => b_135_0 (Tr_mono _) hV hW Mx ?_
  refine y_103 hE (fun c => ?_) (fun c1 => ?_)
  · rw [if_neg (by decide)]; exact ⟨.inr rfl, ri_i (ht (by (clear hE ht hf hV hW; lia)))⟩
  rw [if_pos rfl]
  refine y_103 hE (fun c => ?_) (fun c2 => ?_)
  · rw [if_neg (by decide)]; exact ⟨.inr rfl, ri_i (ht (by (clear hE ht hf hV hW c1; lia)))⟩
  rw [if_pos rfl]
  refine y_103 hE (fun c => ?_) (fun c3 => ?_)
  · rw [if_neg (by decide)]; exact ⟨.inr rfl, ri_i (ht (by omega))⟩
  rw [if_pos rfl]
  exact ⟨.inl rfl, ri_i (hf (by omega))⟩
theorem y_134 [Inhabited gh_] (hE : ER b F Mx Mq a o) (ht : isA (Mx 70) a ∨ isL (Mx 70) a → K 1 Mx) (hf : ¬ isA (Mx 70) a → ¬ isL (Mx 70) a → K 0 Mx) : Tr_ wd0 pg0 (d + 3) 134 [.inr (.inr 1)] Mx (ri_ K) Qt := by
  refine t_134 fun V hV hW => b_134_0 (Tr_mono _) hV hW Mx ?_
  refine y_103 hE (fun c => ?_) (fun c1 => ?_)
  · rw [if_neg (by decide)]; exact ⟨.inr rfl, ri_i (ht (by (clear hE ht hf hV hW; lia)))⟩
  rw [if_pos rfl]
  refine y_103 hE (fun c => ?_) (fun c2 => ?_)
  · rw [if_neg (by decide)]; exact ⟨.inr rfl, ri_i (ht (by omega))⟩
  rw [if_pos rfl]
  refine y_103 hE (fun c => ?_) (fun c3 => ?_)
  · rw [if_neg (by decide)]; exact ⟨.inr rfl, ri_i (ht (by omega))⟩
  rw [if_pos rfl]
  refine y_103 hE (fun c => ?_) (fun c4 => ?_)
  · rw [if_neg (by decide)]; exact ⟨.inr rfl, ri_i (ht (by omega))⟩
  rw [if_pos rfl]
  refine y_103 hE (fun c => ?_) (fun c5 => ?_)
  · rw [if_neg (by decide)]; exact ⟨.inr rfl, ri_i (ht (by omega))⟩
  rw [if_pos rfl]
  refine y_103 hE (fun c => ?_) (fun c6 => ?_)
  · rw [if_neg (by decide)]; exact ⟨.inr rfl, ri_i (ht (by omega))⟩
  rw [if_pos rfl]
  refine y_135 hE (fun c => ?_) (fun c => ?_)
  · rw [if_neg (by decide)]; exact ⟨.inr rfl, ri_i (ht (.inr c))⟩
  · rw [if_pos rfl]; exact ⟨.inl rfl, ri_i (hf (by omega) c)⟩
theorem y_136 [Inhabited gh_] (hE : ER b F Mx Mq a o) (ht : isN (Mx 70) a → K 1 Mx) (hf : ¬ isN (Mx 70) a → K 0 Mx) : Tr_ wd0 pg0 (d + 2) 136 [.inr (.inr 1)] Mx (ri_ K) Qt := by
  have ha := ER_a hE
  refine t_136 fun V hV hW => b_136_0 (Tr_mono _) hV hW Mx ?_
  refine y_103 hE (fun c => ?_) (fun c => ?_)
  · rw [if_neg (by decide), hE.2.1, w32_id (by (clear hE ht hf hV hW c; omega)) (by omega)]
    refine ⟨by (clear hE ht hf hV hW c; omega), ?_⟩
    by_cases c2 : Mx 70 (a + 1) = 258
    · rw [if_pos c2]; exact ⟨.inr rfl, ri_i (ht ⟨c, c2⟩)⟩
    · rw [if_neg c2]; exact ⟨.inl rfl, ri_i (hf (fun h => c2 h.2))⟩
  · rw [if_pos rfl]; exact ⟨.inl rfl, ri_i (hf (fun h => c h.1))⟩
/-- an act at the last token: X -/
theorem x_143z [Inhabited gh_] (hE : ER b F Mx Mq a o) (hb : b = 0) (hk : Mx 70 a = 100) (h12 : a = 1200) (h : Qt 8 (flX_ Mx 2 a)) : Tr_ wd0 pg0 (d + 6) 143 [.inr (.inr 1)] Mx (ri_ K) Qt := by
  refine t_143 fun V hV hW => b_143_0 (Tr_mono _) hV hW Mx ?_
  refine y_103 hE (fun c => ?_) (fun c => absurd hk c)
  rw [if_neg (by decide)]
  refine t_144 fun V hV hW => b_144_0 (Tr_mono _) hV hW Mx ?_
  exact y_107 hE (fun hb1 => by omega) (fun _ h => by (clear hE hb hk c hV hW; omega)) (fun _ _ _ => h) (fun _ c => absurd hk c)
/-- a name at the last token: Q -/
theorem q_92z [Inhabited gh_] {Mx' : mm_} (hT : Tks M N) (hE : ER b F M N a o) (hb : b = 0) (hk : M 70 a = 100) (h12 : a = 1200) (hq : QA Mq N) (e4 : Mx' 1 4 = 2) (e5 : Mx' 1 5 = M 71 a ∧ 0 ≤ Mx' 1 7 ∧ Mx' 1 7 ≤ 1000001000 - (gg_ : Int)) (hV : Cl_ wd0 (Tr_ wd0 pg0 (d + 6)) V (rv_ Kv) Qt m_260) (hW : Wk_ V) (h : ∀ M', SQ Mx' Mq M' → Kv M') : V 92 [rr 6, ii x1, ii x2, ii x3, ii 0, ii 1, ii x6] [] N := by
  have hsp := SQ_bf hE hb (k := 2) (by decide) hq
  have hsp' : SQ Mx' Mq (bf_ N 2 (M 71 a)) := ⟨hsp.1, hsp.2.1, by rw [e4]; unfold bf_; rw [up_off (by decide), up_at], ⟨by rw [e5.1]; unfold bf_; rw [up_at], e5.2⟩, hsp.2.2.2.2⟩
  obtain ⟨g1, g2, g3, g4, g5, g6⟩ := ER_k hT hE
  refine b_260_92 (Tr_mono _) hV hW _ _ _ _ _ _ _ ?_
  rw [if_pos rfl]
  refine q_227g (ER_goq hE) ?_
  rw [if_pos rfl]
  have act : V 122 [rr 6, ii x1, ii x2, ii x3, ii 0, ii 1, ii x6] [] N := by
    refine q_158 (d := d + 4) hT hE (fun _ => by (clear hT hE hb h12 hq e4 e5 hV hW h hsp hsp' g1 g2 g3 g4 g5 g6; lia)) hV hW (q_158a (d := d + 4) hT hE (by omega) (.inl hk) hV hW ?_)
    refine t_296 fun V2 hV2 hW2 => b_296_0 (Tr_mono _) hV2 hW2 _ ⟨g3, ?_⟩
    refine j_228f hT hE (by decide) (by omega) ?_
    rw [if_pos rfl]
    refine j_228f hT hE (by decide) (by omega) ?_
    rw [if_pos rfl]
    refine j_228f hT hE (by decide) (by omega) ?_
    rw [if_pos rfl]
    refine j_228f hT hE (by decide) (by omega) ?_
    rw [if_pos rfl]
    refine t_302 fun V3 hV3 hW3 => b_302_0 (Tr_mono _) hV3 hW3 _ _ (j_233r hT hE hb hk h12 (q_227s hsp.1 ?_))
    rw [if_neg (by decide)]
    exact rv_i (rv_i (q_260s77 hV hW (SQ_103 hsp') h))
  have lab : Tr_ wd0 pg0 (d + 6) 262 [.inr (.inr 6), .inl x3] N (rv_ fun M3 => V 92 [rr 6, ii x1, ii x2, ii x3, ii 0, ii 1, ii 1] [] M3) Qt := by
    refine t_262 fun V2 hV2 hW2 => b_262_0 (Tr_mono _) hV2 hW2 _ _ (j_233r hT hE hb hk h12 (q_227s hsp.1 ?_))
    rw [if_neg (by decide)]
    exact rv_i (q_260s92 hV hW hsp' h)
  refine t_261 fun V2 hV2 hW2 => b_261_0 (Tr_mono _) hV2 hW2 _ ⟨g3, ?_⟩
  have e12 : N 6 12 = a := hE.2.2.1
  have r1 : ri_ (fun v2 M2 => if v2 = 0 then V 122 [rr 6, ii x1, ii x2, ii x3, ii 0, ii 1, ii x6] [] M2 else Tr_ wd0 pg0 (d + 6) 262 [.inr (.inr 6), .inl x3] M2 (rv_ fun M3 => V 92 [rr 6, ii x1, ii x2, ii x3, ii 0, ii 1, ii 1] [] M3) Qt) [.inl 1] N := ri_i (by rw [if_neg (by decide)]; exact lab)
  have r0 : ri_ (fun v2 M2 => if v2 = 0 then V 122 [rr 6, ii x1, ii x2, ii x3, ii 0, ii 1, ii x6] [] M2 else Tr_ wd0 pg0 (d + 6) 262 [.inr (.inr 6), .inl x3] M2 (rv_ fun M3 => V 92 [rr 6, ii x1, ii x2, ii x3, ii 0, ii 1, ii 1] [] M3) Qt) [.inl 0] N := ri_i (by rw [if_pos rfl]; exact act)
  rw [e12, w32_id (by (clear hT hE hb hk hq e4 e5 hV hW h hsp hsp' g1 g2 g3 g4 g5 g6 act lab hV2 hW2 e12 r1 r0; lia)) (by omega)]
  have b1 : 0 ≤ a + 1 ∧ a + 1 < 1202 := by omega
  by_cases c1 : N 149 a = 1
  · rw [if_pos c1]
    refine ⟨b1, ?_⟩
    by_cases c2 : N 149 (a + 1) = 3
    · rw [if_pos c2]
      refine ⟨b1, ?_⟩
      by_cases c3 : (if N 151 (a + 1) < 58 then (-1 : Int) else if N 151 (a + 1) = 58 then 0 else 1) = 0
      · rw [if_pos c3]; exact ⟨.inr rfl, r1⟩
      · rw [if_neg c3]; exact ⟨.inl rfl, r0⟩
    · rw [if_neg c2]; exact ⟨.inl rfl, r0⟩
  · rw [if_neg c1]; exact ⟨.inl rfl, r0⟩
theorem PRC_103 [Inhabited gh_] (hp : PS b F M N a o me) : PRC b F F M N M (up_ N 6 103 v) a a o o me := by
  have e : ∀ r : Nat, r ≠ 6 → up_ N 6 103 v r = N r := fun r h => up_ne h
  have e6 : ∀ i : Int, i ≠ 103 → up_ N 6 103 v 6 i = N 6 i := fun i h => up_off h
  refine ⟨⟨Int.le_refl _, fun _ => rfl⟩, ER_Q (PS_E hp) (e6 _ (by decide)) (e6 _ (by decide)) (e6 _ (by decide)) (e6 _ (by decide)) (e6 _ (by decide)), ⟨XA_rf, QA_u6 (by decide)⟩, ⟨⟨fun _ _ _ => rfl, fun r i hr _ _ => by rw [e r (fun h => absurd hr (by rw [h]; decide))], fun _ _ _ => by rw [e 209 (by decide)], fun _ _ _ => by rw [e 227 (by decide), e 228 (by decide)]; exact ⟨rfl, rfl⟩, fun r i hr _ _ => by rw [e r (fun h => absurd hr (by rw [h]; decide))], fun r i hr _ _ => by rw [e r (fun h => absurd hr (by rw [h]; decide))], e6 _ (by decide)⟩, fun _ _ => ⟨rfl, rfl, rfl⟩, fun _ _ => by rw [e 213 (by decide), e 214 (by decide)]; exact ⟨rfl, rfl⟩, fun _ _ => by rw [e 175 (by decide)]; exact ⟨rfl, rfl⟩, fun _ _ => by rw [e 180 (by decide), e 187 (by decide), e 188 (by decide), e 189 (by decide)]; exact ⟨⟨rfl, rfl⟩, rfl, rfl, rfl, rfl⟩⟩, ⟨by (clear hp e e6; lia), by rw [e6 75 (by decide)]; omega, by rw [e6 104 (by decide)]; omega, ⟨by omega, by omega, fun _ => rfl⟩, by rw [e6 90 (by decide)]; omega, by omega⟩, LBT_c hp.2.2.1 XA_rf (QA_u6 (by decide)) rfl rfl (e _ (by decide)) (e _ (by decide)) (e _ (by decide)) (Int.le_refl _), ?_, ⟨Int.le_refl _, fun _ => rfl, fun _ => ⟨rfl, rfl, e _ (by decide), e _ (by decide), e _ (by decide), fun l x y => by omega, fun l _ _ => ⟨fun h => .inl h, fun h => h.elim (fun h => h) (fun h => by omega)⟩⟩⟩⟩
  have := hp.2.2.2.2.2.2.2.2.1
  unfold MSK at this ⊢
  rw [e 213 (by decide), e 214 (by decide)]
  exact this
theorem tc_103 [Inhabited gh_] {T : Int} : tc_ T N (up_ N 6 103 v) := by
  refine ⟨⟨?_, ?_, ?_, ?_, ?_⟩, ?_, ?_, ?_, ?_, ?_, ?_, ?_, ?_⟩
  all_goals first
    | exact up_ne (by decide)
    | exact up_off (by decide)
    | rw [up_ne (by decide)]
theorem SEM_103 [Inhabited gh_] (h : SEM b Mx Mq M N x) : SEM b Mx Mq M (up_ N 6 103 v) x := by
  intro hb h0
  have e : ∀ r : Nat, r ≠ 6 → up_ N 6 103 v r = N r := fun r h => up_ne h
  have e6 : ∀ i : Int, i ≠ 103 → up_ N 6 103 v 6 i = N 6 i := fun i h => up_off h
  rw [e6 13 (by decide)] at h0
  obtain ⟨q0, sg, sb⟩ := h hb h0
  refine ⟨q0, ?_, ?_⟩
  · rw [e6 75 (by decide), e6 90 (by decide), e6 104 (by decide)]
    exact SEG_c sg (fun _ _ _ => rfl) (fun _ _ _ => by rw [e 216 (by decide), e 217 (by decide), e 218 (by decide), e 219 (by decide)]; exact ⟨rfl, rfl, rfl, rfl⟩) (fun r i hr _ _ => by rw [e r (fun h => absurd hr (by rw [h]; decide))]) (fun _ _ _ => by rw [e 209 (by decide)]) (fun _ _ _ => by rw [e 227 (by decide), e 228 (by decide)]; exact ⟨rfl, rfl⟩) tc_103 (Int.le_refl _) (fun _ _ _ => by rw [e 188 (by decide)]; exact ⟨rfl, rfl⟩)
  · unfold SBS
    rw [e6 75 (by decide), e 203 (by decide), e 205 (by decide)]
    exact sb
end P1
end T159_pt
section T160_sd
/-! what is said of a decide, for every number of brackets still to be opened -/
def dcV (κ : Int → Int) (lm : Int → Int → Bool) (n : Nat) (s : sj_) : Option sj_ := (DCj κ lm n s).bind fun s1 => (tS κ 259 s1.1).bind fun a2 => some (a2, s1.2)
def SDEC [Inhabited gh_] (dq n : Nat) : Prop := ∀ (b F : Int) (Mx Mq Ma : mm_) (a me st mk : Int) (T : vv_ → Prop) (G : Int → mm_ → Prop) (Qt : qt_), PS b F Mx Mq a (12 - (n : Int)) me → PXL b Mx Ma [Mx 71 a, 30] → Mx 70 a = 18 → (b = 1 → dcV (Mx 70) (LMT Mx) n (a, lc_ b Mx) ≠ none)
  → (∀ F2 M6 N6 a6 v, PRC b F F2 Mx Mq M6 N6 a a6 (12 - (n : Int)) (12 - (n : Int)) me → SEM b Mx Mq M6 N6 v → Mq 6 75 < N6 6 75 → (v = 0 ∨ v = 1) → N6 6 103 = v → (∀ lm, LOK b lm Mx M6 → dcV (Mx 70) lm n (a, lc_ b Mx) = some (a6, lc_ b M6)) → RTq dq st mk me T 0 N6 → G v M6)
  → (b = 0 → ∀ Mx', XA Mx Mx' → STT dq T Mq Mx' → Qt 8 Mx')
  → (∀ (V : vv_) (Kv : mm_ → Prop) (Qt : qt_), Cl_ wd0 (Tr_ wd0 pg0 (dq + 15)) V (rv_ Kv) Qt m_260 → Wk_ V → Tr_ wd0 pg0 (dq + 15) 269 [.inr (.inr 6)] Mq (rv_ fun M3 => V 77 (LSz st mk me 0) [] (up_ M3 6 103 0)) Qt → T V)
  → Tr_ wd0 pg0 (9 * n + 16) 161 [.inr (.inr 1)] Ma (ri_ fun v M5 => Tr_ wd0 pg0 (9 * n + 16) 121 [.inr (.inr 1), .inl 59] M5 (rv_ (G v)) Qt) Qt
section SD
variable {dq m : Nat}
theorem dcV_s [Inhabited gh_] {κ : Int → Int} {lm : Int → Int → Bool} {s : sj_} : dcV κ lm (m + 1) s = dcU κ (PTj κ lm m) (11 - (m : Int)) s := rfl
theorem dcV_0 [Inhabited gh_] {κ : Int → Int} {lm : Int → Int → Bool} {s : sj_} : dcV κ lm 0 s = none := by
  unfold dcV
  have e : DCj κ lm 0 s = none := by
    show dcT κ (fun _ => none) 12 s = none
    unfold dcT; rw [if_pos rfl]
  rw [e, Option.bind_none]
theorem SDEC_s [Inhabited gh_] (hsp : SPART dq m) (hm : m + 1 ≤ 12) : SDEC dq (m + 1) := by
  intro b F Mx Mq Ma a me st mk T G Qt hp hP hk hS hG hQ hq0
  have e1 : (12 : Int) - ((m + 1 : Nat) : Int) = 11 - (m : Int) := by omega
  rw [e1] at hp hG
  have e2 : 9 * (m + 1) + 16 = 9 * m + 22 + 3 := by (clear hsp hm hp hP hk hS hG hQ hq0 e1; lia)
  rw [e2]
  refine Tr_le (d := 9 * m + 25) (by (clear hsp hm hp hP hk hS hG hQ hq0 e1 e2; omega)) (y_161 (dq := dq) (st := st) (mk := mk) (T := T) hsp hm rfl hp hP hk hS (fun F2 M6 N6 a6 v h1 h2 h3 h4 h5 h6 h7 => hG F2 M6 N6 a6 v h1 h2 h3 h4 h5 h6 h7) hQ hq0)
theorem SDEC_0 [Inhabited gh_] : SDEC dq 0 := by
  intro b F Mx Mq Ma a me st mk T G Qt hp hP hk hS hG hQ hq0
  have hE0 := PS_E hp
  have o12 : (12 : Int) - ((0 : Nat) : Int) = 12 := by omega
  rw [o12] at hE0
  have hT := hp.1.1
  have hb : b = 0 := by
    rcases bl01 hE0 with hb | hb
    · exact hb
    · exact absurd dcV_0 (hS hb)
  have eM : Ma = Mx := hP.2.2.1 hb
  rw [eM]
  obtain ⟨q1, q2, q3, q4, q5, q6⟩ := ER_k hT hE0
  have hsp0 := SQ_bf hE0 hb (k := 2) (by decide) QA_rf
  have e6 : ∀ i : Int, i ≠ 15 → bf_ (up_ Mq 6 15 13) 2 (Mx 71 a) 6 i = bf_ Mq 2 (Mx 71 a) 6 i := fun i hi => by
    unfold bf_
    by_cases c1 : i = 14
    · rw [c1, up_at, up_at]
    · rw [up_off c1, up_off c1]
      by_cases c2 : i = 13
      · rw [c2, up_at, up_at]
      · rw [up_off c2, up_off c2, up_off hi]
  have hsp : SQ (flX_ Mx 2 a) Mq (bf_ (up_ Mq 6 15 13) 2 (Mx 71 a)) := by
    refine ⟨⟨by rw [e6 13 (by decide)]; exact hsp0.1.1, by rw [e6 16 (by decide)]; exact hsp0.1.2⟩, by unfold in9_; rw [e6 12 (by decide)]; exact hsp0.2.1, by rw [e6 13 (by decide)]; exact hsp0.2.2.1, ⟨by rw [e6 14 (by decide)]; exact hsp0.2.2.2.1.1, hsp0.2.2.2.1.2⟩, ?_⟩
    exact QA_tr (QA_u6 (by decide)) (QA_tr (QA_u6 (by decide)) (QA_u6 (by decide)))
  refine t_161 fun V hV hW => b_161_0 (Tr_mono _) hV hW Mx ?_
  refine y_118 hE0 (fun hb1 => by (clear hp hP hk hS hG hQ hq0 hE0 o12 hT eM q1 q2 q3 q4 q5 q6 hsp0 e6 hsp hV hW; lia)) (fun h _ => by omega) (fun _ _ => ?_)
  refine hQ hb _ (XF_XA fl_XF) (fun V Kv Qtq hV hW hk9 => hq0 V Kv Qtq hV hW ?_)
  refine t_269 fun V2 hV2 hW2 => b_269_0 (Tr_mono _) hV2 hW2 Mq ⟨q3, ?_⟩
  refine q_240r (ER_ok hE0 hb) q3 (by rw [hE0.2.2.2.2.1]) ?_
  rw [q2]
  refine q_250s hsp.1 (q_270s hsp.1 (q_227s hsp.1 ?_))
  rw [if_neg (by decide)]
  exact rv_i (q_260s77 hV hW (SQ_103 hsp) hk9)
end SD
end T160_sd
