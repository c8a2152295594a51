section T366_pl
/-! the run: all plain acts -/
section PLx
variable {z : Int} {M N M' N' M1 N1 : mm_} {σ : Int → Int} {k e s x2 y2 v n bp T c c' c1 c2 f fe op m : Int}
theorem VALle [Inhabited fz_] : ∀ (n : Nat) (c1 : Int), VAL M N T fe σ k n c c1 → c ≤ c1
  | 0, c1, h => by rw [show c1 = c from h]; exact Int.le_refl _
  | n + 1, c1, ⟨c9, h, hE⟩ => by
    have := VALle n c9 h
    have := EXP_0 hE
    omega
theorem bo_2 [Inhabited fz_] (hW : WST z 0 M N s) (hT : M 11 s = T) (hk : 0 ≤ k ∧ k < 1300) (hc0 : 0 ≤ c) (hc : c2 ≤ 11800) (hfe : fe ≤ 2900) (h203 : N 203 k = 2) (hsg : 0 ≤ N 205 k ∧ N 205 k < 20) (h17 : N 205 k < N 6 17) (h210 : (0 ≤ N 210 k ∧ N 210 k ≤ 3) ∧ N 210 k = N 156 (N 205 k)) (hV : VAL (swc M) (tbN N) T fe (fun i => N 157 (3 * N 205 k + i)) k (N 210 k).toNat c c1)
    (hm : (m = 0 ∧ c2 = c1 ∧ N 206 k = -1 ∧ N 207 k = -1) ∨ (m = 1 ∧ N 207 k = -1 ∧ EXP (swc M) (tbN N) T c1 c2 (N 206 k) fe 3) ∨ (m = 2 ∧ c2 = c1 ∧ N 206 k = -1 ∧ 0 ≤ N 207 k ∧ N 207 k < N 6 18)) (hx : M 109 c2 = 33) (hx1 : M 109 (c2 + 1) = N 205 k) (hx2 : M 109 (c2 + 2) = N 210 k) (hx3 : M 109 (c2 + 3) = m) (hx4 : M 109 (c2 + 4) = N 207 k) : BOD z T bp M N s x2 k c (c2 + 5) := by
  have hcc := VALle _ _ hV
  obtain ⟨w1, w2, w3, w4, w5, w6⟩ := id hW
  have n12 := w1.1.1
  have h12 : c1 ≤ c2 := by
    rcases hm with h | h | h
    · (clear hW hT hk hc0 hc hfe h203 hsg h17 h210 hV hx hx1 hx2 hx3 hx4 hcc w1 w2 w3 w4 w5 w6 n12; omega)
    · have := EXP_0 h.2.2; omega
    · (clear hW hT hk hc0 hc hfe h203 hsg h17 h210 hV hx hx1 hx2 hx3 hx4 hcc w1 w2 w3 w4 w5 w6 n12; omega)
  rcases j_val hW hT hk hfe h210.1 (by omega) hV with ⟨A', N1, x1, q1, qv, vs, vz⟩ | ⟨e, M1, N1, he, x1, fx, kp, e49, q1, qv⟩
  · rcases hm with ⟨m0, e2, e6, e7⟩ | ⟨m1, e7, hE⟩ | ⟨m2, e2, e6, e7⟩
    · subst e2; exact bo_2a hW hT hk ⟨hc0, hcc, hc⟩ h203 hsg h17 h210 x1 q1 qv vs vz (.inl ⟨m0, e6, e7⟩) hx hx1 hx2 hx3 hx4
    · subst m1; exact bo_2b hW hT hk ⟨hc0, by (clear hW hT hk hc0 hc hfe h203 hsg h17 h210 hV hx hx1 hx2 hx4 w1 w2 w3 w4 w5 w6 n12 x1 q1 qv vs vz e7 hE hx3; omega), hc⟩ h203 hsg h17 h210 x1 q1 qv vs vz hfe (EXP_0 hE).2.2.1 hE hx hx1 hx2 hx3 hx4
    · subst e2; exact bo_2a hW hT hk ⟨hc0, hcc, hc⟩ h203 hsg h17 h210 x1 q1 qv vs vz (.inr ⟨m2, e6, e7⟩) hx hx1 hx2 hx3 hx4
  · refine .inr ⟨e, M1, N1, by (clear hW hT hk hc0 hc hfe h203 hsg h17 h210 hV hm hx hx1 hx2 hx3 hx4 hcc w1 w2 w3 w4 w5 w6 n12 h12 x1 fx kp e49 q1 qv; omega), xw_e1 (by omega) (fun Qr Qt g => x_15s fun V hV hW => x1 c V Qr Qt hV hW g), ⟨e49, kp.2⟩, q350_2 (by (clear hW hT hk hc0 hc hfe h203 hsg h17 h210 hV hm hx hx1 hx2 hx3 hx4 hcc w1 w2 w3 w6 h12 he x1 fx kp e49 q1 qv; lia)) hk h203 (fun Qr Qt g => t_356 fun V hV hW => b_356_0 (Tr_mono _) hV hW _ _ _ (q1 _ _ (ri_i ?_))), RU_ef (RU_qv w1 qv) fx EFQ_rf, TYA_qv w3 qv, ⟨XRF_ef fx, QRF_qv qv⟩, fx.2 7 (by decide) (by decide) (by decide) (by decide) (by decide), fx.2 8 (by decide) (by decide) (by decide) (by decide) (by decide)⟩
    rw [if_neg (by (clear hT hk hc0 hc hfe h203 hsg h17 h210 hm hx hx1 hx2 hx3 hx4 hcc w1 w2 w3 w4 w5 w6 n12 h12 x1 fx kp e49 q1 qv g hV hW; omega))]; exact g
theorem bo_all [Inhabited fz_] (hW : WST z 0 M N s) (hT : M 11 s = T) (hk : 0 ≤ k ∧ k < 1300) (hc0 : 0 ≤ c) (hc : c' ≤ 11800) (hfe : fe ≤ 2900) (hO : OPC (swc M) (tbN N) T k c c' fe) (h5 : N 203 k ≤ 5) (h8 : M 0 8 < 2000000000) : BOD z T bp M N s x2 k c c' := by
  obtain ⟨w1, w2, w3, w4, w5, w6⟩ := id hW
  have hin := w1.1.2.2.1 s w4.1 w4.2
  have hT19 := hin.2.1.2.1
  rw [hT] at hT19
  have pt := PT_of w2 hT19
  unfold PTY at pt
  rw [tbN_r (q := 173) (by decide) (by decide)] at pt
  have t3 := pt.2.2.1.2.2.2.1.2.2
  have p17 := w2.1.1
  rw [tbN_6 (by decide)] at p17
  unfold OPC at hO
  rw [swc_109, tbN_6 (i := 17) (by decide), tbN_6 (i := 18) (by decide), tbN_6 (i := 19) (by decide), tbN_r (q := 203) (by decide) (by decide), tbN_r (q := 205) (by decide) (by decide), tbN_r (q := 206) (by decide) (by decide), tbN_r (q := 207) (by decide) (by decide), tbN_r (q := 210) (by decide) (by decide), tbN_r (q := 156) (by decide) (by decide), tbN_r (q := 157) (by decide) (by decide), tbN_r (q := 170) (by decide) (by decide), tbN_r (q := 171) (by decide) (by decide), tbN_r (q := 173) (by decide) (by decide), tbN_r (q := 182) (by decide) (by decide), tbN_r (q := 183) (by decide) (by decide), tbN_r (q := 184) (by decide) (by decide)] at hO
  rcases hO with ⟨o1, o2, c1, o3, o4, o5⟩ | ⟨o1, o2, o3, o4, o5, c1, c2, m, o6, o7, o8, o9, o10, o11, o12, o13⟩ | ⟨o1, o2, c1, o3, o4, o5, o6⟩ | ⟨o1, o2, o3, o4, o5⟩ | ⟨o1, o2, o3, o4, o5, c1, o6, o7, o8, o9, o10⟩ | ⟨o1, _⟩ | ⟨o1, _⟩ | ⟨o1, _⟩
  · rcases o5 with ⟨p1, p2, p3, p4⟩ | ⟨c0, p1, p2, p3, p4, p5, p6⟩
    · rw [o4]; exact bo_1a hW hT hk (by (clear hW hT hk hc0 hfe h5 h8 w1 w2 w3 w4 w5 w6 hin hT19 pt t3 p17 o1 o2 o3 p1 p2 p3 p4; omega)) hfe o1 o2 p1 p2 p3 p4 o3
    · rw [o4]; exact bo_1b hW hT hk (by (clear hW hT hk hc0 hfe h5 h8 w1 w2 w3 w4 w5 w6 hin hT19 pt t3 p17 o1 o2 o3 p1 p2 p3 p4 p5 p6; omega)) hfe o1 o2 p1 p2 p3 p4 p5 p6 o3
  · rw [o13]; exact bo_2 hW hT hk hc0 (by (clear hW hT hk hc0 hfe h5 h8 w1 w2 w3 w4 w5 w6 hin hT19 pt t3 p17 o1 o2 o3 o4 o5 o6 o7 o8 o9 o10 o11 o12; omega)) hfe o1 (by (clear hW hT hk hc0 hc hfe h5 h8 w1 w2 w3 w4 w5 w6 hin hT19 pt t3 o1 o3 o4 o5 o6 o7 o8 o10 o11 o12 o13; omega)) (by (clear hW hT hk hc0 hc hfe h5 h8 w1 w2 w3 w4 w5 w6 hin hT19 pt t3 p17 o1 o3 o4 o5 o6 o7 o8 o10 o11 o12 o13; omega)) ⟨⟨o3, o4⟩, o5⟩ o6 o7 o8 o9 o10 o11 o12
  · rw [o6]; exact bo_3 hW hT hk (by omega) hfe o1 o2 t3 o3 o4 o5
  · rw [o5]; exact bo_4 hW hT hk (by omega) o1 (by (clear hW hT hk hc0 hc hfe h5 h8 w1 w2 w3 w4 w5 w6 hin hT19 t3 p17 o1 o3 o5; omega)) o3 o4
  · have := VALle _ _ o6
    rw [o10]; exact bo_5 hW hT hk (by (clear hW hT hk hc0 hfe h5 h8 w1 w2 w3 w4 w5 w6 hin hT19 pt t3 p17 o1 o2 o3 o4 o5 o6 o7 o8 o9 this; omega)) hfe o1 o2 ⟨⟨o3, o4⟩, o5⟩ o6 hc0 this o7 o8 o9 h8
  · omega
  · omega
  · omega
end PLx
end T366_pl
section T367_an
/-! the run: acts that lead elsewhere -/
section ANa
variable {z : Int} {M N M' N' M1 N1 : mm_} {px : Int → Int} {L : pl_} {k k' e s x2 y2 v n bp T c c' c1 c2 f fe op m i : Int}
theorem RU_12 [Inhabited fz_] (h : RU z M N) (hk : 0 ≤ k ∧ k < M 0 7) (hv : 0 ≤ v ∧ v < N 174 (M 11 k)) : RU z (up_ M 12 k v) (up_ N 239 (sB k + 2) v) := by
  obtain ⟨r1, r2, r3, r4, r5⟩ := h
  have n12 := r1.1
  have hB : sB k = 2 + 56 * k := rfl
  have xr : ∀ r : Nat, r ≠ 12 → up_ M 12 k v r = M r := fun r c => up_ne c
  have qr : ∀ r : Nat, r ≠ 239 → up_ N 239 (sB k + 2) v r = N r := fun r c => up_ne c
  have no : ∀ i, i ≠ sB k + 2 → up_ N 239 (sB k + 2) v 239 i = N 239 i := fun i e => upo e
  refine ⟨RI_k r1 hk (by rw [xr 0 (by decide)]; exact ⟨rfl, rfl⟩) (fun q hq i hi => by
      by_cases c : q = 12
      · rw [c, upo hi]
      · rw [xr q c]) (fun j hj => by rw [xr 13 (by decide)]) (fun j _ => by rw [xr 15 (by decide)]) (fun j _ => by rw [xr 16 (by decide), xr 17 (by decide)]; exact ⟨rfl, rfl⟩) (fun j hj => no j (by (clear hk hv r1 r2 r3 r4 r5 n12 xr qr no; lia))) (by rw [qr 6 (by decide)]) (fun q hq => qr q (fun e => by rw [e] at hq; revert hq; decide)) ?_, RRt_k r2 (xr 21 (by decide)) (xr 22 (by decide)) (fun j hj => no j (by (clear hv r1 r2 r3 r4 r5 xr qr no; omega))) (by rw [qr 6 (by decide)]), RSC_c r3 (fun i _ => by rw [xr 0 (by decide)]) (fun i _ => by rw [qr 6 (by decide)]), ROU_c r4 (fun i _ => by rw [xr 0 (by decide)]) (xr 24 (by decide)) (fun i _ => by rw [qr 6 (by decide)]) (qr 241 (by decide)), REV_c r5 (fun i _ => by rw [xr 0 (by decide)]) (xr 23 (by decide)) (fun i _ => by rw [qr 6 (by decide)]) (qr 240 (by decide))⟩
  obtain ⟨b1, b2, b3, b4, b5⟩ := r1.2.2.1 k hk.1 hk.2
  unfold IN
  rw [xr 10 (by decide), xr 11 (by decide), xr 20 (by decide), xr 18 (by decide), xr 19 (by decide), xr 0 (by decide), xr 13 (by decide), xr 14 (by decide), xr 15 (by decide), xr 16 (by decide), xr 17 (by decide), qr 6 (by decide), qr 174 (by decide), qr 172 (by decide), qr 173 (by decide), no (sB k) (by omega), no (sB k + 1) (by omega), no (sB k + 5) (by omega), no (sB k + 3) (by omega), no (sB k + 4) (by omega), no (sB k + 25) (by omega), up_at, up_at]
  exact ⟨⟨b1.1, b1.2.1, rfl, b1.2.2.2⟩, ⟨b2.1, b2.2.1, by omega, by omega⟩, ⟨fun j j0 j1 => by rw [no _ (by (clear hk hv r1 r2 r3 r4 r5 n12 hB xr qr no b1 b2 b3 b4 b5; lia))]; exact b3.1 j j0 j1, fun j j0 j1 j2 => by rw [no _ (by omega)]; exact b3.2 j j0 j1 j2⟩, fun t t0 t1 => by rw [no _ (by (clear hk hv r1 r2 r3 r4 r5 n12 hB xr qr no b1 b2 b3 b4 b5; lia))]; exact b4 t t0 t1, b5.1, fun j j0 j1 => by rw [no _ (by omega)]; exact b5.2.1 j j0 j1, fun j j0 j1 => by rw [no _ (by (clear hk hv r1 r2 r3 r4 r5 n12 hB xr qr no b1 b2 b3 b4 j1; omega))]; exact b5.2.2 j j0 j1⟩
/-- X's loop ends -/
theorem x_17e [Inhabited fz_] {V : vv_} {Qr : qr_} {Qt : qt_} (hV : Cl_ wd0 (Tr_ wd0 pg0 7) V Qr Qt m_23) (hW : Wk_ V) (g : Qr [] M) : V 17 [rr 0, ii s, ii x2, ii (-1)] [] M := b_23_17 (Tr_mono _) hV hW _ _ _ _ (by rw [if_pos rfl]; exact g)
/-- Q's loop ends -/
theorem q_8e [Inhabited fz_] {V : vv_} {Qr : qr_} {Qt : qt_} {y3 y4 : Int} (hV : Cl_ wd0 (Tr_ wd0 pg0 7) V Qr Qt m_346) (hW : Wk_ V) (g : Qr [] N) : V 8 [rr 6, ii s, ii y2, ii y3, ii y4, ii 0, none, none] [] N := b_346_8 (Tr_mono _) hV hW _ _ _ _ _ _ (by rw [if_pos rfl]; exact g)
/-- GOES -/
theorem ac_7 [Inhabited fz_] (hD : DST z n bp M N s) (hT : M 11 s = T) (hk : 0 ≤ k ∧ k < 1300) (hc : 0 ≤ c ∧ c ≤ 11900) (h203 : N 203 k = 7) (hj : (M 109 c = 38 ∧ M 109 (c + 1) = c') ∨ c = c') (hk' : k < N 205 k) (hA : ATP (swc M) (tbN N) T (N 205 k) c') : AGO z T bp M N s x2 y2 k c n := by
  refine .inl ⟨M, N, N 205 k, c', n, ?_, fun V Qr Qt hV hW g => b_346_8 (Tr_mono _) hV hW _ _ _ _ _ _ ?_, hD, hT, hA, ⟨XRF_rf, QRF_rf⟩, .inr ⟨rfl, hk'⟩⟩
  · rcases hj with ⟨h1, h2⟩ | h
    · exact xw_go (by (clear hD hT hk h203 hk' hA h1 h2; lia)) (w_no (by (clear hD hT hk h203 hk' hA h1 h2; omega)) (by (clear hD hT hk hc h203 hk' hA h2; lia))) (fun Qr Qt g => t_24 fun V hV hW => b_24_0 (Tr_mono _) hV hW _ _ ⟨by omega, by
        rw [h1]; simp only [Int.reduceEq, if_true, if_false]
        rw [w32_id (x := c + 1) (by omega) (by omega), h2]
        exact ⟨by (clear hD hT hk h203 hk' hA h1 h2 g hV hW; omega), g⟩⟩)
    · rw [h]; exact RC_rf
  · rw [if_neg (by decide), if_pos h203]; exact ⟨hk, hk, g⟩
/-- JOINS -/
theorem ac_10 [Inhabited fz_] (hD : DST z n bp M N s) (hT : M 11 s = T) (h30 : M 109 c = 30) (hp : M 109 (c + 1) = N 204 k) (hk : 0 ≤ k ∧ k < 1300) (hc : 0 ≤ c ∧ c ≤ 11800) (h203 : N 203 k = 10) (hl : 0 ≤ N 205 k ∧ N 205 k < N 175 T) (h42 : M 109 (c + 2) = 42) (h43 : M 109 (c + 2 + 1) = 10 * T + N 205 k) : AGO z T bp M N s x2 y2 k c n := by
  have dn := hD.2.2.2.2.2.1
  obtain ⟨w1, w2, w3, w4, w5, w6⟩ := DST_W hD
  have n12 := w1.1.1
  have hin := w1.1.2.2.1 s w4.1 w4.2
  have hT19 := hin.2.1.2.1
  rw [hT] at hT19
  have pt := PT_of w2 hT19
  have p6 := w2.1.2.2
  rw [tbN_6 (by decide)] at p6
  unfold PTY at pt
  rw [tbN_r (q := 175) (by decide) (by decide), tbN_r (q := 188) (by decide) (by decide), show swc M 129 = M 96 from swc_r (q := 96) (by decide) (by decide)] at pt
  have l10 := pt.2.2.1.2.2.2.2.2.2
  have at_ := pt.2.2.2.2.2 (N 205 k) hl.1 hl.2
  have hB : sB s = 2 + 56 * s := rfl
  by_cases hn : n = 200
  · exact ac_m hD hn h30 hp hk (by (clear hD hT h30 hp hk h203 hl h42 h43 dn w1 w2 w3 w4 w5 w6 n12 hin hT19 pt p6 l10 at_ hB hn; lia)) (by (clear hD hT h30 hp hk hc hl h42 h43 dn w1 w2 w3 w4 w5 w6 n12 hin hT19 pt p6 l10 at_ hB hn; lia))
  · have xc := x_cn (s := s) (x2 := x2) (by omega) h30 hp ⟨dn.1, dn.2.1, by (clear hD hT h30 hp hk hc h203 hl h42 h43 w1 w2 w3 w4 w5 w6 n12 hin hT19 pt p6 l10 at_ hB; lia)⟩
    obtain ⟨v1, v2, v3, v4, v5, v6, v7⟩ := DST_cn (p := N 204 k) hD (by omega)
    have ec := EFX_cn (M := M) (p := N 204 k) (n := n + 1)
    refine .inl ⟨cntX M (N 204 k) (n + 1), N, N 188 (10 * T + N 205 k), M 96 (10 * T + N 205 k), n + 1, RC_tr xc (xw_go (by (clear hD hT h30 hp hk h203 hl h42 h43 dn w1 w2 w3 w4 w5 w6 n12 hin hT19 pt p6 l10 at_ hB hn xc v1 v2 v3 v4 v5 v6 v7 ec; omega)) (w_no (by omega) (by rw [v6]; omega)) (fun Qr Qt g => t_24 fun V hV hW => b_24_0 (Tr_mono _) hV hW _ _ ⟨by omega, ?_⟩)), fun V Qr Qt hV hW g => b_346_8 (Tr_mono _) hV hW _ _ _ _ _ _ ?_, ⟨v1.1, v1.2.1, v1.2.2.1, v1.2.2.2.1, v1.2.2.2.2.1, ⟨v2, by (clear hD hT h30 hp hk hc h203 hl h42 h43 w1 w2 w3 w4 w5 w6 n12 hin hT19 pt p6 l10 at_ hB hn xc v1 v3 v4 v5 v6 v7 ec; lia), by (clear hD hT h30 hp hk hc h203 hl h42 h43 w1 w2 w3 w4 w5 w6 n12 hin hT19 pt p6 l10 at_ hB xc v1 v3 v4 v5 v6 v7 ec; omega)⟩, v1.2.2.2.2.2, by rw [v4]; have := hD.2.2.2.2.2.2.2; (clear hD hT h30 hp hk hc h203 hl h42 h43 dn w1 w2 w3 w4 w5 w6 n12 hin hT19 pt p6 l10 at_ hB hn xc v1 v3 v4 v5 v6 v7 ec; omega)⟩, by rw [v5]; exact hT, by rw [swc_e (XRF_ef ec)]; exact at_, ⟨XRF_ef ec, QRF_rf⟩, .inl (by omega)⟩
    · rw [v6, h42]; simp only [Int.reduceEq, if_true, if_false]
      rw [w32_id (x := c + 2 + 1) (by (clear hD hT h30 hp hk h203 hl h42 h43 dn w1 w2 w3 w4 w5 w6 n12 hin hT19 pt p6 l10 at_ hB hn xc v1 v2 v3 v4 v5 v6 v7 ec g hV hW; omega)) (by omega), h43, ec.1 96 (by decide) (by decide)]
      exact ⟨by (clear hD hT h30 hp hk h203 hl h42 h43 dn w1 w2 w3 w4 w5 w6 n12 hin hT19 pt p6 l10 at_ hB hn xc v1 v2 v3 v4 v5 v6 v7 ec g hV hW; omega), by (clear hD hT h30 hp hk hc h203 h42 dn w1 w2 w3 w4 w5 w6 n12 hin l10 at_ hB hn xc v1 v2 v3 v4 v5 v6 v7 ec g hV hW; omega), g⟩
    · rw [if_neg (by decide), if_neg (by omega), if_pos (by rw [w32_id (x := n + 1) (by (clear hD hT h30 hp hk hc h203 hl h42 h43 w1 w2 w3 w4 w5 w6 n12 hin hT19 pt p6 l10 at_ hB hn xc v1 v3 v4 v5 v6 v7 ec hV hW g; lia)) (by (clear hD hT h30 hp hk hc h203 hl h42 h43 w1 w2 w3 w4 w5 w6 n12 hin hT19 pt p6 l10 at_ hB hn xc v1 v3 v4 v5 v6 v7 ec hV hW g; omega))]; omega), if_neg (by (clear hD hT h30 hp hk hc hl h42 h43 dn w1 w2 w3 w4 w5 w6 n12 hin hT19 pt p6 l10 at_ hB hn xc v1 v2 v3 v4 v5 v6 v7 ec hV hW g; lia)), if_neg (by omega), if_neg (by (clear hD hT h30 hp hk hc hl h42 h43 dn w1 w2 w3 w4 w5 w6 n12 hin hT19 pt p6 l10 at_ hB hn xc v1 v2 v3 v4 v5 v6 v7 ec hV hW g; lia)), if_neg (by (clear hD hT h30 hp hk hc hl h42 h43 dn w1 w2 w3 w4 w5 w6 n12 hin hT19 pt p6 l10 at_ hB hn xc v1 v2 v3 v4 v5 v6 v7 ec hV hW g; lia)), if_pos h203]
      refine ⟨hk, hk, Ex_le (d := 1) (by decide) (q_323 (by (clear hD hT h30 hp hk hc h203 hl h42 h43 dn w1 w2 w3 w6 hin hT19 pt p6 l10 at_ hB hn xc v1 v2 v3 v4 v5 v6 ec hV hW g; lia))) _ _ (ri_i ?_)⟩
      rw [w32_id (x := sB s + 1) (by (clear hD hT h30 hp hk hc h203 hl h42 h43 dn w1 w2 w3 w6 n12 hin hT19 pt p6 l10 at_ hn xc v1 v2 v3 v4 v5 v6 v7 ec hV hW g; lia)) (by (clear hD hT h30 hp hk hc h203 hl h42 h43 dn w1 w2 w3 w6 hin hT19 pt p6 l10 at_ hn xc v1 v2 v3 v4 v5 v6 ec hV hW g; lia)), show N 239 (sB s + 1) = T by rw [← hT]; exact hin.1.2.1.symm, w32_id (x := 10 * T) (by omega) (by (clear hD hT h30 hp hk hc h203 hl h42 h43 dn w1 w2 w3 w4 w5 w6 n12 hin pt l10 at_ hB hn xc v1 v2 v3 v4 v5 v6 v7 ec hV hW g; lia)), w32_id (x := 10 * T + N 205 k) (by omega) (by (clear hD hT h30 hp hk hc h203 h42 dn w1 w2 w3 w4 w5 w6 n12 hin l10 at_ hB hn xc v1 v2 v3 v4 v5 v6 v7 ec hV hW g; omega)), w32_id (x := n + 1) (by omega) (by omega)]
      exact ⟨by (clear hD hT h30 hp hk hc h203 hl h42 h43 dn w1 w2 w3 w6 hin hT19 pt p6 l10 at_ hn xc v1 v2 v3 v4 v5 v6 ec hV hW g; lia), hk, by omega, g⟩
/-- ENDS -/
theorem ac_9 [Inhabited fz_] (hD : DST z n bp M N s) (h30 : M 109 c = 30) (hp : M 109 (c + 1) = N 204 k) (hk : 0 ≤ k ∧ k < 1300) (hc : 0 ≤ c ∧ c ≤ 11800) (h203 : N 203 k = 9) (h41 : M 109 (c + 2) = 41) : AGO z T bp M N s x2 y2 k c n := by
  have dn := hD.2.2.2.2.2.1
  by_cases hn : n = 200
  · exact ac_m hD hn h30 hp hk (by (clear hD h30 hp hk h203 h41 dn hn; lia)) (by (clear hD h30 hp hk hc h41 dn hn; lia))
  · have xc := x_cn (s := s) (x2 := x2) (by omega) h30 hp ⟨dn.1, dn.2.1, by (clear hD h30 hp hk hc h203 h41; omega)⟩
    obtain ⟨v1, v2, v3, v4, v5, v6, v7⟩ := DST_cn (p := N 204 k) hD (by omega)
    have ec := EFX_cn (M := M) (p := N 204 k) (n := n + 1)
    refine .inr ⟨stopX (cntX M (N 204 k) (n + 1)) s, stopQ N s, fun V Qr Qt hV hW g => xc V Qr Qt hV hW (xw_go (c2 := -1) (M' := stopX (cntX M (N 204 k) (n + 1)) s) (by (clear hD h30 hp hk h203 h41 dn hn xc v1 v2 v3 v4 v5 v6 v7 ec hV hW g; omega)) (w_no (by (clear hD h30 hp hk h203 h41 dn hn xc v1 v2 v3 v4 v5 v6 v7 ec hV hW g; omega)) (by rw [v6]; (clear hD h30 hp hk hc h203 dn hn xc v1 v2 v3 v4 v5 v6 v7 ec hV hW g; lia))) (fun Qr Qt g => t_24 fun V hV hW => b_24_0 (Tr_mono _) hV hW _ _ ⟨by omega, ?_⟩) V Qr Qt hV hW (x_17e hV hW g)), fun V Qr Qt hV hW g => b_346_8 (Tr_mono _) hV hW _ _ _ _ _ _ ?_, RU_stp v1.1 v1.2.2.2.1, TYA_stp v1.1 v1.2.2.1 v1.2.2.2.1, ⟨XRF_tr (XRF_ef ec) XRF_stp, QRF_stp⟩, by rw [stopX_8, v4]; have := hD.2.2.2.2.2.2.2; (clear hD h30 hp hk hc h203 h41 hn xc v1 v3 v4 v5 v6 v7 ec; lia)⟩
    · rw [v6, h41]; simp only [Int.reduceEq, if_true, if_false]
      rw [v1.2.2.2.2.1]
      exact Ex_le (d := 3) (by decide) (x_32 v1.1 v1.2.2.2.1) _ _ (rv_i g)
    · rw [if_neg (by decide), if_neg (by omega), if_pos (by rw [w32_id (x := n + 1) (by (clear hD h30 hp hk hc h203 h41 hn xc v1 v3 v4 v5 v6 v7 ec hV hW g; lia)) (by (clear hD h30 hp hk hc h203 h41 hn xc v1 v3 v4 v5 v6 v7 ec hV hW g; omega))]; (clear hD h30 hp hk hc h203 h41 xc v1 v3 v4 v5 v6 v7 ec hV hW g; lia)), if_neg (by (clear hD h30 hp hk hc h41 dn hn xc v1 v2 v3 v4 v5 v6 v7 ec hV hW g; lia)), if_neg (by omega), if_neg (by (clear hD h30 hp hk hc h41 dn hn xc v1 v2 v3 v4 v5 v6 v7 ec hV hW g; omega)), if_pos h203]
      refine ⟨hk, hk, Ex_le (d := 3) (by decide) (q_348 v1.1 v1.2.2.2.1) _ _ (rv_i ?_)⟩
      rw [if_pos (by decide)]
      exact q_8e hV hW g
/-- BECOME -/
theorem ac_8 [Inhabited fz_] (hD : DST z n bp M N s) (hT : M 11 s = T) (h30 : M 109 c = 30) (hp : M 109 (c + 1) = N 204 k) (hk : 0 ≤ k ∧ k < 1300) (hc : 0 ≤ c ∧ c ≤ 11800) (h203 : N 203 k = 8) (h39 : (N 205 k = -1 ∧ M 109 (c + 2) = 40) ∨ (0 ≤ N 205 k ∧ N 205 k < N 174 T ∧ M 109 (c + 2) = 39 ∧ M 109 (c + 2 + 1) = N 205 k)) (h174 : N 174 T ≤ 12) : AGO z T bp M N s x2 y2 k c n := by
  have dn := hD.2.2.2.2.2.1
  by_cases hn : n = 200
  · exact ac_m hD hn h30 hp hk (by omega) (by (clear hD hT h30 hp hk hc h39 h174 dn hn; lia))
  · have xc := x_cn (s := s) (x2 := x2) (by omega) h30 hp ⟨dn.1, dn.2.1, by omega⟩
    obtain ⟨v1, v2, v3, v4, v5, v6, v7⟩ := DST_cn (p := N 204 k) hD (by omega)
    have ec := EFX_cn (M := M) (p := N 204 k) (n := n + 1)
    obtain ⟨w1, w2, w3, w4, w5, w6⟩ := v1
    have n12 := w1.1.1
    have hB : sB s = 2 + 56 * s := rfl
    have hin := w1.1.2.2.1 s w4.1 w4.2
    generalize hM1 : cntX M (N 204 k) (n + 1) = M1 at *
    have ep : N 239 (sB s) = M1 10 s := hin.1.1.symm
    -- the state is told
    have fin : ∀ (M2 N2 : mm_), RU z M2 N2 → TYA N2 → XRF M1 M2 → QRF N N2 → M2 0 8 = M1 0 8 → M2 10 s = M1 10 s → N2 239 (sB s) = M1 10 s → M2 0 46 = s →
        (∀ (Qr : qr_) (Qt : qt_), Tr_ wd0 pg0 6 5 [.inr (.inr 0), .inl 5, .inl (M1 10 s), .inl (-1), .inl 0] M2 (rv_ fun M6 => Qr [.inl (-1)] M6) Qt → Tr_ wd0 pg0 7 24 [.inr (.inr 0), .inl (c + 2)] M1 Qr Qt) →
        (∀ (V : vv_) (Qr : qr_) (Qt : qt_), Cl_ wd0 (Tr_ wd0 pg0 7) V Qr Qt m_346 → Wk_ V → V 126 [rr 6, ii s, ii y2, ii k, ii (n + 1), ii 1, ii 0, none] [] N2 → V 8 [rr 6, ii s, ii y2, ii k, ii n, ii 1, none, none] [] N) → AGO z T bp M N s x2 y2 k c n := fun M2 N2 ru tA fx fq e8 e10 eq e46 hx hq => by
      have b5 := RU_b5 ru
      have b3 := RU_b324 ru
      refine .inr ⟨evX M2 5 (M1 10 s) (-1) 0, evQ N2 5 (M1 10 s) (-1) 0, fun V Qr Qt hV hW g => xc V Qr Qt hV hW (xw_go (c2 := -1) (M' := evX M2 5 (M1 10 s) (-1) 0) (by (clear hD hT h30 hp hk h203 h39 h174 dn hn w3 hB hM1 xc v2 v3 v4 v5 v6 v7 ec w1 w2 w4 w5 w6 n12 hin ep ru tA fx fq e8 e10 eq e46 hx hq b5 b3 hV hW g; omega)) (w_no (by omega) (by rw [v6]; (clear hD hT h30 hp hk hc h203 h174 w3 hB hM1 xc v3 v4 v5 v6 v7 ec w1 w2 w4 w5 w6 n12 hin ep ru tA fx fq e8 e10 eq e46 hx hq hV hW g; lia))) (fun Qr Qt g => hx Qr Qt (Ex_le (d := 1) (by decide) (x_5 b5.1 b5.2.1 b5.2.2) _ _ (rv_i g))) V Qr Qt hV hW (x_17e hV hW g)), fun V Qr Qt hV hW g => hq V Qr Qt hV hW (b_346_126 (Tr_mono _) hV hW _ _ _ _ _ _ _ (Ex_le (d := 1) (by decide) (q_323 (by (clear hD hT h30 hp hk hc h203 h39 h174 dn hn w3 hB hM1 xc v2 v3 v4 v5 v6 ec w1 w2 w6 hin ep ru tA fx fq e8 e10 eq hx hq b5 b3 hV hW g; lia))) _ _ (ri_i ⟨by (clear hD hT h30 hp hk hc h203 h39 h174 dn hn w3 hM1 xc v2 v3 v4 v5 v6 ec w1 w2 w6 hin ep ru tA fx fq e8 e10 eq hx hq b5 b3 hV hW g; lia), ?_⟩))), RU_ev ru, TYA_ev tA, ⟨XRF_tr (XRF_ef ec) (XRF_tr fx XRF_ev), QRF_tr fq QRF_ev⟩, by rw [EvX_ev.2 8 (by decide) (by decide), e8, v4]; have := hD.2.2.2.2.2.2.2; (clear hD hT h30 hp hk hc h203 h39 h174 hn w3 hB hM1 xc v3 v5 v6 v7 ec w1 w2 w4 w5 w6 n12 hin ep ru tA fx fq e10 eq e46 hx hq b5 b3; lia)⟩
      rw [eq]
      refine Ex_le (d := 1) (by decide) (q_324 b3.1 b3.2.1 b3.2.2) _ _ (rv_i ?_)
      rw [if_pos (by decide)]
      exact q_8e hV hW g
    have q8 : ∀ (V : vv_) (Qr : qr_) (Qt : qt_), Cl_ wd0 (Tr_ wd0 pg0 7) V Qr Qt m_346 → Wk_ V → (if N 205 k < 0 then V 126 [rr 6, ii s, ii y2, ii k, ii (n + 1), ii 1, ii 0, none] [] N else V 126 [rr 6, ii s, ii y2, ii k, ii (n + 1), ii 1, ii 0, none] [] (up_ N 239 (sB s + 2) (N 205 k))) → V 8 [rr 6, ii s, ii y2, ii k, ii n, ii 1, none, none] [] N := fun V Qr Qt hV hW g => b_346_8 (Tr_mono _) hV hW _ _ _ _ _ _ (by
      rw [if_neg (by decide), if_neg (by (clear hD hT h30 hp hk hc h39 h174 dn hn w3 hB hM1 xc v2 v3 v4 v5 v6 v7 ec w1 w2 w4 w5 w6 n12 hin ep fin hV hW g; lia)), if_pos (by rw [w32_id (x := n + 1) (by (clear hD hT h30 hp hk hc h203 h39 h174 hn w3 hB hM1 xc v3 v4 v5 v6 v7 ec w1 w2 w4 w5 w6 n12 hin ep fin hV hW g; lia)) (by (clear hD hT h30 hp hk hc h203 h39 h174 hn w3 hB hM1 xc v3 v4 v5 v6 v7 ec w1 w2 w4 w5 w6 n12 hin ep fin hV hW g; lia))]; (clear hD hT h30 hp hk hc h203 h39 h174 w3 hB hM1 xc v3 v4 v5 v6 v7 ec w1 w2 w4 w5 w6 n12 hin ep fin hV hW g; lia)), if_neg (by (clear hD hT h30 hp hk hc h39 h174 dn hn w3 hB hM1 xc v2 v3 v4 v5 v6 v7 ec w1 w2 w4 w5 w6 n12 hin ep fin hV hW g; lia)), if_neg (by omega), if_pos h203]
      refine ⟨hk, hk, hk, ?_⟩
      by_cases c0 : N 205 k < 0
      · rw [if_pos c0] at g ⊢; rw [w32_id (x := n + 1) (by omega) (by omega)]; exact g
      · rw [if_neg c0] at g ⊢
        refine Ex_le (d := 1) (by decide) (q_323 (by (clear hD hT h30 hp hk hc h203 h39 h174 dn hn w3 hB hM1 xc v2 v3 v4 v5 v6 ec w1 w2 w6 hin ep fin hV hW g c0; lia))) _ _ (ri_i ?_)
        rw [w32_id (x := sB s + 2) (by (clear hD hT h30 hp hk hc h203 h39 h174 dn hn w3 hM1 xc v2 v3 v4 v5 v6 v7 ec w1 w2 w6 n12 hin ep fin hV hW g c0; lia)) (by (clear hD hT h30 hp hk hc h203 h39 h174 dn hn w3 hM1 xc v2 v3 v4 v5 v6 ec w1 w2 w6 hin ep fin hV hW g c0; lia)), w32_id (x := n + 1) (by omega) (by omega)]
        exact ⟨hk, by (clear hD hT h30 hp hk hc h203 h39 h174 dn hn w3 hM1 xc v2 v3 v4 v5 v6 ec w1 w2 w6 hin ep fin hV hW g c0; lia), g⟩)
    rcases h39 with ⟨e5, e40⟩ | ⟨e5, e6, e39, e7⟩
    · refine fin M1 N w1 w3 XRF_rf QRF_rf rfl rfl ep w5 (fun Qr Qt g => t_24 fun V hV hW => b_24_0 (Tr_mono _) hV hW _ _ ⟨by (clear hD hT h30 hp hk h203 h174 dn hn w3 hB hM1 xc v2 v3 v4 v5 v6 v7 ec w1 w2 w4 w5 w6 n12 hin ep fin q8 e5 e40 g hV hW; omega), ?_⟩) (fun V Qr Qt hV hW g => q8 V Qr Qt hV hW (by rw [if_pos (by (clear hD hT h30 hp hk hc h203 h174 dn hn w3 hB hM1 xc v2 v3 v4 v5 v6 v7 ec w1 w2 w4 w5 w6 n12 hin ep fin q8 e40 hV hW g; lia))]; exact g))
      rw [v6, e40]; simp only [Int.reduceEq, if_true, if_false]
      rw [w5]; exact ⟨by (clear hD hT h30 hp hk hc h203 h174 dn hn w3 hB hM1 xc v2 v3 v4 v5 v6 ec w1 w2 w6 hin ep fin q8 e5 e40 g hV hW; omega), g⟩
    · refine fin (up_ M1 12 s (N 205 k)) (up_ N 239 (sB s + 2) (N 205 k)) (RU_12 w1 w4 (by rw [v5, hT]; exact ⟨e5, e6⟩)) (TYA_239 w3 (by omega) 2 _ (by decide) (by (clear hD hT h30 hp hk hc h203 h174 dn hn w3 hB hM1 xc v2 v3 v4 v5 v6 ec w1 w2 w6 hin ep fin q8 e5 e6 e39 e7; omega)) (by unfold R32; (clear hD hT h30 hp hk hc h203 dn hn w3 hB hM1 xc v2 v3 v4 v5 v6 v7 ec w1 w2 w4 w5 w6 n12 hin ep fin q8 e39; omega))) (XRF_up (by decide) (fun e => absurd e (by decide))) (QRF_up (by decide) (fun e => absurd e (by decide))) (by rw [up_ne (by decide)]) (by rw [up_ne (by decide)]) (by rw [upo (by (clear hD hT h30 hp hk hc h203 h174 dn hn w3 hB hM1 xc v2 v3 v4 v5 v6 v7 ec w1 w2 w4 w5 w6 n12 hin ep fin q8 e5 e6 e39 e7; lia))]; exact ep) (by rw [up_ne (by decide)]; exact w5) (fun Qr Qt g => t_24 fun V hV hW => b_24_0 (Tr_mono _) hV hW _ _ ⟨by omega, ?_⟩) (fun V Qr Qt hV hW g => q8 V Qr Qt hV hW (by rw [if_neg (by (clear hD hT h30 hp hk hc h203 h174 dn hn w3 hB hM1 xc v2 v3 v4 v5 v6 v7 ec w1 w2 w4 w5 w6 n12 hin ep fin q8 e6 e39 hV hW g; lia))]; exact g))
      rw [v6, e39]; simp only [Int.reduceEq, if_true, if_false]
      rw [w32_id (x := c + 2 + 1) (by (clear hD hT h30 hp hk h203 h174 dn hn w3 hB hM1 xc v2 v3 v4 v5 v6 v7 ec w1 w2 w4 w5 w6 n12 hin ep fin q8 e5 e6 e39 e7 g hV hW; omega)) (by omega), e7, w5]
      exact ⟨by omega, by omega, by omega, g⟩
end ANa
end T367_an
section T368_de
/-! the run: DECIDE (X 24 | Q 349) -/
section DEa
variable {z : Int} {M N M' N' M1 N1 : mm_} {px : Int → Int} {L : pl_} {k k1 e s x2 y2 v n bp T c c' c1 f fe m i q r0 r1 l g lo hi t nn at_ : Int}
/-- the ranges of a part -/
theorem dk_r [Inhabited fz_] (hr : 0 ≤ r0 ∧ r1 ≤ 1300) (ha : 0 ≤ at_ ∧ at_ + 3 + 2 * nn ≤ 11900) (hn : nn ≤ 6000) : ∀ (j : Nat) (i cc g : Int), RGL (swc M) (tbN N) q r0 r1 j cc g l → cc = at_ + 2 + 2 * i → i + j + 1 = nn → 0 ≤ i →
    ((∃ i', RC 6 m_24 385 [rr 0, ii at_, rr 109, ii nn, ii v, ii 0, ii i] M 439 [rr 0, ii at_, rr 109, ii nn, ii v, ii 1, ii i'] M) ∧ ∀ (V : vv_) (Qr : qr_) (Qt : qt_), Cl_ wd0 (Tr_ wd0 pg0 6) V Qr Qt m_349 → Wk_ V → Qr [.inl q] N → V 7 [rr 6, ii k, ii v, ii g] [] N)
    ∨ (RC 6 m_24 385 [rr 0, ii at_, rr 109, ii nn, ii v, ii 0, ii i] M 439 [rr 0, ii at_, rr 109, ii nn, ii v, ii 0, ii nn] M ∧ RC 6 m_349 7 [rr 6, ii k, ii v, ii g] N 7 [rr 6, ii k, ii v, ii (N 219 l)] N) := fun j => by
  -- one range
  have one : ∀ (i g : Int), (r0 ≤ g ∧ g < r1) → RNG (swc M) (tbN N) (at_ + 2 + 2 * i) g q → 0 ≤ i → i < nn →
      ((RC 6 m_24 385 [rr 0, ii at_, rr 109, ii nn, ii v, ii 0, ii i] M 439 [rr 0, ii at_, rr 109, ii nn, ii v, ii 1, ii (i + 1)] M) ∧ ∀ (V : vv_) (Qr : qr_) (Qt : qt_), Cl_ wd0 (Tr_ wd0 pg0 6) V Qr Qt m_349 → Wk_ V → Qr [.inl q] N → V 7 [rr 6, ii k, ii v, ii g] [] N)
      ∨ (RC 6 m_24 385 [rr 0, ii at_, rr 109, ii nn, ii v, ii 0, ii i] M 385 [rr 0, ii at_, rr 109, ii nn, ii v, ii 0, ii (i + 1)] M ∧ RC 6 m_349 7 [rr 6, ii k, ii v, ii g] N 7 [rr 6, ii k, ii v, ii (N 219 g)] N) := fun i g hg hR i0 i1 => by
    obtain ⟨e1, e2, e3⟩ := hR
    rw [swc_109, tbN_r (q := 216) (by decide) (by decide)] at e1
    rw [swc_109, tbN_r (q := 217) (by decide) (by decide)] at e2
    rw [tbN_r (q := 218) (by decide) (by decide)] at e3
    have wa : w32 (w32 (at_ + 2) + w32 (2 * i)) = at_ + 2 + 2 * i := by rw [w32_id (x := at_ + 2) (by (clear hr hn hg i0 i1 e1 e2 e3; omega)) (by omega), w32_id (x := 2 * i) (by omega) (by omega), w32_id (by omega) (by omega)]
    have wb : w32 (w32 (at_ + 3) + w32 (2 * i)) = at_ + 2 + 2 * i + 1 := by rw [w32_id (x := at_ + 3) (by (clear hr hn hg i0 i1 e1 e2 e3; lia)) (by (clear hr hn hg e1 e2 e3; lia)), w32_id (x := 2 * i) (by omega) (by (clear hr hn hg i0 e1 e2 e3; lia)), w32_id (by (clear hr hg e1 e2 e3; lia)) (by (clear hr hn hg i0 e1 e2 e3; lia))]; (clear hr ha hn hg i0 i1 e1 e2 e3 wa; lia)
    have wi : w32 (i + 1) = i + 1 := w32_id (by omega) (by omega)
    by_cases c1 : v < N 216 g
    · refine .inr ⟨fun V Qr Qt hV hW h => b_24_385 (Tr_mono _) hV hW _ _ _ _ _ _ ?_, fun V Qr Qt hV hW h => b_349_7 (Tr_mono _) hV hW _ _ _ _ ?_⟩
      · rw [if_pos i1, if_pos rfl, wa, wb, wi, e1, if_pos c1]; exact ⟨by (clear hr hg e1 e2 e3 c1 hV hW h; lia), h⟩
      · rw [if_neg (by omega), if_pos c1]; exact ⟨by omega, by omega, h⟩
    · by_cases c2 : v ≤ N 217 g
      · refine .inl ⟨fun V Qr Qt hV hW h => b_24_385 (Tr_mono _) hV hW _ _ _ _ _ _ ?_, fun V Qr Qt hV hW h => b_349_7 (Tr_mono _) hV hW _ _ _ _ ?_⟩
        · rw [if_pos i1, if_pos rfl, wa, wb, wi, e1, if_neg c1, e2, if_pos c2]
          refine ⟨by omega, by (clear hr hg e1 e2 e3 c1 c2 hV hW h; lia), b_24_385 (Tr_mono _) hV hW _ _ _ _ _ _ ?_⟩
          by_cases c3 : i + 1 < nn
          · rw [if_pos c3, if_neg (by decide)]; exact h
          · rw [if_neg c3]; exact h
        · rw [if_neg (by omega), if_neg c1, if_pos c2, e3]; exact ⟨by omega, by omega, by omega, h⟩
      · refine .inr ⟨fun V Qr Qt hV hW h => b_24_385 (Tr_mono _) hV hW _ _ _ _ _ _ ?_, fun V Qr Qt hV hW h => b_349_7 (Tr_mono _) hV hW _ _ _ _ ?_⟩
        · rw [if_pos i1, if_pos rfl, wa, wb, wi, e1, if_neg c1, e2, if_neg c2]; exact ⟨by (clear hr hg e1 e2 e3 c1 c2 hV hW h; lia), by omega, h⟩
        · rw [if_neg (by omega), if_neg c1, if_neg c2]; exact ⟨by omega, by omega, by omega, h⟩
  induction j with
  | zero =>
    intro i cc g h hcc hnn i0
    obtain ⟨e0, hg, hR⟩ := h
    subst e0
    rw [hcc] at hR
    rcases one i g hg hR i0 (by (clear hr ha hn one hcc i0 hg hR; omega)) with ⟨x, y⟩ | ⟨x, y⟩
    · exact .inl ⟨⟨_, x⟩, y⟩
    · refine .inr ⟨RC_tr x (fun V Qr Qt hV hW h => b_24_385 (Tr_mono _) hV hW _ _ _ _ _ _ ?_), y⟩
      rw [if_neg (by omega), show i + 1 = nn by omega]; exact h
  | succ j ih =>
    intro i cc g h hcc hnn i0
    obtain ⟨hg, hR, hlt, hL⟩ := h
    rw [hcc] at hR
    rw [tbN_r (q := 219) (by decide) (by decide)] at hL
    rcases one i g hg hR i0 (by omega) with ⟨x, y⟩ | ⟨x, y⟩
    · exact .inl ⟨⟨_, x⟩, y⟩
    · rcases ih (i + 1) (cc + 2) (N 219 g) hL (by omega) (by (clear hr ha hn one ih hcc i0 hg hR hlt hL x y; lia)) (by (clear hr ha hn one ih hcc hnn hg hR hlt hL x y; lia)) with ⟨⟨i', x'⟩, y'⟩ | ⟨x', y'⟩
      · exact .inl ⟨⟨i', RC_tr x x'⟩, fun V Qr Qt hV hW h => y V Qr Qt hV hW (y' V Qr Qt hV hW h)⟩
      · exact .inr ⟨RC_tr x x', RC_tr y y'⟩
/-- the parts of a decide -/
theorem dk_c [Inhabited fz_] (hr : 0 ≤ r0 ∧ r1 ≤ 1300) (hl : 0 ≤ lo ∧ hi ≤ 11800) (hk : 0 ≤ k ∧ k < 1300) (h45 : M 0 45 = 1) (h26 : M 26 0 = v) : ∀ (m : Nat) (c g : Int), CHN (swc M) (tbN N) px L lo hi r0 r1 k k1 m c g →
    ∃ q, L q ∧ (k < q ∧ q ≤ k1) ∧ (∀ (V : vv_) (Qr : qr_) (Qt : qt_), Cl_ wd0 (Tr_ wd0 pg0 7) V Qr Qt m_23 → Wk_ V → V 17 [rr 0, ii s, ii x2, ii (px q)] [] (up_ M 0 45 0) → Tr_ wd0 pg0 7 24 [.inr (.inr 0), .inl c] M (ri_ fun v2 M2 => V 17 [rr 0, ii s, ii x2, ii v2] [] M2) (fun r M9 => (r = 7 ∨ r = 8) ∧ V 38 [rr 0, ii s, ii x2, none] [.inr (.inr r)] M9)) ∧ ∀ (V : vv_) (Qr : qr_) (Qt : qt_), Cl_ wd0 (Tr_ wd0 pg0 6) V Qr Qt m_349 → Wk_ V → Qr [.inl q] N → V 7 [rr 6, ii k, ii v, ii g] [] N := fun m => by
  induction m with
  | zero =>
    intro c g h
    obtain ⟨⟨b1, b2⟩, hg, h44, q, hq, hpx, hkq, hL⟩ := h
    rw [swc_109] at h44
    rw [tbN_r (q := 207) (by decide) (by decide), tbN_r (q := 208) (by decide) (by decide)] at hq
    refine ⟨q, hL, hkq, fun V Qr Qt hV hW h => t_24 fun V' hV' hW' => b_24_0 (Tr_mono _) hV' hW' _ _ ⟨by (clear hr hk h45 h26 hg h44 hq hkq hL hV hW h hV' hW'; omega), ?_⟩, fun V Qr Qt hV hW h => b_349_7 (Tr_mono _) hV hW _ _ _ _ ?_⟩
    · rw [h44]; simp only [Int.reduceEq, if_true, if_false]
      rw [h45, show w32 (1 - 1) = 0 from w32_id (by decide) (by decide), w32_id (x := c + 1) (by omega) (by omega), hpx]
      exact ri_i h
    · rw [if_pos (by omega)]
      by_cases c0 : N 207 k < 0
      · rw [if_pos c0]; rw [hq, if_neg (by (clear hr hl hk h45 h26 b1 b2 hg h44 hq hpx hkq hL hV hW h; lia))] at h; exact ⟨hk, hk, h⟩
      · rw [if_neg c0]; rw [hq, if_pos (by omega)] at h; exact ⟨hk, hk, h⟩
  | succ m ih =>
    intro c g h
    obtain ⟨ce, l, ⟨j, q, ⟨b1, b2⟩, h43, hn1, hRG, hpx, hkq, hL, hce⟩, hC⟩ := h
    rw [swc_109] at h43 hn1 hce
    rw [tbN_r (q := 219) (by decide) (by decide)] at hC
    obtain ⟨q', hL', hkq', x', y'⟩ := ih ce (N 219 l) hC
    have cb : lo ≤ ce ∧ ce + 1 ≤ hi ∧ 25 ≤ M 109 ce := by
      cases m with
      | zero => obtain ⟨b, _, h44, _⟩ := hC; rw [swc_109] at h44; omega
      | succ m => obtain ⟨_, _, ⟨j', _, b, h43', _⟩, _⟩ := hC; rw [swc_109] at h43'; omega
    have st : ∀ (Qr : qr_) (Qt : qt_), (∀ V' : vv_, Cl_ wd0 (Tr_ wd0 pg0 6) V' Qr Qt m_24 → Wk_ V' → V' 385 [rr 0, ii c, rr 109, ii ((j : Int) + 1), ii v, ii 0, ii 0] [] M) → Tr_ wd0 pg0 7 24 [.inr (.inr 0), .inl c] M Qr Qt := fun Qr Qt h => t_24 fun V' hV' hW' => b_24_0 (Tr_mono _) hV' hW' _ _ ⟨by (clear hr hk h45 h26 ih hC h43 hRG hkq hL hce hL' hkq' x' y' cb h hV' hW'; lia), by
      rw [h43]; simp only [Int.reduceEq, if_true, if_false]
      rw [w32_id (x := c + 1) (by (clear hr hk h45 h26 ih hC b2 h43 hRG hkq hL hce hL' hkq' x' y' cb h hV' hW'; lia)) (by (clear hr hk h45 h26 ih hC b1 h43 hRG hkq hL hce hL' hkq' x' y' cb h hV' hW'; omega)), hn1, h45, show w32 (1 - 1) = 0 from w32_id (by decide) (by decide), h26]
      exact ⟨by omega, by decide, h V' hV' hW'⟩⟩
    rcases dk_r (M := M) (N := N) (k := k) (v := v) (at_ := c) (nn := (j : Int) + 1) hr (by (clear hr hk h45 h26 ih hC h43 hRG hkq hL hce hL' hkq' x' y' cb st; lia)) (by (clear hr hk h45 h26 ih hC h43 hRG hkq hL hce hL' hkq' x' y' cb st; lia)) j 0 (c + 2) g hRG (by omega) (by (clear hr hl hk h45 h26 ih hC b1 b2 h43 hn1 hRG hpx hkq hL hce hL' hkq' x' y' cb st; lia)) (by decide) with ⟨⟨i', x⟩, y⟩ | ⟨x, y⟩
    · refine ⟨q, hL, hkq, fun V Qr Qt hV hW h => st _ _ fun V' hV' hW' => x V' _ _ hV' hW' (b_24_439 (Tr_mono _) hV' hW' _ _ _ _ _ _ ?_), y⟩
      rw [if_neg (by decide), h45, show w32 (1 - 1) = 0 from w32_id (by decide) (by decide), w32_id (x := c + 3) (by (clear hr hk h45 h26 ih hC b2 h43 hRG hkq hL hce hL' hkq' x' y' cb st y x hV hW h hV' hW'; lia)) (by (clear hr hk h45 h26 ih hC b1 h43 hRG hkq hL hce hL' hkq' x' y' cb st y x hV hW h hV' hW'; lia)), w32_id (x := 2 * ((j : Int) + 1)) (by (clear hr hl hk h45 h26 ih hC b1 b2 h43 hRG hpx hkq hL hce hL' hkq' x' y' cb st y x hV hW h hV' hW'; lia)) (by omega), w32_id (x := c + 3 + 2 * ((j : Int) + 1)) (by (clear hr hk h45 h26 ih hC b2 h43 hRG hkq hL hce hL' hkq' x' y' cb st y x hV hW h hV' hW'; lia)) (by (clear hr hk h45 h26 ih hC b1 h43 hRG hkq hL hce hL' hkq' x' y' cb st y x hV hW h hV' hW'; lia)), show c + 3 + 2 * ((j : Int) + 1) = px q by (clear hr hl hk h45 h26 ih hC b1 b2 h43 hRG hkq hL hce hL' hkq' x' y' cb st y x hV hW h hV' hW'; lia)]
      exact ri_i h
    · refine ⟨q', hL', hkq', fun V Qr Qt hV hW h => st _ _ fun V' hV' hW' => x V' _ _ hV' hW' (b_24_439 (Tr_mono _) hV' hW' _ _ _ _ _ _ ?_), fun V Qr Qt hV hW h => y V Qr Qt hV hW (y' V Qr Qt hV hW h)⟩
      rw [if_pos rfl, w32_id (x := c + 2) (by (clear hr hk h45 h26 ih hC b2 h43 hRG hkq hL hce hL' hkq' x' y' cb st x y hV hW h hV' hW'; lia)) (by (clear hr hk h45 h26 ih hC b1 h43 hRG hkq hL hce hL' hkq' x' y' cb st x y hV hW h hV' hW'; lia)), w32_id (x := 2 * ((j : Int) + 1)) (by omega) (by omega), w32_id (x := c + 2 + 2 * ((j : Int) + 1)) (by (clear hr hk h45 h26 ih hC b2 h43 hRG hkq hL hce hL' hkq' x' y' cb st x y hV hW h hV' hW'; lia)) (by (clear hr hk h45 h26 ih hC b1 h43 hRG hkq hL hce hL' hkq' x' y' cb st x y hV hW h hV' hW'; omega)), show c + 2 + 2 * ((j : Int) + 1) = c + 2 * j + 4 by (clear hr hl hk h45 h26 ih hC b1 b2 h43 hn1 hRG hpx hkq hL hce hL' hkq' x' y' cb st x y hV hW h hV' hW'; lia), hce]
      refine ⟨by (clear hr hk h45 h26 ih hC h43 hRG hkq hL hce hL' hkq' x' y' cb st x y hV hW h hV' hW'; lia), ri_i (b_23_17 (Tr_mono _) hV hW _ _ _ _ ?_)⟩
      rw [if_neg (by (clear hr hk h45 h26 ih hC b1 b2 h43 hn1 hRG hpx hkq hL hce hL' hkq' x' y' st x y hV hW h hV' hW'; omega))]
      exact Ex_le (d := 3) (by decide) (w_no (by (clear hr hk h45 h26 ih hC b1 b2 h43 hn1 hRG hpx hkq hL hce hL' hkq' x' y' st x y hV hW h hV' hW'; omega)) cb.2.2) _ _ (ri_i (x' V Qr Qt hV hW h))
theorem ac_6 [Inhabited fz_] (hD : DST z n bp M N s) (hT : M 11 s = T) (h30 : M 109 c = 30) (hp : M 109 (c + 1) = N 204 k) (hk : 0 ≤ k ∧ k < 1300) (hc : 0 ≤ c ∧ c ≤ 11800) (h203 : N 203 k = 6) (hfe : fe ≤ 2900) (hc1 : c1 ≤ 11800) (hl : 0 ≤ lo ∧ hi ≤ 11800) (hr : 0 ≤ r0 ∧ r1 ≤ 1300) (hE : EXP (swc M) (tbN N) T (c + 2) c1 (N 205 k) fe t) (mm : Nat) (hC : CHN (swc M) (tbN N) px L lo hi r0 r1 k k1 (mm + 1) c1 (N 206 k)) (hL : ∀ q, L q → ATP (swc M) (tbN N) T q (px q)) : AGO z T bp M N s x2 y2 k c n := by
  have dn := hD.2.2.2.2.2.1
  by_cases hn : n = 200
  · exact ac_m hD hn h30 hp hk (by (clear hD hT h30 hp hk h203 hfe hc1 hl hr hE hC hL dn hn; omega)) (by (clear hD hT h30 hp hk hc hfe hc1 hl hr hE hC hL dn hn; omega))
  · have xc := x_cn (s := s) (x2 := x2) (by omega) h30 hp ⟨dn.1, dn.2.1, by (clear hD hT h30 hp hk hc h203 hfe hc1 hl hr hE hC hL; omega)⟩
    obtain ⟨v1, v2, v3, v4, v5, v6, v7⟩ := DST_cn (p := N 204 k) hD (by omega)
    have ec := EFX_cn (M := M) (p := N 204 k) (n := n + 1)
    have sw := swc_e (XRF_ef ec)
    have n12 := v1.1.1.1
    have w4 := v1.2.2.2.1
    generalize hM1 : cntX M (N 204 k) (n + 1) = M1 at *
    have h25 : 25 ≤ M1 109 c1 := by
      obtain ⟨_, _, ⟨j', _, b, h43', _⟩, _⟩ := hC
      rw [swc_109] at h43'; rw [v6]; (clear hD hT h30 hp hk hc h203 hfe hc1 hl hr hE hL dn hn hM1 xc v1 v2 v3 v4 v5 v6 v7 ec sw n12 w4 b; omega)
    have b0 := EXP_0 hE
    have q8 : ∀ (V : vv_) (Qr : qr_) (Qt : qt_), Cl_ wd0 (Tr_ wd0 pg0 7) V Qr Qt m_346 → Wk_ V → Tr_ wd0 pg0 7 339 [.inr (.inr 6), .inl s, .inl (N 205 k)] N (ri_ fun v5 M9 => if M9 6 149 = 0 then Tr_ wd0 pg0 7 349 [.inr (.inr 6), .inl k, .inl v5] M9 (ri_ fun v6 M11 => V 8 [rr 6, ii s, ii y2, ii v6, ii (n + 1), ii 1, none, none] [] M11) Qt else (if M9 6 149 ≤ 0 then V 8 [rr 6, ii s, ii y2, ii (w32 (k + 1)), ii (n + 1), ii 1, none, none] [] M9 else (0 ≤ k ∧ k < 1300) ∧ Tr_ wd0 pg0 7 347 [.inr (.inr 6), .inl s, .inl (M9 6 149), .inl (M9 204 k)] M9 (rv_ fun M10 => Qr [] M10) Qt)) Qt → V 8 [rr 6, ii s, ii y2, ii k, ii n, ii 1, none, none] [] N := fun V Qr Qt hV hW g => b_346_8 (Tr_mono _) hV hW _ _ _ _ _ _ (by
      rw [if_neg (by decide), if_neg (by (clear hD hT h30 hp hk hc hfe hc1 hl hr hE hC hL dn hn hM1 xc v1 v2 v3 v4 v5 v6 v7 ec sw n12 w4 h25 b0 hV hW g; lia)), w32_id (x := n + 1) (by (clear hD hT h30 hp hk hc h203 hfe hc1 hl hr hE hC hL hn hM1 xc v1 v3 v4 v5 v6 v7 ec sw n12 w4 h25 b0 hV hW g; lia)) (by (clear hD hT h30 hp hk hc h203 hfe hc1 hl hr hE hC hL hn hM1 xc v1 v3 v4 v5 v6 v7 ec sw n12 w4 h25 b0 hV hW g; omega)), if_pos (by (clear hD hT h30 hp hk hc h203 hfe hc1 hl hr hE hC hL hM1 xc v1 v3 v4 v5 v6 v7 ec sw n12 w4 h25 b0 hV hW g; lia)), if_pos h203]
      exact ⟨hk, hk, hk, g⟩)
    rcases ev_w (T := T) (c := c + 2) (c1 := c1) v1 (by decide) (by rw [v5]; exact hT) (by rw [sw]; exact hE) (by omega) hfe h25 with ⟨A', v, N1, x1, q1, e149, fq, ev, _, _⟩ | ⟨e, M2, N1, v, he, x1, fx, kp, e49, q1, e149, fq⟩
    · have sw2 : swc (exX M1 A' 1) = swc M := (swc_e (XRF_ef EFX_ex)).trans sw
      have tb : tbN N1 = tbN N := tbN_e (QRF_ef fq)
      obtain ⟨q, hLq, hkq, xq, yq⟩ := dk_c (M := exX M1 A' 1) (N := N1) (s := s) (x2 := x2) (v := v) hr hl hk exX_45 (by rw [exX_26]; exact ev) (mm + 1) c1 (N 206 k) (by rw [sw2, tb]; exact hC)
      have fx3 : EFX M (exX M1 A' 0) := EFX_tr ec EFX_ex
      have ws : WST z 0 (exX M1 A' 0) N1 s := WST_ef v1 EFX_ex fq (exX_0 (by decide)) exX_45
      refine .inl ⟨exX M1 A' 0, N1, q, px q, n + 1, RC_tr xc (fun V Qr Qt hV hW g => b_23_17 (Tr_mono _) hV hW _ _ _ _ ?_), fun V Qr Qt hV hW g => q8 V Qr Qt hV hW (Ex_le (d := 4) (by decide) q1 _ _ (ri_i ?_)), ⟨ws.1, ws.2.1, ws.2.2.1, ws.2.2.2.1, ws.2.2.2.2.1, ⟨by rw [exX_0 (by decide)]; exact v2, by (clear hD hT h30 hp hk hc h203 hfe hc1 hl hr hE hC hL hn hM1 xc v1 v3 v4 v5 v6 v7 ec sw n12 w4 h25 b0 q8 x1 q1 e149 fq ev sw2 tb hLq hkq xq yq fx3 ws; omega), by (clear hD hT h30 hp hk hc h203 hfe hc1 hl hr hE hC hL hM1 xc v1 v3 v4 v5 v6 v7 ec sw n12 w4 h25 b0 q8 x1 q1 e149 fq ev sw2 tb hLq hkq xq yq fx3 ws; lia)⟩, exX_45, by rw [exX_0 (by decide), v4]; have := hD.2.2.2.2.2.2.2; (clear hD hT h30 hp hk hc h203 hfe hc1 hl hr hE hC hL dn hn hM1 xc v1 v3 v4 v5 v6 v7 ec sw n12 w4 h25 b0 q8 x1 q1 e149 fq ev sw2 tb hLq hkq xq yq fx3 ws; lia)⟩, by rw [exX_r (by decide) (by decide), v5]; exact hT, by rw [swc_e (XRF_ef fx3), tb]; exact hL q hLq, ⟨XRF_ef fx3, QRF_ef fq⟩, .inl (by (clear hD hT h30 hp hk hc h203 hfe hc1 hl hr hE hC hL dn hn hM1 xc v1 v2 v3 v4 v5 v6 v7 ec sw n12 w4 h25 b0 q8 x1 q1 e149 fq ev sw2 tb hLq hkq xq yq fx3 ws; omega))⟩
      · rw [if_neg (by omega)]
        refine Ex_le (d := 3) (by decide) x1 _ _ (ri_i (xq V Qr Qt hV hW ?_))
        rw [exX_o]; exact g
      · rw [if_pos e149]
        refine t_349 fun V' hV' hW' => b_349_0 (Tr_mono _) hV' hW' _ _ _ ⟨hk, ?_⟩
        rw [fq.1 206 (by decide) (by decide)]
        exact yq V' _ _ hV' hW' (ri_i g)
    · have fx3 := EFX_tr ec fx
      have ru := RU_ef v1.1 fx fq
      refine ac_e (M' := M2) (N' := N1) (e := e) (p := N 204 k) ru (TYA_ef v1.2.2.1 fq) (by rw [fx.2 7 (by decide) (by decide) (by decide) (by decide) (by decide)]; exact w4) e49 (by rw [kp.2, v3]) (fun V Qr Qt hV hW g => xc V Qr Qt hV hW (xw_e1 (by omega) x1 V Qr Qt hV hW g)) ⟨XRF_ef fx3, QRF_ef fq⟩ (by rw [fx.2 8 (by decide) (by decide) (by decide) (by decide) (by decide), v4]; have := hD.2.2.2.2.2.2.2; (clear hD hT h30 hp hk hc h203 hfe hc1 hl hr hE hC hL hn hM1 xc v1 v3 v4 v5 v6 v7 ec sw n12 w4 h25 b0 q8 he x1 fx kp e49 q1 e149 fq fx3 ru; lia)) (fun V Qr Qt hV hW g => q8 V Qr Qt hV hW (Ex_le (d := 4) (by decide) q1 _ _ (ri_i ?_)))
      rw [e149, if_neg (by (clear hD hT h30 hp hk hc h203 hfe hc1 hl hr hE hC hL dn hn hM1 xc v1 v2 v3 v4 v5 v6 v7 ec sw n12 w4 h25 b0 q8 x1 fx kp e49 q1 fq fx3 ru hV hW g; lia)), if_neg (by (clear hD hT h30 hp hk hc h203 hfe hc1 hl hr hE hC hL dn hn hM1 xc v1 v2 v3 v4 v5 v6 v7 ec sw n12 w4 h25 b0 q8 x1 fx kp e49 q1 fq fx3 ru hV hW g; lia)), fq.1 204 (by decide) (by decide)]
      exact ⟨hk, g⟩
end DEa
end T368_de
section T369_tr
/-! the run: a transition (X 23 | Q 346) -/
section TRa
variable {z : Int} {M N M' N' M1 N1 : mm_} {k s x2 y2 n bp T c : Int}
theorem at_b [Inhabited fz_] (hP : PLr M N) (hA : ATP (swc M) (tbN N) T k c) : (0 ≤ k ∧ k < 1200) ∧ (0 ≤ c ∧ c ≤ 11200) := by
  obtain ⟨k0, k1, c0, c1, r0, r1, fe, px, L, a1, a2, a3, a4, a5, a6, a7, _⟩ := AT_k hA
  have b := PL_b hP
  rw [tbN_6 (by decide)] at a1
  rw [swc_5] at a2
  have := a5 k a6.1 (by omega)
  (clear hP hA a3 a4 a5; omega)
theorem ac_all [Inhabited fz_] (hD : DST z n bp M N s) (hT : M 11 s = T) (hbp : bp ≤ 2000000000) (hA : ATP (swc M) (tbN N) T k c) : AGO z T bp M N s x2 y2 k c n := by
  have hP := hD.2.1
  have ab := at_b hP hA
  obtain ⟨k0, k1, c0, c1, r0, r1, fe, px, L, a1, a2, a3, a4, a5, a6, a7, a8, a9, a10⟩ := AT_k hA
  have b := PL_b hP
  rw [tbN_6 (by decide)] at a1 a3 a4
  rw [swc_5] at a2
  have pk := a5 k a6.1 (by omega)
  have pk1 := a5 (k + 1) (by omega) (by omega)
  have d8 := hD.2.2.2.2.2.2.2
  have dn := hD.2.2.2.2.2.1
  obtain ⟨w1, w2, w3, w4, w5, w6⟩ := DST_W hD
  have hin := w1.1.2.2.1 s w4.1 w4.2
  have hT19 := hin.2.1.2.1
  rw [hT] at hT19
  have pt := PT_of w2 hT19
  unfold PTY at pt
  rw [tbN_r (q := 174) (by decide) (by decide)] at pt
  have h174 := pt.2.2.1.1.2.2
  unfold OPX at a8
  rw [swc_109, tbN_r (q := 203) (by decide) (by decide), tbN_r (q := 204) (by decide) (by decide), tbN_r (q := 205) (by decide) (by decide), tbN_r (q := 206) (by decide) (by decide)] at a8
  rw [a7] at a8
  rcases a8 with ⟨o1, o2, o3, o4, o5⟩ | ⟨o1, o2, o3, o4, o5, o6⟩ | ⟨o1, o2, o3, c9, t, m, o4, o5, o6, o7⟩ | ⟨o1, o2, o3, o4⟩
  · by_cases c5 : N 203 k ≤ 5
    · have ec := EFX_cn (M := M) (p := N 204 k) (n := n + 1)
      refine ac_p hD o2 o3 (by (clear hD hT hbp hA hP a1 a2 a3 a4 a5 a6 a7 a9 a10 b pk pk1 d8 dn w1 w2 w3 w4 w5 w6 hin hT19 pt h174 o1 o2 o3 o4 o5 c5 ec; omega)) (by (clear hD hT hbp hA hP a1 a2 a3 a4 a5 a6 a9 a10 b pk pk1 d8 dn w1 w2 w3 w4 w5 w6 hin hT19 pt h174 o1 o2 o3 o4 o5 c5 ec; lia)) ⟨o1.1, c5⟩ (a10 (k + 1) (o5 c5 a9)) (fun hn => ?_)
      obtain ⟨v1, v2, v3, v4, v5, v6, v7⟩ := DST_cn (p := N 204 k) hD hn
      exact bo_all (fe := fe) v1 (by rw [v5]; exact hT) (by (clear hD hT hbp hA hP a1 a2 a3 a4 a5 a6 a7 a9 a10 b pk pk1 d8 dn w1 w2 w3 w4 w5 w6 hin hT19 pt h174 o1 o2 o3 o4 o5 c5 ec hn v1 v2 v3 v4 v5 v6 v7; omega)) (by (clear hD hT hbp hA hP a1 a2 a3 a4 a5 a6 a9 a10 b pk pk1 d8 dn w1 w2 w3 w4 w5 w6 hin hT19 pt h174 o1 o2 o3 o4 o5 c5 ec hn v1 v2 v3 v4 v5 v6 v7; omega)) (by (clear hD hT hbp hA hP ab a1 a3 a4 a5 a6 a7 a9 a10 pk d8 dn w1 w2 w3 w4 w5 w6 hin hT19 pt h174 o1 o2 o3 o4 o5 c5 ec hn v1 v2 v3 v4 v5 v6 v7; omega)) (by (clear hD hT hbp hA hP ab a1 a2 a3 a5 a6 a7 a9 a10 pk pk1 d8 dn w1 w2 w3 w4 w5 w6 hin hT19 pt h174 o1 o2 o3 o4 o5 c5 ec hn v1 v2 v3 v4 v5 v6 v7; omega)) (by rw [swc_e (XRF_ef ec)]; exact o4) c5 (by rw [v4]; (clear hD hT hA hP ab a1 a2 a3 a4 a5 a6 a7 a9 a10 b pk pk1 w1 w2 w3 w4 w5 w6 hin hT19 pt h174 o1 o2 o3 o4 o5 c5 ec v1 v3 v5 v6 v7; lia))
    · unfold OPC at o4
      rw [swc_109, tbN_r (q := 203) (by decide) (by decide), tbN_r (q := 205) (by decide) (by decide), tbN_r (q := 174) (by decide) (by decide), tbN_r (q := 175) (by decide) (by decide)] at o4
      rcases o4 with ⟨p1, _⟩ | ⟨p1, _⟩ | ⟨p1, _⟩ | ⟨p1, _⟩ | ⟨p1, _⟩ | ⟨p1, p2⟩ | ⟨p1, p2, p3⟩ | ⟨p1, p2, p3, p4, p5⟩
      · (clear hD hT hbp hA hP ab a1 a2 a3 a4 a5 a6 a7 a9 a10 b pk pk1 d8 dn w1 w2 w3 w4 w5 w6 hin hT19 pt h174 o1 o2 o3 o5; lia)
      · (clear hD hT hbp hA hP ab a1 a2 a3 a4 a5 a6 a7 a9 a10 b pk pk1 d8 dn w1 w2 w3 w4 w5 w6 hin hT19 pt h174 o1 o2 o3 o5; lia)
      · (clear hD hT hbp hA hP ab a1 a2 a3 a4 a5 a6 a7 a9 a10 b pk pk1 d8 dn w1 w2 w3 w4 w5 w6 hin hT19 pt h174 o1 o2 o3 o5; omega)
      · (clear hD hT hbp hA hP ab a1 a2 a3 a4 a5 a6 a7 a9 a10 b pk pk1 d8 dn w1 w2 w3 w4 w5 w6 hin hT19 pt h174 o1 o2 o3 o5; omega)
      · (clear hD hT hbp hA hP ab a1 a2 a3 a4 a5 a6 a7 a9 a10 b pk pk1 d8 dn w1 w2 w3 w4 w5 w6 hin hT19 pt h174 o1 o2 o3 o5; lia)
      · refine ac_8 hD hT o2 o3 (by omega) (by (clear hD hT hbp hA hP a1 a2 a3 a4 a5 a6 a9 a10 b pk pk1 d8 dn w1 w2 w3 w4 w5 w6 hin hT19 pt h174 o1 o2 o3 o5 c5 p1 p2; omega)) p1 ?_ h174
        rcases p2 with ⟨q1, q2, _⟩ | ⟨q1, q2, q3, q4, _⟩
        · exact .inl ⟨q1, q2⟩
        · exact .inr ⟨q1, q2, q3, q4⟩
      · exact ac_9 hD o2 o3 (by omega) (by (clear hD hT hbp hA hP a1 a2 a3 a4 a5 a6 a9 a10 b pk pk1 d8 dn w1 w2 w3 w4 w5 w6 hin hT19 pt h174 o1 o2 o3 o5 c5 p1 p2; lia)) p1 p2
      · exact ac_10 hD hT o2 o3 (by omega) (by (clear hD hT hbp hA hP a1 a2 a3 a4 a5 a6 a9 a10 b pk pk1 d8 dn w1 w2 w3 w4 w5 w6 hin hT19 pt h174 o1 o2 o3 o5 c5 p1 p2 p3 p4; lia)) p1 p2 p3 p4
  · exact ac_7 hD hT (by omega) (by omega) o1 (.inl ⟨o2, o3⟩) o4.1 (a10 _ (o6 a9))
  · exact ac_6 (lo := c0) (hi := c1) (r0 := r0) (r1 := r1) hD hT o2 o3 (by (clear hD hT hbp hA hP a1 a2 a3 a4 a5 a6 a7 a9 a10 b pk pk1 d8 dn w1 w2 w3 w4 w5 w6 hin hT19 pt h174 o1 o2 o3 o4 o5 o6 o7; omega)) (by (clear hD hT hbp hA hP a1 a2 a3 a4 a5 a6 a9 a10 b pk pk1 d8 dn w1 w2 w3 w4 w5 w6 hin hT19 pt h174 o1 o2 o3 o4 o5 o6 o7; lia)) o1 (by (clear hD hT hbp hA hP ab a1 a2 a3 a5 a6 a7 a9 a10 pk pk1 d8 dn w1 w2 w3 w4 w5 w6 hin hT19 pt h174 o1 o2 o3 o4 o5 o6 o7; omega)) (by (clear hD hT hbp hA hP ab a1 a3 a4 a5 a6 a7 a9 a10 pk pk1 d8 dn w1 w2 w3 w4 w5 w6 hin hT19 pt h174 o1 o2 o3 o4 o5 o7; omega)) (by (clear hD hT hbp hA hP ab a1 a3 a4 a5 a6 a7 a9 a10 pk pk1 d8 dn w1 w2 w3 w4 w5 w6 hin hT19 pt h174 o1 o2 o3 o4 o5 o6 o7; omega)) (by (clear hD hT hbp hA hP ab a1 a2 a4 a5 a6 a7 a9 a10 pk pk1 d8 dn w1 w2 w3 w4 w5 w6 hin hT19 pt h174 o1 o2 o3 o4 o5 o6 o7; omega)) o5 m o7 a10
  · exact ac_7 hD hT (by omega) (by (clear hD hT hbp hA hP a1 a2 a3 a4 a5 a6 a9 a10 b pk pk1 d8 dn w1 w2 w3 w4 w5 w6 hin hT19 pt h174 o1 o3 o4; omega)) o1 (.inr o2) o3.1 (a10 _ (o4 a9))
theorem tr_l [Inhabited fz_] (hbp : bp ≤ 2000000000) : ∀ (j : Nat) (M N : mm_) (k c n : Int), (201 - n) * 1300 + (1300 - k) ≤ j → DST z n bp M N s → M 11 s = T → ATP (swc M) (tbN N) T k c → ∃ M' N', (∀ (V : vv_) (Qr : qr_) (Qt : qt_), Cl_ wd0 (Tr_ wd0 pg0 7) V Qr Qt m_23 → Wk_ V → Qr [] M' → V 17 [rr 0, ii s, ii x2, ii c] [] M) ∧ (∀ (V : vv_) (Qr : qr_) (Qt : qt_), Cl_ wd0 (Tr_ wd0 pg0 7) V Qr Qt m_346 → Wk_ V → Qr [] N' → V 8 [rr 6, ii s, ii y2, ii k, ii n, ii 1, none, none] [] N) ∧ RU z M' N' ∧ TYA N' ∧ (XRF M M' ∧ QRF N N') ∧ M' 0 8 ≤ bp := fun j => by
  induction j with
  | zero =>
    intro M N k c n hj hD hT hA
    have := (at_b hD.2.1 hA).1
    have := hD.2.2.2.2.2.1
    omega
  | succ j ih =>
    intro M N k c n hj hD hT hA
    have ab := (at_b hD.2.1 hA).1
    rcases ac_all (x2 := x2) (y2 := y2) hD hT hbp hA with ⟨M1, N1, k', c', n', x1, q1, d1, t1, a1, f1, m1⟩ | ⟨M', N', x1, q1, r1, t1, f1, b1⟩
    · have ab' := (at_b d1.2.1 a1).1
      have dn := d1.2.2.2.2.2.1
      obtain ⟨M', N', x2', q2, r2, t2, f2, b2⟩ := ih M1 N1 k' c' n' (by (clear hbp ih hD hT hA x1 q1 d1 t1 a1 f1 dn; omega)) d1 t1 a1
      exact ⟨M', N', fun V Qr Qt hV hW g => x1 V Qr Qt hV hW (x2' V Qr Qt hV hW g), fun V Qr Qt hV hW g => q1 V Qr Qt hV hW (q2 V Qr Qt hV hW g), r2, t2, ⟨XRF_tr f1.1 f2.1, QRF_tr f1.2 f2.2⟩, b2⟩
    · exact ⟨M', N', x1, q1, r1, t1, f1, b1⟩
/-- a transition -/
theorem j_23 [Inhabited fz_] (h : RU z M N) (hP : PLr M N) (hA : TYA N) (hs : 0 ≤ s ∧ s < M 0 7) (h8 : M 0 8 + 200 ≤ 2000000000) (hT : ATP (swc M) (tbN N) (M 11 s) k c) : ∃ M' N', Ex_ 8 23 [.inr (.inr 0), .inl s, .inl c] M [] M' ∧ Ex_ 8 346 [.inr (.inr 6), .inl s, .inl k] N [] N' ∧ RU z M' N' ∧ TYA N' ∧ (XRF M M' ∧ QRF N N') ∧ M' 0 8 ≤ M 0 8 + 200 := by
  have fx : EFX M (up_ (up_ (up_ M 0 46 s) 0 45 0) 0 47 0) := EFX_tr (EFX_tr (EFX_up (by decide)) (EFX_up (by decide))) (EFX_up (by decide))
  have hD : DST z 0 (M 0 8 + 200) (up_ (up_ (up_ M 0 46 s) 0 45 0) 0 47 0) N s := ⟨RU_ef h fx EFQ_rf, PLr_c hP (XRF_ef fx) QRF_rf, hA, by rw [fx.2 7 (by decide) (by decide) (by decide) (by decide) (by decide)]; exact hs, by rw [upo (by decide), upo (by decide), up_at], ⟨up_at, by decide, by decide⟩, by rw [upo (by decide), up_at], by rw [fx.2 8 (by decide) (by decide) (by decide) (by decide) (by decide)]; omega⟩
  have e11 : up_ (up_ (up_ M 0 46 s) 0 45 0) 0 47 0 11 = M 11 := fx.1 11 (by decide) (by decide)
  have ab := (at_b hP hT).1
  obtain ⟨M', N', x1, q1, r1, t1, f1, b1⟩ := tr_l (x2 := c) (y2 := k) h8 300000 _ N k c 0 (by (clear h hP hA hs h8 hT fx hD e11; omega)) hD (by rw [e11]) (by rw [swc_e (XRF_ef fx)]; exact hT)
  exact ⟨M', N', fun Qr Qt g => t_23 fun V hV hW => b_23_0 (Tr_mono _) hV hW _ _ _ (x1 V Qr Qt hV hW g), fun Qr Qt g => t_346 fun V hV hW => b_346_0 (Tr_mono _) hV hW _ _ _ (q1 V Qr Qt hV hW g), r1, t1, ⟨XRF_tr (XRF_ef fx) f1.1, f1.2⟩, b1⟩
end TRa
end T369_tr
section T370_so
/-! the run: which stim a signal meets (X 13 | Q 337) -/
def FX (M : mm_) (T st sg y : Int) : Prop := M 101 y = T ∧ M 100 y ≤ 1 ∧ an_ (sr_ (M 102 y) st) 1 ≠ 0 ∧ M 103 y = sg
def FQ (N : mm_) (T st sg k i : Int) : Prop := N 192 k = T ∧ an_ (sr_ (N 194 k) st) 1 ≠ 0 ∧ (N 198 k ≤ i ∧ i < N 199 k) ∧ N 200 i = sg
section SOa
variable {z : Int} {M N M' N' : mm_} {T st sg s k i : Int}
theorem x_13 [Inhabited fz_] (hs : 0 ≤ s ∧ s < 12) (h4 : M 4 4 ≤ 600) (h0 : 0 ≤ M 4 4) : ∃ r, Ex_ 1 13 [.inr (.inr 0), .inl s, .inl sg] M [.inl r] M ∧ (((0 ≤ r ∧ r < M 4 4) ∧ FX M (M 11 s) (M 12 s) sg r) ∨ ((∀ y, 0 ≤ y → y < M 4 4 → ¬ FX M (M 11 s) (M 12 s) sg y) ∧ (((0 ≤ r ∧ r < M 4 4) ∧ FX M (M 11 s) (M 12 s) 200 r) ∨ (r = -1 ∧ ∀ y, 0 ≤ y → y < M 4 4 → ¬ FX M (M 11 s) (M 12 s) 200 y)))) := by
  have lp : ∀ (d : Nat) (y all : Int), y + d = M 4 4 → 0 ≤ y → (∀ x, 0 ≤ x → x < y → ¬ FX M (M 11 s) (M 12 s) sg x) → (((0 ≤ all ∧ all < M 4 4) ∧ FX M (M 11 s) (M 12 s) 200 all) ∨ (all = -1 ∧ ∀ x, 0 ≤ x → x < y → ¬ FX M (M 11 s) (M 12 s) 200 x)) → ∃ r, (∀ (V : vv_) (Qr : qr_) (Qt : qt_), Cl_ wd0 (Tr_ wd0 pg0 0) V Qr Qt m_13 → Wk_ V → Qr [.inl r] M → V 5 [rr 0, ii s, ii sg, ii all, ii y] [] M) ∧ (((0 ≤ r ∧ r < M 4 4) ∧ FX M (M 11 s) (M 12 s) sg r) ∨ ((∀ y, 0 ≤ y → y < M 4 4 → ¬ FX M (M 11 s) (M 12 s) sg y) ∧ (((0 ≤ r ∧ r < M 4 4) ∧ FX M (M 11 s) (M 12 s) 200 r) ∨ (r = -1 ∧ ∀ y, 0 ≤ y → y < M 4 4 → ¬ FX M (M 11 s) (M 12 s) 200 y)))) := by
    intro d
    induction d with
    | zero =>
      intro y all hy y0 h1 h2
      refine ⟨all, fun V Qr Qt hV hW g => b_13_5 (Tr_mono _) hV hW _ _ _ _ _ ?_, .inr ⟨fun x x0 x1 => h1 x x0 (by (clear hs h4 h0 y0 h1 h2 x0; omega)), ?_⟩⟩
      · rw [if_neg (by omega)]; exact g
      · rcases h2 with h | ⟨e, h⟩
        · exact .inl h
        · exact .inr ⟨e, fun x x0 x1 => h x x0 (by omega)⟩
    | succ d ih =>
      intro y all hy y0 h1 h2
      have w1 : w32 (y + 1) = y + 1 := w32_id (by omega) (by (clear hs ih y0 h1 h2; omega))
      have nx : ¬ FX M (M 11 s) (M 12 s) sg y → ∀ x, 0 ≤ x → x < y + 1 → ¬ FX M (M 11 s) (M 12 s) sg x := fun hn x x0 x1 => by
        by_cases c : x = y
        · rw [c]; exact hn
        · exact h1 x x0 (by (clear hs h4 h0 ih hy y0 h1 h2 hn x0; lia))
      have na : ¬ FX M (M 11 s) (M 12 s) 200 y → (((0 ≤ all ∧ all < M 4 4) ∧ FX M (M 11 s) (M 12 s) 200 all) ∨ (all = -1 ∧ ∀ x, 0 ≤ x → x < y + 1 → ¬ FX M (M 11 s) (M 12 s) 200 x)) := fun hn => by
        rcases h2 with h | ⟨e, h⟩
        · exact .inl h
        · refine .inr ⟨e, fun x x0 x1 => ?_⟩
          by_cases c : x = y
          · rw [c]; exact hn
          · exact h x x0 (by (clear hs h4 h0 ih hy y0 h1 nx hn e h x0; lia))
      -- no row of this type, kind, state
      have skip : (¬ (M 101 y = M 11 s ∧ M 100 y ≤ 1 ∧ an_ (sr_ (M 102 y) (M 12 s)) 1 ≠ 0)) → ∃ r, (∀ (V : vv_) (Qr : qr_) (Qt : qt_), Cl_ wd0 (Tr_ wd0 pg0 0) V Qr Qt m_13 → Wk_ V → Qr [.inl r] M → V 5 [rr 0, ii s, ii sg, ii all, ii y] [] M) ∧ (((0 ≤ r ∧ r < M 4 4) ∧ FX M (M 11 s) (M 12 s) sg r) ∨ ((∀ y, 0 ≤ y → y < M 4 4 → ¬ FX M (M 11 s) (M 12 s) sg y) ∧ (((0 ≤ r ∧ r < M 4 4) ∧ FX M (M 11 s) (M 12 s) 200 r) ∨ (r = -1 ∧ ∀ y, 0 ≤ y → y < M 4 4 → ¬ FX M (M 11 s) (M 12 s) 200 y)))) := fun hn => by
        obtain ⟨r, xr, hr⟩ := ih (y + 1) all (by omega) (by omega) (nx (fun h => hn ⟨h.1, h.2.1, h.2.2.1⟩)) (na (fun h => hn ⟨h.1, h.2.1, h.2.2.1⟩))
        refine ⟨r, fun V Qr Qt hV hW g => b_13_5 (Tr_mono _) hV hW _ _ _ _ _ ?_, hr⟩
        have n5 := xr V Qr Qt hV hW g
        rw [if_pos (by omega), w1]
        refine ⟨by omega, hs, ?_⟩
        by_cases k1 : M 101 y = M 11 s
        · rw [if_pos k1]
          refine ⟨by omega, ?_⟩
          by_cases k2 : M 100 y ≤ 1
          · rw [if_pos k2]
            refine ⟨by omega, hs, ?_⟩
            by_cases k3 : an_ (sr_ (M 102 y) (M 12 s)) 1 = 0
            · rw [if_pos k3]; exact n5
            · exact absurd ⟨k1, k2, k3⟩ hn
          · rw [if_neg k2]; exact n5
        · rw [if_neg k1]; exact n5
      by_cases hf : M 101 y = M 11 s ∧ M 100 y ≤ 1 ∧ an_ (sr_ (M 102 y) (M 12 s)) 1 ≠ 0
      · by_cases c1 : M 103 y = sg
        · refine ⟨y, fun V Qr Qt hV hW g => b_13_5 (Tr_mono _) hV hW _ _ _ _ _ ?_, .inl ⟨⟨y0, by omega⟩, hf.1, hf.2.1, hf.2.2, c1⟩⟩
          rw [if_pos (by omega), if_pos hf.1, if_pos hf.2.1, if_neg hf.2.2, if_pos c1]
          exact ⟨by omega, hs, by omega, by omega, hs, by omega, g⟩
        · by_cases c2 : M 103 y = 200
          · obtain ⟨r, xr, hr⟩ := ih (y + 1) y (by omega) (by omega) (nx (fun h => c1 h.2.2.2)) (.inl ⟨⟨y0, by omega⟩, hf.1, hf.2.1, hf.2.2, c2⟩)
            refine ⟨r, fun V Qr Qt hV hW g => b_13_5 (Tr_mono _) hV hW _ _ _ _ _ ?_, hr⟩
            rw [if_pos (by omega), if_pos hf.1, if_pos hf.2.1, if_neg hf.2.2, if_neg c1, if_pos c2, w1]
            exact ⟨by omega, hs, by omega, by omega, hs, by omega, by omega, xr V Qr Qt hV hW g⟩
          · obtain ⟨r, xr, hr⟩ := ih (y + 1) all (by omega) (by omega) (nx (fun h => c1 h.2.2.2)) (na (fun h => c2 h.2.2.2))
            refine ⟨r, fun V Qr Qt hV hW g => b_13_5 (Tr_mono _) hV hW _ _ _ _ _ ?_, hr⟩
            rw [if_pos (by omega), if_pos hf.1, if_pos hf.2.1, if_neg hf.2.2, if_neg c1, if_neg c2, w1]
            exact ⟨by omega, hs, by omega, by omega, hs, by omega, by omega, xr V Qr Qt hV hW g⟩
      · exact skip hf
  obtain ⟨r, xr, hr⟩ := lp (M 4 4).toNat 0 (-1) (by omega) (by decide) (fun x x0 x1 => by omega) (.inr ⟨rfl, fun x x0 x1 => by omega⟩)
  exact ⟨r, fun Qr Qt g => t_13 fun V hV hW => b_13_0 (Tr_mono _) hV hW _ _ _ (xr V Qr Qt hV hW g), hr⟩
theorem q_337 [Inhabited fz_] (h62 : 0 ≤ N 6 62 ∧ N 6 62 ≤ 600) (hr : ∀ k, 0 ≤ k → k < N 6 62 → 0 ≤ N 198 k ∧ N 198 k ≤ N 199 k ∧ N 199 k ≤ 600) : (∃ k i, (0 ≤ k ∧ k < N 6 62) ∧ FQ N T st sg k i ∧ Ex_ 1 337 [.inr (.inr 6), .inl T, .inl st, .inl sg] N [.inl 1] (up_ (up_ N 6 151 k) 6 153 i)) ∨ ((∀ k i, 0 ≤ k → k < N 6 62 → ¬ FQ N T st sg k i) ∧ Ex_ 1 337 [.inr (.inr 6), .inl T, .inl st, .inl sg] N [.inl 0] N) := by
  have inn : ∀ (k : Int), 0 ≤ k → k < N 6 62 → N 192 k = T → an_ (sr_ (N 194 k) st) 1 ≠ 0 → ∀ (d : Nat) (i : Int), i + d = N 199 k → N 198 k ≤ i → (∃ i', FQ N T st sg k i' ∧ ∀ (V : vv_) (Qr : qr_) (Qt : qt_), Cl_ wd0 (Tr_ wd0 pg0 0) V Qr Qt m_337 → Wk_ V → Qr [.inl 1] (up_ (up_ N 6 151 k) 6 153 i') → V 49 [rr 6, ii T, ii st, ii sg, ii k, ii i] [] N) ∨ ((∀ i', i ≤ i' → ¬ FQ N T st sg k i') ∧ RC 0 m_337 49 [rr 6, ii T, ii st, ii sg, ii k, ii i] N 3 [rr 6, ii T, ii st, ii sg, ii (k + 1), none] N) := by
    intro k k0 k1 e1 e2 d
    have b := hr k k0 k1
    induction d with
    | zero =>
      intro i hi i0
      refine .inr ⟨fun i' h' hf => by have := hf.2.2.1.2; (clear h62 hr k0 k1 e1 e2 b i0 hf; omega), fun V Qr Qt hV hW g => b_337_49 (Tr_mono _) hV hW _ _ _ _ _ _ ⟨by omega, ?_⟩⟩
      rw [if_neg (by omega), w32_id (x := k + 1) (by omega) (by omega)]; exact g
    | succ d ih =>
      intro i hi i0
      by_cases c : N 200 i = sg
      · refine .inl ⟨i, ⟨e1, e2, ⟨i0, by omega⟩, c⟩, fun V Qr Qt hV hW g => b_337_49 (Tr_mono _) hV hW _ _ _ _ _ _ ⟨by (clear hr e1 e2 b ih hi i0 c hV hW g; omega), ?_⟩⟩
        rw [if_pos (by omega), if_pos c]; exact ⟨by (clear h62 hr k0 k1 e1 e2 ih c hV hW g; omega), .inr rfl, g⟩
      · have st1 : RC 0 m_337 49 [rr 6, ii T, ii st, ii sg, ii k, ii i] N 49 [rr 6, ii T, ii st, ii sg, ii k, ii (i + 1)] N := fun V Qr Qt hV hW g => b_337_49 (Tr_mono _) hV hW _ _ _ _ _ _ ⟨by omega, by
          rw [if_pos (by omega), if_neg c, w32_id (x := i + 1) (by omega) (by omega)]; exact ⟨by (clear h62 hr k0 k1 e1 e2 ih c hV hW g; omega), g⟩⟩
        rcases ih (i + 1) (by (clear h62 hr k0 k1 e1 e2 b ih i0 c st1; omega)) (by (clear h62 hr k0 k1 e1 e2 b ih hi c st1; lia)) with ⟨i', hf, q⟩ | ⟨hn, q⟩
        · exact .inl ⟨i', hf, fun V Qr Qt hV hW g => st1 V Qr Qt hV hW (q V Qr Qt hV hW g)⟩
        · refine .inr ⟨fun i' h' hf => ?_, RC_tr st1 q⟩
          by_cases c2 : i' = i
          · rw [c2] at hf; exact c hf.2.2.2
          · exact hn i' (by (clear h62 hr k0 k1 e1 e2 b ih hi i0 c st1 hn q hf; lia)) hf
  have out : ∀ (d : Nat) (k : Int), k + d = N 6 62 → 0 ≤ k → (∃ k' i', (0 ≤ k' ∧ k' < N 6 62) ∧ FQ N T st sg k' i' ∧ ∀ (V : vv_) (Qr : qr_) (Qt : qt_), Cl_ wd0 (Tr_ wd0 pg0 0) V Qr Qt m_337 → Wk_ V → Qr [.inl 1] (up_ (up_ N 6 151 k') 6 153 i') → V 3 [rr 6, ii T, ii st, ii sg, ii k, none] [] N) ∨ ((∀ k' i', k ≤ k' → k' < N 6 62 → ¬ FQ N T st sg k' i') ∧ ∀ (V : vv_) (Qr : qr_) (Qt : qt_), Cl_ wd0 (Tr_ wd0 pg0 0) V Qr Qt m_337 → Wk_ V → Qr [.inl 0] N → V 3 [rr 6, ii T, ii st, ii sg, ii k, none] [] N) := by
    intro d
    induction d with
    | zero =>
      intro k hk k0
      refine .inr ⟨fun k' i' h1 h2 => by omega, fun V Qr Qt hV hW g => b_337_3 (Tr_mono _) hV hW _ _ _ _ _ ?_⟩
      rw [if_neg (by (clear h62 hr inn k0 hV hW g; lia))]; exact ⟨.inl rfl, g⟩
    | succ d ih =>
      intro k hk k0
      have b := hr k k0 (by omega)
      have w1 : w32 (k + 1) = k + 1 := w32_id (by omega) (by omega)
      -- this stim has none
      have no : (∀ i', ¬ FQ N T st sg k i') → RC 0 m_337 3 [rr 6, ii T, ii st, ii sg, ii k, none] N 3 [rr 6, ii T, ii st, ii sg, ii (k + 1), none] N → (∃ k' i', (0 ≤ k' ∧ k' < N 6 62) ∧ FQ N T st sg k' i' ∧ ∀ (V : vv_) (Qr : qr_) (Qt : qt_), Cl_ wd0 (Tr_ wd0 pg0 0) V Qr Qt m_337 → Wk_ V → Qr [.inl 1] (up_ (up_ N 6 151 k') 6 153 i') → V 3 [rr 6, ii T, ii st, ii sg, ii k, none] [] N) ∨ ((∀ k' i', k ≤ k' → k' < N 6 62 → ¬ FQ N T st sg k' i') ∧ ∀ (V : vv_) (Qr : qr_) (Qt : qt_), Cl_ wd0 (Tr_ wd0 pg0 0) V Qr Qt m_337 → Wk_ V → Qr [.inl 0] N → V 3 [rr 6, ii T, ii st, ii sg, ii k, none] [] N) := fun hn st1 => by
        rcases ih (k + 1) (by omega) (by omega) with ⟨k', i', h1, h2, q⟩ | ⟨h1, q⟩
        · exact .inl ⟨k', i', h1, h2, fun V Qr Qt hV hW g => st1 V Qr Qt hV hW (q V Qr Qt hV hW g)⟩
        · refine .inr ⟨fun k' i' g1 g2 hf => ?_, fun V Qr Qt hV hW g => st1 V Qr Qt hV hW (q V Qr Qt hV hW g)⟩
          by_cases c : k' = k
          · rw [c] at hf; exact hn i' hf
          · exact h1 k' i' (by omega) g2 hf
      by_cases c1 : N 192 k = T
      · by_cases c2 : an_ (sr_ (N 194 k) st) 1 = 0
        · refine no (fun i' hf => hf.2.1 c2) (fun V Qr Qt hV hW g => b_337_3 (Tr_mono _) hV hW _ _ _ _ _ ?_)
          rw [if_pos (by omega), if_pos c1, if_pos c2, w1]; exact ⟨by omega, by omega, g⟩
        · have st9 : ∀ (V : vv_) (Qr : qr_) (Qt : qt_), Cl_ wd0 (Tr_ wd0 pg0 0) V Qr Qt m_337 → Wk_ V → V 49 [rr 6, ii T, ii st, ii sg, ii k, ii (N 198 k)] [] N → V 3 [rr 6, ii T, ii st, ii sg, ii k, none] [] N := fun V Qr Qt hV hW g => b_337_3 (Tr_mono _) hV hW _ _ _ _ _ (by
            rw [if_pos (by omega), if_pos c1, if_neg c2]; exact ⟨by (clear hr inn ih b no c1 c2 hV hW g; omega), by omega, by omega, g⟩)
          rcases inn k k0 (by omega) c1 c2 (N 199 k - N 198 k).toNat (N 198 k) (by (clear h62 hr inn ih hk k0 w1 no c1 c2 st9; omega)) (Int.le_refl _) with ⟨i', hf, q⟩ | ⟨hn, q⟩
          · exact .inl ⟨k, i', ⟨k0, by omega⟩, hf, fun V Qr Qt hV hW g => st9 V Qr Qt hV hW (q V Qr Qt hV hW g)⟩
          · exact no (fun i' hf => hn i' hf.2.2.1.1 hf) (fun V Qr Qt hV hW g => st9 V Qr Qt hV hW (q V Qr Qt hV hW g))
      · refine no (fun i' hf => c1 hf.1) (fun V Qr Qt hV hW g => b_337_3 (Tr_mono _) hV hW _ _ _ _ _ ?_)
        rw [if_pos (by omega), if_neg c1, w1]; exact ⟨by omega, g⟩
  rcases out (N 6 62).toNat 0 (by omega) (by decide) with ⟨k, i, h1, h2, q⟩ | ⟨h1, q⟩
  · exact .inl ⟨k, i, h1, h2, fun Qr Qt g => t_337 fun V hV hW => b_337_0 (Tr_mono _) hV hW _ _ _ _ (q V Qr Qt hV hW g)⟩
  · exact .inr ⟨h1, fun Qr Qt g => t_337 fun V hV hW => b_337_0 (Tr_mono _) hV hW _ _ _ _ (q V Qr Qt hV hW g)⟩
end SOa
end T370_so
section T371_sm
/-! the run: X's rows and Q's stims -/
section SMa
variable {z : Int} {M N M' N' : mm_} {T st sg s k i y j : Int}
/-- what a row is -/
def ROWk (M N : mm_) (k j y : Int) : Prop := (0 ≤ k ∧ k < N 6 62) ∧ (0 ≤ j ∧ j < nsK (tbN N) k) ∧ y = xsf (tbN N) k.toNat + j
theorem nsK_e [Inhabited fz_] : nsK (tbN N) k = if N 193 k < 2 then N 199 k - N 198 k else 1 := by
  unfold nsK; rw [tbN_r (q := 193) (by decide) (by decide), tbN_r (q := 199) (by decide) (by decide), tbN_r (q := 198) (by decide) (by decide)]
theorem ps_b [Inhabited fz_] (hP : PLr M N) : (0 ≤ N 6 62 ∧ N 6 62 ≤ 600) ∧ (xsf (tbN N) (N 6 62).toNat = M 4 4 ∧ M 4 4 ≤ 600) ∧ ∀ k, 0 ≤ k → k < N 6 62 → (0 ≤ N 192 k ∧ N 192 k < 6) ∧ (0 ≤ N 193 k ∧ N 193 k ≤ 3) ∧ (0 ≤ N 198 k ∧ N 198 k ≤ N 199 k ∧ N 199 k ≤ 600) ∧ (2 ≤ N 193 k → N 199 k = N 198 k) := by
  have h := hP.2.2.2.1
  unfold PST at h
  rw [tbN_6 (i := 62) (by decide), tbN_6 (i := 63) (by decide), swc_5, tbN_r (q := 192) (by decide) (by decide), tbN_r (q := 193) (by decide) (by decide), tbN_r (q := 198) (by decide) (by decide), tbN_r (q := 199) (by decide) (by decide)] at h
  refine ⟨⟨h.1.1, h.1.2.2.2.1⟩, ⟨h.1.2.1, h.1.2.2.1⟩, fun k k0 k1 => ?_⟩
  obtain ⟨a1, a2, a3, a4⟩ := (h.2 k k0 k1).1
  exact ⟨a1, a2, ⟨a3.1, a3.2.1, by have := h.1.2.2.2.2; omega⟩, a4⟩
theorem row_f [Inhabited fz_] (hP : PLr M N) (hr : ROWk M N k j y) : (M 100 y = N 193 k ∧ M 101 y = N 192 k ∧ MB (M 90 (N 192 k)) (M 102 y) (N 194 k) ∧ (N 193 k < 2 → M 103 y = N 200 (N 198 k + j))) ∧ SRO (swc M) (tbN N) k y (N 198 k + j) := by
  obtain ⟨hk, hj, e⟩ := hr
  have h := (hP.2.2.2.1.2 k hk.1 (by rw [tbN_6 (by decide)]; exact hk.2)).2 j hj.1 hj.2
  rw [← e] at h
  rw [show swc M 133 = M 100 from swc_r (q := 100) (by decide) (by decide), show swc M 134 = M 101 from swc_r (q := 101) (by decide) (by decide), show swc M 135 = M 102 from swc_r (q := 102) (by decide) (by decide), show swc M 136 = M 103 from swc_r (q := 103) (by decide) (by decide), show swc M 123 = M 90 from swc_r (q := 90) (by decide) (by decide), tbN_r (q := 192) (by decide) (by decide), tbN_r (q := 193) (by decide) (by decide), tbN_r (q := 194) (by decide) (by decide), tbN_r (q := 198) (by decide) (by decide), tbN_r (q := 200) (by decide) (by decide)] at h
  exact h
/-- every row is one of a stim -/
theorem row_c [Inhabited fz_] (hP : PLr M N) : ∀ (n : Nat) (y : Int), (n : Int) ≤ N 6 62 → 0 ≤ y → y < xsf (tbN N) n → ∃ k j, ROWk M N k j y
  | 0, y, _, y0, y1 => by unfold xsf at y1; omega
  | n + 1, y, hn, y0, y1 => by
    by_cases c : y < xsf (tbN N) n
    · exact row_c hP n y (by omega) y0 c
    · unfold xsf at y1
      exact ⟨n, y - xsf (tbN N) n, by omega, by omega, by rw [show ((n : Int)).toNat = n by omega]; omega⟩
theorem xsfm [Inhabited fz_] (hP : PLr M N) : ∀ (n : Nat), (n : Int) ≤ N 6 62 → 0 ≤ xsf (tbN N) n
  | 0, _ => by unfold xsf; exact Int.le_refl _
  | n + 1, hn => by
    have := xsfm hP n (by omega)
    have b := (ps_b hP).2.2 n (by omega) (by omega)
    unfold xsf
    rw [nsK_e]; split <;> omega
theorem row_b [Inhabited fz_] (hP : PLr M N) (hr : ROWk M N k j y) : 0 ≤ y ∧ y < M 4 4 := by
  obtain ⟨hk, hj, e⟩ := hr
  have b := ps_b hP
  have mono : ∀ (d n : Nat), ((n + d : Nat) : Int) ≤ N 6 62 → xsf (tbN N) n ≤ xsf (tbN N) (n + d) := fun d => by
    induction d with
    | zero => intro n _; exact Int.le_refl _
    | succ d ih =>
      intro n hn
      have := ih n (by omega)
      have b9 := b.2.2 ((n + d : Nat) : Int) (by omega) (by omega)
      show xsf (tbN N) n ≤ xsf (tbN N) (n + d) + nsK (tbN N) ((n + d : Nat) : Int)
      rw [nsK_e]; split <;> (clear hP hk hj e b ih hn; omega)
  have m := mono ((N 6 62).toNat - (k.toNat + 1)) (k.toNat + 1) (by omega)
  rw [show k.toNat + 1 + ((N 6 62).toNat - (k.toNat + 1)) = (N 6 62).toNat by (clear hP hj e mono m; omega), b.2.1.1] at m
  have e1 : xsf (tbN N) (k.toNat + 1) = xsf (tbN N) k.toNat + nsK (tbN N) k := by
    show xsf (tbN N) k.toNat + nsK (tbN N) ((k.toNat : Nat) : Int) = _
    rw [show ((k.toNat : Nat) : Int) = k by omega]
  have := xsfm hP k.toNat (by omega)
  (clear hP hk b mono; omega)
/-- a row and a stim fit together -/
theorem row_q [Inhabited fz_] (hP : PLr M N) (hr : ROWk M N k j y) (hst : 0 ≤ st ∧ st < M 90 T ∧ st < 31) : FX M T st sg y ↔ (N 193 k < 2 ∧ FQ N T st sg k (N 198 k + j)) := by
  obtain ⟨⟨f1, f2, f3, f4⟩, _⟩ := row_f hP hr
  obtain ⟨hk, hj, e⟩ := hr
  rw [nsK_e] at hj
  have bX := an_sr (c := M 102 y) (s := st) f3.1.1 (by have := f3.1.2; (clear hP hst f1 f2 f3 f4 hk hj e; omega)) hst.1 hst.2.2
  have bQ := an_sr (c := N 194 k) (s := st) f3.2.1.1 (by have := f3.2.1.2; (clear hP hst f1 f2 f3 f4 hk hj e bX; omega)) hst.1 hst.2.2
  have mb := f3.2.2 st hst.1
  unfold FX FQ
  rw [f1, f2]
  constructor
  · rintro ⟨a1, a2, a3, a4⟩
    have l2 : N 193 k < 2 := by (clear hP hst f1 f2 f3 f4 hk hj e bX bQ mb a1 a3 a4; omega)
    rw [if_pos l2] at hj
    refine ⟨l2, a1, fun e0 => ?_, by (clear hP hst f1 f2 f3 f4 hk bX bQ mb a1 a2 a3 a4 l2; omega), by rw [← f4 l2]; exact a4⟩
    have : bt_ (M 102 y) st := by
      by_cases c : bt_ (M 102 y) st
      · exact c
      · exact absurd (bX.1.2 c) a3
    exact bQ.1.1 e0 (mb.1 this).1
  · rintro ⟨l2, a1, a2, a3, a4⟩
    refine ⟨a1, by (clear hP hst f1 f2 f3 f4 hk hj e bX bQ mb a1 a2 a3 a4; omega), fun e0 => ?_, by rw [f4 l2]; exact a4⟩
    have : bt_ (N 194 k) st := by
      by_cases c : bt_ (N 194 k) st
      · exact c
      · exact absurd (bQ.1.2 c) a2
    exact bX.1.1 e0 (mb.2 ⟨this, by rw [a1]; exact hst.2.1⟩)
/-- at most one row fits -/
theorem row_u [Inhabited fz_] (hP : PLr M N) {y' : Int} (hst : 0 ≤ st ∧ st < 31) (h0 : 0 ≤ y ∧ y < M 4 4) (h1 : 0 ≤ y' ∧ y' < M 4 4) (hy : FX M T st sg y) (hy' : FX M T st sg y') : y = y' := by
  have b := ps_b hP
  have key : ∀ a c, 0 ≤ a → a < c → c < M 4 4 → FX M T st sg a → FX M T st sg c → False := fun a c a0 ac c1 fa fc => by
    obtain ⟨k, j, hr⟩ := row_c hP (N 6 62).toNat c (by omega) (by (clear hP hst h0 h1 hy hy' b c1 fa fc; omega)) (by rw [b.2.1.1]; exact c1)
    obtain ⟨⟨f1, f2, f3, f4⟩, sro⟩ := row_f hP hr
    obtain ⟨k', j', hr'⟩ := row_c hP (N 6 62).toNat a (by (clear hP hst h0 h1 hy hy' a0 ac c1 fa fc hr sro f1 f2 f3 f4; omega)) (by omega) (by rw [b.2.1.1]; (clear hP hst h0 h1 hy hy' a0 fa fc hr sro f1 f2 f3 f4; omega))
    obtain ⟨⟨g1, g2, g3, g4⟩, _⟩ := row_f hP hr'
    have l2 : N 193 k < 2 := by have := fc.2.1; (clear hP hst h0 h1 hy hy' b a0 ac c1 fa fc hr sro f2 f3 f4 hr' g1 g2 g3 g4; omega)
    have u := (sro.2.2.2 (by rw [tbN_r (q := 193) (by decide) (by decide)]; exact l2)).1 a a0 ac
    rw [show swc M 133 = M 100 from swc_r (q := 100) (by decide) (by decide), show swc M 134 = M 101 from swc_r (q := 101) (by decide) (by decide), show swc M 135 = M 102 from swc_r (q := 102) (by decide) (by decide), show swc M 136 = M 103 from swc_r (q := 103) (by decide) (by decide)] at u
    refine u ⟨by rw [fa.1, fc.1], by have := fa.2.1; (clear hP hst h0 h1 hy hy' b a0 ac c1 fa fc hr sro f1 f2 f3 f4 hr' g2 g3 g4 l2 u; lia), by rw [fa.2.2.2, fc.2.2.2], fun e0 => ?_⟩
    have bA := an_sr (c := M 102 a) (s := st) g3.1.1 (by have := g3.1.2; (clear hP hst h0 h1 hy hy' b a0 ac c1 fa fc hr sro f1 f2 f3 f4 hr' g1 g2 g3 g4 l2 u e0; omega)) hst.1 hst.2
    have bC := an_sr (c := M 102 c) (s := st) f3.1.1 (by have := f3.1.2; (clear hP hst h0 h1 hy hy' b a0 ac c1 fa fc hr sro f1 f2 f3 f4 hr' g1 g2 g3 g4 l2 u e0 bA; omega)) hst.1 hst.2
    have ba : bt_ (M 102 a) st := by
      by_cases q : bt_ (M 102 a) st
      · exact q
      · exact absurd (bA.1.2 q) fa.2.2.1
    have bc : bt_ (M 102 c) st := by
      by_cases q : bt_ (M 102 c) st
      · exact q
      · exact absurd (bC.1.2 q) fc.2.2.1
    haveI : Inhabited gh_ := ih_ 0 (fun _ => 0) 0 0
    have ab := (an_bt (x := M 102 a) (y := M 102 c) ⟨g3.1.1, by have := g3.1.2; omega⟩ ⟨f3.1.1, by have := f3.1.2; omega⟩).2 st hst.1
    have := ab.2 ⟨ba, bc⟩
    rw [e0] at this
    unfold bt_ at this
    simp at this
  rcases Int.lt_trichotomy y y' with l | l | l
  · exact (key y y' h0.1 l h1.2 hy hy').elim
  · exact l
  · exact (key y' y h1.1 l h0.2 hy' hy).elim
end SMa
end T371_sm
section T372_js
/-! the run: the stim that a signal meets -/
section JSa
variable {z : Int} {M N M' N' : mm_} {T st sg s k i y j : Int}
def uST (N : mm_) (k i : Int) : mm_ := up_ (up_ N 6 151 k) 6 153 i
theorem fq_row [Inhabited fz_] (hP : PLr M N) (hk : 0 ≤ k ∧ k < N 6 62) (hf : FQ N T st sg k i) : N 193 k < 2 ∧ ROWk M N k (i - N 198 k) (xsf (tbN N) k.toNat + (i - N 198 k)) := by
  have b := (ps_b hP).2.2 k hk.1 hk.2
  have l2 : N 193 k < 2 := by
    have := hf.2.2.1
    by_cases c : N 193 k < 2
    · exact c
    · have := b.2.2.2 (by (clear hP hk hf this; omega)); omega
  have := hf.2.2.1
  exact ⟨l2, hk, by rw [nsK_e, if_pos l2]; (clear hP hk hf b l2; omega), rfl⟩
theorem j_stim [Inhabited fz_] (hP : PLr M N) (hs : 0 ≤ s ∧ s < 12) (hst : 0 ≤ M 12 s ∧ M 12 s < M 90 (M 11 s) ∧ M 12 s < 31) : ∃ r, Ex_ 1 13 [.inr (.inr 0), .inl s, .inl sg] M [.inl r] M ∧
    ((r = -1 ∧ Ex_ 1 337 [.inr (.inr 6), .inl (M 11 s), .inl (M 12 s), .inl sg] N [.inl 0] N ∧ Ex_ 1 337 [.inr (.inr 6), .inl (M 11 s), .inl (M 12 s), .inl 200] N [.inl 0] N)
     ∨ ∃ k j, ROWk M N k j r ∧ N 193 k < 2 ∧ N 192 k = M 11 s ∧ (N 200 (N 198 k + j) = sg ∨ N 200 (N 198 k + j) = 200) ∧ (Ex_ 1 337 [.inr (.inr 6), .inl (M 11 s), .inl (M 12 s), .inl sg] N [.inl 1] (uST N k (N 198 k + j)) ∨ (Ex_ 1 337 [.inr (.inr 6), .inl (M 11 s), .inl (M 12 s), .inl sg] N [.inl 0] N ∧ Ex_ 1 337 [.inr (.inr 6), .inl (M 11 s), .inl (M 12 s), .inl 200] N [.inl 1] (uST N k (N 198 k + j))))) := by
  have b := ps_b hP
  have s31 : 0 ≤ M 12 s ∧ M 12 s < 31 := ⟨hst.1, hst.2.2⟩
  have xm := xsfm hP (N 6 62).toNat (by (clear hP hs hst s31; omega))
  obtain ⟨r, xr, hr⟩ := x_13 (M := M) (s := s) (sg := sg) hs b.2.1.2 (by rw [← b.2.1.1]; exact xm)
  have hq : ∀ k, 0 ≤ k → k < N 6 62 → 0 ≤ N 198 k ∧ N 198 k ≤ N 199 k ∧ N 199 k ≤ 600 := fun k k0 k1 => (b.2.2 k k0 k1).2.2.1
  -- a fit of X is one of Q
  have toQ : ∀ g y, 0 ≤ y → y < M 4 4 → FX M (M 11 s) (M 12 s) g y → ∃ k i, (0 ≤ k ∧ k < N 6 62) ∧ FQ N (M 11 s) (M 12 s) g k i := fun g y y0 y1 hf => by
    obtain ⟨k, j, hrow⟩ := row_c hP (N 6 62).toNat y (by omega) y0 (by rw [b.2.1.1]; exact y1)
    exact ⟨k, N 198 k + j, hrow.1, ((row_q hP hrow hst).1 hf).2⟩
  have toX : ∀ g k i, (0 ≤ k ∧ k < N 6 62) → FQ N (M 11 s) (M 12 s) g k i → ∃ y, ROWk M N k (i - N 198 k) y ∧ N 193 k < 2 ∧ FX M (M 11 s) (M 12 s) g y ∧ 0 ≤ y ∧ y < M 4 4 := fun g k i hk hf => by
    obtain ⟨l2, hrow⟩ := fq_row hP hk hf
    have rb := row_b hP hrow
    refine ⟨_, hrow, l2, (row_q hP hrow hst).2 ⟨l2, ?_⟩, rb.1, rb.2⟩
    rw [show N 198 k + (i - N 198 k) = i by omega]; exact hf
  refine ⟨r, xr, ?_⟩
  rcases q_337 (T := M 11 s) (st := M 12 s) (sg := sg) b.1 hq with ⟨k, i, hk, hf, q⟩ | ⟨hn, q⟩
  · obtain ⟨y, hrow, l2, fy, y0, y1⟩ := toX sg k i hk hf
    have e : r = y := by
      rcases hr with ⟨hb, fr⟩ | ⟨hno, _⟩
      · exact row_u hP s31 hb ⟨y0, y1⟩ fr fy
      · exact absurd fy (hno y y0 y1)
    refine .inr ⟨k, i - N 198 k, by rw [e]; exact hrow, l2, hf.1, .inl (by rw [show N 198 k + (i - N 198 k) = i by (clear hP hs hst b s31 xm xr hr hq toQ toX hk hf q hrow l2 fy y0 y1 e; lia)]; exact hf.2.2.2), .inl ?_⟩
    rw [show N 198 k + (i - N 198 k) = i by omega]; exact q
  · have hr2 : ((0 ≤ r ∧ r < M 4 4) ∧ FX M (M 11 s) (M 12 s) 200 r) ∨ (r = -1 ∧ ∀ y, 0 ≤ y → y < M 4 4 → ¬ FX M (M 11 s) (M 12 s) 200 y) := by
      rcases hr with ⟨hb, fr⟩ | ⟨_, h⟩
      · obtain ⟨k, i, hk, hf⟩ := toQ sg r hb.1 hb.2 fr
        exact absurd hf (hn k i hk.1 hk.2)
      · exact h
    rcases q_337 (T := M 11 s) (st := M 12 s) (sg := 200) b.1 hq with ⟨k, i, hk, hf, q2⟩ | ⟨hn2, q2⟩
    · obtain ⟨y, hrow, l2, fy, y0, y1⟩ := toX 200 k i hk hf
      have e : r = y := by
        rcases hr2 with ⟨hb, fr⟩ | ⟨_, hno⟩
        · exact row_u hP s31 hb ⟨y0, y1⟩ fr fy
        · exact absurd fy (hno y y0 y1)
      refine .inr ⟨k, i - N 198 k, by rw [e]; exact hrow, l2, hf.1, .inr (by rw [show N 198 k + (i - N 198 k) = i by omega]; exact hf.2.2.2), .inr ⟨q, ?_⟩⟩
      rw [show N 198 k + (i - N 198 k) = i by omega]; exact q2
    · rcases hr2 with ⟨hb, fr⟩ | ⟨e, _⟩
      · obtain ⟨k, i, hk, hf⟩ := toQ 200 r hb.1 hb.2 fr
        exact absurd hf (hn2 k i hk.1 hk.2)
      · exact .inl ⟨e, q, q2⟩
/-- what a look for a step leaves -/
def EGX (M M' : mm_) : Prop := (∀ r : Nat, r ≠ 0 → r ≠ 26 → M' r = M r) ∧ ∀ i : Int, i ∉ [41, 42, 45, 46, 47, 49, 50] → M' 0 i = M 0 i
def EGQ (N N' : mm_) : Prop := (∀ r : Nat, r ≠ 6 → r ≠ 243 → N' r = N r) ∧ ∀ i : Int, i ∉ [148, 149, 151, 152, 153] → N' 6 i = N 6 i
theorem EGX_rf [Inhabited fz_] : EGX M M := ⟨fun _ _ _ => rfl, fun _ _ => rfl⟩
theorem EGQ_rf [Inhabited fz_] : EGQ N N := ⟨fun _ _ _ => rfl, fun _ _ => rfl⟩
theorem EGX_tr [Inhabited fz_] {M1 : mm_} (h : EGX M M1) (g : EGX M1 M') : EGX M M' := ⟨fun r a b => (g.1 r a b).trans (h.1 r a b), fun i a => (g.2 i a).trans (h.2 i a)⟩
theorem EGQ_tr [Inhabited fz_] {N1 : mm_} (h : EGQ N N1) (g : EGQ N1 N') : EGQ N N' := ⟨fun r a b => (g.1 r a b).trans (h.1 r a b), fun i a => (g.2 i a).trans (h.2 i a)⟩
theorem EGX_ef [Inhabited fz_] (h : EFX M M') : EGX M M' := ⟨h.1, fun i hi => by simp only [List.mem_cons, List.not_mem_nil, or_false, not_or] at hi; exact h.2 i hi.2.2.1 hi.2.2.2.1 hi.2.2.2.2.1 hi.2.2.2.2.2.1 hi.2.2.2.2.2.2⟩
theorem EGQ_ef [Inhabited fz_] (h : EFQ N N') : EGQ N N' := ⟨h.1, fun i hi => by simp only [List.mem_cons, List.not_mem_nil, or_false, not_or] at hi; exact h.2 i hi.1 hi.2.1⟩
theorem EGX_up [Inhabited fz_] {i v : Int} (h : i = 41 ∨ i = 42) : EGX M (up_ M 0 i v) := ⟨fun r a _ => up_ne a, fun j hj => upo (fun e => by subst e; rcases h with e | e <;> (subst e; exact hj (by decide)))⟩
theorem EGQ_up [Inhabited fz_] {i v : Int} (h : i = 151 ∨ i = 152 ∨ i = 153) : EGQ N (up_ N 6 i v) := ⟨fun r a _ => up_ne a, fun j hj => upo (fun e => by subst e; rcases h with e | e | e <;> (subst e; exact hj (by decide)))⟩
theorem XRF_eg [Inhabited fz_] (h : EGX M M') : XRF M M' := ⟨fun r hr => h.1 r (fun e => hr (by rw [e]; decide)) (fun e => hr (by rw [e]; decide)), fun i hi => h.2 i (fun e => hi (by revert e; simp only [xfL, List.mem_cons, List.not_mem_nil, or_false]; (clear h hi; lia)))⟩
theorem QRF_eg [Inhabited fz_] (h : EGQ N N') : QRF N N' := ⟨fun r hr => h.1 r (fun e => hr (by rw [e]; decide)) (fun e => hr (by rw [e]; decide)), fun i hi => h.2 i (fun e => hi (by revert e; simp only [qfL, List.mem_cons, List.not_mem_nil, or_false]; (clear h hi; lia)))⟩
theorem TYA_eg [Inhabited fz_] (hA : TYA N) (h : EGQ N N') : TYA N' := TYA_c hA (TYT_Q (QRF_eg h)) (h.1 239 (by decide) (by decide))
theorem RU_eg [Inhabited fz_] (h : RU z M N) (hx : EGX M M') (hq : EGQ N N') : RU z M' N' := by
  obtain ⟨h1, h2, h3, h4, h5⟩ := h
  have x := hx.1
  have x0 := hx.2
  have q := hq.1
  have q6 := hq.2
  refine ⟨RI_c h1 ⟨x0 7 (by decide), x0 8 (by decide)⟩ (fun r hr => x r (fun c => by rw [c] at hr; revert hr; decide) (fun c => by rw [c] at hr; revert hr; decide)) (q 239 (by decide) (by decide)) (q6 19 (by decide)) (fun r hr => q r (fun c => by rw [c] at hr; revert hr; decide) (fun c => by rw [c] at hr; revert hr; decide)), RRt_c h2 (x 21 (by decide) (by decide)) (x 22 (by decide) (by decide)) (q 239 (by decide) (by decide)) (q6 18 (by decide)), RSC_c h3 (fun i hi => x0 i (fun c => by revert hi c; simp only [List.mem_cons, List.not_mem_nil, or_false]; omega)) (fun i hi => q6 i (fun c => by revert hi c; simp only [List.mem_cons, List.not_mem_nil, or_false]; omega)), ROU_c h4 (fun i hi => x0 i (fun c => by revert hi c; simp only [List.mem_cons, List.not_mem_nil, or_false]; omega)) (x 24 (by decide) (by decide)) (fun i hi => q6 i (fun c => by revert hi c; simp only [List.mem_cons, List.not_mem_nil, or_false]; omega)) (q 241 (by decide) (by decide)), REV_c h5 (fun i hi => x0 i (fun c => by revert hi c; simp only [List.mem_cons, List.not_mem_nil, or_false]; (clear hx hq h1 h2 h3 h4 h5 x x0 q q6; lia))) (x 23 (by decide) (by decide)) (fun i hi => q6 i (fun c => by revert hi c; simp only [List.mem_cons, List.not_mem_nil, or_false]; (clear hx hq h1 h2 h3 h4 h5 x x0 q q6; lia))) (q 240 (by decide) (by decide))⟩
end JSa
end T372_js
section T373_wq
/-! the run: what the queue would do (X 12 | Q 336) -/
def LK [Inhabited fz_] (z : Int) (M N : mm_) (s : Int) : Prop := RU z M N ∧ PLr M N ∧ TYA N ∧ (0 ≤ s ∧ s < M 0 7) ∧ 0 ≤ M 12 s
def WF2 (M N M' N' : mm_) (s : Int) : Prop := ∃ it k j, (0 ≤ it ∧ it < M 14 s) ∧ (M' 0 41 = it ∧ N' 6 152 = it) ∧ ROWk M N k j (M' 0 42) ∧ (N' 6 151 = k ∧ N' 6 153 = N 198 k + j) ∧ N 193 k = 0 ∧ N 192 k = M 11 s ∧ (N 200 (N 198 k + j) = M 15 (30 * s + 5 * it) ∨ N 200 (N 198 k + j) = 200)
def WF3 (M M' N' : mm_) (s : Int) : Prop := ∃ it, (0 ≤ it ∧ it < M 14 s) ∧ M' 0 41 = it ∧ N' 6 152 = it
section WQa
variable {z : Int} {M N M' N' M1 N1 : mm_} {T st sg s k i y j it : Int}
theorem LK_eg [Inhabited fz_] (h : LK z M N s) (hx : EGX M M') (hq : EGQ N N') : LK z M' N' s := ⟨RU_eg h.1 hx hq, PLr_c h.2.1 (XRF_eg hx) (QRF_eg hq), TYA_eg h.2.2.1 hq, by rw [hx.2 7 (by decide)]; exact h.2.2.2.1, by rw [hx.1 12 (by decide) (by decide)]; exact h.2.2.2.2⟩
theorem ROWk_eg [Inhabited fz_] (hx : EGX M M') (hq : EGQ N N') : ROWk M' N' k j y ↔ ROWk M N k j y := by
  unfold ROWk
  rw [tbN_e (QRF_eg hq), hq.2 62 (by decide)]
theorem LK_st [Inhabited fz_] (h : LK z M N s) : 0 ≤ M 12 s ∧ M 12 s < M 90 (M 11 s) ∧ M 12 s < 31 := by
  obtain ⟨w1, w2, w3, w4, w5⟩ := h
  have hin := w1.1.2.2.1 s w4.1 w4.2
  have pt := PT_of w2 hin.2.1.2.1
  unfold PTY at pt
  rw [tbN_r (q := 174) (by decide) (by decide), show swc M 123 = M 90 from swc_r (q := 90) (by decide) (by decide)] at pt
  have := pt.2.2.1.1
  have := hin.2.1.2.2
  omega
theorem l_24 [Inhabited fz_] : ∀ (d : Nat) (it : Int) (M N : mm_), it + d = M 14 s → 0 ≤ it → LK z M N s →
    (∃ w M' N', (∀ (V : vv_) (Qr : qr_) (Qt : qt_), Cl_ wd0 (Tr_ wd0 pg0 4) V Qr Qt m_12 → Wk_ V → Qr [.inl w] M' → V 24 [rr 0, ii s, ii it, none] [] M) ∧ (∀ (V : vv_) (Qr : qr_) (Qt : qt_), Cl_ wd0 (Tr_ wd0 pg0 5) V Qr Qt m_336 → Wk_ V → Qr [.inl w] N' → V 34 [rr 6, ii s, ii (sB s), ii (M 11 s), ii (M 12 s), ii it, none] [] N) ∧ EGX M M' ∧ EGQ N N' ∧ ((w = 2 ∧ WF2 M N M' N' s) ∨ (w = 3 ∧ WF3 M M' N' s)))
    ∨ (∃ M' N', RC 4 m_12 24 [rr 0, ii s, ii it, none] M 130 [rr 0, ii s, ii 0, none] M' ∧ RC 5 m_336 34 [rr 6, ii s, ii (sB s), ii (M 11 s), ii (M 12 s), ii it, none] N 142 [rr 6, ii s, ii (sB s), ii (M 11 s), ii (M 12 s), ii (-1), ii 0] N' ∧ EGX M M' ∧ EGQ N N' ∧ M' 0 42 = M 0 42) := fun d => by
  induction d with
  | zero =>
    intro it M N hi i0 hL
    have n12 := hL.1.1.1
    have w4 := hL.2.2.2.1
    have hB : sB s = 2 + 56 * s := rfl
    have q := (hL.1.1.2.2.1 s w4.1 w4.2).2.2.2.2.1
    refine .inr ⟨M, N, fun V Qr Qt hV hW g => b_12_24 (Tr_mono _) hV hW _ _ _ ⟨by omega, ?_⟩, fun V Qr Qt hV hW g => b_336_34 (Tr_mono _) hV hW _ _ _ _ _ _ ?_, EGX_rf, EGQ_rf, rfl⟩
    · rw [if_neg (by (clear i0 hL n12 w4 hB q hV hW g; omega))]; exact g
    · rw [w32_id (x := sB s + 25) (by (clear hi i0 hL q hV hW g; lia)) (by (clear hi i0 hL q hV hW g; lia)), q.2.2, if_neg (by omega)]; exact ⟨by omega, g⟩
  | succ d ih =>
    intro it M N hi i0 hL
    obtain ⟨w1, w2, w3, w4, w5⟩ := id hL
    have n12 := w1.1.1
    have hB : sB s = 2 + 56 * s := rfl
    have hin := w1.1.2.2.1 s w4.1 w4.2
    have qb := hin.2.2.2.2.1
    have qi := hin.2.2.2.2.2.1 (5 * it) (by (clear ih hL w1 w2 w3 w4 w5 n12 hB hin; lia)) (by omega)
    have stt := LK_st hL
    -- Q: up to the search
    have q34 : ∀ (V : vv_) (Qr : qr_) (Qt : qt_), Cl_ wd0 (Tr_ wd0 pg0 5) V Qr Qt m_336 → Wk_ V → Tr_ wd0 pg0 5 337 [.inr (.inr 6), .inl (M 11 s), .inl (M 12 s), .inl (M 15 (30 * s + 5 * it))] (up_ N 6 152 it) (ri_ fun v1 M1 => if v1 = 0 then Tr_ wd0 pg0 5 337 [.inr (.inr 6), .inl (M 11 s), .inl (M 12 s), .inl 200] M1 (ri_ fun v2 M2 => if v2 = 0 then Qr [.inl 3] M2 else V 99 [rr 6, ii s, ii (sB s), ii (M 11 s), ii (M 12 s), ii it, ii (M 15 (30 * s + 5 * it))] [] M2) Qt else V 99 [rr 6, ii s, ii (sB s), ii (M 11 s), ii (M 12 s), ii it, ii (M 15 (30 * s + 5 * it))] [] M1) Qt → V 34 [rr 6, ii s, ii (sB s), ii (M 11 s), ii (M 12 s), ii it, none] [] N := fun V Qr Qt hV hW g => b_336_34 (Tr_mono _) hV hW _ _ _ _ _ _ (by
      rw [w32_id (x := sB s + 25) (by (clear ih hi i0 hL w1 w2 w3 w5 n12 hin qb qi stt hV hW g; lia)) (by (clear ih hi i0 hL w1 w2 w3 w5 hin qb qi stt hV hW g; omega)), qb.2.2, if_pos (by omega), w32_id (x := sB s + 25 + 1) (by (clear ih hi i0 hL w1 w2 w3 w5 n12 hin qb qi stt hV hW g; lia)) (by omega), w32_id (x := 5 * it) (by omega) (by omega), w32_id (x := sB s + 25 + 1 + 5 * it) (by omega) (by omega), show sB s + 25 + 1 + 5 * it = sB s + 26 + 5 * it by omega, ← qi]
      exact ⟨by (clear ih hi i0 hL w1 w2 w3 w5 hin qb qi stt hV hW g; omega), by (clear ih hL w1 w2 w3 w5 hin qi stt hV hW g; lia), g⟩)
    have x24 : ∀ (V : vv_) (Qr : qr_) (Qt : qt_) (r : Int), Cl_ wd0 (Tr_ wd0 pg0 4) V Qr Qt m_12 → Wk_ V → Ex_ 1 13 [.inr (.inr 0), .inl s, .inl (M 15 (30 * s + 5 * it))] M [.inl r] M → (if r = -1 then Qr [.inl 3] (up_ (up_ M 0 41 it) 0 42 r) else (0 ≤ r ∧ r < 600) ∧ (if M 100 r = 1 then V 24 [rr 0, ii s, ii (it + 1), none] [] M else (if M 106 r = -1 then Qr [.inl 2] (up_ (up_ M 0 41 it) 0 42 r) else Tr_ wd0 pg0 4 14 [.inr (.inr 0), .inl s, .inl (M 106 r)] M (ri_ fun v3 M3 => if v3 = 0 then V 24 [rr 0, ii s, ii (it + 1), none] [] M3 else Qr [.inl 2] (up_ (up_ M3 0 41 it) 0 42 r)) Qt))) → V 24 [rr 0, ii s, ii it, none] [] M := fun V Qr Qt r hV hW xr g => b_12_24 (Tr_mono _) hV hW _ _ _ ⟨by omega, by
      rw [if_pos (by omega)]
      refine Ex_le (d := 1) (by decide) (x_9 (by omega) (by omega)) _ _ (ri_i ⟨by (clear ih hL w1 w2 w3 w5 hB hin qi stt q34 hV hW xr g; lia), Ex_le (d := 1) (by decide) xr _ _ (ri_i ?_)⟩)
      rw [w32_id (x := it + 1) (by omega) (by (clear ih i0 hL w1 w2 w3 w4 w5 n12 hB hin qi stt q34 hV hW xr g; omega))]
      by_cases c : r = -1
      · rw [if_pos c] at g ⊢; rw [if_pos c]; exact g
      · rw [if_neg c] at g ⊢
        refine ⟨g.1, ?_⟩
        have g2 := g.2
        by_cases c1 : M 100 r = 1
        · rw [if_pos c1] at g2 ⊢; exact g2
        · rw [if_neg c1] at g2 ⊢
          refine ⟨g.1, ?_⟩
          by_cases c2 : M 106 r = -1
          · rw [if_pos c2] at g2 ⊢; rw [if_neg c]; exact g2
          · rw [if_neg c2] at g2 ⊢
            refine ⟨g.1, Tr_mono _ _ _ _ _ _ _ _ ?_ (fun _ _ h => h) g2⟩
            rintro vs M9 ⟨v3, e, h⟩
            refine ⟨v3, e, ?_⟩
            by_cases c3 : v3 = 0
            · rw [if_pos c3] at h ⊢; exact h
            · rw [if_neg c3] at h ⊢; rw [if_neg c]; exact h⟩
    have g152 : EGQ N (up_ N 6 152 it) := EGQ_up (by decide)
    have hP9 : PLr M (up_ N 6 152 it) := PLr_c w2 XRF_rf (QRF_eg g152)
    have n9 : ∀ r : Nat, r ≠ 6 → up_ N 6 152 it r = N r := fun r e => up_ne e
    obtain ⟨r, xr, hr⟩ := j_stim (sg := M 15 (30 * s + 5 * it)) hP9 (by omega) stt
    rcases hr with ⟨e, qa, qc⟩ | ⟨k, j, hrow, l2, hT, hsig, hq⟩
    · -- lost
      refine .inl ⟨3, up_ (up_ M 0 41 it) 0 42 r, up_ N 6 152 it, fun V Qr Qt hV hW g => x24 V Qr Qt r hV hW xr (by rw [if_pos e]; exact g), fun V Qr Qt hV hW g => q34 V Qr Qt hV hW (Ex_le (d := 1) (by decide) qa _ _ (ri_i ?_)), EGX_tr (EGX_up (by decide)) (EGX_up (by decide)), g152, .inr ⟨rfl, it, by omega, by rw [upo (by decide), up_at], up_at⟩⟩
      rw [if_pos rfl]
      refine Ex_le (d := 1) (by decide) qc _ _ (ri_i ?_)
      rw [if_pos rfl]; exact g
    · rw [n9 193 (by decide)] at l2
      rw [n9 192 (by decide)] at hT
      rw [n9 198 (by decide)] at hsig hq
      rw [n9 200 (by decide)] at hsig
      have hrow' : ROWk M N k j r := (ROWk_eg EGX_rf g152).1 hrow
      obtain ⟨⟨f1, f2, f3, f4⟩, sro⟩ := row_f w2 hrow'
      have rb := row_b w2 hrow'
      have b6 := (ps_b w2).2.1.2
      have r1 : ¬ r = -1 := by (clear ih hi i0 hL w1 w2 w3 w4 w5 n12 hB hin qb qi stt q34 x24 g152 hP9 n9 xr hrow l2 hT hsig hq hrow' sro f1 f2 f3 f4 b6; omega)
      generalize hN1 : uST (up_ N 6 152 it) k (N 198 k + j) = N1 at hq
      have gN1 : EGQ N N1 := by rw [← hN1]; exact EGQ_tr g152 (EGQ_tr (EGQ_up (by decide)) (EGQ_up (by decide)))
      have e151 : N1 6 151 = k := by rw [← hN1]; unfold uST; rw [upo (by decide), up_at]
      have e153 : N1 6 153 = N 198 k + j := by rw [← hN1]; unfold uST; rw [up_at]
      have e152 : N1 6 152 = it := by rw [← hN1]; unfold uST; rw [upo (by decide), upo (by decide), up_at]
      have k62 := hrow'.1
      have b62 := (ps_b w2).1
      have q99 : ∀ (V : vv_) (Qr : qr_) (Qt : qt_), Cl_ wd0 (Tr_ wd0 pg0 5) V Qr Qt m_336 → Wk_ V → (if N 193 k = 0 then Tr_ wd0 pg0 5 338 [.inr (.inr 6), .inl s, .inl (N 196 k)] N1 (ri_ fun v1 M1 => if v1 = 0 then V 34 [rr 6, ii s, ii (sB s), ii (M 11 s), ii (M 12 s), ii (it + 1), none] [] M1 else Qr [.inl 2] M1) Qt else V 34 [rr 6, ii s, ii (sB s), ii (M 11 s), ii (M 12 s), ii (it + 1), none] [] N1) → V 34 [rr 6, ii s, ii (sB s), ii (M 11 s), ii (M 12 s), ii it, none] [] N := fun V Qr Qt hV hW g => by
        have k99 : V 99 [rr 6, ii s, ii (sB s), ii (M 11 s), ii (M 12 s), ii it, ii (M 15 (30 * s + 5 * it))] [] N1 := b_336_99 (Tr_mono _) hV hW _ _ _ _ _ _ _ (by
          rw [e151, gN1.1 193 (by decide) (by decide), gN1.1 196 (by decide) (by decide), w32_id (x := it + 1) (by (clear ih hL w1 w2 w3 w4 w5 n12 hB hin qi stt q34 x24 g152 hP9 n9 xr hrow l2 hT hsig hrow' sro f1 f2 f3 f4 rb b6 r1 hN1 hq gN1 e151 e153 k62 b62 hV hW g; lia)) (by (clear ih i0 hL w1 w2 w3 w4 w5 n12 hB hin qi stt q34 x24 g152 hP9 n9 xr hrow l2 hT hsig hrow' sro f1 f2 f3 f4 rb b6 r1 hN1 hq gN1 e151 e153 k62 b62 hV hW g; lia))]
          refine ⟨by (clear ih hi i0 hL w1 w2 w3 w4 w5 n12 hB hin qb qi stt q34 x24 g152 hP9 n9 xr hrow l2 hT hsig hrow' sro f1 f2 f3 f4 rb b6 r1 hN1 hq gN1 e151 e153 e152 hV hW g; omega), ?_⟩
          by_cases c : N 193 k = 0
          · rw [if_pos c] at g ⊢; exact ⟨by omega, g⟩
          · rw [if_neg c] at g ⊢; exact g)
        refine q34 V Qr Qt hV hW ?_
        rcases hq with h | ⟨h1, h2⟩
        · exact Ex_le (d := 1) (by decide) h _ _ (ri_i (by rw [if_neg (by decide)]; exact k99))
        · refine Ex_le (d := 1) (by decide) h1 _ _ (ri_i ?_)
          rw [if_pos rfl]
          exact Ex_le (d := 1) (by decide) h2 _ _ (ri_i (by rw [if_neg (by decide)]; exact k99))
      -- on to the next one
      have nxt : ∀ (M2 N2 : mm_), EGX M M2 → EGQ N N2 → M2 0 42 = M 0 42 → RC 4 m_12 24 [rr 0, ii s, ii it, none] M 24 [rr 0, ii s, ii (it + 1), none] M2 → RC 5 m_336 34 [rr 6, ii s, ii (sB s), ii (M 11 s), ii (M 12 s), ii it, none] N 34 [rr 6, ii s, ii (sB s), ii (M 11 s), ii (M 12 s), ii (it + 1), none] N2 →
          (∃ w M' N', (∀ (V : vv_) (Qr : qr_) (Qt : qt_), Cl_ wd0 (Tr_ wd0 pg0 4) V Qr Qt m_12 → Wk_ V → Qr [.inl w] M' → V 24 [rr 0, ii s, ii it, none] [] M) ∧ (∀ (V : vv_) (Qr : qr_) (Qt : qt_), Cl_ wd0 (Tr_ wd0 pg0 5) V Qr Qt m_336 → Wk_ V → Qr [.inl w] N' → V 34 [rr 6, ii s, ii (sB s), ii (M 11 s), ii (M 12 s), ii it, none] [] N) ∧ EGX M M' ∧ EGQ N N' ∧ ((w = 2 ∧ WF2 M N M' N' s) ∨ (w = 3 ∧ WF3 M M' N' s)))
          ∨ (∃ M' N', RC 4 m_12 24 [rr 0, ii s, ii it, none] M 130 [rr 0, ii s, ii 0, none] M' ∧ RC 5 m_336 34 [rr 6, ii s, ii (sB s), ii (M 11 s), ii (M 12 s), ii it, none] N 142 [rr 6, ii s, ii (sB s), ii (M 11 s), ii (M 12 s), ii (-1), ii 0] N' ∧ EGX M M' ∧ EGQ N N' ∧ M' 0 42 = M 0 42) := fun M2 N2 hx hq e42 rx rq => by
        have e14 : M2 14 = M 14 := hx.1 14 (by decide) (by decide)
        have e11 : M2 11 = M 11 := hx.1 11 (by decide) (by decide)
        have e12 : M2 12 = M 12 := hx.1 12 (by decide) (by decide)
        have e15 : M2 15 = M 15 := hx.1 15 (by decide) (by decide)
        have h := ih (it + 1) M2 N2 (by rw [e14]; (clear ih i0 hL w1 w2 w3 w4 w5 n12 hB hin qb qi stt q34 x24 g152 hP9 n9 xr hrow l2 hT hsig hrow' sro f1 f2 f3 f4 rb b6 r1 hN1 gN1 e151 e153 e152 k62 b62 q99 hx hq e42 rx rq e14 e11 e12 e15; omega)) (by (clear ih hL w1 w2 w3 w4 w5 n12 hB hin qi stt q34 x24 g152 hP9 n9 xr hrow l2 hT hsig hrow' sro f1 f2 f3 f4 rb b6 r1 hN1 gN1 e151 e153 k62 b62 q99 hx hq e42 rx rq e14 e11 e12 e15; omega)) (LK_eg hL hx hq)
        rw [e11, e12] at h
        rcases h with ⟨w, M', N', x1, q1, gx, gq, hw⟩ | ⟨M', N', x1, q1, gx, gq, h42⟩
        · refine .inl ⟨w, M', N', fun V Qr Qt hV hW g => rx V Qr Qt hV hW (x1 V Qr Qt hV hW g), fun V Qr Qt hV hW g => rq V Qr Qt hV hW (q1 V Qr Qt hV hW g), EGX_tr hx gx, EGQ_tr hq gq, ?_⟩
          rcases hw with ⟨e, it', k', j', a1, a2, a3, a4, a5, a6, a7⟩ | ⟨e, it', a1, a2, a3⟩
          · refine .inl ⟨e, it', k', j', by rw [e14] at a1; exact a1, a2, (ROWk_eg hx hq).1 a3, ?_, ?_, ?_, ?_⟩
            · rw [hq.1 198 (by decide) (by decide)] at a4; exact a4
            · rw [hq.1 193 (by decide) (by decide)] at a5; exact a5
            · rw [hq.1 192 (by decide) (by decide), e11] at a6; exact a6
            · rw [hq.1 198 (by decide) (by decide), hq.1 200 (by decide) (by decide), e15] at a7; exact a7
          · exact .inr ⟨e, it', by rw [e14] at a1; exact a1, a2, a3⟩
        · exact .inr ⟨M', N', RC_tr rx x1, RC_tr rq q1, EGX_tr hx gx, EGQ_tr hq gq, h42.trans e42⟩
      by_cases ck : N 193 k = 0
      · have sr := sro.2.1
        rw [tbN_r (q := 193) (by decide) (by decide), tbN_r (q := 196) (by decide) (by decide), tbN_r (q := 192) (by decide) (by decide), show swc M 139 = M 106 from swc_r (q := 106) (by decide) (by decide), hT] at sr
        rcases sr ck with ⟨e6, e9⟩ | ask
        · refine .inl ⟨2, up_ (up_ M 0 41 it) 0 42 r, N1, fun V Qr Qt hV hW g => x24 V Qr Qt r hV hW xr ?_, fun V Qr Qt hV hW g => q99 V Qr Qt hV hW ?_, EGX_tr (EGX_up (by decide)) (EGX_up (by decide)), gN1, .inl ⟨rfl, it, k, j, by (clear ih hL w1 w2 w3 w4 w5 n12 hB hin qi stt q34 x24 g152 hP9 n9 xr hrow l2 hT hsig hrow' sro f1 f2 f3 f4 rb b6 r1 hN1 hq gN1 e151 e153 k62 b62 q99 nxt ck sr e6 e9; lia), ⟨by rw [upo (by decide), up_at], e152⟩, by rw [up_at]; exact hrow', ⟨e151, e153⟩, ck, hT, hsig⟩⟩
          · rw [if_neg r1, if_neg (by (clear ih hi i0 hL w1 w2 w3 w4 w5 n12 hB hin qb qi stt q34 x24 g152 hP9 n9 xr hrow l2 hT hsig hrow' sro f2 f3 f4 rb b6 r1 hN1 hq gN1 e151 e153 e152 k62 b62 q99 nxt sr e6 e9 hV hW g; lia)), if_pos e9]; exact ⟨by (clear ih hi i0 hL w1 w2 w3 w4 w5 n12 hB hin qb qi stt q34 x24 g152 hP9 n9 xr hrow l2 hT hsig hrow' sro f1 f2 f3 f4 r1 hN1 hq gN1 e151 e153 e152 k62 b62 q99 nxt ck sr e6 e9 hV hW g; omega), g⟩
          · rw [if_pos ck, e6]
            exact t_338 fun V' hV' hW' => b_338_0 (Tr_mono _) hV' hW' _ _ _ (by rw [if_pos (by decide)]; exact ⟨.inr rfl, ri_i (by rw [if_neg (by decide)]; exact g)⟩)
        · have hL1 := LK_eg hL EGX_rf gN1
          have tb1 : tbN N1 = tbN N := tbN_e (QRF_eg gN1)
          obtain ⟨v, M2, N2, bv, x14, q38, fx, fq⟩ := j_14 (k := s) (c := M 106 r) (f := N 196 k) hL1.1 hL1.2.1 hL1.2.2.1 w4 (by rw [tb1]; exact ask)
          obtain ⟨c9, fe9, _, _, hE9, _⟩ := ask
          have c0 := EXP_0 hE9
          rcases bv with e0 | e1
          · refine nxt M2 N2 (EGX_ef fx) (EGQ_tr gN1 (EGQ_ef fq)) (fx.2 42 (by decide) (by decide) (by decide) (by decide) (by decide)) (fun V Qr Qt hV hW g => x24 V Qr Qt r hV hW xr ?_) (fun V Qr Qt hV hW g => q99 V Qr Qt hV hW ?_)
            · rw [if_neg r1, if_neg (by (clear ih hi i0 hL w1 w2 w3 w4 w5 n12 hB hin qb qi stt q34 x24 g152 hP9 n9 xr hrow l2 hT hsig hrow' sro f2 f3 f4 rb b6 r1 hN1 hq gN1 e151 e153 e152 k62 b62 q99 nxt sr hL1 tb1 x14 q38 fx fq hE9 c0 e0 hV hW g; lia)), if_neg (by (clear ih hi i0 hL w1 w2 w3 w4 w5 n12 hB hin qb qi stt q34 x24 g152 hP9 n9 xr hrow l2 hT hsig hrow' sro f1 f2 f3 f4 rb b6 r1 hN1 hq gN1 e151 e153 e152 k62 b62 q99 nxt ck sr hL1 tb1 x14 q38 fx fq hE9 e0 hV hW g; omega))]
              exact ⟨by (clear ih hi i0 hL w1 w2 w3 w4 w5 n12 hB hin qb qi stt q34 x24 g152 hP9 n9 xr hrow l2 hT hsig hrow' sro f1 f2 f3 f4 r1 hN1 hq gN1 e151 e153 e152 k62 b62 q99 nxt ck sr hL1 tb1 x14 q38 fx fq hE9 c0 e0 hV hW g; omega), x14 _ _ (ri_i (by rw [if_pos e0]; exact g))⟩
            · rw [if_pos ck]; exact q38 _ _ (ri_i (by rw [if_pos e0]; exact g))
          · refine .inl ⟨2, up_ (up_ M2 0 41 it) 0 42 r, N2, fun V Qr Qt hV hW g => x24 V Qr Qt r hV hW xr ?_, fun V Qr Qt hV hW g => q99 V Qr Qt hV hW ?_, EGX_tr (EGX_ef fx) (EGX_tr (EGX_up (by decide)) (EGX_up (by decide))), EGQ_tr gN1 (EGQ_ef fq), .inl ⟨rfl, it, k, j, by (clear ih hL w1 w2 w3 w4 w5 n12 hB hin qi stt q34 x24 g152 hP9 n9 xr hrow l2 hT hsig hrow' sro f1 f2 f3 f4 rb b6 r1 hN1 hq gN1 e151 e153 k62 b62 q99 nxt ck sr hL1 tb1 x14 q38 fx fq hE9 c0 e1; lia), ⟨by rw [upo (by decide), up_at], by rw [fq.2 152 (by decide) (by decide)]; exact e152⟩, by rw [up_at]; exact hrow', ⟨by rw [fq.2 151 (by decide) (by decide)]; exact e151, by rw [fq.2 153 (by decide) (by decide)]; exact e153⟩, ck, hT, hsig⟩⟩
            · rw [if_neg r1, if_neg (by (clear ih hi i0 hL w1 w2 w3 w4 w5 n12 hB hin qb qi stt q34 x24 g152 hP9 n9 xr hrow l2 hT hsig hrow' sro f2 f3 f4 rb b6 r1 hN1 hq gN1 e151 e153 e152 k62 b62 q99 nxt sr hL1 tb1 x14 q38 fx fq hE9 c0 e1 hV hW g; omega)), if_neg (by omega)]
              exact ⟨by omega, x14 _ _ (ri_i (by rw [if_neg (by (clear ih hi i0 hL w1 w2 w3 w4 w5 n12 hB hin qb qi stt q34 x24 g152 hP9 n9 xr hrow l2 hT hsig hrow' sro f1 f2 f3 f4 rb b6 r1 hN1 hq gN1 e151 e153 e152 k62 b62 q99 nxt ck sr hL1 tb1 x14 q38 fx fq hE9 c0 hV hW g; lia))]; exact g))⟩
            · rw [if_pos ck]; exact q38 _ _ (ri_i (by rw [if_neg (by omega)]; exact g))
      · have p1 : 0 ≤ N 193 k := ((ps_b w2).2.2 k k62.1 k62.2).2.1.1
        refine nxt M N1 EGX_rf gN1 rfl (fun V Qr Qt hV hW g => x24 V Qr Qt r hV hW xr ?_) (fun V Qr Qt hV hW g => q99 V Qr Qt hV hW ?_)
        · rw [if_neg r1, if_pos (by (clear ih hi i0 hL w1 w2 w3 w4 w5 n12 hB hin qb qi stt q34 x24 g152 hP9 n9 xr hrow hT hsig hrow' sro f2 f3 f4 rb b6 r1 hN1 hq gN1 e151 e153 e152 k62 b62 q99 nxt hV hW g; lia))]; exact ⟨by omega, g⟩
        · rw [if_neg ck]; exact g
end WQa
end T373_wq
section T374_ww
/-! the run: what an instance would do (X 12 | Q 336) -/
def BR (M N : mm_) (s b : Int) : Prop := (b = -1 ∧ M 0 42 = -1) ∨ (0 ≤ b ∧ N 193 b = 2 ∧ N 192 b = M 11 s ∧ ROWk M N b 0 (M 0 42))
def WF4 (M N M' N' : mm_) (s : Int) : Prop := ∃ k, ROWk M N k 0 (M' 0 42) ∧ N' 6 151 = k ∧ N 193 k = 2 ∧ N 192 k = M 11 s
section WWa
variable {z : Int} {M N M' N' M1 N1 : mm_} {T st sg s k i y j it b : Int}
theorem BR_eg [Inhabited fz_] (h : BR M N s b) (hx : EGX M M') (hq : EGQ N N') (h42 : M' 0 42 = M 0 42) : BR M' N' s b := by
  unfold BR at h ⊢
  rw [h42, hq.1 193 (by decide) (by decide), hq.1 192 (by decide) (by decide), hx.1 11 (by decide) (by decide), ROWk_eg hx hq]; exact h
/-- X: rows that are no WHEN -/
theorem sk_x [Inhabited fz_] (hs : 0 ≤ s ∧ s < 12) (h4 : M 4 4 ≤ 600) : ∀ (d : Nat) (y : Int), 0 ≤ y → y + d ≤ M 4 4 → (∀ x, y ≤ x → x < y + d → M 100 x ≠ 2) → RC 4 m_12 130 [rr 0, ii s, ii y, none] M 130 [rr 0, ii s, ii (y + d), none] M := fun d => by
  induction d with
  | zero => intro y _ _ _; rw [show y + ((0 : Nat) : Int) = y from Int.add_zero y]; exact RC_rf
  | succ d ih =>
    intro y y0 y1 h
    have n := ih (y + 1) (by (clear hs h4 ih y1 h; lia)) (by omega) (fun x x0 x1 => h x (by (clear hs h4 ih y0 y1 h x1; lia)) (by omega))
    rw [show y + 1 + (d : Int) = y + ((d + 1 : Nat) : Int) by omega] at n
    refine RC_tr (fun V Qr Qt hV hW g => b_12_130 (Tr_mono _) hV hW _ _ _ ?_) n
    have h2 := h y (Int.le_refl _) (by omega)
    rw [if_pos (by (clear hs h4 ih y0 h n hV hW g h2; omega)), w32_id (x := y + 1) (by omega) (by omega), if_neg h2]
    refine ⟨by omega, hs, ?_⟩
    by_cases c : M 101 y = M 11 s
    · rw [if_pos c]; exact ⟨by omega, g⟩
    · rw [if_neg c]; exact g
theorem l_130 [Inhabited fz_] : ∀ (d : Nat) (k b : Int) (M N : mm_), k + d = N 6 62 → 0 ≤ k → LK z M N s → BR M N s b → b < N 6 62 →
    ∃ w M' N', (∀ (V : vv_) (Qr : qr_) (Qt : qt_), Cl_ wd0 (Tr_ wd0 pg0 4) V Qr Qt m_12 → Wk_ V → Qr [.inl w] M' → V 130 [rr 0, ii s, ii (xsf (tbN N) k.toNat), none] [] M) ∧ (∀ (V : vv_) (Qr : qr_) (Qt : qt_), Cl_ wd0 (Tr_ wd0 pg0 5) V Qr Qt m_336 → Wk_ V → Qr [.inl w] N' → V 142 [rr 6, ii s, ii (sB s), ii (M 11 s), ii (M 12 s), ii b, ii k] [] N) ∧ EGX M M' ∧ EGQ N N' ∧ (w = 0 ∨ (w = 4 ∧ WF4 M N M' N' s)) := fun d => by
  induction d with
  | zero =>
    intro k b M N hk k0 hL hB hb
    have pb := ps_b hL.2.1
    have e : xsf (tbN N) k.toNat = M 4 4 := by rw [show k = N 6 62 by (clear k0 hL hB hb pb; lia)]; exact pb.2.1.1
    have g151 : EGQ N (up_ N 6 151 b) := EGQ_up (by decide)
    rcases hB with ⟨b1, m1⟩ | ⟨b0, b2, b3, b4⟩
    · refine ⟨0, M, up_ N 6 151 b, fun V Qr Qt hV hW g => b_12_130 (Tr_mono _) hV hW _ _ _ ?_, fun V Qr Qt hV hW g => b_336_142 (Tr_mono _) hV hW _ _ _ _ _ _ _ ?_, EGX_rf, g151, .inl rfl⟩
      · rw [e, if_neg (by (clear hk k0 hL hb pb e g151 b1 m1 hV hW g; omega)), if_pos m1]; exact g
      · rw [if_neg (by (clear k0 hL hb pb e g151 b1 m1 hV hW g; lia)), if_pos (by omega)]; exact g
    · have rb := row_b hL.2.1 b4
      refine ⟨4, M, up_ N 6 151 b, fun V Qr Qt hV hW g => b_12_130 (Tr_mono _) hV hW _ _ _ ?_, fun V Qr Qt hV hW g => b_336_142 (Tr_mono _) hV hW _ _ _ _ _ _ _ ?_, EGX_rf, g151, .inr ⟨rfl, b, b4, up_at, b2, b3⟩⟩
      · rw [e, if_neg (by omega), if_neg (by omega)]; exact g
      · rw [if_neg (by omega), if_neg (by (clear hk k0 hL hb pb e g151 b2 b3 b4 rb hV hW g; lia))]; exact g
  | succ d ih =>
    intro k b M N hk k0 hL hB hb
    obtain ⟨w1, w2, w3, w4, w5⟩ := id hL
    have n12 := w1.1.1
    have pb := ps_b w2
    have kb := pb.2.2 k k0 (by omega)
    have stt := LK_st hL
    have w1' : w32 (k + 1) = k + 1 := w32_id (by omega) (by omega)
    have hxs := xsfm w2 k.toNat (by (clear ih k0 hL hB hb w1 w2 w3 w4 w5 n12 kb stt; omega))
    have e1 : xsf (tbN N) (k + 1).toNat = xsf (tbN N) k.toNat + nsK (tbN N) k := by
      rw [show (k + 1).toNat = k.toNat + 1 by (clear ih hL hB hb w1 w2 w3 w4 w5 n12 pb kb stt hxs; lia)]
      show xsf (tbN N) k.toNat + nsK (tbN N) ((k.toNat : Nat) : Int) = _
      rw [show ((k.toNat : Nat) : Int) = k by (clear ih hL hB hb w1 w2 w3 w4 w5 n12 pb kb stt hxs; lia)]
    -- on to the next stim
    have nxt : ∀ (M2 N2 : mm_) (b2 : Int), EGX M M2 → EGQ N N2 → BR M2 N2 s b2 → b2 < N 6 62 → RC 4 m_12 130 [rr 0, ii s, ii (xsf (tbN N) k.toNat), none] M 130 [rr 0, ii s, ii (xsf (tbN N) (k + 1).toNat), none] M2 → RC 5 m_336 142 [rr 6, ii s, ii (sB s), ii (M 11 s), ii (M 12 s), ii b, ii k] N 142 [rr 6, ii s, ii (sB s), ii (M 11 s), ii (M 12 s), ii b2, ii (k + 1)] N2 → ∃ w M' N', (∀ (V : vv_) (Qr : qr_) (Qt : qt_), Cl_ wd0 (Tr_ wd0 pg0 4) V Qr Qt m_12 → Wk_ V → Qr [.inl w] M' → V 130 [rr 0, ii s, ii (xsf (tbN N) k.toNat), none] [] M) ∧ (∀ (V : vv_) (Qr : qr_) (Qt : qt_), Cl_ wd0 (Tr_ wd0 pg0 5) V Qr Qt m_336 → Wk_ V → Qr [.inl w] N' → V 142 [rr 6, ii s, ii (sB s), ii (M 11 s), ii (M 12 s), ii b, ii k] [] N) ∧ EGX M M' ∧ EGQ N N' ∧ (w = 0 ∨ (w = 4 ∧ WF4 M N M' N' s)) := fun M2 N2 b2 hx hq hB2 hb2 rx rq => by
      have h := ih (k + 1) b2 M2 N2 (by rw [hq.2 62 (by decide)]; omega) (by (clear ih hL hB hb w1 w2 w3 w4 w5 n12 pb kb stt hxs e1 hx hq hB2 hb2 rx rq; lia)) (LK_eg hL hx hq) hB2 (by rw [hq.2 62 (by decide)]; exact hb2)
      rw [tbN_e (QRF_eg hq), hx.1 11 (by decide) (by decide), hx.1 12 (by decide) (by decide)] at h
      obtain ⟨w, M', N', x1, q1, gx, gq, hw⟩ := h
      refine ⟨w, M', N', fun V Qr Qt hV hW g => rx V Qr Qt hV hW (x1 V Qr Qt hV hW g), fun V Qr Qt hV hW g => rq V Qr Qt hV hW (q1 V Qr Qt hV hW g), EGX_tr hx gx, EGQ_tr hq gq, ?_⟩
      rcases hw with h | ⟨h, k', a1, a2, a3, a4⟩
      · exact .inl h
      · refine .inr ⟨h, k', (ROWk_eg hx hq).1 a1, a2, ?_, ?_⟩
        · rw [hq.1 193 (by decide) (by decide)] at a3; exact a3
        · rw [hq.1 192 (by decide) (by decide), hx.1 11 (by decide) (by decide)] at a4; exact a4
    by_cases c2 : N 193 k = 2
    · have ns : nsK (tbN N) k = 1 := by rw [nsK_e, if_neg (by (clear ih hk k0 hL hB hb w1 w2 w3 w4 w5 n12 pb kb stt w1' hxs e1 nxt; omega))]
      have hrow : ROWk M N k 0 (xsf (tbN N) k.toNat) := ⟨⟨k0, by (clear ih k0 hL hB hb w1 w2 w3 w4 w5 n12 pb kb stt hxs e1 nxt c2 ns; omega)⟩, by rw [ns]; decide, by (clear ih hk k0 hL hB hb w1 w2 w3 w4 w5 n12 pb kb stt w1' hxs e1 nxt c2 ns; lia)⟩
      rw [ns] at e1
      obtain ⟨⟨f1, f2, f3, _⟩, sro⟩ := row_f w2 hrow
      have rb := row_b w2 hrow
      have sr := sro.2.2.1 (by rw [tbN_r (q := 193) (by decide) (by decide)]; exact c2)
      rw [tbN_r (q := 196) (by decide) (by decide), tbN_r (q := 195) (by decide) (by decide), tbN_r (q := 192) (by decide) (by decide), show swc M 139 = M 106 from swc_r (q := 106) (by decide) (by decide), show swc M 140 = M 107 from swc_r (q := 107) (by decide) (by decide)] at sr
      generalize hy : xsf (tbN N) k.toNat = y at *
      have wy : w32 (y + 1) = y + 1 := w32_id (by (clear ih hk k0 hL hB hb w1 w2 w3 w4 w5 n12 pb kb stt w1' c2 ns hy nxt hrow sro f1 f2 f3 rb sr; lia)) (by (clear ih hk k0 hL hB hb w1 w2 w3 w4 w5 n12 kb stt w1' c2 ns hy hxs nxt hrow sro f1 f2 f3 sr; omega))
      rw [e1] at nxt
      by_cases cT : N 192 k = M 11 s
      · have bX := an_sr (c := M 102 y) (s := M 12 s) f3.1.1 (by have := f3.1.2; (clear ih hk k0 hL hB hb w1 w2 w3 w4 w5 n12 pb kb stt w1' c2 ns hy hxs e1 nxt hrow sro f1 f2 f3 rb sr wy cT; omega)) stt.1 stt.2.2
        have bQ := an_sr (c := N 194 k) (s := M 12 s) f3.2.1.1 (by have := f3.2.1.2; (clear ih hk k0 hL hB hb w1 w2 w3 w4 w5 n12 pb kb stt w1' c2 ns hy hxs e1 nxt hrow sro f1 f2 f3 rb sr wy cT bX; omega)) stt.1 stt.2.2
        have mb := f3.2.2 (M 12 s) stt.1
        rw [cT] at mb
        by_cases cb : bt_ (N 194 k) (M 12 s)
        · have xb : ¬ an_ (sr_ (M 102 y) (M 12 s)) 1 = 0 := fun e0 => bX.1.1 e0 (mb.2 ⟨cb, stt.2.1⟩)
          have qb : ¬ an_ (sr_ (N 194 k) (M 12 s)) 1 = 0 := fun e0 => bQ.1.1 e0 cb
          -- whether it is asked
          have pr : M 0 42 ≠ -1 → (0 ≤ M 0 42 ∧ M 0 42 < 600) ∧ (0 ≤ b ∧ b < 600) ∧ M 107 (M 0 42) = N 195 b := fun hne => by
            rcases hB with ⟨_, m1⟩ | ⟨b0, b2, b3, b4⟩
            · exact absurd m1 hne
            · have rb2 := row_b w2 b4
              obtain ⟨_, sro2⟩ := row_f w2 b4
              have sr2 := (sro2.2.2.1 (by rw [tbN_r (q := 193) (by decide) (by decide)]; exact b2)).2
              rw [tbN_r (q := 195) (by decide) (by decide), show swc M 140 = M 107 from swc_r (q := 107) (by decide) (by decide)] at sr2
              exact ⟨by (clear ih hk k0 hL hb w1 w2 w3 w4 w5 n12 kb stt w1' c2 ns hy hxs e1 nxt hrow sro f1 f2 f3 rb sr wy cT bX bQ mb cb xb qb hne b0 b2 b3 b4 sro2 sr2; omega), by (clear ih hk k0 hL w1 w2 w3 w4 w5 n12 kb stt w1' c2 ns hy hxs e1 nxt hrow sro f1 f2 f3 rb sr wy cT bX bQ mb cb xb qb hne b2 b3 b4 rb2 sro2 sr2; omega), sr2⟩
          have bm : (b < 0 ∧ M 0 42 = -1) ∨ (¬ b < 0 ∧ M 0 42 ≠ -1) := by
            rcases hB with ⟨b1, m1⟩ | ⟨b0, b2, b3, b4⟩
            · exact .inl ⟨by omega, m1⟩
            · have := row_b w2 b4; exact .inr ⟨by (clear ih hk k0 hL hb w1 w2 w3 w4 w5 n12 pb kb stt w1' c2 ns hy hxs e1 nxt hrow sro f1 f2 f3 rb sr wy cT bX bQ mb cb xb qb pr b2 b3 b4 this; omega), by (clear ih hk k0 hL hb w1 w2 w3 w4 w5 n12 pb kb stt w1' c2 ns hy hxs e1 nxt hrow sro f1 f2 f3 rb sr wy cT bX bQ mb cb xb qb pr b0 b2 b3 b4; omega)⟩
          obtain ⟨v, M2, N2, bv, x14, q38, fx, fq⟩ := j_14 (k := s) (c := M 106 y) (f := N 196 k) w1 w2 w3 w4 (by rw [← cT]; exact sr.1)
          have xa : ∀ (V : vv_) (Qr : qr_) (Qt : qt_), Cl_ wd0 (Tr_ wd0 pg0 4) V Qr Qt m_12 → Wk_ V → (if v = 0 then V 130 [rr 0, ii s, ii (y + 1), none] [] M2 else V 130 [rr 0, ii s, ii (y + 1), none] [] (up_ M2 0 42 y)) → V 228 [rr 0, ii s, ii y, none] [] M := fun V Qr Qt hV hW g => b_12_228 (Tr_mono _) hV hW _ _ _ ⟨by (clear ih hk k0 hL hB hb w1 w2 w3 w4 w5 n12 kb stt w1' c2 ns hy nxt hrow sro f1 f2 f3 sr cT bX bQ mb cb xb qb pr bm bv x14 q38 fx fq hV hW g; omega), x14 _ _ (ri_i (by rw [wy]; exact g))⟩
          by_cases ca : M 0 42 = -1 ∨ N 195 k < N 195 b
          · have x130 : ∀ (V : vv_) (Qr : qr_) (Qt : qt_), Cl_ wd0 (Tr_ wd0 pg0 4) V Qr Qt m_12 → Wk_ V → V 228 [rr 0, ii s, ii y, none] [] M → V 130 [rr 0, ii s, ii y, none] [] M := fun V Qr Qt hV hW g => b_12_130 (Tr_mono _) hV hW _ _ _ (by
              rw [if_pos (by (clear ih hk k0 hL hB hb w1 w2 w3 w4 w5 n12 pb kb stt w1' c2 ns hy hxs nxt hrow sro f1 f2 f3 sr cT bX bQ mb cb xb qb pr bm bv x14 q38 fx fq xa ca hV hW g; omega)), if_pos (by rw [f2]; exact cT), if_pos (by rw [f1]; exact c2), if_neg xb]
              refine ⟨by omega, by omega, by omega, by omega, by omega, ?_⟩
              by_cases c9 : M 0 42 = -1
              · rw [if_pos c9]; exact g
              · have p := pr c9
                rw [if_neg c9, sr.2, p.2.2, if_pos (by (clear ih hk k0 hL hB hb w1 w2 w3 w4 w5 n12 pb kb stt w1' c2 ns hy hxs e1 nxt hrow sro f1 f2 f3 rb sr wy cT bX bQ mb cb xb qb pr bm bv x14 q38 fx fq xa hV hW g; omega))]; exact ⟨by omega, p.1, g⟩)
            have q142 : ∀ (V : vv_) (Qr : qr_) (Qt : qt_), Cl_ wd0 (Tr_ wd0 pg0 5) V Qr Qt m_336 → Wk_ V → (if v = 0 then V 142 [rr 6, ii s, ii (sB s), ii (M 11 s), ii (M 12 s), ii b, ii (k + 1)] [] N2 else V 142 [rr 6, ii s, ii (sB s), ii (M 11 s), ii (M 12 s), ii k, ii (k + 1)] [] N2) → V 142 [rr 6, ii s, ii (sB s), ii (M 11 s), ii (M 12 s), ii b, ii k] [] N := fun V Qr Qt hV hW g => b_336_142 (Tr_mono _) hV hW _ _ _ _ _ _ _ (by
              rw [if_pos (by omega), if_pos cT, if_pos c2, if_neg qb, w1']
              refine ⟨by (clear ih hL hB hb w1 w2 w3 w4 w5 n12 kb stt c2 ns hy hxs e1 nxt hrow sro f1 f2 f3 rb sr wy cT bX bQ mb cb xb qb pr bm bv x14 q38 fx fq xa ca x130 hV hW g; omega), by omega, by omega, ?_⟩
              rcases bm with ⟨b1, m1⟩ | ⟨b1, m1⟩
              · rw [if_pos b1]; exact ⟨by omega, q38 _ _ (ri_i g)⟩
              · have p := pr m1
                rw [if_neg b1, if_pos (by (clear ih hk k0 hL hB hb w1 w2 w3 w4 w5 n12 pb kb stt w1' c2 ns hy hxs e1 nxt hrow sro f1 f2 f3 rb sr wy cT bX bQ mb cb xb qb pr bv x14 q38 fx fq xa x130 hV hW g b1; lia))]; exact ⟨by omega, by (clear ih hk k0 hL hB hb w1 w2 w3 w4 w5 n12 pb kb stt w1' c2 ns hy hxs e1 nxt hrow sro f1 f2 f3 rb sr wy cT bX bQ mb cb xb qb pr bv x14 q38 fx fq xa ca x130 hV hW g m1; omega), by omega, q38 _ _ (ri_i g)⟩)
            rcases bv with e0 | e1'
            · exact nxt M2 N2 b (EGX_ef fx) (EGQ_ef fq) (BR_eg hB (EGX_ef fx) (EGQ_ef fq) (fx.2 42 (by decide) (by decide) (by decide) (by decide) (by decide))) hb (fun V Qr Qt hV hW g => x130 V Qr Qt hV hW (xa V Qr Qt hV hW (by rw [if_pos e0]; exact g))) (fun V Qr Qt hV hW g => q142 V Qr Qt hV hW (by rw [if_pos e0]; exact g))
            · have gx : EGX M (up_ M2 0 42 y) := EGX_tr (EGX_ef fx) (EGX_up (by decide))
              have gq := EGQ_ef fq
              refine nxt (up_ M2 0 42 y) N2 k gx gq (.inr ⟨k0, by rw [gq.1 193 (by decide) (by decide)]; exact c2, by rw [gq.1 192 (by decide) (by decide), gx.1 11 (by decide) (by decide)]; exact cT, (ROWk_eg gx gq).2 (by rw [up_at]; exact hrow)⟩) (by (clear ih k0 hL hB hb w1 w2 w3 w4 w5 n12 pb kb stt c2 ns hy hxs e1 nxt hrow sro f1 f2 f3 rb sr wy cT bX bQ mb cb xb qb pr bm x14 q38 fx fq xa ca x130 q142 e1' gx gq; omega)) (fun V Qr Qt hV hW g => x130 V Qr Qt hV hW (xa V Qr Qt hV hW (by rw [if_neg (by (clear ih hk k0 hL hB hb w1 w2 w3 w4 w5 n12 pb kb stt w1' c2 ns hy hxs e1 nxt hrow sro f1 f2 f3 rb sr wy cT bX bQ mb cb xb qb pr bm x14 q38 fx fq xa ca x130 q142 gx gq hV hW g; lia))]; exact g))) (fun V Qr Qt hV hW g => q142 V Qr Qt hV hW (by rw [if_neg (by omega)]; exact g))
          · have m1 : M 0 42 ≠ -1 := fun e => ca (.inl e)
            have p := pr m1
            refine nxt M N b EGX_rf EGQ_rf hB hb (fun V Qr Qt hV hW g => b_12_130 (Tr_mono _) hV hW _ _ _ ?_) (fun V Qr Qt hV hW g => b_336_142 (Tr_mono _) hV hW _ _ _ _ _ _ _ ?_)
            · rw [if_pos (by omega), if_pos (by rw [f2]; exact cT), if_pos (by rw [f1]; exact c2), if_neg xb, if_neg m1, sr.2, p.2.2, if_neg (by (clear ih hk k0 hL hB hb w1 w2 w3 w4 w5 n12 pb kb stt w1' c2 ns hy hxs e1 nxt hrow sro f1 f2 f3 rb sr wy cT bX bQ mb cb xb qb pr bm bv x14 q38 fx fq xa m1 hV hW g; omega)), wy]
              exact ⟨by omega, by omega, by omega, by omega, by omega, by omega, p.1, g⟩
            · rw [if_pos (by omega), if_pos cT, if_pos c2, if_neg qb, if_neg (by omega), if_neg (by omega), w1']
              exact ⟨by (clear ih hL hB hb w1 w2 w3 w4 w5 n12 kb stt c2 ns hy hxs e1 nxt hrow sro f1 f2 f3 rb sr wy cT bX bQ mb cb xb qb pr bm bv x14 q38 fx fq xa ca m1 p hV hW g; omega), by omega, by omega, by omega, by omega, g⟩
        · refine nxt M N b EGX_rf EGQ_rf hB hb (fun V Qr Qt hV hW g => b_12_130 (Tr_mono _) hV hW _ _ _ ?_) (fun V Qr Qt hV hW g => b_336_142 (Tr_mono _) hV hW _ _ _ _ _ _ _ ?_)
          · rw [if_pos (by omega), if_pos (by rw [f2]; exact cT), if_pos (by rw [f1]; exact c2), if_pos (bX.1.2 (fun h => cb (mb.1 h).1)), wy]
            exact ⟨by omega, by omega, by omega, by omega, by omega, g⟩
          · rw [if_pos (by omega), if_pos cT, if_pos c2, if_pos (bQ.1.2 cb), w1']
            exact ⟨by omega, by omega, by omega, g⟩
      · refine nxt M N b EGX_rf EGQ_rf hB hb (fun V Qr Qt hV hW g => b_12_130 (Tr_mono _) hV hW _ _ _ ?_) (fun V Qr Qt hV hW g => b_336_142 (Tr_mono _) hV hW _ _ _ _ _ _ _ ?_)
        · rw [if_pos (by (clear ih hk k0 hL hB hb w1 w2 w3 w4 w5 n12 pb kb stt w1' c2 ns hy hxs nxt hrow sro f1 f2 f3 sr cT hV hW g; omega)), if_neg (by rw [f2]; exact cT), wy]; exact ⟨by omega, by omega, g⟩
        · rw [if_pos (by omega), if_neg cT, w1']; exact ⟨by omega, g⟩
    · have ns : 0 ≤ nsK (tbN N) k := by rw [nsK_e]; split <;> omega
      have hall : ∀ x, xsf (tbN N) k.toNat ≤ x → x < xsf (tbN N) k.toNat + nsK (tbN N) k → ROWk M N k (x - xsf (tbN N) k.toNat) x := fun x x0 x1 => ⟨⟨k0, by omega⟩, by (clear ih hk k0 hL hB hb w1 w2 w3 w4 w5 n12 pb kb stt w1' hxs nxt c2 ns; omega), by (clear ih hk k0 hL hB hb w1 w2 w3 w4 w5 n12 pb kb stt w1' hxs e1 nxt c2 ns x0 x1; lia)⟩
      have hend : xsf (tbN N) k.toNat + nsK (tbN N) k ≤ M 4 4 := by
        by_cases c : nsK (tbN N) k = 0
        · have m := xsfm w2 k.toNat (by omega)
          have := row_c w2
          rw [c, Int.add_zero]
          have mono : ∀ (d n : Nat), ((n + d : Nat) : Int) ≤ N 6 62 → xsf (tbN N) n ≤ xsf (tbN N) (n + d) := fun d => by
            induction d with
            | zero => intro n _; exact Int.le_refl _
            | succ d ih2 =>
              intro n hn
              have := ih2 n (by (clear ih hk k0 hL hB hb w1 w2 w3 w4 w5 n12 pb kb stt w1' hxs e1 nxt c2 ns hall c m this ih2; omega))
              have b9 := pb.2.2 ((n + d : Nat) : Int) (by (clear ih hk k0 hL hB hb w1 w2 w3 w4 w5 n12 pb kb stt w1' hxs e1 nxt c2 ns hall c m ih2 hn this; omega)) (by (clear ih hk k0 hL hB hb w1 w2 w3 w4 w5 n12 pb kb stt w1' hxs e1 nxt c2 ns hall c m ih2 this; omega))
              show xsf (tbN N) n ≤ xsf (tbN N) (n + d) + nsK (tbN N) ((n + d : Nat) : Int)
              rw [nsK_e]; split <;> (clear ih hk k0 hL hB hb w1 w2 w3 w4 w5 n12 pb kb stt w1' hxs e1 nxt c2 ns hall c m ih2 hn; omega)
          have mm := mono ((N 6 62).toNat - k.toNat) k.toNat (by (clear ih hL hB hb w1 w2 w3 w4 w5 n12 kb stt hxs e1 nxt c2 ns hall c m this mono; omega))
          rw [show k.toNat + ((N 6 62).toNat - k.toNat) = (N 6 62).toNat by (clear ih hL hB hb w1 w2 w3 w4 w5 n12 kb stt hxs e1 nxt c2 ns hall c m this mono mm; omega), pb.2.1.1] at mm
          exact mm
        · have := row_b w2 (hall (xsf (tbN N) k.toNat + nsK (tbN N) k - 1) (by (clear ih hk k0 hL hB hb w1 w2 w3 w4 w5 n12 pb kb stt w1' hxs e1 nxt c2 hall; lia)) (by (clear ih hk k0 hL hB hb w1 w2 w3 w4 w5 n12 pb kb stt w1' hxs e1 nxt c2 ns hall c; lia))); (clear ih hk k0 hL hB hb w1 w2 w3 w4 w5 n12 pb kb stt w1' hxs nxt c2 ns hall c; omega)
      have sk := sk_x (s := s) (M := M) (by (clear ih hk k0 hL hB hb w1 w2 w3 w5 pb kb stt w1' hxs e1 nxt c2 ns hall hend; omega)) pb.2.1.2 (nsK (tbN N) k).toNat (xsf (tbN N) k.toNat) hxs (by (clear ih hk k0 hL hB hb w1 w2 w3 w4 w5 n12 pb kb stt w1' hxs nxt c2 hall; omega)) (fun x x0 x1 => by rw [(row_f w2 (hall x x0 (by (clear ih hk k0 hL hB hb w1 w2 w3 w4 w5 n12 pb kb stt w1' hxs nxt c2 hall hend x0; omega)))).1.1]; exact c2)
      rw [show xsf (tbN N) k.toNat + (((nsK (tbN N) k).toNat : Nat) : Int) = xsf (tbN N) (k + 1).toNat by (clear ih hk k0 hL hB hb w1 w2 w3 w4 w5 n12 pb kb stt w1' hxs nxt c2 hall hend sk; omega)] at sk
      refine nxt M N b EGX_rf EGQ_rf hB hb sk (fun V Qr Qt hV hW g => b_336_142 (Tr_mono _) hV hW _ _ _ _ _ _ _ ?_)
      rw [if_pos (by omega), w1', if_neg c2]
      refine ⟨by (clear ih hL hB hb w1 w2 w3 w4 w5 n12 kb stt hxs e1 nxt c2 ns hall hend sk hV hW g; omega), ?_⟩
      by_cases c : N 192 k = M 11 s
      · rw [if_pos c]; exact ⟨by omega, g⟩
      · rw [if_neg c]; exact g
end WWa
end T374_ww
section T375_wo
/-! the run: would | stepOf whole -/
section WOa
variable {z : Int} {M N M' N' M1 N1 : mm_} {s : Int}
theorem WF2_eg [Inhabited fz_] (hx : EGX M M1) (hq : EGQ N N1) (h : WF2 M1 N1 M' N' s) : WF2 M N M' N' s := by
  obtain ⟨it, k, j, a1, a2, a3, a4, a5, a6, a7⟩ := h
  rw [hx.1 14 (by decide) (by decide)] at a1
  rw [hq.1 198 (by decide) (by decide)] at a4 a7
  rw [hq.1 193 (by decide) (by decide)] at a5
  rw [hq.1 192 (by decide) (by decide), hx.1 11 (by decide) (by decide)] at a6
  rw [hq.1 200 (by decide) (by decide), hx.1 15 (by decide) (by decide)] at a7
  exact ⟨it, k, j, a1, a2, (ROWk_eg hx hq).1 a3, a4, a5, a6, a7⟩
theorem WF4_eg [Inhabited fz_] (hx : EGX M M1) (hq : EGQ N N1) (h : WF4 M1 N1 M' N' s) : WF4 M N M' N' s := by
  obtain ⟨k, a1, a2, a3, a4⟩ := h
  rw [hq.1 193 (by decide) (by decide)] at a3
  rw [hq.1 192 (by decide) (by decide), hx.1 11 (by decide) (by decide)] at a4
  exact ⟨k, (ROWk_eg hx hq).1 a1, a2, a3, a4⟩
theorem j_12 [Inhabited fz_] (h : RU z M N) (hP : PLr M N) (hA : TYA N) (hs : 0 ≤ s ∧ s < M 0 7) : ∃ w M' N', Ex_ 5 12 [.inr (.inr 0), .inl s] M [.inl w] M' ∧ Ex_ 6 336 [.inr (.inr 6), .inl s] N [.inl w] N' ∧ EGX M M' ∧ EGQ N N' ∧ (w = 0 ∨ (w = 1 ∧ M 12 s = -1) ∨ (w = 2 ∧ 0 ≤ M 12 s ∧ WF2 M N M' N' s) ∨ (w = 3 ∧ 0 ≤ M 12 s ∧ WF3 M M' N' s) ∨ (w = 4 ∧ 0 ≤ M 12 s ∧ WF4 M N M' N' s)) := by
  have n12 := h.1.1
  have hB : sB s = 2 + 56 * s := rfl
  have hin := h.1.2.2.1 s hs.1 hs.2
  have e2 : N 239 (sB s + 2) = M 12 s := hin.1.2.2.1.symm
  have eT : N 239 (sB s + 1) = M 11 s := hin.1.2.1.symm
  have st := hin.2.1.2.2
  have gx : EGX M (up_ (up_ M 0 41 (-1)) 0 42 (-1)) := EGX_tr (EGX_up (by decide)) (EGX_up (by decide))
  generalize hM1 : up_ (up_ M 0 41 (-1)) 0 42 (-1) = M1 at gx
  have m42 : M1 0 42 = -1 := by rw [← hM1, up_at]
  by_cases c : M 12 s = -1
  · refine ⟨1, M1, N, fun Qr Qt g => t_12 fun V hV hW => b_12_0 (Tr_mono _) hV hW _ _ ⟨by omega, ?_⟩, fun Qr Qt g => t_336 fun V hV hW => b_336_0 (Tr_mono _) hV hW _ _ (Ex_le (d := 1) (by decide) (q_323 (by omega)) _ _ (ri_i ?_)), gx, EGQ_rf, .inr (.inl ⟨rfl, c⟩)⟩
    · rw [if_pos c, hM1]; exact g
    · rw [w32_id (x := sB s + 1) (by omega) (by omega), w32_id (x := sB s + 2) (by omega) (by omega), e2, if_pos (by omega)]; exact ⟨by omega, by (clear h hP hA hin e2 eT st hM1 gx m42 c g hV hW; omega), g⟩
  · have c0 : 0 ≤ M 12 s := by omega
    have m11 : M1 11 = M 11 := gx.1 11 (by decide) (by decide)
    have m12 : M1 12 = M 12 := gx.1 12 (by decide) (by decide)
    have m14 : M1 14 = M 14 := gx.1 14 (by decide) (by decide)
    have x0 : ∀ (w : Int) (M2 : mm_), (∀ (V : vv_) (Qr : qr_) (Qt : qt_), Cl_ wd0 (Tr_ wd0 pg0 4) V Qr Qt m_12 → Wk_ V → Qr [.inl w] M2 → V 24 [rr 0, ii s, ii 0, none] [] M1) → Ex_ 5 12 [.inr (.inr 0), .inl s] M [.inl w] M2 := fun w M2 h Qr Qt g => t_12 fun V hV hW => b_12_0 (Tr_mono _) hV hW _ _ ⟨by omega, by rw [if_neg c, hM1]; exact h V Qr Qt hV hW g⟩
    have q0 : ∀ (w : Int) (N2 : mm_), (∀ (V : vv_) (Qr : qr_) (Qt : qt_), Cl_ wd0 (Tr_ wd0 pg0 5) V Qr Qt m_336 → Wk_ V → Qr [.inl w] N2 → V 34 [rr 6, ii s, ii (sB s), ii (M 11 s), ii (M 12 s), ii 0, none] [] N) → Ex_ 6 336 [.inr (.inr 6), .inl s] N [.inl w] N2 := fun w N2 h Qr Qt g => t_336 fun V hV hW => b_336_0 (Tr_mono _) hV hW _ _ (Ex_le (d := 1) (by decide) (q_323 (by omega)) _ _ (ri_i (by
      rw [w32_id (x := sB s + 1) (by omega) (by omega), w32_id (x := sB s + 2) (by omega) (by omega), e2, eT, if_neg (by omega)]
      exact ⟨by omega, by omega, h V Qr Qt hV hW g⟩)))
    have hL : LK z M1 N s := LK_eg ⟨h, hP, hA, hs, c0⟩ gx EGQ_rf
    have q14 := hin.2.2.2.2.1
    have l := l_24 (z := z) (s := s) (M 14 s).toNat 0 M1 N (by rw [m14]; (clear h hP hA hs n12 hB hin e2 eT st hM1 gx m42 c c0 m11 m12 m14 x0 q0 hL; lia)) (by decide) hL
    rw [m11, m12] at l
    rcases l with ⟨w, M', N', x1, q1, g1, g2, hw⟩ | ⟨M2, N2, x1, q1, g1, g2, e42⟩
    · refine ⟨w, M', N', x0 w M' x1, q0 w N' q1, EGX_tr gx g1, g2, ?_⟩
      rcases hw with ⟨e, f⟩ | ⟨e, it, a1, a2⟩
      · exact .inr (.inr (.inl ⟨e, c0, WF2_eg gx EGQ_rf f⟩))
      · exact .inr (.inr (.inr (.inl ⟨e, c0, it, by rw [m14] at a1; exact a1, a2⟩)))
    · have hL2 := LK_eg hL g1 g2
      have pb := ps_b hL2.2.1
      have l2 := l_130 (z := z) (s := s) (N2 6 62).toNat 0 (-1) M2 N2 (by (clear h hP hA hs n12 hB hin e2 eT st hM1 gx m42 c c0 m11 m12 m14 x0 q0 hL q14 x1 q1 g1 g2 e42 hL2; omega)) (by decide) hL2 (.inl ⟨rfl, e42.trans m42⟩) (by omega)
      have gM := EGX_tr gx g1
      rw [gM.1 11 (by decide) (by decide), gM.1 12 (by decide) (by decide)] at l2
      obtain ⟨w, M', N', x2, q2, h1, h2, hw⟩ := l2
      refine ⟨w, M', N', x0 w M' (fun V Qr Qt hV hW g => x1 V Qr Qt hV hW (x2 V Qr Qt hV hW g)), q0 w N' (fun V Qr Qt hV hW g => q1 V Qr Qt hV hW (q2 V Qr Qt hV hW g)), EGX_tr gM h1, EGQ_tr g2 h2, ?_⟩
      rcases hw with e | ⟨e, f⟩
      · exact .inl e
      · exact .inr (.inr (.inr (.inr ⟨e, c0, WF4_eg gM g2 f⟩)))
end WOa
end T375_wo
section T376_nm
/-! no miracles where nothing is given; the outcome is one -/
def nmS : List Nat := [323, 336, 337, 338, 339, 340, 341, 342, 343, 344]
def nmI (e : Instr × Nat × Nat × Int × List (Int × Nat)) : Bool := match e.1 with
  | .getfield _ => !(e.2.2.1 == 1)
  | .baload => false
  | .invokevirtual _ => nmS.contains e.2.2.1
  | .invokestatic _ => nmS.contains e.2.2.1
  | _ => true
section NMa
variable {w : wd_} {D : ca_}
theorem sw_nm [Inhabited fz_] {x : Int} : ∀ {tb : List (Int × Nat)} {d : Nat}, sw_ (fun _ => False) x tb d → False
  | [], d, h => h
  | k :: t, d, h => by
    unfold sw_ at h
    by_cases e : x = k.1
    · rw [if_pos e] at h; exact h
    · rw [if_neg e] at h; exact sw_nm h
theorem th_nm [Inhabited fz_] {hs : List (Nat × Nat × Nat)} {pc : Nat} {ls : lo_} {r : Nat} {M : mm_} (h : th_ (fun _ _ _ _ => False) (fun _ _ => False) hs pc ls r M) : False := by
  unfold th_ at h
  cases e : hd_ hs pc with
  | none => rw [e] at h; exact h
  | some q => rw [e] at h; exact h.2
theorem rk_nm [Inhabited fz_] {k pc : Nat} {ls : lo_} {st : List pv_} {vs : List pv_} {M : mm_} (h : rk_ (fun _ _ _ _ => False) k pc ls st vs M) : False := by
  unfold rk_ at h
  split at h
  · exact h.2
  · obtain ⟨x, _, h⟩ := h; exact h
  · obtain ⟨x, _, h⟩ := h; exact h
  · obtain ⟨x, _, h⟩ := h; exact h
theorem cl_nm [Inhabited fz_] (hD : ∀ a as M Qr Qt, a ∈ nmS → (∀ vs M, ¬ Qr vs M) → (∀ r M, ¬ Qt r M) → ¬ D a as M Qr Qt) {hs : List (Nat × Nat × Nat)} {pc a n k : Nat} {ls : lo_} {st : List pv_} {M : mm_} (ha : a ∈ nmS) (h : cl_ D (fun _ _ _ _ => False) (fun _ _ => False) hs pc a n k ls st M) : False := by
  unfold cl_ at h
  split at h
  · exact hD a _ _ _ _ ha (fun vs M g => rk_nm g) (fun r M g => th_nm g) h
  · exact h
set_option maxHeartbeats 4000000 in
theorem ex_nm [Inhabited fz_] (hD : ∀ a as M Qr Qt, a ∈ nmS → (∀ vs M, ¬ Qr vs M) → (∀ r M, ¬ Qt r M) → ¬ D a as M Qr Qt) {m : md_} {pc len a : Nat} {i : Instr} {b : Int} {tb : List (Int × Nat)} {ls : lo_} {st : List pv_} {M : mm_} (hi : nmI (i, len, a, b, tb) = true) (h : ex_ w D (fun _ _ _ _ => False) (fun _ _ => False) (fun _ _ => False) m pc i len a b tb ls st M) : False := by
  revert h hi
  cases i <;> simp only [ex_, nmI]
  all_goals first
    | exact fun _ h => h
    | exact fun h => absurd h (by decide)
    | skip
  all_goals (repeat' split)
  all_goals first
    | exact fun _ h => h
    | exact fun _ h => h.2
    | exact fun h => absurd h (by decide)
    | exact fun _ h => sw_nm h
    | exact fun _ h => th_nm h
    | exact fun g h => cl_nm hD (List.contains_iff_mem.1 g) h
    | skip
end NMa
end T376_nm
section T377_dt
/-! no miracles in Q's look for a step; its outcome is one -/
section DTa
variable {N N' N'' : mm_} {s w w2 : Int}
theorem lk_nm [Inhabited fz_] : ∀ (l : List en_) {pc : Nat} {e : Instr × Nat × Nat × Int × List (Int × Nat)}, l.all (fun q => nmI q.2) = true → lk_ l pc = some e → nmI e = true
  | [], pc, e, _, h => by unfold lk_ at h; exact absurd h (by simp)
  | q :: t, pc, e, ha, h => by
    rw [List.all_cons, Bool.and_eq_true] at ha
    unfold lk_ at h
    split at h
    · injection h with h; rw [← h]; exact ha.1
    · exact lk_nm t ha.2 h
theorem nm_ok [Inhabited fz_] : ∀ n, n ∈ nmS → (pg0 n).1.all (fun q => nmI q.2) = true := by
  intro n hn
  simp only [nmS, List.mem_cons, List.not_mem_nil, or_false] at hn
  rcases hn with e | e | e | e | e | e | e | e | e | e <;> subst e
  · show m_323.1.all _ = true; decide +kernel
  · show m_336.1.all _ = true; decide +kernel
  · show m_337.1.all _ = true; decide +kernel
  · show m_338.1.all _ = true; decide +kernel
  · show m_339.1.all _ = true; decide +kernel
  · show m_340.1.all _ = true; decide +kernel
  · show m_341.1.all _ = true; decide +kernel
  · show m_342.1.all _ = true; decide +kernel
  · show m_343.1.all _ = true; decide +kernel
  · show m_344.1.all _ = true; decide +kernel
theorem Tr_nm [Inhabited fz_] : ∀ (d : Nat) (n : Nat) (as : List pv_) (M : mm_) (Qr : qr_) (Qt : qt_), n ∈ nmS → (∀ vs M, ¬ Qr vs M) → (∀ r M, ¬ Qt r M) → ¬ Tr_ wd0 pg0 d n as M Qr Qt
  | 0, n, as, M, Qr, Qt, _, _, _ => fun h => h
  | d + 1, n, as, M, Qr, Qt, hn, hr, ht => fun h => by
    have h := h.2
    refine h (fun _ _ _ _ => False) (fun pc ls st M hs => ?_) (fun _ _ _ _ _ _ h => h)
    have hs2 : st_ wd0 (Tr_ wd0 pg0 d) (fun _ _ _ _ => False) (fun _ _ => False) (fun _ _ => False) (pg0 n) pc ls st M := st_mono (Tr_mono d) (fun _ _ _ _ g => g) (fun vs M g => hr vs M g) (fun r M g => ht r M g) hs
    unfold st_ at hs2
    cases e : lk_ (pg0 n).1 pc with
    | none => rw [e] at hs2; exact hs2
    | some q =>
      rw [e] at hs2
      exact ex_nm (fun a as M Qr Qt ha h1 h2 => Tr_nm d a as M Qr Qt ha h1 h2) (lk_nm _ (nm_ok n hn) e) hs2
/-- the outcome is one -/
theorem DET [Inhabited fz_] {d n : Nat} {as : List pv_} {v1 v2 : List pv_} (hn : n ∈ nmS) (h1 : Ex_ d n as N v1 N') (h2 : Ex_ d n as N v2 N'') : v1 = v2 ∧ N' = N'' := by
  refine Classical.byContradiction fun hne => ?_
  have a : Tr_ wd0 pg0 d n as N (fun vs M => vs = v1 ∧ M = N') (fun _ _ => False) := h1 _ _ ⟨rfl, rfl⟩
  have b : Tr_ wd0 pg0 d n as N (fun vs M => vs = v2 ∧ M = N'') (fun _ _ => False) := h2 _ _ ⟨rfl, rfl⟩
  have c := Tr_sp a
  refine Tr_nm d n as N _ _ hn (fun vs M g => ?_) (fun r M g => g.1) c
  obtain ⟨⟨e1, e2⟩, g2⟩ := g
  obtain ⟨e3, e4⟩ := g2 _ _ b
  exact hne ⟨e1.symm.trans e3, e2.symm.trans e4⟩
end DTa
end T377_dt
section T378_w2
/-! the run: would, asked twice -/
section W2a
variable {z : Int} {M N M' N' M1 N1 : mm_} {s : Int}
def WFS (M N M' N' : mm_) (s w : Int) : Prop := w = 0 ∨ (w = 1 ∧ M 12 s = -1) ∨ (w = 2 ∧ 0 ≤ M 12 s ∧ WF2 M N M' N' s) ∨ (w = 3 ∧ 0 ≤ M 12 s ∧ WF3 M M' N' s) ∨ (w = 4 ∧ 0 ≤ M 12 s ∧ WF4 M N M' N' s)
theorem j_12t [Inhabited fz_] (h : RU z M N) (hP : PLr M N) (hA : TYA N) (hs : 0 ≤ s ∧ s < M 0 7) : ∃ w M' N', Ex_ 5 12 [.inr (.inr 0), .inl s] M [.inl w] M' ∧ Ex_ 6 336 [.inr (.inr 6), .inl s] N [.inl w] N' ∧ EGX M M' ∧ EGQ N N' ∧ WFS M N M' N' s w ∧ ∀ M1, EGX M M1 → ∃ M2, Ex_ 5 12 [.inr (.inr 0), .inl s] M1 [.inl w] M2 ∧ EGX M M2 ∧ WFS M N M2 N' s w := by
  obtain ⟨w, M', N', x1, q1, gx, gq, f⟩ := j_12 h hP hA hs
  refine ⟨w, M', N', x1, q1, gx, gq, f, fun M1 g1 => ?_⟩
  obtain ⟨w2, M2, N2, x2, q2, hx, hq, f2⟩ := j_12 (s := s) (RU_eg h g1 EGQ_rf) (PLr_c hP (XRF_eg g1) QRF_rf) hA (by rw [g1.2 7 (by decide)]; exact hs)
  obtain ⟨e1, e2⟩ := DET (by decide) q1 q2
  have ew : w = w2 := by injection e1 with e1 _; injection e1
  subst ew; subst e2
  refine ⟨M2, x2, EGX_tr g1 hx, ?_⟩
  have m12 : M1 12 = M 12 := g1.1 12 (by decide) (by decide)
  rw [m12] at f2
  rcases f2 with e | ⟨e, a⟩ | ⟨e, a, b⟩ | ⟨e, a, it, b1, b2⟩ | ⟨e, a, b⟩
  · exact .inl e
  · exact .inr (.inl ⟨e, a⟩)
  · exact .inr (.inr (.inl ⟨e, a, WF2_eg g1 EGQ_rf b⟩))
  · exact .inr (.inr (.inr (.inl ⟨e, a, it, by rw [g1.1 14 (by decide) (by decide)] at b1; exact b1, b2⟩)))
  · exact .inr (.inr (.inr (.inr ⟨e, a, WF4_eg g1 EGQ_rf b⟩)))
end W2a
end T378_w2
section T379_s1
/-! the run: a step: START and WHEN (X 22 | Q 345) -/
section S1a
variable {z : Int} {M N M' N' M1 M2 N1 : mm_} {s k v y w : Int}
theorem RU_18 [Inhabited fz_] (h : RU z M N) (hk : 0 ≤ k ∧ k < M 0 7) : RU z (up_ M 18 k v) (up_ N 239 (sB k + 3) v) := by
  obtain ⟨r1, r2, r3, r4, r5⟩ := h
  have n12 := r1.1
  have hB : sB k = 2 + 56 * k := rfl
  have xr : ∀ r : Nat, r ≠ 18 → up_ M 18 k v r = M r := fun r c => up_ne c
  have qr : ∀ r : Nat, r ≠ 239 → up_ N 239 (sB k + 3) v r = N r := fun r c => up_ne c
  have no : ∀ i, i ≠ sB k + 3 → up_ N 239 (sB k + 3) v 239 i = N 239 i := fun i e => upo e
  refine ⟨RI_k r1 hk (by rw [xr 0 (by decide)]; exact ⟨rfl, rfl⟩) (fun q hq i hi => by
      by_cases c : q = 18
      · rw [c, upo hi]
      · rw [xr q c]) (fun j hj => by rw [xr 13 (by decide)]) (fun j _ => by rw [xr 15 (by decide)]) (fun j _ => by rw [xr 16 (by decide), xr 17 (by decide)]; exact ⟨rfl, rfl⟩) (fun j hj => no j (by (clear hk r1 r2 r3 r4 r5 n12 xr qr no; lia))) (by rw [qr 6 (by decide)]) (fun q hq => qr q (fun e => by rw [e] at hq; revert hq; decide)) ?_, RRt_k r2 (xr 21 (by decide)) (xr 22 (by decide)) (fun j hj => no j (by omega)) (by rw [qr 6 (by decide)]), RSC_c r3 (fun i _ => by rw [xr 0 (by decide)]) (fun i _ => by rw [qr 6 (by decide)]), ROU_c r4 (fun i _ => by rw [xr 0 (by decide)]) (xr 24 (by decide)) (fun i _ => by rw [qr 6 (by decide)]) (qr 241 (by decide)), REV_c r5 (fun i _ => by rw [xr 0 (by decide)]) (xr 23 (by decide)) (fun i _ => by rw [qr 6 (by decide)]) (qr 240 (by decide))⟩
  obtain ⟨b1, b2, b3, b4, b5⟩ := r1.2.2.1 k hk.1 hk.2
  unfold IN
  rw [xr 10 (by decide), xr 11 (by decide), xr 12 (by decide), xr 20 (by decide), xr 19 (by decide), xr 0 (by decide), xr 13 (by decide), xr 14 (by decide), xr 15 (by decide), xr 16 (by decide), xr 17 (by decide), qr 6 (by decide), qr 174 (by decide), qr 172 (by decide), qr 173 (by decide), no (sB k) (by (clear hk r1 r2 r3 r4 r5 n12 hB xr qr no b1 b2 b3 b4 b5; lia)), no (sB k + 1) (by (clear hk r1 r2 r3 r4 r5 n12 hB xr qr no b1 b2 b3 b4 b5; omega)), no (sB k + 2) (by (clear hk r1 r2 r3 r4 r5 n12 hB xr qr no b1 b2 b3 b4 b5; lia)), no (sB k + 5) (by (clear hk r1 r2 r3 r4 r5 n12 hB xr qr no b1 b2 b3 b4 b5; lia)), no (sB k + 4) (by (clear hk r1 r2 r3 r4 r5 n12 hB xr qr no b1 b2 b3 b4 b5; lia)), no (sB k + 25) (by omega), up_at, up_at]
  exact ⟨⟨b1.1, b1.2.1, b1.2.2.1, rfl, b1.2.2.2.2⟩, b2, ⟨fun j j0 j1 => by rw [no _ (by (clear hk r1 r2 r3 r4 r5 n12 hB xr qr no b1 b2 b3 b4 b5; lia))]; exact b3.1 j j0 j1, fun j j0 j1 j2 => by rw [no _ (by omega)]; exact b3.2 j j0 j1 j2⟩, fun t t0 t1 => by rw [no _ (by (clear hk r1 r2 r3 r4 r5 n12 hB xr qr no b1 b2 b3 b4 b5; omega))]; exact b4 t t0 t1, b5.1, fun j j0 j1 => by rw [no _ (by omega)]; exact b5.2.1 j j0 j1, fun j j0 j1 => by rw [no _ (by omega)]; exact b5.2.2 j j0 j1⟩
/-- START -/
theorem st_1 [Inhabited fz_] (h : RU z M N) (hP : PLr M N) (hA : TYA N) (hs : 0 ≤ s ∧ s < M 0 7) (h8 : M 0 8 + 200 ≤ 2000000000) (gx : EGX M M2) (gq : EGQ N N1) (x12 : Ex_ 5 12 [.inr (.inr 0), .inl s] M1 [.inl 1] M2) : ∃ M' N', Ex_ 9 22 [.inr (.inr 0), .inl s] M1 [] M' ∧ Ex_ 9 345 [.inr (.inr 6), .inl s, .inl 1] N1 [] N' ∧ RU z M' N' ∧ TYA N' ∧ (XRF M M' ∧ QRF N N') ∧ M' 0 8 ≤ M 0 8 + 200 := by
  have n12 := h.1.1
  have hB : sB s = 2 + 56 * s := rfl
  have hin := h.1.2.2.1 s hs.1 hs.2
  have hT := hin.2.1.2.1
  have p6 := hP.1.2.2
  rw [tbN_6 (by decide)] at p6
  have pt := (PT_of hP hT).2.2.2.2.1
  rw [tbN_r (q := 176) (by decide) (by decide), show swc M 127 = M 94 from swc_r (q := 94) (by decide) (by decide)] at pt
  have m11 : M2 11 = M 11 := gx.1 11 (by decide) (by decide)
  have m94 : M2 94 = M 94 := gx.1 94 (by decide) (by decide)
  obtain ⟨M', N', x1, q1, ru, ty, fr, b8⟩ := j_23 (k := N 176 (M 11 s)) (c := M 94 (M 11 s)) (RU_eg h gx gq) (PLr_c hP (XRF_eg gx) (QRF_eg gq)) (TYA_eg hA gq) (s := s) (by rw [gx.2 7 (by decide)]; exact hs) (by rw [gx.2 8 (by decide)]; exact h8) (by rw [swc_e (XRF_eg gx), tbN_e (QRF_eg gq), m11]; exact pt)
  refine ⟨M', N', fun Qr Qt g => t_22 fun V hV hW => b_22_0 (Tr_mono _) hV hW _ _ (Ex_le (d := 5) (by decide) x12 _ _ (ri_i ⟨by omega, ?_⟩)), fun Qr Qt g => t_345 fun V hV hW => b_345_0 (Tr_mono _) hV hW _ _ _ (Ex_le (d := 1) (by decide) (q_323 (by omega)) _ _ (ri_i ⟨by (clear h hP hA h8 gx gq x12 hin hT p6 pt m11 m94 x1 q1 ru ty fr b8 g hV hW; omega), ?_⟩)), ru, ty, ⟨XRF_tr (XRF_eg gx) fr.1, QRF_tr (QRF_eg gq) fr.2⟩, by rw [gx.2 8 (by decide)] at b8; exact b8⟩
  · rw [if_pos rfl, m11, m94]; exact ⟨by omega, by omega, x1 _ _ (rv_i g)⟩
  · rw [if_pos rfl, w32_id (x := sB s + 1) (by omega) (by omega), gq.1 239 (by decide) (by decide), gq.1 176 (by decide) (by decide), show N 239 (sB s + 1) = M 11 s from hin.1.2.1.symm]
    exact ⟨by omega, by omega, q1 _ _ (rv_i g)⟩
/-- WHEN -/
theorem st_4 [Inhabited fz_] (h : RU z M N) (hP : PLr M N) (hA : TYA N) (hs : 0 ≤ s ∧ s < M 0 7) (h8 : M 0 8 + 200 ≤ 2000000000) (gx : EGX M M2) (gq : EGQ N N1) (x12 : Ex_ 5 12 [.inr (.inr 0), .inl s] M1 [.inl 4] M2) (hf : WF4 M N M2 N1 s) : ∃ M' N', Ex_ 9 22 [.inr (.inr 0), .inl s] M1 [] M' ∧ Ex_ 9 345 [.inr (.inr 6), .inl s, .inl 4] N1 [] N' ∧ RU z M' N' ∧ TYA N' ∧ (XRF M M' ∧ QRF N N') ∧ M' 0 8 ≤ M 0 8 + 200 := by
  have n12 := h.1.1
  have hB : sB s = 2 + 56 * s := rfl
  have hin := h.1.2.2.1 s hs.1 hs.2
  obtain ⟨k, hrow, e151, c2, cT⟩ := hf
  obtain ⟨_, sro⟩ := row_f hP hrow
  have rb := row_b hP hrow
  have pb := ps_b hP
  have k62 := hrow.1
  have at_ := sro.1 (by rw [tbN_r (q := 193) (by decide) (by decide)]; omega)
  rw [tbN_r (q := 192) (by decide) (by decide), tbN_r (q := 197) (by decide) (by decide), show swc M 141 = M 108 from swc_r (q := 108) (by decide) (by decide), cT] at at_
  have m11 : M2 11 = M 11 := gx.1 11 (by decide) (by decide)
  have m10 : M2 10 = M 10 := gx.1 10 (by decide) (by decide)
  have m108 : M2 108 = M 108 := gx.1 108 (by decide) (by decide)
  have e239 : N1 239 = N 239 := gq.1 239 (by decide) (by decide)
  have ep : N 239 (sB s) = M 10 s := hin.1.1.symm
  have hs2 : 0 ≤ s ∧ s < M2 0 7 := by rw [gx.2 7 (by decide)]; exact hs
  have ru1 := RU_18 (v := M 10 s) (RU_eg h gx gq) hs2
  have f18 : XRF M2 (up_ M2 18 s (M 10 s)) := XRF_up (by decide) (fun e => absurd e (by decide))
  have f239 : QRF N1 (up_ N1 239 (sB s + 3) (M 10 s)) := QRF_up (by decide) (fun e => absurd e (by decide))
  have fX := XRF_tr (XRF_eg gx) f18
  have fQ := QRF_tr (QRF_eg gq) f239
  have u0 : up_ M2 18 s (M 10 s) 0 = M2 0 := up_ne (by decide)
  obtain ⟨M', N', x1, q1, ru, ty, fr, b8⟩ := j_23 (k := N 197 k) (c := M 108 (M2 0 42)) ru1 (PLr_c hP fX fQ) (TYA_239 (TYA_eg hA gq) (by omega) 3 _ (by decide) (by rw [e239]; omega) (by rw [← ep]; exact hA.2.2 _)) (s := s) (by rw [u0]; exact hs2) (by rw [u0, gx.2 8 (by decide)]; exact h8) (by rw [swc_e fX, tbN_e fQ, up_ne (by decide), m11]; exact at_)
  refine ⟨M', N', fun Qr Qt g => t_22 fun V hV hW => b_22_0 (Tr_mono _) hV hW _ _ (Ex_le (d := 5) (by decide) x12 _ _ (ri_i ⟨by (clear h hP hA h8 gx gq x12 hB hin hrow e151 c2 cT sro rb pb k62 at_ m11 m10 m108 e239 ep hs2 ru1 f18 f239 fX fQ u0 x1 q1 ru ty fr b8 g hV hW; omega), ?_⟩)), fun Qr Qt g => t_345 fun V hV hW => b_345_0 (Tr_mono _) hV hW _ _ _ (Ex_le (d := 1) (by decide) (q_323 (by omega)) _ _ (ri_i ⟨by omega, ?_⟩)), ru, ty, ⟨XRF_tr fX fr.1, QRF_tr fQ fr.2⟩, by rw [u0, gx.2 8 (by decide)] at b8; exact b8⟩
  · rw [if_neg (by decide), if_pos rfl, m108, m10]; exact ⟨by omega, by (clear h hP hA hs h8 gx gq x12 n12 hB hin hrow e151 c2 cT sro k62 at_ m11 m10 m108 e239 ep hs2 ru1 f18 f239 fX fQ u0 x1 q1 ru ty fr b8 g hV hW; omega), x1 _ _ (rv_i g)⟩
  · rw [if_neg (by decide), if_pos rfl, w32_id (x := sB s + 3) (by omega) (by omega), e151, e239, gq.1 197 (by decide) (by decide), ep]
    exact ⟨by omega, by omega, q1 _ _ (rv_i g)⟩
end S1a
end T379_s1
section T380_rm
/-! the run: an item leaves the queue -/
def rmX (M : mm_) (s it : Int) : mm_ := up_ (wr_ M 15 (cpf (M 15) (30 * s + 5 * it) (30 * s + 5 * (M 14 s - 1)) 5)) 14 s (M 14 s - 1)
def rmQ (N : mm_) (s it : Int) : mm_ := wr_ N 239 (uqf (N 239) (sB s + 25) it)
section RMa
variable {z : Int} {M N : mm_} {s it : Int}
theorem RU_rm [Inhabited fz_] (h : RU z M N) (hs : 0 ≤ s ∧ s < M 0 7) (hi : 0 ≤ it ∧ it < M 14 s) : RU z (rmX M s it) (rmQ N s it) := by
  obtain ⟨r1, r2, r3, r4, r5⟩ := h
  have n12 := r1.1
  have hB : sB s = 2 + 56 * s := rfl
  obtain ⟨b1, b2, b3, b4, ⟨q1, q2, q3⟩, q4, q5⟩ := r1.2.2.1 s hs.1 hs.2
  have xr : ∀ r : Nat, r ≠ 14 → r ≠ 15 → rmX M s it r = M r := fun r c1 c2 => by unfold rmX; rw [up_ne c1, wr_ne c2]
  have x15 : rmX M s it 15 = cpf (M 15) (30 * s + 5 * it) (30 * s + 5 * (M 14 s - 1)) 5 := by unfold rmX; rw [up_ne (by decide), wr_same]
  have qr : ∀ r : Nat, r ≠ 239 → rmQ N s it r = N r := fun r c => by unfold rmQ; rw [wr_ne c]
  have q9 : rmQ N s it 239 = uqf (N 239) (sB s + 25) it := by unfold rmQ; rw [wr_same]
  have qo : ∀ i, i < sB s + 25 ∨ sB s + 56 ≤ i → rmQ N s it 239 i = N 239 i := fun i h => by rw [q9]; exact uqf_o hi.1 h
  refine ⟨RI_k r1 hs (by rw [xr 0 (by decide) (by decide)]; exact ⟨rfl, rfl⟩) (fun q hq i hi => by
      by_cases c : q = 14
      · rw [c]; unfold rmX; rw [upo hi, wr_ne (by decide)]
      · rw [xr q c (fun e => by rw [e] at hq; revert hq; decide)]) (fun j _ => by rw [xr 13 (by decide) (by decide)]) (fun j hj => by rw [x15]; unfold cpf; rw [if_neg (by (clear hs r1 r2 r3 r4 r5 n12 hB b1 b2 b3 b4 q4 q5 xr x15 qr q9 qo; lia))]) (fun j _ => by rw [xr 16 (by decide) (by decide), xr 17 (by decide) (by decide)]; exact ⟨rfl, rfl⟩) (fun j hj => qo j (by (clear hs hi r1 r2 r3 r4 r5 n12 b1 b2 b3 b4 q1 q2 q3 q4 q5 xr x15 qr q9 qo; omega))) (by rw [qr 6 (by decide)]) (fun q hq => qr q (fun e => by rw [e] at hq; revert hq; decide)) ?_, RRt_k r2 (xr 21 (by decide) (by decide)) (xr 22 (by decide) (by decide)) (fun j hj => qo j (by (clear hi r1 r2 r3 r4 r5 b1 b2 b3 b4 q1 q2 q3 q4 q5 xr x15 qr q9 qo; omega))) (by rw [qr 6 (by decide)]), RSC_c r3 (fun i _ => by rw [xr 0 (by decide) (by decide)]) (fun i _ => by rw [qr 6 (by decide)]), ROU_c r4 (fun i _ => by rw [xr 0 (by decide) (by decide)]) (xr 24 (by decide) (by decide)) (fun i _ => by rw [qr 6 (by decide)]) (qr 241 (by decide)), REV_c r5 (fun i _ => by rw [xr 0 (by decide) (by decide)]) (xr 23 (by decide) (by decide)) (fun i _ => by rw [qr 6 (by decide)]) (qr 240 (by decide))⟩
  have e14 : rmX M s it 14 s = M 14 s - 1 := by unfold rmX; rw [up_at]
  unfold IN
  rw [xr 10 (by decide) (by decide), xr 11 (by decide) (by decide), xr 12 (by decide) (by decide), xr 18 (by decide) (by decide), xr 19 (by decide) (by decide), xr 20 (by decide) (by decide), xr 0 (by decide) (by decide), xr 13 (by decide) (by decide), xr 16 (by decide) (by decide), xr 17 (by decide) (by decide), qr 6 (by decide), qr 174 (by decide), qr 172 (by decide), qr 173 (by decide), e14, qo (sB s) (by (clear hs hi r1 r2 r3 r4 r5 n12 hB b1 b2 b3 b4 q1 q2 q3 q4 q5 xr x15 qr q9 qo e14; lia)), qo (sB s + 1) (by (clear hs hi r1 r2 r3 r4 r5 n12 hB b1 b2 b3 b4 q1 q2 q3 q4 q5 xr x15 qr q9 qo e14; lia)), qo (sB s + 2) (by (clear hs hi r1 r2 r3 r4 r5 n12 hB b1 b2 b3 b4 q1 q2 q3 q4 q5 xr x15 qr q9 qo e14; omega)), qo (sB s + 3) (by omega), qo (sB s + 4) (by omega), qo (sB s + 5) (by omega)]
  refine ⟨b1, b2, ⟨fun j j0 j1 => by rw [qo _ (by (clear hs hi r1 r2 r3 r4 r5 n12 hB b1 b2 b3 b4 q1 q2 q3 q4 q5 xr x15 qr q9 qo e14; omega))]; exact b3.1 j j0 j1, fun j j0 j1 j2 => by rw [qo _ (by omega)]; exact b3.2 j j0 j1 j2⟩, fun t t0 t1 => by rw [qo _ (by (clear hs hi r1 r2 r3 r4 r5 n12 hB b1 b2 b3 b4 q1 q2 q3 q4 q5 xr x15 qr q9 qo e14; lia))]; exact b4 t t0 t1, ⟨by (clear hs r1 r2 r3 r4 r5 n12 hB b1 b2 b3 b4 q4 q5 xr x15 qr q9 qo; lia), by (clear hs hi r1 r2 r3 r4 r5 n12 hB b1 b2 b3 b4 q4 q5 xr x15 qr q9 qo; lia), by rw [q9, uqf_25, q3]⟩, fun j j0 j1 => ?_, fun j j0 j1 => ?_⟩
  · rw [x15, q9]
    unfold cpf
    by_cases c : 5 * it ≤ j
    · rw [if_pos (by (clear hs hi r1 r2 r3 r4 r5 n12 hB b1 b2 b3 b4 q1 q2 q4 q5 xr x15 qr q9 qo j0; lia)), uqf_hi (by (clear hs r1 r2 r3 r4 r5 n12 hB b1 b2 b3 b4 q4 q5 xr x15 qr q9 qo j0; lia)) hi.1, show 30 * s + j + 5 = 30 * s + (j + 5) by (clear hs hi r1 r2 r3 r4 r5 n12 hB b1 b2 b3 b4 q1 q2 q3 q4 q5 xr x15 qr q9 qo e14 j0 j1 c; lia)]; exact q4 (j + 5) (by (clear hs hi r1 r2 r3 r4 r5 n12 hB b1 b2 b3 b4 q1 q2 q3 q4 q5 xr x15 qr q9 qo e14 j1 c; lia)) (by (clear hs hi r1 r2 r3 r4 r5 n12 hB b1 b2 b3 b4 q1 q2 q4 q5 xr x15 qr q9 qo j0 c; omega))
    · rw [if_neg (by (clear hs hi r1 r2 r3 r4 r5 n12 hB b1 b2 b3 b4 q1 q2 q3 q4 q5 xr x15 qr q9 qo e14 j0 j1; lia))]
      rcases uqf_lo (g := N 239) (k := s) (i := it) (j := j) (by (clear hs hi r1 r2 r3 r4 r5 n12 hB b1 b2 b3 b4 q1 q2 q3 q4 q5 xr x15 qr q9 qo e14 j1; lia)) with e | e
      · rw [e]; exact q4 j j0 (by (clear hs hi r1 r2 r3 r4 r5 n12 hB b1 b2 b3 b4 q1 q2 q4 q5 xr x15 qr q9 qo j0 c e; omega))
      · (clear hs r1 r2 r3 r4 r5 n12 hB b1 b2 b3 b4 q4 q5 xr x15 qr q9 qo j0 c; omega)
  · rw [q9]
    by_cases c : 25 ≤ j
    · exact uqf_z (by (clear hs hi r1 r2 r3 r4 r5 n12 hB b1 b2 b3 b4 q1 q2 q3 q4 q5 xr x15 qr q9 qo e14 j0; omega))
    · rw [uqf_hi (by (clear hs r1 r2 r3 r4 r5 n12 hB b1 b2 b3 b4 q1 q2 q4 q5 xr x15 qr q9 qo j1; lia)) hi.1]; exact q5 (j + 5) (by (clear hs hi r1 r2 r3 r4 r5 n12 hB b1 b2 b3 b4 q1 q2 q4 q5 xr x15 qr q9 qo j1 c; omega)) (by (clear hs hi r1 r2 r3 r4 r5 n12 hB b1 b2 b3 b4 q1 q2 q3 q4 q5 xr x15 qr q9 qo e14 j0 j1; omega))
theorem TYA_rm [Inhabited fz_] (h : RU z M N) (hA : TYA N) (hs : 0 ≤ s ∧ s < M 0 7) (hi : 0 ≤ it ∧ it < M 14 s) : TYA (rmQ N s it) := by
  have n12 := h.1.1
  have q := (h.1.2.2.1 s hs.1 hs.2).2.2.2.2.1
  have := TYA_uq (N := N) (g := N 239) (k := s) (i := it) (by rw [wr_id]; exact hA) (by (clear h hA hi q; omega)) (by omega) (by (clear h hA hs n12; omega)) (by (clear h hA hs hi n12; omega))
  exact this
end RMa
end T380_rm
section T381_tk
/-! the run: a signal is taken, X's and Q's walks -/
def tkX9 (M : mm_) (s it : Int) : mm_ := up_ (up_ (up_ M 25 0 (M 15 (30 * s + 5 * it + 2))) 25 1 (M 15 (30 * s + 5 * it + 3))) 25 2 (M 15 (30 * s + 5 * it + 4))
section TKa
variable {z : Int} {M N : mm_} {s it y2 y3 y5 y6 y7 : Int}
theorem tk_r [Inhabited fz_] {r : Nat} (h : r ≠ 25) : tkX9 M s it r = M r := by unfold tkX9; rw [up_ne h, up_ne h, up_ne h]
theorem rm_e [Inhabited fz_] : wr_ (up_ (tkX9 M s it) 14 s (M 14 s - 1)) 15 (cpf (M 15) (30 * s + 5 * it) (30 * s + 5 * (M 14 s - 1)) 5) = rmX (tkX9 M s it) s it := by
  unfold rmX
  rw [tk_r (r := 14) (by decide), tk_r (r := 15) (by decide)]
  funext r
  by_cases c : r = 15
  · subst c; rw [wr_same, up_ne (by decide), wr_same]
  · rw [wr_ne c]
    by_cases c2 : r = 14
    · subst c2
      funext j
      rw [ua_, ua_, if_pos rfl, if_pos rfl, wr_ne (by decide)]
    · rw [up_ne c2, up_ne c2, wr_ne c]
/-- X: the item is taken out -/
theorem x_117t [Inhabited fz_] (h : RU z M N) (hs : 0 ≤ s ∧ s < M 0 7) (hi : 0 ≤ it ∧ it < M 14 s) : RC 8 m_22 117 [rr 0, ii s, ii y2, ii y3, ii (30 * s + 5 * it), ii y5, ii y6, ii y7, rr 25, ii 0] M 160 [rr 0, ii s, ii y2, ii y3, ii (30 * s + 5 * it), ii y5, ii y6, ii y7, rr 25, ii (30 * s + 5 * (M 14 s - 1))] (rmX (tkX9 M s it) s it) := by
  have n12 := h.1.1
  have q := (h.1.2.2.1 s hs.1 hs.2).2.2.2.2.1
  have lp : ∀ (d : Nat) (x : Int), x + d = 30 * s + 5 * (M 14 s - 1) → 30 * s + 5 * it ≤ x → RC 8 m_22 160 [rr 0, ii s, ii y2, ii y3, ii (30 * s + 5 * it), ii y5, ii y6, ii y7, rr 25, ii x] (wr_ (up_ (tkX9 M s it) 14 s (M 14 s - 1)) 15 (cpf (M 15) (30 * s + 5 * it) x 5)) 160 [rr 0, ii s, ii y2, ii y3, ii (30 * s + 5 * it), ii y5, ii y6, ii y7, rr 25, ii (30 * s + 5 * (M 14 s - 1))] (wr_ (up_ (tkX9 M s it) 14 s (M 14 s - 1)) 15 (cpf (M 15) (30 * s + 5 * it) (30 * s + 5 * (M 14 s - 1)) 5)) := fun d => by
    induction d with
    | zero => intro x hx _; rw [show x = 30 * s + 5 * (M 14 s - 1) by (clear h hs hi n12; lia)]; exact RC_rf
    | succ d ih =>
      intro x hx x0
      refine RC_tr (fun V Qr Qt hV hW g => b_22_160 (Tr_mono _) hV hW _ _ _ _ _ _ _ _ _ ⟨by (clear h hi q ih hx x0 hV hW g; omega), ?_⟩) (ih (x + 1) (by (clear h hs hi n12 ih x0; lia)) (by (clear h hs hi n12 ih; lia)))
      rw [wr_ne (r' := 14) (by decide), up_at]
      refine Ex_le (d := 1) (by decide) (x_9 (by omega) (by (clear h hs n12 ih hx x0 hV hW g; lia))) _ _ (ri_i ?_)
      rw [if_pos (by (clear h hs hi n12 ih x0 hV hW g; omega)), w32_id (x := x + 5) (by omega) (by (clear h ih x0 hV hW g; lia)), w32_id (x := x + 1) (by omega) (by (clear h ih x0 hV hW g; lia)), wr_same, cpf_s x0 (by decide)]
      exact ⟨by (clear h ih hV hW g; lia), by omega, g⟩
  have l2 := lp (5 * (M 14 s - 1 - it)).toNat (30 * s + 5 * it) (by (clear h hs n12 lp; lia)) (Int.le_refl _)
  rw [cpf_0, rm_e] at l2
  have e15 : up_ (tkX9 M s it) 14 s (M 14 s - 1) 15 = M 15 := by rw [up_ne (by decide), tk_r (by decide)]
  rw [← e15, wr_id] at l2
  refine RC_tr (fun V Qr Qt hV hW g => ?_) l2
  refine b_22_117 (Tr_mono _) hV hW _ _ _ _ _ _ _ _ _ ?_
  rw [if_pos (by decide), w32_id (x := 30 * s + 5 * it + 2) (by omega) (by omega), w32_id (x := 30 * s + 5 * it + 2 + 0) (by (clear h n12 q lp l2 e15 hV hW g; lia)) (by (clear h lp l2 e15 hV hW g; lia)), show w32 (0 + 1) = 1 from w32_id (by decide) (by decide)]
  refine ⟨by omega, by decide, b_22_117 (Tr_mono _) hV hW _ _ _ _ _ _ _ _ _ ?_⟩
  rw [if_pos (by decide), w32_id (x := 30 * s + 5 * it + 2) (by omega) (by omega), w32_id (x := 30 * s + 5 * it + 2 + 1) (by omega) (by (clear h lp l2 e15 hV hW g; lia)), show w32 (1 + 1) = 2 from w32_id (by decide) (by decide)]
  refine ⟨by omega, by decide, b_22_117 (Tr_mono _) hV hW _ _ _ _ _ _ _ _ _ ?_⟩
  rw [if_pos (by decide), w32_id (x := 30 * s + 5 * it + 2) (by omega) (by omega), w32_id (x := 30 * s + 5 * it + 2 + 2) (by omega) (by omega), show w32 (2 + 1) = 3 from w32_id (by decide) (by decide)]
  refine ⟨by omega, by decide, b_22_117 (Tr_mono _) hV hW _ _ _ _ _ _ _ _ _ ?_⟩
  have n5 : ∀ (B : mm_) (i v : Int), up_ B 25 i v 15 = B 15 := fun B i v => up_ne (by decide)
  have n4 : ∀ (B : mm_) (i v : Int), up_ B 25 i v 14 = B 14 := fun B i v => up_ne (by decide)
  rw [if_neg (by decide), n5, n5, n5, n4, n4, n4, w32_id (x := M 14 s - 1) (by omega) (by omega), Int.add_zero, show 30 * s + 5 * it + 2 + 1 = 30 * s + 5 * it + 3 by (clear h hs hi n12 q lp l2 e15 hV hW g n5 n4; lia), show 30 * s + 5 * it + 2 + 2 = 30 * s + 5 * it + 4 by (clear h hs hi n12 q lp l2 e15 hV hW g n5 n4; lia)]
  exact ⟨by omega, by omega, g⟩
end TKa
end T381_tk
section T382_s3
/-! the run: a step: a signal is lost (X 22 | Q 345) -/
section S3a
variable {z : Int} {M N M' N' M1 M2 N1 : mm_} {s it v : Int}
theorem RU_25 [Inhabited fz_] (h : RU z M N) (hx : ∀ r : Nat, r ≠ 25 → M' r = M r) : RU z M' N := by
  obtain ⟨h1, h2, h3, h4, h5⟩ := h
  have e0 := hx 0 (by decide)
  exact ⟨RI_c h1 ⟨by rw [e0], by rw [e0]⟩ (fun q hq => hx q (fun e => by rw [e] at hq; revert hq; decide)) rfl rfl (fun _ _ => rfl), RRt_c h2 (hx 21 (by decide)) (hx 22 (by decide)) rfl rfl, RSC_c h3 (fun i _ => by rw [e0]) (fun _ _ => rfl), ROU_c h4 (fun i _ => by rw [e0]) (hx 24 (by decide)) (fun _ _ => rfl) rfl, REV_c h5 (fun i _ => by rw [e0]) (hx 23 (by decide)) (fun _ _ => rfl) rfl⟩
theorem rm_18 [Inhabited fz_] : up_ (rmX M s it) 18 s v = rmX (up_ M 18 s v) s it := by
  unfold rmX
  rw [up_ne (r' := 14) (by decide), up_ne (r' := 15) (by decide), upc (r := 14) (r' := 18) (by decide)]
  congr 1
  funext r
  by_cases c : r = 15
  · subst c; rw [up_ne (by decide), wr_same, wr_same]
  · rw [wr_ne c]
    by_cases c2 : r = 18
    · subst c2; funext j; rw [ua_, ua_, if_pos rfl, if_pos rfl, wr_ne (by decide)]
    · rw [up_ne c2, up_ne c2, wr_ne c]
theorem XRF_tk [Inhabited fz_] : XRF M (tkX9 M s it) := ⟨fun r hr => tk_r (fun e => hr (by rw [e]; decide)), fun i _ => by rw [tk_r (by decide)]⟩
theorem XRF_rm [Inhabited fz_] : XRF M (rmX M s it) := by unfold rmX; exact XRF_tr (XRF_wr (by decide) (by decide)) (XRF_up (by decide) (fun e => absurd e (by decide)))
theorem QRF_rm [Inhabited fz_] : QRF N (rmQ N s it) := by unfold rmQ; exact QRF_wr (by decide) (by decide)
end S3a
end T382_s3
section T383_s4
/-! the run: a step: a signal is lost, walked -/
section S4a
variable {z : Int} {M N M' N' M1 M2 N1 : mm_} {s it v : Int}
theorem st_3 [Inhabited fz_] (h : RU z M N) (hP : PLr M N) (hA : TYA N) (hs : 0 ≤ s ∧ s < M 0 7) (gx : EGX M M2) (gq : EGQ N N1) (x12 : Ex_ 5 12 [.inr (.inr 0), .inl s] M1 [.inl 3] M2) (hf : WF3 M M2 N1 s) : ∃ M' N', Ex_ 9 22 [.inr (.inr 0), .inl s] M1 [] M' ∧ Ex_ 9 345 [.inr (.inr 6), .inl s, .inl 3] N1 [] N' ∧ RU z M' N' ∧ TYA N' ∧ (XRF M M' ∧ QRF N N') ∧ M' 0 8 = M 0 8 := by
  obtain ⟨it, hi, e41, e152⟩ := hf
  have n12 := h.1.1
  have hB : sB s = 2 + 56 * s := rfl
  have ru2 := RU_eg h gx gq
  have tA2 := TYA_eg hA gq
  have m7 : M2 0 7 = M 0 7 := gx.2 7 (by decide)
  have m14 : M2 14 = M 14 := gx.1 14 (by decide) (by decide)
  have hs2 : 0 ≤ s ∧ s < M2 0 7 := by rw [m7]; exact hs
  have hi2 : 0 ≤ it ∧ it < M2 14 s := by rw [m14]; exact hi
  have hin := ru2.1.2.2.1 s hs2.1 hs2.2
  have qb := hin.2.2.2.2.1
  have q0 := hin.2.2.2.2.2.1 (5 * it) (by (clear h hP hA hs gx gq x12 n12 hB ru2 tA2 m7 m14 hs2 hi2 hin qb; lia)) (by (clear h hP hA hs gx gq x12 hi n12 hB ru2 tA2 m7 m14 hs2 hin; lia))
  have q1 := hin.2.2.2.2.2.1 (5 * it + 1) (by (clear h hP hA hs gx gq x12 n12 hB ru2 tA2 m7 m14 hs2 hi2 hin qb q0; lia)) (by (clear h hP hA hs gx gq x12 hi n12 hB ru2 tA2 m7 m14 hs2 hin q0; lia))
  rw [show 30 * s + (5 * it + 1) = 30 * s + 5 * it + 1 by (clear h hP hA hs gx gq x12 hi e41 e152 n12 hB ru2 tA2 m7 m14 hs2 hi2 hin qb q0 q1; lia), show sB s + 26 + (5 * it + 1) = sB s + 26 + 5 * it + 1 by (clear h hP hA hs gx gq x12 hi e41 e152 n12 hB ru2 tA2 m7 m14 hs2 hi2 hin qb q0 q1; lia)] at q1
  have ep : N1 239 (sB s) = M2 10 s := hin.1.1.symm
  generalize hsn : M2 15 (30 * s + 5 * it + 1) = sn at q1
  generalize hsg : M2 15 (30 * s + 5 * it) = sg at q0
  have ruT : RU z (tkX9 M2 s it) N1 := RU_25 ru2 (fun r hr => tk_r hr)
  have t0 : tkX9 M2 s it 0 = M2 0 := tk_r (by decide)
  have ru3 := RU_18 (v := sn) (k := s) ruT (by rw [t0]; exact hs2)
  have u0 : up_ (tkX9 M2 s it) 18 s sn 0 = M2 0 := by rw [up_ne (by decide), t0]
  have u14 : up_ (tkX9 M2 s it) 18 s sn 14 = M2 14 := by rw [up_ne (by decide), tk_r (by decide)]
  have ru4 := RU_rm (it := it) ru3 (by rw [u0]; exact hs2) (by rw [u14]; exact hi2)
  have rsn : R32 sn := by rw [q1]; exact tA2.2.2 _
  have tA3 : TYA (up_ N1 239 (sB s + 3) sn) := TYA_239 tA2 (by omega) 3 sn (by decide) (by have := ru2.1.1; (clear h hP hA gx gq x12 hi e41 e152 hB ru2 tA2 m14 hs2 hi2 hin qb ep hsn q1 hsg q0 ruT t0 ru3 u0 u14 ru4 rsn; omega)) rsn
  have tA4 := TYA_rm (it := it) ru3 tA3 (by rw [u0]; exact hs2) (by rw [u14]; exact hi2)
  have x7 := x_7 (p := M2 10 s) (s := sg) (b := sn) ru4
  have q7 := q_333 (p := M2 10 s) (s := sg) (b := sn) ru4
  have r0 : rmX (up_ (tkX9 M2 s it) 18 s sn) s it 0 = M2 0 := by unfold rmX; rw [up_ne (by decide), wr_ne (by decide), u0]
  refine ⟨loX (rmX (up_ (tkX9 M2 s it) 18 s sn) s it) (M2 10 s) sg sn, loQ (rmQ (up_ N1 239 (sB s + 3) sn) s it) (M2 10 s) sg sn, fun Qr Qt g => t_22 fun V hV hW => b_22_0 (Tr_mono _) hV hW _ _ (Ex_le (d := 5) (by decide) x12 _ _ (ri_i ⟨by omega, ?_⟩)), fun Qr Qt g => t_345 fun V hV hW => b_345_0 (Tr_mono _) hV hW _ _ _ (Ex_le (d := 1) (by decide) (q_323 (by (clear h hP hA gx gq x12 hi e41 e152 hB ru2 tA2 m14 hs2 hi2 hin qb ep hsn q1 hsg q0 ruT t0 ru3 u0 u14 ru4 rsn tA3 tA4 x7 q7 r0 g hV hW; omega))) _ _ (ri_i ⟨by omega, ?_⟩)), RU_lo ru4, TYA_lo tA4, ⟨XRF_tr (XRF_eg gx) (XRF_tr (XRF_tr XRF_tk (XRF_up (by decide) (fun e => absurd e (by decide)))) (XRF_tr XRF_rm XRF_lo)), QRF_tr (QRF_eg gq) (QRF_tr (QRF_up (by decide) (fun e => absurd e (by decide))) (QRF_tr QRF_rm QRF_lo))⟩, by rw [LoX_lo.2 8 (by decide), r0]; exact gx.2 8 (by decide)⟩
  · rw [if_neg (by decide), if_neg (by decide), e41]
    refine Ex_le (d := 1) (by decide) (x_9 (by omega) (by (clear h hP hA hs gx gq x12 n12 hB ru2 tA2 m7 m14 hs2 hin ep hsn q1 hsg q0 ruT t0 ru3 u0 u14 ru4 rsn tA3 tA4 x7 q7 r0 g hV hW; omega))) _ _ (ri_i ⟨by (clear h hP hA gx gq x12 hB ru2 tA2 m14 hs2 hin ep hsn q1 hsg q0 ruT t0 ru3 u0 u14 ru4 rsn tA3 tA4 x7 q7 r0 g hV hW; lia), ?_⟩)
    rw [w32_id (x := 30 * s + 5 * it + 1) (by (clear h hP hA gx gq x12 n12 hB ru2 tA2 m7 m14 hs2 hi2 hin qb ep hsn q1 hsg q0 ruT t0 ru3 u0 u14 ru4 rsn tA3 tA4 x7 q7 r0 g hV hW; lia)) (by omega), hsn, hsg]
    refine ⟨by (clear h hP hA gx gq x12 hB ru2 tA2 m14 hs2 hin ep hsn q1 hsg q0 ruT t0 ru3 u0 u14 ru4 rsn tA3 tA4 x7 q7 r0 g hV hW; lia), x_117t ru2 hs2 hi2 V Qr Qt hV hW (b_22_160 (Tr_mono _) hV hW _ _ _ _ _ _ _ _ _ ⟨by omega, ?_⟩)⟩
    have e14 : rmX (tkX9 M2 s it) s it 14 s = M2 14 s - 1 := by unfold rmX; rw [up_at, tk_r (by decide)]
    rw [e14]
    refine Ex_le (d := 1) (by decide) (x_9 (by omega) (by (clear h hP hA hs gx gq x12 n12 hB ru2 tA2 m7 m14 hs2 hin ep hsn q1 hsg q0 ruT t0 ru3 u0 u14 ru4 rsn tA3 tA4 x7 q7 r0 g hV hW; lia))) _ _ (ri_i ?_)
    rw [if_neg (by (clear h hP hA hs gx gq x12 hi e41 e152 n12 hB ru2 tA2 m7 m14 hs2 hi2 hin qb ep hsn q1 hsg q0 ruT t0 ru3 u0 u14 ru4 rsn tA3 tA4 x7 q7 r0 g hV hW e14; lia)), if_pos rfl, rm_18]
    exact ⟨by omega, Ex_le (d := 2) (by decide) x7 _ _ (rv_i g)⟩
  · rw [if_neg (by decide), if_neg (by decide), if_neg (by decide), e152, w32_id (x := sB s + 25) (by omega) (by omega), w32_id (x := sB s + 25 + 1) (by (clear h hP hA gx gq x12 hi e41 e152 n12 ru2 tA2 m7 m14 hs2 hi2 hin qb ep hsn q1 hsg q0 ruT t0 ru3 u0 u14 ru4 rsn tA3 tA4 x7 q7 r0 g hV hW; lia)) (by (clear h hP hA gx gq x12 hi e41 e152 ru2 tA2 m14 hs2 hi2 hin qb ep hsn q1 hsg q0 ruT t0 ru3 u0 u14 ru4 rsn tA3 tA4 x7 q7 r0 g hV hW; lia)), w32_id (x := 5 * it) (by (clear h hP hA hs gx gq x12 n12 hB ru2 tA2 m7 m14 hs2 hi2 hin qb ep hsn q1 hsg q0 ruT t0 ru3 u0 u14 ru4 rsn tA3 tA4 x7 q7 r0 g hV hW; lia)) (by (clear h hP hA hs gx gq x12 hi n12 hB ru2 tA2 m7 m14 hs2 hin ep hsn q1 hsg q0 ruT t0 ru3 u0 u14 ru4 rsn tA3 tA4 x7 q7 r0 g hV hW; lia)), w32_id (x := sB s + 25 + 1 + 5 * it) (by (clear h hP hA gx gq x12 n12 ru2 tA2 m7 m14 hs2 hi2 hin qb ep hsn q1 hsg q0 ruT t0 ru3 u0 u14 ru4 rsn tA3 tA4 x7 q7 r0 g hV hW; lia)) (by (clear h hP hA gx gq x12 ru2 tA2 m14 hs2 hin ep hsn q1 hsg q0 ruT t0 ru3 u0 u14 ru4 rsn tA3 tA4 x7 q7 r0 g hV hW; lia)), w32_id (x := sB s + 25 + 1 + 5 * it + 1) (by (clear h hP hA gx gq x12 n12 ru2 tA2 m7 m14 hs2 hi2 hin qb ep hsn q1 hsg q0 ruT t0 ru3 u0 u14 ru4 rsn tA3 tA4 x7 q7 r0 g hV hW; lia)) (by (clear h hP hA gx gq x12 ru2 tA2 m14 hs2 hin ep hsn q1 hsg q0 ruT t0 ru3 u0 u14 ru4 rsn tA3 tA4 x7 q7 r0 g hV hW; lia)), w32_id (x := sB s + 3) (by omega) (by (clear h hP hA gx gq x12 hi e41 e152 ru2 tA2 m14 hs2 hi2 hin qb ep hsn q1 hsg q0 ruT t0 ru3 u0 u14 ru4 rsn tA3 tA4 x7 q7 r0 g hV hW; lia)), show sB s + 25 + 1 + 5 * it = sB s + 26 + 5 * it by (clear h hP hA hs gx gq x12 hi e41 e152 n12 hB ru2 tA2 m7 m14 hs2 hi2 hin qb ep hsn q1 hsg q0 ruT t0 ru3 u0 u14 ru4 rsn tA3 tA4 x7 q7 r0 g hV hW; lia), ← q0, ← q1, ep]
    refine ⟨by (clear h hP hA gx gq x12 ru2 tA2 m14 hs2 hin ep hsn q1 hsg q0 ruT t0 ru3 u0 u14 ru4 rsn tA3 tA4 x7 q7 r0 g hV hW; lia), by (clear h hP hA gx gq x12 ru2 tA2 m14 hs2 hin ep hsn q1 hsg q0 ruT t0 ru3 u0 u14 ru4 rsn tA3 tA4 x7 q7 r0 g hV hW; lia), by (clear h hP hA gx gq x12 hi e41 e152 ru2 tA2 m14 hs2 hi2 hin qb ep hsn q1 hsg q0 ruT t0 ru3 u0 u14 ru4 rsn tA3 tA4 x7 q7 r0 g hV hW; lia), b_345_188 (Tr_mono _) hV hW _ _ _ _ _ _ _ _ _ _ ?_⟩
    have e6 : up_ N1 239 (sB s + 3) sn 6 152 = it := by rw [up_ne (by decide)]; exact e152
    rw [e6]
    have q53 := q_353 (N := up_ N1 239 (sB s + 3) sn) (g := up_ N1 239 (sB s + 3) sn 239) (k := s) (i := it) (by omega) (by (clear h hP hA hs gx gq x12 n12 hB ru2 tA2 m7 m14 hs2 hin ep hsn q1 hsg q0 ruT t0 ru3 u0 u14 ru4 rsn tA3 tA4 x7 q7 r0 g hV hW; lia)) (by rw [upo (by omega)]; omega)
    rw [wr_id] at q53
    refine Ex_le (d := 2) (by decide) q53 _ _ (rv_i ?_)
    rw [if_neg (by decide)]
    exact Ex_le (d := 2) (by decide) q7 _ _ (rv_i g)
end S4a
end T383_s4
section T384_c2
/-! the run: cells set and the queue, in either order -/
section C2a
variable {z : Int} {M N : mm_} {s it i v p a b c : Int}
theorem rm_13 [Inhabited fz_] : up_ (rmX M s it) 13 i v = rmX (up_ M 13 i v) s it := by
  unfold rmX
  rw [up_ne (r' := 14) (by decide), up_ne (r' := 15) (by decide), upc (r := 14) (r' := 13) (by decide)]
  congr 1
  funext r
  by_cases c : r = 15
  · subst c; rw [up_ne (by decide), wr_same, wr_same]
  · rw [wr_ne c]
    by_cases c2 : r = 13
    · subst c2; funext j; rw [ua_, ua_, if_pos rfl, if_pos rfl, wr_ne (by decide)]
    · rw [up_ne c2, up_ne c2, wr_ne c]
theorem evX_13 [Inhabited fz_] {k : Int} : up_ (evX M k a b c) 13 i v = evX (up_ M 13 i v) k a b c := by
  unfold evX
  rw [up_ne (r' := 0) (by decide)]
  split
  · rw [upc (r := 0) (r' := 13) (by decide), upc (r := 0) (r' := 13) (by decide), upc (r := 23) (r' := 13) (by decide), upc (r := 23) (r' := 13) (by decide), upc (r := 23) (r' := 13) (by decide), upc (r := 23) (r' := 13) (by decide)]
  · rfl
end C2a
end T384_c2
section T385_cl
/-! the run: the values of a signal go into cells (X 22 | Q 345) -/
section CLa
variable {z : Int} {A0 B0 : mm_} {s it n T r i me sg sn y2 y4 x3 x4 x5 x9 : Int}
theorem l_233 [Inhabited fz_] (hs : 0 ≤ s ∧ s < 12) (hit : 0 ≤ it ∧ it < 6) (hn : 0 ≤ n ∧ n ≤ 3) (hr : 0 ≤ r ∧ r < 600) (hi : 0 ≤ i ∧ i < 1200) (h105 : A0 105 r = n) (h201 : B0 201 i = n) (hT : A0 11 s = T) (h7 : s < A0 0 7)
    (hv : ∀ v, 0 ≤ v → v < n → A0 25 v = B0 239 (sB s + 28 + 5 * it + v) ∧ R32 (A0 25 v) ∧ A0 104 (3 * r + v) = B0 202 (3 * i + v) ∧ ∃ u, (0 ≤ u ∧ u < B0 171 T) ∧ B0 202 (3 * i + v) = B0 184 (8 * T + u) ∧ B0 183 (8 * T + u) = 0 ∧ (B0 182 (8 * T + u) = 2 → BV (A0 25 v))) :
    ∀ (d : Nat) (v : Int) (A B : mm_), v + d = n → 0 ≤ v → RU z A B → PLr A B → TYA B → (∀ r : Nat, r ≠ 13 → A r = A0 r) → (∀ r : Nat, r ≠ 239 → B r = B0 r) → (∀ j, j < sB s + 6 ∨ sB s + 22 ≤ j → B 239 j = B0 239 j) →
    ∃ A' B', RC 8 m_22 233 [rr 0, ii s, ii y2, ii me, ii y4, ii sg, ii sn, ii r, rr 25, ii v] (evX (rmX A s it) 2 me sg sn) 233 [rr 0, ii s, ii y2, ii me, ii y4, ii sg, ii sn, ii r, rr 25, ii n] (evX (rmX A' s it) 2 me sg sn) ∧ RC 8 m_345 136 [rr 6, ii s, ii 2, ii (sB s), ii x4, ii (sB s + 26 + 5 * it), ii sg, ii sn, ii i, ii x9, ii v] B 136 [rr 6, ii s, ii 2, ii (sB s), ii x4, ii (sB s + 26 + 5 * it), ii sg, ii sn, ii i, ii x9, ii n] B' ∧ RU z A' B' ∧ PLr A' B' ∧ TYA B' ∧ (∀ r : Nat, r ≠ 13 → A' r = A0 r) ∧ (∀ r : Nat, r ≠ 239 → B' r = B0 r) ∧ (∀ j, j < sB s + 6 ∨ sB s + 22 ≤ j → B' 239 j = B0 239 j) := fun d => by
  have hB : sB s = 2 + 56 * s := rfl
  induction d with
  | zero =>
    intro v A B hd v0 a1 a2 a3 a4 a5 a6
    rw [show v = n by (clear hs hit hn hr hi hT h7 hv hB v0 a1 a2 a3 a4 a5 a6; lia)]
    exact ⟨A, B, RC_rf, RC_rf, a1, a2, a3, a4, a5, a6⟩
  | succ d ih =>
    intro v A B hd v0 a1 a2 a3 a4 a5 a6
    obtain ⟨e1, e2, e3, u, u1, e4, e5, e6⟩ := hv v v0 (by (clear hs hit hn hr hi hT h7 hv hB ih v0 a1 a2 a3 a4 a5 a6; omega))
    have k7 : 0 ≤ s ∧ s < A 0 7 := ⟨hs.1, by rw [a4 0 (by decide)]; exact h7⟩
    have kT : A 11 s = T := by rw [a4 11 (by decide)]; exact hT
    obtain ⟨t1, t2, t3⟩ := TYA_as (i := B0 202 (3 * i + v)) (v := A0 25 v) (u := u) a1 a2 a3 k7 kT (by rw [a5 171 (by decide)]; exact u1) (by rw [a5 184 (by decide), a5 183 (by decide), e4, e5]; rw [if_neg (by decide)]; omega) (by rw [a5 182 (by decide)]; exact e6) e2
    have ru := RU_as (v := A0 25 v) a1 k7 t2 (by rw [kT]; exact t3)
    have f13 : XRF A (up_ A 13 (16 * s + B0 202 (3 * i + v)) (A0 25 v)) := XRF_up (by decide) (fun e => absurd e (by decide))
    have f239 : QRF B (up_ B 239 (sB s + 6 + B0 202 (3 * i + v)) (A0 25 v)) := QRF_up (by decide) (fun e => absurd e (by decide))
    obtain ⟨A', B', x, q, b⟩ := ih (v + 1) _ _ (by (clear hs hit hn hr hi hT h7 hv hB ih v0 a1 a2 a3 a4 a5 a6 e1 e2 e3 u1 e4 e5 e6 k7 kT t1 t2 t3 ru f13 f239; lia)) (by omega) ru (PLr_c a2 f13 f239) t1 (fun r hr => (up_ne hr).trans (a4 r hr)) (fun r hr => (up_ne hr).trans (a5 r hr)) (fun j hj => (upo (by (clear hs hit hn hr hi h105 h201 hT h7 hv ih hd v0 a1 a2 a3 a4 a5 a6 e1 e2 e3 u1 e5 e6 k7 kT t1 t3 ru f13 f239; omega))).trans (a6 j hj))
    refine ⟨A', B', RC_tr (fun V Qr Qt hV hW g => b_22_233 (Tr_mono _) hV hW _ _ _ _ _ _ _ _ _ ⟨hr, ?_⟩) x, RC_tr (fun V Qr Qt hV hW g => b_345_136 (Tr_mono _) hV hW _ _ _ _ _ _ _ _ _ _ _ ⟨by omega, ?_⟩) q, b⟩
    · have ev : ∀ q : Nat, q ≠ 0 → q ≠ 23 → q ≠ 13 → q ≠ 14 → q ≠ 15 → evX (rmX A s it) 2 me sg sn q = A0 q := fun q h1 h2 h3 h4 h5 => by
        rw [EvX_ev.1 q h1 h2]; unfold rmX; rw [up_ne h4, wr_ne h5]; exact a4 q h3
      rw [ev 105 (by decide) (by decide) (by decide) (by decide) (by decide), ev 104 (by decide) (by decide) (by decide) (by decide) (by decide), ev 25 (by decide) (by decide) (by decide) (by decide) (by decide), h105, if_pos (by (clear hs hit hn hr hi hT h7 hv hB ih v0 a1 a2 a3 a4 a5 a6 e1 e2 e3 u1 e4 e5 e6 k7 kT t1 t2 t3 ru f13 f239 x q b hV hW g ev; lia)), w32_id (x := 3 * r) (by omega) (by omega), w32_id (x := 3 * r + v) (by (clear hs hit hn hi h105 h201 hT h7 hv hB ih hd a1 a2 a3 a4 a5 a6 e1 e2 e3 u1 e4 e5 e6 k7 kT t1 t2 t3 ru f13 f239 x q b hV hW g ev; lia)) (by (clear hs hit hi hT h7 hv hB ih v0 a1 a2 a3 a4 a5 a6 e1 e2 e3 u1 e4 e5 e6 k7 kT t1 t2 t3 ru f13 f239 x q b hV hW g ev; omega)), e3, w32_id (x := 16 * s) (by omega) (by omega), w32_id (x := 16 * s + B0 202 (3 * i + v)) (by (clear hit hn hr hi h105 h201 hT h7 hv hB ih hd v0 a1 a2 a3 a4 a5 a6 e1 e2 e3 u1 e5 e6 k7 kT t1 t3 ru f13 f239 x q b hV hW g ev; lia)) (by (clear hit hn hr hi h105 h201 hT h7 hv hB ih hd v0 a1 a2 a3 a4 a5 a6 e1 e2 e3 u1 e5 e6 k7 kT t1 t3 ru f13 f239 x q b hV hW g ev; omega)), w32_id (x := v + 1) (by omega) (by (clear hs hit hr hi hT h7 hv hB ih v0 a1 a2 a3 a4 a5 a6 e1 e2 e3 u1 e4 e5 e6 k7 kT t1 t2 t3 ru f13 f239 x q b hV hW g ev; omega)), evX_13, rm_13]
      exact ⟨by (clear hs hit hi hT h7 hv hB ih a1 a2 a3 a4 a5 a6 e1 e2 e3 u1 e4 e5 e6 k7 kT t1 t2 t3 ru f13 f239 x q b hV hW g ev; omega), by (clear hs hit hr hi hT h7 hv hB ih a1 a2 a3 a4 a5 a6 e1 e2 e3 u1 e4 e5 e6 k7 kT t1 t2 t3 ru f13 f239 x q b hV hW g ev; omega), by (clear hit hn hr hi h105 h201 hT h7 hv hB ih hd v0 a1 a2 a3 a4 a5 a6 e1 e2 e3 u1 e5 e6 k7 kT t1 t3 ru f13 f239 x q b hV hW g ev; omega), g⟩
    · rw [a5 201 (by decide), a5 202 (by decide), h201, if_pos (by omega), w32_id (x := 3 * i) (by omega) (by omega), w32_id (x := 3 * i + v) (by (clear hs hit hn hr h105 h201 hT h7 hv hB ih hd a1 a2 a3 a4 a5 a6 e1 e2 e3 u1 e4 e5 e6 k7 kT t1 t2 t3 ru f13 f239 x q b hV hW g; lia)) (by (clear hs hit hr hT h7 hv hB ih v0 a1 a2 a3 a4 a5 a6 e1 e2 e3 u1 e4 e5 e6 k7 kT t1 t2 t3 ru f13 f239 x q b hV hW g; omega)), w32_id (x := sB s + 26 + 5 * it + 2) (by (clear hn hr hi h105 h201 hT h7 hv ih hd v0 a1 a2 a3 a4 a5 a6 e1 e2 e3 u1 e4 e5 e6 k7 kT t1 t2 t3 ru f13 f239 x q b hV hW g; lia)) (by omega), w32_id (x := sB s + 26 + 5 * it + 2 + v) (by (clear hn hr hi h105 h201 hT h7 hv ih hd a1 a2 a3 a4 a5 a6 e1 e2 e3 u1 e4 e5 e6 k7 kT t1 t2 t3 ru f13 f239 x q b hV hW g; lia)) (by omega), w32_id (x := sB s + 6) (by (clear hit hn hr hi h105 h201 hT h7 hv ih hd v0 a1 a2 a3 a4 a5 a6 e1 e2 e3 u1 e4 e5 e6 k7 kT t1 t2 t3 ru f13 f239 x q b hV hW g; lia)) (by (clear hit hn hr hi h105 h201 hT h7 hv ih hd v0 a1 a2 a3 a4 a5 a6 e1 e2 e3 u1 e4 e5 e6 k7 kT t1 t2 t3 ru f13 f239 x q b hV hW g; omega)), w32_id (x := sB s + 6 + B0 202 (3 * i + v)) (by (clear hit hn hr hi h105 h201 hT h7 hv ih hd v0 a1 a2 a3 a4 a5 a6 e1 e2 e3 u1 e5 e6 k7 kT t1 t3 ru f13 f239 x q b hV hW g; omega)) (by (clear hit hn hr hi h105 h201 hT h7 hv ih hd v0 a1 a2 a3 a4 a5 a6 e1 e2 e3 u1 e5 e6 k7 kT t1 t3 ru f13 f239 x q b hV hW g; omega)), w32_id (x := v + 1) (by omega) (by omega), a6 _ (by (clear hs hn hr hi h105 h201 hT h7 hv hB ih hd a1 a2 a3 a4 a5 a6 e1 e2 e3 u1 e4 e5 e6 k7 kT t1 t2 t3 ru f13 f239 x q b hV hW g; omega)), show sB s + 26 + 5 * it + 2 + v = sB s + 28 + 5 * it + v by (clear hs hit hn hr hi h105 h201 hT h7 hv hB ih hd v0 a1 a2 a3 a4 a5 a6 e1 e2 e3 u1 e4 e5 e6 k7 kT t1 t2 t3 ru f13 f239 x q b hV hW g; lia), ← e1]
      exact ⟨by (clear hs hit hr hT h7 hv hB ih a1 a2 a3 a4 a5 a6 e1 e2 e3 u1 e4 e5 e6 k7 kT t1 t2 t3 ru f13 f239 x q b hV hW g; omega), by (clear hr hi hT h7 hv ih a1 a2 a3 a4 a5 a6 e1 e2 e3 u1 e4 e5 e6 k7 kT t1 t2 t3 ru f13 f239 x q b hV hW g; omega), by (clear hit hn hr hi h105 h201 hT h7 hv ih hd v0 a1 a2 a3 a4 a5 a6 e1 e2 e3 u1 e5 e6 k7 kT t1 t3 ru f13 f239 x q b hV hW g; omega), g⟩
end CLa
end T385_cl
