section T357_va
/-! the run: the values of an act (X 15 | Q 355) -/
def QVF (N N' : mm_) : Prop := (∀ r : Nat, r ≠ 6 → r ≠ 243 → r ≠ 244 → N' r = N r) ∧ ∀ i : Int, i ≠ 148 → i ≠ 149 → N' 6 i = N 6 i
section VAa
variable {z : Int} {M N M' N' M1 N1 : mm_} {σ : Int → Int} {k t e p s x2 i v bp T u c c0 c1 c2 f fe op val : Int}
theorem QVF_rf [Inhabited fz_] : QVF N N := ⟨fun _ _ _ _ => rfl, fun _ _ _ => rfl⟩
theorem QVF_tr [Inhabited fz_] (h : QVF N N1) (g : QVF N1 N') : QVF N N' := ⟨fun r a b c => (g.1 r a b c).trans (h.1 r a b c), fun i a b => (g.2 i a b).trans (h.2 i a b)⟩
theorem QVF_ef [Inhabited fz_] (h : EFQ N N') : QVF N N' := ⟨fun r a b _ => h.1 r a b, h.2⟩
theorem QVF_up [Inhabited fz_] : QVF N (up_ N 244 i v) := ⟨fun r _ _ a => up_ne a, fun i _ _ => by rw [up_ne (by decide)]⟩
theorem QRF_qv [Inhabited fz_] (h : QVF N N') : QRF N N' := ⟨fun r hr => h.1 r (fun e => hr (by rw [e]; decide)) (fun e => hr (by rw [e]; decide)) (fun e => hr (by rw [e]; decide)), fun i hi => h.2 i (fun e => hi (by rw [e]; decide)) (fun e => hi (by rw [e]; decide))⟩
theorem RU_qv [Inhabited fz_] (h : RU z M N) (hq : QVF N N') : RU z M N' := by
  obtain ⟨h1, h2, h3, h4, h5⟩ := h
  have q := hq.1
  have q6 := hq.2
  exact ⟨RI_c h1 ⟨rfl, rfl⟩ (fun _ _ => rfl) (q 239 (by decide) (by decide) (by decide)) (q6 19 (by decide) (by decide)) (fun r hr => q r (fun c => by rw [c] at hr; revert hr; decide) (fun c => by rw [c] at hr; revert hr; decide) (fun c => by rw [c] at hr; revert hr; decide)), RRt_c h2 rfl rfl (q 239 (by decide) (by decide) (by decide)) (q6 18 (by decide) (by decide)), RSC_c h3 (fun _ _ => rfl) (fun i hi => q6 i (fun c => by rw [c] at hi; revert hi; decide) (fun c => by rw [c] at hi; revert hi; decide)), ROU_c h4 (fun _ _ => rfl) rfl (fun i hi => q6 i (fun c => by rw [c] at hi; revert hi; decide) (fun c => by rw [c] at hi; revert hi; decide)) (q 241 (by decide) (by decide) (by decide)), REV_c h5 (fun _ _ => rfl) rfl (fun i hi => q6 i (fun c => by rw [c] at hi; revert hi; decide) (fun c => by rw [c] at hi; revert hi; decide)) (q 240 (by decide) (by decide) (by decide))⟩
theorem TYA_qv [Inhabited fz_] (hA : TYA N) (h : QVF N N') : TYA N' := TYA_c hA (TYT_Q (QRF_qv h)) (h.1 239 (by decide) (by decide) (by decide))
theorem WST_qv [Inhabited fz_] (hW : WST z p M N s) (h : QVF N N') : WST z p M N' s := ⟨RU_qv hW.1 h, PLr_c hW.2.1 XRF_rf (QRF_qv h), TYA_qv hW.2.2.1 h, hW.2.2.2⟩
theorem vl_n [Inhabited fz_] (hW : WST z 0 M N s) (hT : M 11 s = T) (hk : 0 ≤ k ∧ k < 1300) (hfe : fe ≤ 2900) : ∀ (n : Nat) (c1 : Int), n ≤ 3 → (n : Int) ≤ N 210 k → c1 ≤ 11800 → VAL (swc M) (tbN N) T fe σ k n c c1 →
    (∃ A' N', (∀ x1, RC 2 m_15 10 [rr 0, ii x1, rr 109, ii c, none, none] M 10 [rr 0, ii x1, rr 109, ii c1, none, none] (exX M A' n)) ∧ RC 4 m_355 22 [rr 6, ii s, ii k, ii 0] N 22 [rr 6, ii s, ii k, ii n] N' ∧ QVF N N' ∧ (∀ j : Nat, j < n → A' j = N' 244 j ∧ (σ j = 2 → BV (A' j)) ∧ R32 (A' j)) ∧ ∀ j : Int, (n : Int) ≤ j → N' 244 j = N 244 j)
    ∨ (∃ e M' N', (e = 1 ∨ e = 2) ∧ (∀ x1, XT 2 m_15 10 [rr 0, ii x1, rr 109, ii c, none, none] M M') ∧ EFX M M' ∧ KP8 M M' ∧ M' 0 49 = e ∧ (∀ (V : vv_) (Qr : qr_) (Qt : qt_), Cl_ wd0 (Tr_ wd0 pg0 4) V Qr Qt m_355 → Wk_ V → Qr [.inl e] N' → V 22 [rr 6, ii s, ii k, ii 0] [] N) ∧ QVF N N')
  | 0, c1, _, _, _, hV => by
    have hV : c1 = c := hV
    subst hV
    refine .inl ⟨M 26, N, fun x1 => ?_, RC_rf, QVF_rf, fun j hj => absurd hj (Nat.not_lt_zero j), fun _ _ => rfl⟩
    rw [exX_s (n := ((0 : Nat) : Int)) hW.2.2.2.2.2]; exact RC_rf
  | n + 1, c1, hn, h210, hc1, hV => by
    obtain ⟨c9, hV, hE⟩ := hV
    have b0 := EXP_0 hE
    rcases vl_n hW hT hk hfe n c9 (by (clear hW hT hk hfe h210 hc1 hV hE b0; omega)) (by (clear hW hT hk hfe hn hc1 hV hE b0; omega)) (by omega) hV with ⟨A1, N1, x1, q1, qv, vs, oo⟩ | ⟨e, M1, N1, he, x1, fx, kp, e49, q1, qv⟩
    · have hW1 := WST_qv hW qv
      have ev := EVC_of hW1.1 hW1.2.1 hW1.2.2.1 hW1.2.2.2.1 hW1.2.2.2.2.1
      rw [hT] at ev
      have tb : tbN N1 = tbN N := tbN_e (QRF_qv qv)
      have q210 : N1 210 = N 210 := qv.1 210 (by decide) (by decide) (by decide)
      have q209 : N1 209 = N 209 := qv.1 209 (by decide) (by decide) (by decide)
      have f209 : tbN N 209 (3 * k + n) = N 209 (3 * k + n) := by rw [tbN_r (by decide) (by decide)]
      have qs : ∀ (v e : Int) (N2 : mm_), Ex_ 4 339 [.inr (.inr 6), .inl s, .inl (N 209 (3 * k + n))] N1 [.inl v] N2 → N2 6 149 = e → ∀ (V : vv_) (Qr : qr_) (Qt : qt_), Cl_ wd0 (Tr_ wd0 pg0 4) V Qr Qt m_355 → Wk_ V → (if e ≤ 0 then V 22 [rr 6, ii s, ii k, ii (n + 1 : Int)] [] (up_ N2 244 n v) else Qr [.inl e] (up_ N2 244 n v)) → V 22 [rr 6, ii s, ii k, ii n] [] N1 := fun v e N2 h h9 V Qr Qt hV hW g => b_355_22 (Tr_mono _) hV hW _ _ _ _ ⟨hk, by
        rw [q210, if_pos (by (clear hT hk hfe hn hc1 hE b0 x1 q1 qv vs oo hW1 ev tb q210 q209 f209 h h9 hV hW g; omega)), w32_id (x := 3 * k) (by (clear hT hfe hn h210 hc1 hE b0 x1 q1 qv vs oo hW1 ev tb q210 q209 f209 h h9 hV hW g; lia)) (by omega), w32_id (x := 3 * k + n) (by (clear hT hfe h210 hc1 hE b0 x1 q1 qv vs oo hW1 ev tb q210 q209 f209 h h9 hV hW g; lia)) (by omega), q209]
        refine ⟨by (clear hT hfe h210 hc1 hE b0 x1 q1 qv vs oo hW1 ev tb q210 q209 f209 h h9 hV hW g; omega), h _ _ (ri_i ⟨by (clear hT hk hfe h210 hc1 hE b0 x1 q1 qv vs oo hW1 ev tb q210 q209 f209 h h9 hV hW g; lia), ?_⟩)⟩
        rw [h9, w32_id (x := (n : Int) + 1) (by (clear hT hk hfe h210 hc1 hE b0 x1 q1 qv vs oo hW1 ev tb q210 q209 f209 h h9 hV hW g; lia)) (by omega)]; exact g⟩
      rcases ev_e (p := n) (A := A1) (c := c9) (c' := c1) (f := N 209 (3 * k + n)) (fe := fe) (t := σ n) ev (by rw [tb]; exact f209 ▸ hE) (by omega) (by omega) hfe with ⟨A2, B2, v, y1, y2, y3, y4, y5⟩ | ⟨e, A2, n2, B2, m2, v, he, y1, y2⟩
      · have y1' : ∀ x1, RC 2 m_15 10 [rr 0, ii x1, rr 109, ii c9, none, none] (exX M A1 n) 10 [rr 0, ii x1, rr 109, ii c1, none, none] (exX M A2 (n + 1)) := y1
        refine .inl ⟨A2, up_ (exQ N1 B2 1 0) 244 n v, fun x => RC_tr (x1 x) (y1' x), RC_tr q1 (fun V Qr Qt hV hW g => qs v 0 _ y2 exQ_149 V Qr Qt hV hW (by rw [if_pos (by decide)]; exact g)), QVF_tr qv (QVF_tr (QVF_ef EFQ_ex) QVF_up), fun j hj => ?_, fun j hj => ?_⟩
        · by_cases c : j = n
          · rw [c, y3, up_at]; exact ⟨rfl, y4⟩
          · have := vs j (by (clear hW hT hk hfe hn h210 hc1 hV hE b0 x1 q1 qv vs oo hW1 ev tb q210 q209 f209 qs y1 y2 y3 y4 y5 y1'; lia))
            rw [y5 j (by (clear hW hT hk hfe hn h210 hc1 hV hE b0 x1 q1 qv vs oo hW1 ev tb q210 q209 f209 qs y1 y2 y3 y4 y5 y1'; lia)), upo (by (clear hW hT hk hfe hn h210 hc1 hV hE b0 x1 q1 qv vs oo hW1 ev tb q210 q209 f209 qs y1 y2 y3 y4 y5 y1' hj; lia)), exQ_r (by decide) (by decide)]; exact this
        · rw [upo (by omega), exQ_r (by decide) (by decide)]; exact oo j (by omega)
      · refine .inr ⟨e, up_ (exX M A2 n2) 0 49 e, up_ (exQ N1 B2 m2 e) 244 n v, he, fun x V Qr Qt hV hW g => x1 x V Qr Qt hV hW (y1 x V Qr Qt hV hW g), EFX_tr EFX_ex (EFX_up (by decide)), ⟨by rw [upo (by decide), exX_0 (by decide)], by rw [upo (by decide), exX_0 (by decide)]⟩, up_at, fun V Qr Qt hV hW g => q1 V Qr Qt hV hW (qs v e _ y2 exQ_149 V Qr Qt hV hW (by rw [if_neg (by omega)]; exact g)), QVF_tr qv (QVF_tr (QVF_ef EFQ_ex) QVF_up)⟩
    · exact .inr ⟨e, M1, N1, he, x1, fx, kp, e49, q1, qv⟩
/-- all values of an act -/
theorem j_val [Inhabited fz_] (hW : WST z 0 M N s) (hT : M 11 s = T) (hk : 0 ≤ k ∧ k < 1300) (hfe : fe ≤ 2900) (h210 : 0 ≤ N 210 k ∧ N 210 k ≤ 3) (hc1 : c1 ≤ 11800) (hV : VAL (swc M) (tbN N) T fe σ k (N 210 k).toNat c c1) :
    (∃ A' N', (∀ x1, RC 2 m_15 10 [rr 0, ii x1, rr 109, ii c, none, none] M 10 [rr 0, ii x1, rr 109, ii c1, none, none] (exX M A' (N 210 k))) ∧ Ex_ 5 355 [.inr (.inr 6), .inl s, .inl k] N [.inl 0] N' ∧ QVF N N' ∧ (∀ j : Int, 0 ≤ j → j < N 210 k → A' j = N' 244 j ∧ (σ j = 2 → BV (A' j)) ∧ R32 (A' j)) ∧ ∀ j, N 210 k ≤ j → 0 ≤ j → j < 3 → N' 244 j = 0)
    ∨ (∃ e M' N', (e = 1 ∨ e = 2) ∧ (∀ x1, XT 2 m_15 10 [rr 0, ii x1, rr 109, ii c, none, none] M M') ∧ EFX M M' ∧ KP8 M M' ∧ M' 0 49 = e ∧ Ex_ 5 355 [.inr (.inr 6), .inl s, .inl k] N [.inl e] N' ∧ QVF N N') := by
  have en : (((N 210 k).toNat : Nat) : Int) = N 210 k := by (clear hW hT hk hfe hc1 hV; omega)
  have qz : QVF N (up_ (up_ (up_ N 244 0 0) 244 1 0) 244 2 0) := QVF_tr (QVF_tr QVF_up QVF_up) QVF_up
  have z4 : ∀ j, 0 ≤ j → j < 3 → up_ (up_ (up_ N 244 0 0) 244 1 0) 244 2 0 244 j = 0 := fun j j0 j1 => by
    have three : j = 0 ∨ j = 1 ∨ j = 2 := by (clear hW hT hk hfe h210 hc1 hV en qz; lia)
    rcases three with e | e | e
    · rw [e, upo (by decide), upo (by decide), up_at]
    · rw [e, upo (by decide), up_at]
    · rw [e, up_at]
  generalize hz : up_ (up_ (up_ N 244 0 0) 244 1 0) 244 2 0 = Z at qz z4
  have q0 : ∀ (Qr : qr_) (Qt : qt_), (∀ V : vv_, Cl_ wd0 (Tr_ wd0 pg0 4) V Qr Qt m_355 → Wk_ V → V 22 [rr 6, ii s, ii k, ii 0] [] Z) → Tr_ wd0 pg0 5 355 [.inr (.inr 6), .inl s, .inl k] N Qr Qt := fun Qr Qt h => t_355 fun V hV hW => b_355_0 (Tr_mono _) hV hW _ _ _ (b_355_2 (Tr_mono _) hV hW _ _ _ _ (by
    rw [if_pos (by decide), show w32 (0 + 1) = 1 from w32_id (by decide) (by decide)]
    refine ⟨by decide, b_355_2 (Tr_mono _) hV hW _ _ _ _ ?_⟩
    rw [if_pos (by decide), show w32 (1 + 1) = 2 from w32_id (by decide) (by decide)]
    refine ⟨by decide, b_355_2 (Tr_mono _) hV hW _ _ _ _ ?_⟩
    rw [if_pos (by decide), show w32 (2 + 1) = 3 from w32_id (by decide) (by decide)]
    refine ⟨by decide, b_355_2 (Tr_mono _) hV hW _ _ _ _ ?_⟩
    rw [if_neg (by decide), hz]
    exact h V hV hW))
  have z210 : Z 210 = N 210 := qz.1 210 (by decide) (by decide) (by decide)
  have tb : tbN Z = tbN N := tbN_e (QRF_qv qz)
  rcases vl_n (M := M) (N := Z) (σ := σ) (k := k) (c := c) (WST_qv hW qz) hT hk hfe (N 210 k).toNat c1 (by omega) (by rw [z210]; omega) hc1 (by rw [tb]; exact hV) with ⟨A1, N1, x1, q1, qv, vs, oo⟩ | ⟨e, M1, N1, he, x1, fx, kp, e49, q1, qv⟩
  · rw [en] at x1 q1
    refine .inl ⟨A1, N1, x1, fun Qr Qt g => q0 Qr Qt fun V hV hW => q1 V Qr Qt hV hW (b_355_22 (Tr_mono _) hV hW _ _ _ _ ⟨hk, ?_⟩), QVF_tr qz qv, fun j j0 j1 => ?_, fun j j0 j1 j2 => ?_⟩
    · rw [qv.1 210 (by decide) (by decide) (by decide), z210, if_neg (by omega)]; exact g
    · have := vs j.toNat (by (clear hW hT hk hfe h210 hc1 hV hz qz z4 q0 z210 tb x1 q1 qv vs oo; omega))
      rw [show ((j.toNat : Nat) : Int) = j by (clear hW hT hk hfe h210 hc1 hV en hz qz z4 q0 z210 tb x1 q1 qv vs oo j1 this; lia)] at this; exact this
    · rw [oo j (by (clear hW hT hk hfe h210 hc1 hV hz qz z4 q0 z210 tb x1 q1 qv vs oo j1 j2; omega))]; exact z4 j j1 j2
  · exact .inr ⟨e, M1, N1, he, x1, fx, kp, e49, fun Qr Qt g => q0 Qr Qt fun V hV hW => q1 V Qr Qt hV hW g, QVF_tr qz qv⟩
end VAa
end T357_va
section T358_cr
/-! the run: CREATE (X 29 | Q 354) -/
section CRa
variable {z : Int} {M N M' N' M1 N1 M4 N4 : mm_} {A : Int → Int} {k t e p s x2 x3 i v n bp T T' u c c0 c1 c2 f fe op val kk y5 : Int}
theorem RU_5 [Inhabited fz_] (h : RU z M N) (hk : 0 ≤ k ∧ k < M 0 7) : RU z (up_ M 20 k v) (up_ N 239 (sB k + 5) v) := by
  obtain ⟨r1, r2, r3, r4, r5⟩ := h
  have n12 := r1.1
  have hB : sB k = 2 + 56 * k := rfl
  have xr : ∀ r : Nat, r ≠ 20 → up_ M 20 k v r = M r := fun r c => up_ne c
  have qr : ∀ r : Nat, r ≠ 239 → up_ N 239 (sB k + 5) v r = N r := fun r c => up_ne c
  have no : ∀ i, i ≠ sB k + 5 → up_ N 239 (sB k + 5) v 239 i = N 239 i := fun i e => upo e
  refine ⟨RI_k r1 hk (by rw [xr 0 (by decide)]; exact ⟨rfl, rfl⟩) (fun q hq i hi => by
      by_cases c : q = 20
      · rw [c, upo hi]
      · rw [xr q c]) (fun j hj => by rw [xr 13 (by decide)]) (fun j _ => by rw [xr 15 (by decide)]) (fun j _ => by rw [xr 16 (by decide), xr 17 (by decide)]; exact ⟨rfl, rfl⟩) (fun j hj => no j (by (clear hk r1 r2 r3 r4 r5 n12 xr qr no; omega))) (by rw [qr 6 (by decide)]) (fun q hq => qr q (fun e => by rw [e] at hq; revert hq; decide)) ?_, RRt_k r2 (xr 21 (by decide)) (xr 22 (by decide)) (fun j hj => no j (by (clear r1 r2 r3 r4 r5 xr qr no; lia))) (by rw [qr 6 (by decide)]), RSC_c r3 (fun i _ => by rw [xr 0 (by decide)]) (fun i _ => by rw [qr 6 (by decide)]), ROU_c r4 (fun i _ => by rw [xr 0 (by decide)]) (xr 24 (by decide)) (fun i _ => by rw [qr 6 (by decide)]) (qr 241 (by decide)), REV_c r5 (fun i _ => by rw [xr 0 (by decide)]) (xr 23 (by decide)) (fun i _ => by rw [qr 6 (by decide)]) (qr 240 (by decide))⟩
  obtain ⟨b1, b2, b3, b4, b5⟩ := r1.2.2.1 k hk.1 hk.2
  unfold IN
  rw [xr 10 (by decide), xr 11 (by decide), xr 12 (by decide), xr 18 (by decide), xr 19 (by decide), xr 0 (by decide), xr 13 (by decide), xr 14 (by decide), xr 15 (by decide), xr 16 (by decide), xr 17 (by decide), qr 6 (by decide), qr 174 (by decide), qr 172 (by decide), qr 173 (by decide), no (sB k) (by omega), no (sB k + 1) (by omega), no (sB k + 2) (by omega), no (sB k + 3) (by omega), no (sB k + 4) (by omega), no (sB k + 25) (by omega), up_at, up_at]
  exact ⟨⟨b1.1, b1.2.1, b1.2.2.1, b1.2.2.2.1, b1.2.2.2.2.1, rfl⟩, b2, ⟨fun j j0 j1 => by rw [no _ (by (clear hk r1 r2 r3 r4 r5 n12 hB xr qr no b1 b2 b3 b4 b5; omega))]; exact b3.1 j j0 j1, fun j j0 j1 j2 => by rw [no _ (by omega)]; exact b3.2 j j0 j1 j2⟩, fun t t0 t1 => by rw [no _ (by (clear hk r1 r2 r3 r4 r5 n12 hB xr qr no b1 b2 b3 b4 b5; lia))]; exact b4 t t0 t1, b5.1, fun j j0 j1 => by rw [no _ (by omega)]; exact b5.2.1 j j0 j1, fun j j0 j1 => by rw [no _ (by (clear hk r1 r2 r3 r4 r5 n12 hB xr qr no b1 b2 b3 b4 j1; omega))]; exact b5.2.2 j j0 j1⟩
/-- how many of a type live -/
theorem l_cnt [Inhabited fz_] (h : RU z M N) : ∀ (d : Nat) (i acc : Int), i + d = M 0 7 → 0 ≤ i → 0 ≤ acc → acc ≤ i → ∃ v, (0 ≤ v ∧ v ≤ 12) ∧ (∀ (V : vv_) (Qr : qr_) (Qt : qt_), Cl_ wd0 (Tr_ wd0 pg0 0) V Qr Qt m_30 → Wk_ V → Qr [.inl v] M → V 4 [rr 0, ii T, ii acc, ii i] [] M) ∧ RC 5 m_354 27 [rr 6, ii s, ii k, ii x3, ii T, ii acc, ii i, none, none] N 27 [rr 6, ii s, ii k, ii x3, ii T, ii v, ii (M 0 7), none, none] N := fun d => by
  have n12 := h.1.1
  induction d with
  | zero =>
    intro i acc hi i0 a0 a1
    refine ⟨acc, by (clear h i0; omega), fun V Qr Qt hV hW g => b_30_4 (Tr_mono _) hV hW _ _ _ _ ?_, ?_⟩
    · rw [if_neg (by (clear h i0 a0 a1 hV hW g; omega))]; exact g
    · rw [show i = M 0 7 by (clear h i0 a0 a1; lia)]; exact RC_rf
  | succ d ih =>
    intro i acc hi i0 a0 a1
    have hin := h.1.2.2.1 i i0 (by omega)
    have hB : sB i = 2 + 56 * i := rfl
    have e11 := hin.1.2.1
    by_cases c : M 11 i = T
    · obtain ⟨v, v0, x1, q1⟩ := ih (i + 1) (acc + 1) (by omega) (by omega) (by omega) (by omega)
      refine ⟨v, v0, fun V Qr Qt hV hW g => b_30_4 (Tr_mono _) hV hW _ _ _ _ ?_, RC_tr (fun V Qr Qt hV hW g => b_354_27 (Tr_mono _) hV hW _ _ _ _ _ _ _ ⟨by decide, ?_⟩) q1⟩
      · rw [if_pos (by omega), if_pos c, w32_id (x := acc + 1) (by (clear h n12 ih hi i0 a1 hin hB e11 c v0 x1 q1 hV hW g; omega)) (by omega), w32_id (x := i + 1) (by omega) (by omega)]
        exact ⟨by omega, x1 V Qr Qt hV hW g⟩
      · rw [if_pos (by omega)]
        refine Ex_le (d := 1) (by decide) (q_323 (by omega)) _ _ (ri_i ?_)
        rw [w32_id (x := sB i + 1) (by (clear h n12 ih hi i0 hin e11 c v0 x1 q1 hV hW g; lia)) (by (clear h ih i0 a0 a1 hin e11 c v0 x1 q1 hV hW g; omega)), ← e11, if_pos c, w32_id (x := acc + 1) (by omega) (by omega), w32_id (x := i + 1) (by omega) (by omega)]
        exact ⟨by omega, g⟩
    · obtain ⟨v, v0, x1, q1⟩ := ih (i + 1) acc (by (clear h ih i0 a0 a1 hin hB e11 c; lia)) (by omega) (by omega) (by omega)
      refine ⟨v, v0, fun V Qr Qt hV hW g => b_30_4 (Tr_mono _) hV hW _ _ _ _ ?_, RC_tr (fun V Qr Qt hV hW g => b_354_27 (Tr_mono _) hV hW _ _ _ _ _ _ _ ⟨by decide, ?_⟩) q1⟩
      · rw [if_pos (by omega), if_neg c, w32_id (x := acc + 0) (by (clear h n12 ih hi i0 a1 hin hB e11 c v0 x1 q1 hV hW g; omega)) (by omega), w32_id (x := i + 1) (by (clear h n12 ih hi a0 a1 hin hB e11 c v0 x1 q1 hV hW g; omega)) (by omega), Int.add_zero]
        exact ⟨by omega, x1 V Qr Qt hV hW g⟩
      · rw [if_pos (by (clear h ih i0 a0 a1 hin hB e11 c v0 x1 q1 hV hW g; lia))]
        refine Ex_le (d := 1) (by decide) (q_323 (by (clear h ih a0 a1 hin hB e11 c v0 x1 q1 hV hW g; omega))) _ _ (ri_i ?_)
        rw [w32_id (x := sB i + 1) (by omega) (by omega), ← e11, if_neg c, w32_id (x := acc + 0) (by omega) (by omega), w32_id (x := i + 1) (by omega) (by omega), Int.add_zero]
        exact ⟨by omega, g⟩
/-- the parameters of the new one -/
theorem l_par [Inhabited fz_] (hn : 0 ≤ n ∧ n ≤ 3) (hkk : 0 ≤ kk ∧ kk < 12) (hT : 0 ≤ T ∧ T < 6) : ∀ (d : Nat) (i : Int) (M N : mm_), i + d = n → 0 ≤ i → RU z M N → PLr M N → TYA N → kk < M 0 7 → M 11 kk = T → M 0 45 = 0 → N 170 T = n → (∀ j, 0 ≤ j → j < n → M 26 j = N 244 j ∧ (N 182 (8 * T + j) = 2 → BV (M 26 j)) ∧ R32 (M 26 j)) →
    ∃ M' N', RC 5 m_29 65 [rr 0, ii T', ii n, ii kk, ii i] M 65 [rr 0, ii T', ii n, ii kk, ii n] M' ∧ RC 5 m_354 130 [rr 6, ii s, ii k, ii x3, ii T, ii v, ii y5, ii kk, ii i] N 130 [rr 6, ii s, ii k, ii x3, ii T, ii v, ii y5, ii kk, ii n] N' ∧ RU z M' N' ∧ PLr M' N' ∧ TYA N' ∧ (∀ r : Nat, r ≠ 13 → M' r = M r) ∧ ∀ r : Nat, r ≠ 239 → N' r = N r := fun d => by
  induction d with
  | zero =>
    intro i M N hi i0 h hP hA hk hT1 h45 h170 hv
    rw [show i = n by (clear hn hkk hT i0 h hP hA hk hT1 h45 h170 hv; lia)]
    exact ⟨M, N, RC_rf, RC_rf, h, hP, hA, fun _ _ => rfl, fun _ _ => rfl⟩
  | succ d ih =>
    intro i M N hi i0 h hP hA hk hT1 h45 h170 hv
    have hB : sB kk = 2 + 56 * kk := rfl
    have hin := h.1.2.2.1 kk hkk.1 hk
    have hT19 := hin.2.1.2.1
    rw [hT1] at hT19
    have pt := PT_of hP hT19
    unfold PTY PPC at pt
    rw [tbN_r (q := 170) (by decide) (by decide), tbN_r (q := 171) (by decide) (by decide), tbN_r (q := 183) (by decide) (by decide), tbN_r (q := 184) (by decide) (by decide)] at pt
    obtain ⟨p1, p2⟩ := pt.2.1.2.2.2.2.1 i i0 (by (clear hn hkk hT ih i0 h hP hA hk hT1 h45 hv hB hin hT19 pt; omega))
    have l71 := pt.2.1.2.2.2.1
    obtain ⟨v1, v2, v3⟩ := hv i i0 (by (clear hn hkk hT ih i0 h hP hA hk hT1 h45 hv hB hin hT19 p1 l71; omega))
    obtain ⟨t1, t2, t3⟩ := TYA_as (i := i) (v := M 26 i) (u := i) h hP hA ⟨hkk.1, hk⟩ hT1 (by (clear hn hkk hT ih h hP hA hk hT1 h45 hv hB hin hT19 p1 l71 v1 v2 v3; omega)) (by rw [p1, p2, if_neg (by decide)]; (clear hn hkk hT ih hi i0 h hP hA hk hT1 h45 h170 hv hB hin hT19 pt p1 p2 l71 v1 v2 v3; lia)) v2 v3
    have ru := RU_as (v := M 26 i) h ⟨hkk.1, hk⟩ t2 (by rw [hT1]; exact t3)
    have f13 : XRF M (up_ M 13 (16 * kk + i) (M 26 i)) := XRF_up (by decide) (fun e => absurd e (by decide))
    have f239 : QRF N (up_ N 239 (sB kk + 6 + i) (M 26 i)) := QRF_up (by decide) (fun e => absurd e (by decide))
    have xr : ∀ r : Nat, r ≠ 13 → up_ M 13 (16 * kk + i) (M 26 i) r = M r := fun r e => up_ne e
    have qr : ∀ r : Nat, r ≠ 239 → up_ N 239 (sB kk + 6 + i) (M 26 i) r = N r := fun r e => up_ne e
    obtain ⟨M', N', x, q, a1, a2, a3, a4, a5⟩ := ih (i + 1) _ _ (by (clear hn hkk hT ih i0 h hP hA hk hT1 h45 h170 hv hB hin hT19 pt p1 p2 l71 v1 v2 v3 t1 t2 t3 ru f13 f239 xr qr; lia)) (by (clear hn hkk hT ih h hP hA hk hT1 h45 hv hB hin hT19 p1 l71 v1 v2 v3 t1 t3 ru f13 f239 xr qr; omega)) ru (PLr_c hP f13 f239) t1 (by rw [xr 0 (by decide)]; exact hk) (by rw [xr 11 (by decide)]; exact hT1) (by rw [xr 0 (by decide)]; exact h45) (by rw [qr 170 (by decide)]; exact h170) (by rw [xr 26 (by decide), qr 244 (by decide), qr 182 (by decide)]; exact hv)
    refine ⟨M', N', RC_tr (fun V Qr Qt hV hW g => b_29_65 (Tr_mono _) hV hW _ _ _ _ _ ?_) x, RC_tr (fun V Qr Qt hV hW g => b_354_130 (Tr_mono _) hV hW _ _ _ _ _ _ _ _ _ ⟨hT, ?_⟩) q, a1, a2, a3, fun r hr => (a4 r hr).trans (xr r hr), fun r hr => (a5 r hr).trans (qr r hr)⟩
    · rw [if_pos (by omega), h45, Int.zero_add, w32_id (x := i) (by omega) (by (clear hn hkk hT ih h hP hA hk hT1 h45 hv hB hin hT19 p1 l71 v1 v2 v3 t1 t3 ru f13 f239 xr qr x q a1 a2 a3 a4 a5 hV hW g; omega)), w32_id (x := 16 * kk) (by omega) (by omega), w32_id (x := 16 * kk + i) (by (clear hn hT ih h hP hA hk hT1 h45 hv hB hin hT19 p1 l71 v1 v2 v3 t1 t3 ru f13 f239 xr qr x q a1 a2 a3 a4 a5 hV hW g; omega)) (by omega), w32_id (x := i + 1) (by (clear hn hkk hT ih h hP hA hk hT1 h45 hv hB hin hT19 p1 l71 v1 v2 v3 t1 t3 ru f13 f239 xr qr x q a1 a2 a3 a4 a5 hV hW g; omega)) (by (clear hn hkk hT ih h hP hA hk hT1 h45 hv hB hin hT19 p1 l71 v1 v2 v3 t1 t3 ru f13 f239 xr qr x q a1 a2 a3 a4 a5 hV hW g; omega))]
      exact ⟨by omega, by (clear hn hT ih h hP hA hk hT1 h45 hv hB hin hT19 p1 l71 v1 v2 v3 t1 t3 ru f13 f239 xr qr x q a1 a2 a3 a4 a5 hV hW g; omega), g⟩
    · rw [h170, if_pos (by omega)]
      refine Ex_le (d := 1) (by decide) (q_323 (by omega)) _ _ (ri_i ?_)
      rw [w32_id (x := 8 * T) (by (clear hn hkk ih hi i0 h hP hA hk h45 h170 hv hB hin hT19 pt p1 p2 l71 v1 v2 v3 t1 t2 t3 ru f13 f239 xr qr x q a1 a2 a3 a4 a5 hV hW g; omega)) (by (clear hn hkk ih hi i0 h hP hA hk h45 h170 hv hB hin hT19 pt p1 p2 l71 v1 v2 v3 t1 t2 t3 ru f13 f239 xr qr x q a1 a2 a3 a4 a5 hV hW g; lia)), w32_id (x := 8 * T + i) (by omega) (by omega), p2, w32_id (x := sB kk + 6) (by (clear hn hT ih hi i0 h hP hA hk hT1 h45 h170 hv hin hT19 pt p1 p2 l71 v1 v2 v3 t1 t2 t3 ru f13 f239 xr qr x q a1 a2 a3 a4 a5 hV hW g; lia)) (by (clear hn hT ih hi i0 h hP hA hk hT1 h45 h170 hv hin hT19 pt p1 p2 l71 v1 v2 v3 t1 t2 t3 ru f13 f239 xr qr x q a1 a2 a3 a4 a5 hV hW g; omega)), w32_id (x := sB kk + 6 + i) (by omega) (by omega), w32_id (x := i + 1) (by omega) (by omega), ← v1]
      exact ⟨by (clear hn hkk ih h hP hA hk h45 hv hB hin hT19 p1 l71 v1 v2 v3 t1 t3 ru f13 f239 xr qr x q a1 a2 a3 a4 a5 hV hW g; omega), by omega, by (clear hn hT ih h hP hA hk hT1 h45 hv hin hT19 p1 l71 v1 v2 v3 t1 t3 ru f13 f239 xr qr x q a1 a2 a3 a4 a5 hV hW g; omega), g⟩
theorem mkX_k [Inhabited fz_] (T p : Int) : (∀ r : Nat, r ∉ [0, 10, 11, 12, 13, 14, 16, 18, 19, 20, 23] → mkX M T p r = M r) ∧ (∀ i : Int, i ∉ [7, 8, 26, 35, 36] → mkX M T p 0 i = M 0 i) ∧ mkX M T p 0 7 = M 0 7 + 1 ∧ mkX M T p 0 8 = M 0 8 + 1 ∧ (∀ i, i ≠ M 0 7 → mkX M T p 11 i = M 11 i) ∧ mkX M T p 11 (M 0 7) = T := by
  unfold mkX
  refine ⟨fun r hr => ?_, fun i hi => ?_, ?_, ?_, fun i hi => ?_, ?_⟩
  · have e : ∀ x : Nat, x ∈ [0, 10, 11, 12, 13, 14, 16, 18, 19, 20, 23] → r ≠ x := fun x hx e => hr (by rw [e]; exact hx)
    rw [EvX_ev.1 r (e 0 (by decide)) (e 23 (by decide)), mkX0_r (fun h => by revert h; simp only [List.mem_cons, List.not_mem_nil, or_false, not_or] at hr ⊢; (clear e; lia))]
  · have e : ∀ x : Int, x ∈ [7, 8, 26, 35, 36] → i ≠ x := fun x hx e => hi (by rw [e]; exact hx)
    rw [EvX_ev.2 i (e 35 (by decide)) (e 36 (by decide)), mkX0_0 (.inl rfl), mkA_0 (fun h => by revert h; simp only [List.mem_cons, List.not_mem_nil, or_false, not_or] at hi ⊢; (clear e; lia))]
  · rw [EvX_ev.2 7 (by decide) (by decide), mkX0_0 (.inl rfl), mkA_7.1]
  · rw [EvX_ev.2 8 (by decide) (by decide), mkX0_0 (.inl rfl), mkA_7.2.1]
  · rw [EvX_ev.1 11 (by decide) (by decide), mkX0_s.1, if_neg hi]
  · rw [EvX_ev.1 11 (by decide) (by decide), mkX0_s.1, if_pos rfl]
theorem mkQ_k [Inhabited fz_] (T p : Int) : (∀ r : Nat, r ∉ [6, 239, 240] → mkQ N T p r = N r) := by
  intro r hr
  simp only [List.mem_cons, List.not_mem_nil, or_false, not_or] at hr
  unfold mkQ
  rw [EvQ_ev.1 r hr.1 hr.2.2, mkQ0_r hr.2.1 hr.1]
theorem bo_5 [Inhabited fz_] (hW : WST z 0 M N s) (hT : M 11 s = T) (hk : 0 ≤ k ∧ k < 1300) (hc : c1 ≤ 11800) (hfe : fe ≤ 2900) (h203 : N 203 k = 5) (hT5 : 0 ≤ N 205 k ∧ N 205 k < N 6 19) (h210 : (0 ≤ N 210 k ∧ N 210 k ≤ 3) ∧ N 210 k = N 170 (N 205 k)) (hV : VAL (swc M) (tbN N) T fe (fun i => N 182 (8 * N 205 k + i)) k (N 210 k).toNat c c1) (hc0 : 0 ≤ c) (hcc : c ≤ c1) (hx : M 109 c1 = 36) (hx1 : M 109 (c1 + 1) = N 205 k) (hx2 : M 109 (c1 + 2) = N 210 k) (h8 : M 0 8 < 2000000000) : BOD z T bp M N s x2 k c (c1 + 3) := by
  obtain ⟨w1, w2, w3, w4, w5, w6⟩ := id hW
  have n12 := w1.1.1
  have hB : sB s = 2 + 56 * s := rfl
  have q350 : ∀ (w : Int) (N2 : mm_), Ex_ 6 354 [.inr (.inr 6), .inl s, .inl k] N [.inl w] N2 → Ex_ 7 350 [.inr (.inr 6), .inl s, .inl k] N [.inl w] N2 := fun w N2 h Qr Qt g => t_350 fun V hV hW => b_350_0 (Tr_mono _) hV hW _ _ _ (Ex_le (d := 1) (by decide) (q_323 (by (clear hT hk hc hfe h203 hT5 h210 hc0 hcc hx hx1 hx2 h8 w1 w2 w3 w6 hB h g hV hW; lia))) _ _ (ri_i ⟨hk, by
    rw [h203]; simp only [Int.reduceEq, if_true, if_false]
    exact h _ _ (ri_i g)⟩))
  rcases j_val hW hT hk hfe h210.1 hc hV with ⟨A', N1, x1, q1, qv, vs, _⟩ | ⟨e, M1, N1, he, x1, fx, kp, e49, q1, qv⟩
  · have pt := PT_of w2 hT5
    unfold PTY at pt
    rw [tbN_r (q := 169) (by decide) (by decide), tbN_r (q := 172) (by decide) (by decide), tbN_r (q := 174) (by decide) (by decide), show swc M 121 = M 88 from swc_r (q := 88) (by decide) (by decide)] at pt
    have e88 := pt.1.2.1
    have p6 := w2.1.2.2
    rw [tbN_6 (by decide)] at p6
    have x15 : Ex_ 3 15 [.inr (.inr 0), .inl c] M [.inl c1] (exX M A' (N 210 k)) := fun Qr Qt g => x_15s fun V hV hW => x1 c V Qr Qt hV hW (x_15e (by (clear hT hk hfe h203 hT5 h210 hx hx1 hx2 h8 w1 w2 w3 w4 w5 w6 n12 hB q350 x1 q1 qv vs pt e88 p6 g hV hW; omega)) (by rw [exX_r (r := 109) (by decide) (by decide)]; (clear hT hk hc hfe h203 hT5 h210 hc0 hcc hx1 hx2 h8 w1 w2 w3 w4 w5 w6 n12 hB q350 x1 q1 qv vs pt e88 p6 g hV hW; omega)) hV hW g)
    have fx2 := EFX_ex (M := M) (A := A') (n := 0)
    have ru2 : RU z (exX M A' 0) N1 := RU_ef (RU_qv w1 qv) fx2 EFQ_rf
    have hP2 : PLr (exX M A' 0) N1 := PLr_c w2 (XRF_ef fx2) (QRF_qv qv)
    have tA2 := TYA_qv w3 qv
    have m7 : exX M A' 0 0 7 = M 0 7 := exX_0 (by decide)
    have m8 : exX M A' 0 0 8 = M 0 8 := exX_0 (by decide)
    have m46 : exX M A' 0 0 46 = s := by rw [exX_0 (by decide)]; exact w5
    have m10 : exX M A' 0 10 = M 10 := exX_r (by decide) (by decide)
    have qq : ∀ r : Nat, r ≠ 6 → r ≠ 243 → r ≠ 244 → N1 r = N r := qv.1
    have e239 : N1 239 = N 239 := qq 239 (by decide) (by decide) (by decide)
    obtain ⟨v, v12, xc, qc⟩ := l_cnt (T := N 205 k) (s := s) (k := k) (x3 := 0) ru2 (M 0 7).toNat 0 0 (by rw [m7]; (clear hW hT hk hc hfe h203 hT5 h210 hV hc0 hcc hx hx1 hx2 h8 w1 w2 w3 w6 hB q350 x1 q1 qv vs pt e88 p6 x15 fx2 ru2 hP2 tA2 m8 m10 qq e239; lia)) (by decide) (by decide) (by decide)
    rw [m7] at qc
    have x30 : Ex_ 1 30 [.inr (.inr 0), .inl (N 205 k)] (exX M A' 0) [.inl v] (exX M A' 0) := fun Qr Qt g => t_30 fun V hV hW => b_30_0 (Tr_mono _) hV hW _ _ (xc V Qr Qt hV hW g)
    have q354 : ∀ (w : Int) (N2 : mm_), (∀ (V : vv_) (Qr : qr_) (Qt : qt_), Cl_ wd0 (Tr_ wd0 pg0 5) V Qr Qt m_354 → Wk_ V → Qr [.inl w] N2 → (if v < N 169 (N 205 k) then (if N 239 0 = 12 then Qr [.inl 0] (up_ N1 239 (sB s + 5) 0) else Tr_ wd0 pg0 5 322 [.inr (.inr 6), .inl (N 205 k), .inl (N 239 (sB s))] N1 (ri_ fun v2 M2 => V 130 [rr 6, ii s, ii k, ii 0, ii (N 205 k), ii v, ii (sB s), ii v2, ii 0] [] M2) Qt) else Qr [.inl 0] (up_ N1 239 (sB s + 5) 0))) → Ex_ 6 354 [.inr (.inr 6), .inl s, .inl k] N [.inl w] N2 := fun w N2 h Qr Qt g => t_354 fun V hV hW => b_354_0 (Tr_mono _) hV hW _ _ _ (q1 _ _ (ri_i (by
      rw [if_pos (by decide), qq 205 (by decide) (by decide) (by decide)]
      refine ⟨hk, qc V Qr Qt hV hW (b_354_27 (Tr_mono _) hV hW _ _ _ _ _ _ _ ⟨by decide, ?_⟩)⟩
      rw [e239, if_neg (by (clear hT hk hc hfe h203 hT5 h210 hc0 hcc hx hx1 hx2 h8 w1 w2 w3 w4 w5 w6 hB q350 x1 q1 qv vs pt e88 p6 x15 fx2 ru2 hP2 tA2 m7 m8 m46 m10 qq e239 v12 xc qc x30 h g hV hW; omega))]
      refine Ex_le (d := 1) (by decide) (q_323 (by (clear hT hk hc hfe h203 hT5 h210 hc0 hcc hx hx1 hx2 h8 w1 w2 w3 w6 hB q350 x1 q1 qv vs pt e88 p6 x15 fx2 ru2 hP2 tA2 m8 m10 qq e239 v12 xc qc x30 h g hV hW; omega))) _ _ (ri_i ?_)
      have h' := h V Qr Qt hV hW g
      rw [e239, qq 169 (by decide) (by decide) (by decide), w32_id (x := sB s + 5) (by (clear hT hk hc hfe h203 hT5 h210 hc0 hcc hx hx1 hx2 h8 w1 w2 w3 w6 n12 q350 x1 q1 qv vs pt e88 p6 x15 fx2 ru2 hP2 tA2 m7 m8 m10 qq e239 v12 xc qc x30 h g hV hW h'; omega)) (by (clear hT hk hc hfe h203 hT5 h210 hc0 hcc hx hx1 hx2 h8 w1 w2 w3 w6 q350 x1 q1 qv vs pt e88 p6 x15 fx2 ru2 hP2 tA2 m8 m10 qq e239 v12 xc qc x30 h g hV hW h'; omega))]
      refine ⟨by (clear hT hk hc hfe h203 h210 hc0 hcc hx hx2 h8 w1 w2 w3 w4 w5 w6 n12 hB q350 x1 q1 qv vs pt e88 x15 fx2 ru2 hP2 tA2 m7 m8 m46 m10 qq e239 v12 xc qc x30 h g hV hW h'; omega), ?_⟩
      by_cases cv : v < N 169 (N 205 k)
      · rw [if_pos cv] at h' ⊢
        refine ⟨by decide, ?_⟩
        by_cases cf : N 239 0 = 12
        · rw [if_pos cf] at h' ⊢; exact ⟨by (clear hT hk hc hfe h203 hT5 h210 hc0 hcc hx hx1 hx2 h8 w1 w2 w3 w6 q350 x1 q1 qv vs pt e88 p6 x15 fx2 ru2 hP2 tA2 m8 m10 qq e239 v12 xc qc x30 h g hV hW h' cv; lia), h'⟩
        · rw [if_neg cf] at h' ⊢; exact ⟨by (clear hT hk hc hfe h203 hT5 h210 hc0 hcc hx hx1 hx2 h8 w1 w2 w3 w6 q350 x1 q1 qv vs pt e88 p6 x15 fx2 ru2 hP2 tA2 m8 m10 qq e239 v12 xc qc x30 h g hV hW h' cv cf; lia), h'⟩
      · rw [if_neg cv] at h' ⊢; exact ⟨by (clear hT hk hc hfe h203 hT5 h210 hc0 hcc hx hx1 hx2 h8 w1 w2 w3 w6 q350 x1 q1 qv vs pt e88 p6 x15 fx2 ru2 hP2 tA2 m8 m10 qq e239 v12 xc qc x30 h g hV hW h' cv; lia), h'⟩)))
    have x24 : ∀ (M2 : mm_), (∀ (Qr : qr_) (Qt : qt_), Qr [] M2 → Tr_ wd0 pg0 6 29 [.inr (.inr 0), .inl (N 205 k), .inl (N 210 k)] (exX M A' (N 210 k)) Qr Qt) → RC 7 m_23 17 [rr 0, ii s, ii x2, ii c] M 17 [rr 0, ii s, ii x2, ii (c1 + 3)] M2 := fun M2 h => xw_go (by (clear hW hT hk hc hfe h203 hT5 h210 hV hcc hx hx1 hx2 h8 w1 w2 w3 w4 w5 w6 n12 hB q350 x1 q1 qv vs pt e88 p6 x15 fx2 ru2 hP2 tA2 m7 m8 m46 m10 qq e239 v12 xc qc x30 q354 h; omega)) x15 (fun Qr Qt g => t_24 fun V hV hW => b_24_0 (Tr_mono _) hV hW _ _ ⟨by (clear hT hk hfe h203 hT5 h210 hx hx1 hx2 h8 w1 w2 w3 w4 w5 w6 n12 hB q350 x1 q1 qv vs pt e88 p6 x15 fx2 ru2 hP2 tA2 m7 m8 m46 m10 qq e239 v12 xc qc x30 q354 h g hV hW; omega), by
      rw [exX_r (r := 109) (by decide) (by decide), hx]; simp only [Int.reduceEq, if_true, if_false]
      rw [w32_id (x := c1 + 1) (by (clear hT hk hc hfe h203 hT5 h210 hx hx1 hx2 h8 w1 w2 w3 w4 w5 w6 n12 hB q350 x1 q1 qv vs pt e88 p6 x15 fx2 ru2 hP2 tA2 m7 m8 m46 m10 qq e239 v12 xc qc x30 q354 h g hV hW; omega)) (by omega), w32_id (x := c1 + 2) (by omega) (by omega), w32_id (x := c1 + 3) (by omega) (by omega), hx1, hx2]
      exact ⟨by (clear hT hk hfe h203 hT5 h210 hx hx1 hx2 h8 w1 w2 w3 w4 w5 w6 n12 hB q350 x1 q1 qv vs pt e88 p6 x15 fx2 ru2 hP2 tA2 m7 m8 m46 m10 qq e239 v12 xc qc x30 q354 h g hV hW; omega), by (clear hT hk hfe h203 hT5 h210 hx hx1 hx2 h8 w1 w2 w3 w4 w5 w6 n12 hB q350 x1 q1 qv vs pt e88 p6 x15 fx2 ru2 hP2 tA2 m7 m8 m46 m10 qq e239 v12 xc qc x30 q354 h g hV hW; omega), h _ _ (rv_i g)⟩⟩)
    have x29 : ∀ (M2 : mm_) (Qr : qr_) (Qt : qt_), (∀ (V : vv_), Cl_ wd0 (Tr_ wd0 pg0 5) V Qr Qt m_29 → Wk_ V → (if M 0 7 = 12 then Qr [] (up_ (exX M A' 0) 20 s 0) else (if v < N 169 (N 205 k) then Tr_ wd0 pg0 5 31 [.inr (.inr 0), .inl (N 205 k), .inl (M 10 s)] (exX M A' 0) (ri_ fun v2 M2 => V 65 [rr 0, ii (N 205 k), ii (N 210 k), ii v2, ii 0] [] M2) Qt else Qr [] (up_ (exX M A' 0) 20 s 0)))) → Tr_ wd0 pg0 6 29 [.inr (.inr 0), .inl (N 205 k), .inl (N 210 k)] (exX M A' (N 210 k)) Qr Qt := fun M2 Qr Qt h => t_29 fun V hV hW => b_29_0 (Tr_mono _) hV hW _ _ _ (by
      have h' := h V hV hW
      rw [exX_45, exX_0 (i := 7) (by decide), exX_0 (i := 46) (by decide), w5, Int.sub_self, w32_id (x := 0) (by decide) (by decide), exX_o]
      by_cases cf : M 0 7 = 12
      · rw [if_pos cf] at h' ⊢; exact ⟨by (clear hT hk hc hfe h203 hT5 h210 hc0 hcc hx hx1 hx2 h8 w1 w2 w3 w6 hB q350 x1 q1 qv vs pt e88 p6 x15 fx2 ru2 hP2 tA2 m8 m10 qq e239 v12 xc qc x30 q354 x24 h hV hW h'; lia), h'⟩
      · rw [if_neg cf] at h' ⊢
        refine Ex_le (d := 1) (by decide) x30 _ _ (ri_i ⟨by omega, ?_⟩)
        rw [exX_r (r := 88) (by decide) (by decide), e88, m46, m10]
        by_cases cv : v < N 169 (N 205 k)
        · rw [if_pos cv] at h' ⊢; exact ⟨by (clear hT hk hc hfe h203 hT5 h210 hc0 hcc hx hx1 hx2 h8 w1 w2 w3 w6 hB q350 x1 q1 qv vs pt e88 p6 x15 fx2 ru2 hP2 tA2 m8 m10 qq e239 v12 xc qc x30 q354 x24 h hV hW h' cf cv; lia), h'⟩
        · rw [if_neg cv] at h' ⊢; exact ⟨by omega, h'⟩)
    by_cases full : M 0 7 = 12 ∨ ¬ v < N 169 (N 205 k)
    · have ru5 := RU_5 (v := 0) (k := s) ru2 (by rw [m7]; exact w4)
      have f20 : XRF (exX M A' 0) (up_ (exX M A' 0) 20 s 0) := XRF_up (by decide) (fun e => absurd e (by decide))
      have f239 : QRF N1 (up_ N1 239 (sB s + 5) 0) := QRF_up (by decide) (fun e => absurd e (by decide))
      have fX := XRF_tr (XRF_ef fx2) f20
      have fQ := QRF_tr (QRF_qv qv) f239
      refine .inl ⟨up_ (exX M A' 0) 20 s 0, up_ N1 239 (sB s + 5) 0, x24 _ (fun Qr Qt g => x29 M Qr Qt fun V hV hW => ?_), q350 _ _ (q354 _ _ (fun V Qr Qt hV hW g => ?_)), ⟨ru5, PLr_c w2 fX fQ, TYA_239 tA2 (by (clear hW hT hk hc hfe h203 hT5 h210 hV hc0 hcc hx hx1 hx2 h8 w1 w2 w3 w6 hB q350 x1 q1 qv vs pt e88 p6 x15 fx2 ru2 hP2 tA2 m8 m10 qq e239 v12 xc qc x30 q354 x24 x29 full ru5 f20 f239 fX fQ; lia)) 5 0 (by decide) (by rw [e239]; (clear hW hT hk hc hfe h203 hT5 h210 hV hc0 hcc hx hx1 hx2 h8 w1 w2 w3 w6 hB q350 x1 q1 qv vs pt e88 p6 x15 fx2 ru2 hP2 tA2 m8 m10 qq e239 v12 xc qc x30 q354 x24 x29 full ru5 f20 f239 fX fQ; omega)) ⟨by decide, by decide⟩, by rw [up_ne (by decide), m7]; exact w4, by rw [up_ne (by decide)]; exact m46, by rw [up_ne (by decide), exX_45]⟩, by rw [up_ne (by decide), exX_r (by decide) (by decide)]; exact hT, ⟨fX, fQ⟩, by rw [up_ne (by decide), exX_0 (by decide)], by rw [up_ne (by decide), m8]; (clear hW hT hk hc hfe h203 hT5 h210 hV hc0 hcc hx hx1 hx2 h8 w1 w2 w3 w4 w5 w6 n12 hB q350 x1 q1 qv vs pt e88 p6 x15 fx2 ru2 hP2 tA2 m7 m8 m46 m10 qq e239 v12 xc qc x30 q354 x24 x29 full ru5 f20 f239 fX fQ; omega)⟩
      · by_cases cf : M 0 7 = 12
        · rw [if_pos cf]; exact g
        · rw [if_neg cf, if_neg (by (clear hT hk hc hfe h203 hT5 h210 hc0 hcc hx hx1 hx2 h8 w1 w2 w3 w4 w5 w6 hB q350 x1 q1 qv vs pt e88 p6 x15 fx2 ru2 hP2 tA2 m8 m46 m10 qq e239 v12 xc qc x30 q354 x24 x29 ru5 f20 f239 fX fQ g hV hW; omega))]; exact g
      · by_cases cv : v < N 169 (N 205 k)
        · rw [if_pos cv, if_pos (by (clear hT hk hc hfe h203 hT5 h210 hc0 hcc hx hx1 hx2 h8 w1 w2 w3 w4 w5 w6 hB q350 x1 q1 qv vs pt e88 p6 x15 fx2 ru2 hP2 tA2 m8 m46 m10 qq e239 v12 xc qc x30 q354 x24 x29 ru5 f20 f239 fX fQ hV hW g; lia))]; exact g
        · rw [if_neg cv]; exact g
    · have nf : M 0 7 < 12 := by (clear hW hT hk hc hfe h203 hT5 h210 hV hc0 hcc hx hx1 hx2 h8 w1 w2 w3 w4 w5 w6 hB q350 x1 q1 qv vs pt e88 p6 x15 fx2 ru2 hP2 tA2 m8 m46 m10 qq e239 v12 xc qc x30 q354 x24 x29; omega)
      have cv : v < N 169 (N 205 k) := by (clear hW hT hk hc hfe h203 hT5 h210 hV hc0 hcc hx hx1 hx2 h8 w1 w2 w3 w4 w5 w6 n12 hB q350 x1 q1 qv vs pt e88 p6 x15 fx2 ru2 hP2 tA2 m7 m8 m46 m10 qq e239 v12 xc qc x30 q354 x24 x29 nf; omega)
      have n19 : N1 6 19 = N 6 19 := qv.2 19 (by decide) (by decide)
      have hT9 : 0 ≤ N 205 k ∧ N 205 k < N1 6 19 := by rw [n19]; exact hT5
      have h174 : 0 ≤ N1 174 (N 205 k) := by rw [qq 174 (by decide) (by decide) (by decide)]; exact pt.2.2.1.1.2.1
      have h172 : 0 ≤ N1 172 (N 205 k) := by rw [qq 172 (by decide) (by decide) (by decide)]; exact pt.2.2.1.2.2.1.2.1
      have ru3 := RU_mk (p := M 10 s) ru2 (by rw [m7]; exact nf) hT9 h174 h172
      have ep : N 239 (sB s) = M 10 s := (w1.1.2.2.1 s w4.1 w4.2).1.1.symm
      have rp : R32 (M 10 s) := by rw [← ep]; exact w3.2.2 _
      have tA3 := TYA_mk (p := M 10 s) (T := N 205 k) ru2 tA2 (by rw [m7]; exact nf) (by (clear hW hT hk hc hfe h203 h210 hV hc0 hcc hx hx2 h8 w1 w2 w3 w4 w5 w6 n12 hB q350 x1 q1 qv vs pt e88 x15 fx2 ru2 hP2 tA2 m7 m8 m46 m10 qq e239 v12 xc qc x30 q354 x24 x29 full nf cv hT9 h174 h172 ru3 ep rp; omega)) (by rw [m8]; exact h8) rp
      obtain ⟨k1, k2, k3, k4, k5, k6⟩ := mkX_k (M := exX M A' 0) (N 205 k) (M 10 s)
      have kq := mkQ_k (N := N1) (N 205 k) (M 10 s)
      rw [m7] at k3 k5 k6
      have hP3 : PLr (mkX (exX M A' 0) (N 205 k) (M 10 s)) (mkQ N1 (N 205 k) (M 10 s)) := PLr_c hP2 XRF_mk QRF_mk
      obtain ⟨M5, N5, xl, ql, ru5, hP5, tA5, x5, q5⟩ := l_par (z := z) (T' := N 205 k) (s := s) (k := k) (x3 := 0) (v := v) (y5 := sB s) (kk := M 0 7) h210.1 (by (clear hW hT hk hc hfe h203 hT5 h210 hV hc0 hcc hx hx1 hx2 h8 w1 w2 w3 w4 w5 w6 hB q350 x1 q1 qv vs pt e88 p6 x15 fx2 ru2 hP2 tA2 m8 m46 m10 qq e239 v12 xc qc x30 q354 x24 x29 full cv n19 hT9 h174 h172 ru3 ep rp tA3 k1 k2 k4 k5 k6 kq hP3; omega)) (show 0 ≤ N 205 k ∧ N 205 k < 6 by (clear hW hT hk hc hfe h203 h210 hV hc0 hcc hx hx2 h8 w1 w2 w3 w4 w5 w6 n12 hB q350 x1 q1 qv vs pt e88 x15 fx2 ru2 hP2 tA2 m7 m8 m46 m10 qq e239 v12 xc qc x30 q354 x24 x29 full nf cv hT9 h174 h172 ru3 ep rp tA3 k1 k2 k3 k4 k5 kq hP3; lia)) (N 210 k).toNat 0 _ _ (by (clear hW hT hk hc hfe h203 hT5 hV hc0 hcc hx hx1 h8 w1 w2 w3 w4 w5 w6 n12 hB q350 x1 q1 qv vs pt e88 p6 x15 fx2 ru2 hP2 tA2 m7 m8 m46 m10 qq e239 v12 xc qc x30 q354 x24 x29 full nf cv n19 hT9 h174 h172 ru3 ep rp tA3 k1 k2 k3 k4 k5 k6 kq hP3; omega)) (by decide) ru3 hP3 tA3 (by rw [k3]; (clear hW hT hk hc hfe h203 hT5 h210 hV hc0 hcc hx hx1 hx2 h8 w1 w2 w3 w4 w5 w6 n12 hB q350 x1 q1 qv vs pt e88 p6 x15 fx2 ru2 hP2 tA2 m7 m8 m46 m10 qq e239 v12 xc qc x30 q354 x24 x29 full nf cv n19 hT9 h174 h172 ru3 ep rp tA3 k1 k2 k3 k4 k5 k6 kq hP3; omega)) k6 (by rw [k2 45 (by decide), exX_45]) (by rw [kq 170 (by decide), qq 170 (by decide) (by decide) (by decide)]; exact h210.2.symm) (fun j j0 j1 => by rw [k1 26 (by decide), exX_26, kq 244 (by decide), kq 182 (by decide), qq 182 (by decide) (by decide) (by decide)]; exact vs j j0 j1)
      have m57 : M5 0 7 = M 0 7 + 1 := by rw [x5 0 (by decide)]; exact k3
      have ru6 := RU_5 (v := M5 10 (M 0 7)) (k := s) ru5 (by rw [m57]; (clear hW hT hk hc hfe h203 hT5 h210 hV hc0 hcc hx hx1 hx2 h8 w1 w2 w3 w6 hB q350 x1 q1 qv vs pt e88 p6 x15 fx2 ru2 hP2 tA2 m8 m10 qq e239 v12 xc qc x30 q354 x24 x29 full nf cv n19 hT9 h174 h172 ru3 ep rp tA3 k1 k2 k4 k5 k6 kq hP3 xl ql ru5 hP5 tA5 x5 q5; lia))
      have ep5 : N5 239 (sB (M 0 7)) = M5 10 (M 0 7) := (ru5.1.2.2.1 (M 0 7) (by (clear hW hT hk hc hfe h203 hT5 h210 hV hc0 hcc hx hx1 hx2 h8 w1 w2 w3 w4 w5 w6 hB q350 x1 q1 qv vs pt e88 p6 x15 fx2 ru2 hP2 tA2 m8 m46 m10 qq e239 v12 xc qc x30 q354 x24 x29 full cv n19 hT9 h174 h172 ru3 ep rp tA3 k1 k2 k4 k5 k6 kq hP3 xl ql ru5 hP5 tA5 x5 q5 ru6; lia)) (by rw [m57]; (clear hW hT hk hc hfe h203 hT5 h210 hV hc0 hcc hx hx1 hx2 h8 w1 w2 w3 w4 w5 w6 n12 hB q350 x1 q1 qv vs pt e88 p6 x15 fx2 ru2 hP2 tA2 m7 m8 m46 m10 qq e239 v12 xc qc x30 q354 x24 x29 full nf cv n19 hT9 h174 h172 ru3 ep rp tA3 k1 k2 k3 k4 k5 k6 kq hP3 xl ql ru5 hP5 tA5 x5 q5 m57 ru6; omega))).1.1.symm
      have f20 : XRF M5 (up_ M5 20 s (M5 10 (M 0 7))) := XRF_up (by decide) (fun e => absurd e (by decide))
      have f239 : QRF N5 (up_ N5 239 (sB s + 5) (M5 10 (M 0 7))) := QRF_up (by decide) (fun e => absurd e (by decide))
      have fx5 : XRF (mkX (exX M A' 0) (N 205 k) (M 10 s)) M5 := ⟨fun r hr => x5 r (fun e => hr (by rw [e]; decide)), fun i _ => by rw [x5 0 (by decide)]⟩
      have fq5 : QRF (mkQ N1 (N 205 k) (M 10 s)) N5 := ⟨fun r hr => q5 r (fun e => hr (by rw [e]; decide)), fun i _ => by rw [q5 6 (by decide)]⟩
      have fX : XRF M (up_ M5 20 s (M5 10 (M 0 7))) := XRF_tr (XRF_tr (XRF_tr (XRF_ef fx2) XRF_mk) fx5) f20
      have fQ : QRF N (up_ N5 239 (sB s + 5) (M5 10 (M 0 7))) := QRF_tr (QRF_tr (QRF_tr (QRF_qv qv) QRF_mk) fq5) f239
      have m0 : ∀ i : Int, i ∉ [7, 8, 26, 35, 36] → M5 0 i = exX M A' 0 0 i := fun i hi => by rw [x5 0 (by decide)]; exact k2 i hi
      have hB7 : sB (M 0 7) = 2 + 56 * M 0 7 := rfl
      refine .inl ⟨up_ M5 20 s (M5 10 (M 0 7)), up_ N5 239 (sB s + 5) (M5 10 (M 0 7)), x24 _ (fun Qr Qt g => x29 M Qr Qt fun V hV hW => ?_), q350 _ _ (q354 _ _ (fun V Qr Qt hV hW g => ?_)), ⟨ru6, PLr_c w2 fX fQ, TYA_239 tA5 (by (clear hW hT hk hc hfe h203 hT5 h210 hV hc0 hcc hx hx1 hx2 h8 w1 w2 w3 w6 hB q350 x1 q1 qv vs pt e88 p6 x15 fx2 ru2 hP2 tA2 m8 m10 qq e239 v12 xc qc x30 q354 x24 x29 full cv n19 hT9 h174 h172 ru3 ep rp tA3 k1 k2 k4 k5 k6 kq hP3 xl ql ru5 hP5 tA5 x5 q5 ru6 ep5 f20 f239 fx5 fq5 fX fQ m0 hB7; lia)) 5 _ (by decide) (by have := ru5.1.1; (clear hW hT hk hc hfe h203 hT5 h210 hV hc0 hcc hx hx1 hx2 h8 w1 w2 w3 w6 hB q350 x1 q1 qv vs pt e88 p6 x15 fx2 ru2 hP2 tA2 m8 m10 qq e239 v12 xc qc x30 q354 x24 x29 full nf cv n19 hT9 h174 h172 ru3 ep rp tA3 k1 k2 k4 k5 k6 kq hP3 xl ql ru5 hP5 tA5 x5 q5 ru6 ep5 f20 f239 fx5 fq5 fX fQ m0 hB7; omega)) (by rw [← ep5]; exact tA5.2.2 _), by rw [up_ne (by decide), m57]; (clear hW hT hk hc hfe h203 hT5 h210 hV hc0 hcc hx hx1 hx2 h8 w1 w2 w3 w6 hB q350 x1 q1 qv vs pt e88 p6 x15 fx2 ru2 hP2 tA2 m8 m10 qq e239 v12 xc qc x30 q354 x24 x29 full nf cv n19 hT9 h174 h172 ru3 ep rp tA3 k1 k2 k4 k5 k6 kq hP3 xl ql ru5 hP5 tA5 x5 q5 ru6 ep5 f20 f239 fx5 fq5 fX fQ m0 hB7; lia), by rw [up_ne (by decide), m0 46 (by decide)]; exact m46, by rw [up_ne (by decide), m0 45 (by decide), exX_45]⟩, ?_, ⟨fX, fQ⟩, by rw [up_ne (by decide), m0 47 (by decide), exX_0 (by decide)], by rw [up_ne (by decide), x5 0 (by decide), k4, m8]; (clear hW hT hk hc hfe h203 hT5 h210 hV hc0 hcc hx hx1 hx2 h8 w1 w2 w3 w4 w5 w6 n12 hB q350 x1 q1 qv vs pt e88 p6 x15 fx2 ru2 hP2 tA2 m7 m8 m46 m10 qq e239 v12 xc qc x30 q354 x24 x29 full nf cv n19 hT9 h174 h172 ru3 ep rp tA3 k1 k2 k3 k4 k5 k6 kq hP3 xl ql ru5 hP5 tA5 x5 q5 m57 ru6 ep5 f20 f239 fx5 fq5 fX fQ m0 hB7; omega)⟩
      · rw [if_neg (by (clear hT hk hc hfe h203 hT5 h210 hc0 hcc hx hx1 hx2 h8 w1 w2 w3 w4 w5 w6 hB q350 x1 q1 qv vs pt e88 p6 x15 fx2 ru2 hP2 tA2 m8 m46 m10 qq e239 v12 xc qc x30 q354 x24 x29 full cv n19 hT9 h174 h172 ru3 ep rp tA3 k1 k2 k4 k5 k6 kq hP3 xl ql ru5 hP5 tA5 x5 q5 ru6 ep5 f20 f239 fx5 fq5 fX fQ m0 hB7 g hV hW; omega)), if_pos cv]
        have x31 := x_31 (p := M 10 s) ru2 (by rw [m7]; exact nf) (by rw [m8]; exact h8) hT9 h174 h172
        rw [m7] at x31
        refine Ex_le (d := 2) (by decide) x31 _ _ (ri_i (xl V Qr Qt hV hW (b_29_65 (Tr_mono _) hV hW _ _ _ _ _ ?_)))
        rw [if_neg (by (clear hT hk hc hfe h203 hT5 h210 hc0 hcc hx hx1 hx2 h8 w1 w2 w3 w4 w5 w6 n12 hB q350 x1 q1 qv vs pt e88 p6 x15 fx2 ru2 hP2 tA2 m7 m8 m46 m10 qq e239 v12 xc qc x30 q354 x24 x29 full nf cv n19 hT9 h174 h172 ru3 ep rp tA3 k1 k2 k3 k4 k5 k6 kq hP3 xl ql ru5 hP5 tA5 x5 q5 m57 ru6 ep5 f20 f239 fx5 fq5 fX fQ m0 hB7 g hV hW x31; omega)), m0 46 (by decide), m46]
        exact ⟨by (clear hT hk hc hfe h203 hT5 h210 hc0 hcc hx hx1 hx2 h8 w1 w2 w3 w4 w5 w6 hB q350 x1 q1 qv vs pt e88 p6 x15 fx2 ru2 hP2 tA2 m8 m46 m10 qq e239 v12 xc qc x30 q354 x24 x29 full cv n19 hT9 h174 h172 ru3 ep rp tA3 k1 k2 k4 k5 k6 kq hP3 xl ql ru5 hP5 tA5 x5 q5 ru6 ep5 f20 f239 fx5 fq5 fX fQ m0 hB7 g hV hW x31; lia), by omega, g⟩
      · rw [if_pos cv, if_neg (by (clear hT hk hc hfe h203 hT5 h210 hc0 hcc hx hx1 hx2 h8 w1 w2 w3 w4 w5 w6 hB q350 x1 q1 qv vs pt e88 p6 x15 fx2 ru2 hP2 tA2 m8 m46 m10 qq e239 v12 xc qc x30 q354 x24 x29 full cv n19 hT9 h174 h172 ru3 ep rp tA3 k1 k2 k4 k5 k6 kq hP3 xl ql ru5 hP5 tA5 x5 q5 ru6 ep5 f20 f239 fx5 fq5 fX fQ m0 hB7 hV hW g; omega)), ep]
        have q32 := q_322 (p := M 10 s) ru2 (by rw [m7]; exact nf) (by rw [m8]; exact h8) hT9 h174 h172
        rw [m7] at q32
        refine Ex_le (d := 2) (by decide) q32 _ _ (ri_i (ql V Qr Qt hV hW (b_354_130 (Tr_mono _) hV hW _ _ _ _ _ _ _ _ _ ⟨by (clear hT hk hc hfe h203 h210 hc0 hcc hx hx2 h8 w1 w2 w3 w4 w5 w6 n12 hB q350 x1 q1 qv vs pt e88 x15 fx2 ru2 hP2 tA2 m7 m8 m46 m10 qq e239 v12 xc qc x30 q354 x24 x29 full nf cv hT9 h174 h172 ru3 ep rp tA3 k1 k2 k3 k4 k5 kq hP3 xl ql ru5 hP5 tA5 x5 q5 m57 ru6 ep5 f20 f239 fx5 fq5 fX fQ m0 hB7 hV hW g q32; lia), ?_⟩)))
        rw [q5 170 (by decide), kq 170 (by decide), qq 170 (by decide) (by decide) (by decide), ← h210.2, if_neg (by (clear hT hk hc hfe h203 hT5 h210 hc0 hcc hx hx1 hx2 h8 w1 w2 w3 w4 w5 w6 n12 hB q350 x1 q1 qv vs pt e88 p6 x15 fx2 ru2 hP2 tA2 m7 m8 m46 m10 qq e239 v12 xc qc x30 q354 x24 x29 full nf cv n19 hT9 h174 h172 ru3 ep rp tA3 k1 k2 k3 k4 k5 k6 kq hP3 xl ql ru5 hP5 tA5 x5 q5 m57 ru6 ep5 f20 f239 fx5 fq5 fX fQ m0 hB7 hV hW g q32; omega))]
        refine Ex_le (d := 1) (by decide) (q_323 (by (clear hT hk hc hfe h203 hT5 h210 hc0 hcc hx hx1 hx2 h8 w1 w2 w3 w4 w5 w6 hB q350 x1 q1 qv vs pt e88 p6 x15 fx2 ru2 hP2 tA2 m8 m46 m10 qq e239 v12 xc qc x30 q354 x24 x29 full cv n19 hT9 h174 h172 ru3 ep rp tA3 k1 k2 k4 k5 k6 kq hP3 xl ql ru5 hP5 tA5 x5 q5 ru6 ep5 f20 f239 fx5 fq5 fX fQ m0 hB7 hV hW g q32; omega))) _ _ (ri_i ?_)
        rw [ep5, w32_id (x := sB s + 5) (by (clear hT hk hc hfe h203 hT5 h210 hc0 hcc hx hx1 hx2 h8 w1 w2 w3 w6 n12 q350 x1 q1 qv vs pt e88 p6 x15 fx2 ru2 hP2 tA2 m7 m8 m10 qq e239 v12 xc qc x30 q354 x24 x29 full nf cv n19 hT9 h174 h172 ru3 ep rp tA3 k1 k2 k3 k4 k5 k6 kq hP3 xl ql ru5 hP5 tA5 x5 q5 m57 ru6 ep5 f20 f239 fx5 fq5 fX fQ m0 hB7 hV hW g q32; omega)) (by (clear hT hk hc hfe h203 hT5 h210 hc0 hcc hx hx1 hx2 h8 w1 w2 w3 w6 q350 x1 q1 qv vs pt e88 p6 x15 fx2 ru2 hP2 tA2 m8 m10 qq e239 v12 xc qc x30 q354 x24 x29 full cv n19 hT9 h174 h172 ru3 ep rp tA3 k1 k2 k4 k5 k6 kq hP3 xl ql ru5 hP5 tA5 x5 q5 ru6 ep5 f20 f239 fx5 fq5 fX fQ m0 hB7 hV hW g q32; lia))]
        exact ⟨by (clear hT hk hc hfe h203 hT5 h210 hc0 hcc hx hx1 hx2 h8 w1 w2 w3 w6 hB q350 x1 q1 qv vs pt e88 p6 x15 fx2 ru2 hP2 tA2 m8 m10 qq e239 v12 xc qc x30 q354 x24 x29 full cv n19 hT9 h174 h172 ru3 ep rp tA3 k1 k2 k4 k5 k6 kq hP3 xl ql ru5 hP5 tA5 x5 q5 ru6 ep5 f20 f239 fx5 fq5 fX fQ m0 hV hW g q32; lia), by (clear hT hk hc hfe h203 hT5 h210 hc0 hcc hx hx1 hx2 h8 w1 w2 w3 w6 q350 x1 q1 qv vs pt e88 p6 x15 fx2 ru2 hP2 tA2 m8 m10 qq e239 v12 xc qc x30 q354 x24 x29 full cv n19 hT9 h174 h172 ru3 ep rp tA3 k1 k2 k4 k5 k6 kq hP3 xl ql ru5 hP5 tA5 x5 q5 ru6 ep5 f20 f239 fx5 fq5 fX fQ m0 hB7 hV hW g q32; lia), g⟩
      · rw [up_ne (by decide), x5 11 (by decide), k5 s (by (clear hW hT hk hc hfe h203 hT5 h210 hV hc0 hcc hx hx1 hx2 h8 w1 w2 w3 w6 hB q350 x1 q1 qv vs pt e88 p6 x15 fx2 ru2 hP2 tA2 m8 m10 qq e239 v12 xc qc x30 q354 x24 x29 full nf cv n19 hT9 h174 h172 ru3 ep rp tA3 k1 k2 k4 k5 k6 kq hP3 xl ql ru5 hP5 tA5 x5 q5 ru6 ep5 f20 f239 fx5 fq5 fX fQ m0 hB7; lia)), exX_r (by decide) (by decide)]; exact hT
  · refine .inr ⟨e, M1, N1, by (clear hW hT hk hc hfe h203 hT5 h210 hV hc0 hcc hx hx1 hx2 h8 w1 w2 w3 w4 w5 w6 n12 hB q350 x1 fx kp e49 q1 qv; omega), xw_e1 (by omega) (fun Qr Qt g => x_15s fun V hV hW => x1 c V Qr Qt hV hW g), ⟨e49, kp.2⟩, q350 _ _ (fun Qr Qt g => t_354 fun V hV hW => b_354_0 (Tr_mono _) hV hW _ _ _ (q1 _ _ (ri_i ?_))), RU_ef (RU_qv w1 qv) fx EFQ_rf, TYA_qv w3 qv, ⟨XRF_ef fx, QRF_qv qv⟩, fx.2 7 (by decide) (by decide) (by decide) (by decide) (by decide), fx.2 8 (by decide) (by decide) (by decide) (by decide) (by decide)⟩
    rw [if_neg (by (clear hT hk hc hfe h203 hT5 h210 hc0 hcc hx hx1 hx2 h8 w1 w2 w3 w4 w5 w6 n12 hB q350 x1 fx kp e49 q1 qv g hV hW; omega))]; exact g
end CRa
end T358_cr
section T359_gb
/-! the run: a signal goes on a route (X 27 | Q 359) -/
theorem us_r [Inhabited fz_] (x : Int) : 0 ≤ us_ x 16 ∧ us_ x 16 < 65536 := by
  unfold us_
  rw [show (Int32.ofInt 16).toUInt32 &&& Int32.toUInt32 31 = 16 by decide]
  generalize (Int32.ofInt x).toUInt32 = y
  have h : (y >>> 16).toNat < 65536 := by
    rw [UInt32.toNat_shiftRight, show (16 : UInt32).toNat % 32 = 16 by decide, Nat.shiftRight_eq_div_pow]
    have := y.toNat_lt
    omega
  have e : (y >>> 16).toInt32.toInt = ((y >>> 16).toNat : Int) := by
    show (y >>> 16).toBitVec.toInt = _
    rw [BitVec.toInt_eq_toNat_of_lt (by show 2 * (y >>> 16).toNat < _; lia)]
    rfl
  omega
def s7 (x0 x1 x2 x3 x4 x5 x6 d : Int) : Int := if d = 0 then x0 else if d = 1 then x1 else if d = 2 then x2 else if d = 3 then x3 else if d = 4 then x4 else if d = 5 then x5 else x6
def u7 (A : mm_) (r : Nat) (p x0 x1 x2 x3 x4 x5 x6 : Int) : mm_ := up_ (up_ (up_ (up_ (up_ (up_ (up_ A r p x0) r (p + 1) x1) r (p + 2) x2) r (p + 3) x3) r (p + 4) x4) r (p + 5) x5) r (p + 6) x6
def psX (M : mm_) (r sg sn rc t a b c : Int) : mm_ := up_ (u7 M 22 (42 * r + 7 * M 21 r) sg sn rc t a b c) 21 r (M 21 r + 1)
def psQ (N : mm_) (r sg sn rc t : Int) : mm_ := up_ (u7 N 239 (sR r + 1 + 7 * N 239 (sR r)) sg sn rc t (N 242 0) (N 242 1) (N 242 2)) 239 (sR r) (N 239 (sR r) + 1)
/-- what a signal on its way leaves -/
def KAX (M M' : mm_) : Prop := (∀ r : Nat, r ∉ [0, 14, 15, 21, 22, 23, 24] → M' r = M r) ∧ ∀ i : Int, i ∉ [10, 27, 32, 33, 34, 35, 36, 37] → M' 0 i = M 0 i
section GBa
variable {z : Int} {A M N M' N' M1 N1 : mm_} {q : Nat} {p x0 x1 x2 x3 x4 x5 x6 d i r sg sn rc t t' a b c k : Int}
theorem u7_r [Inhabited fz_] {r' : Nat} (h : r' ≠ q) : u7 A q p x0 x1 x2 x3 x4 x5 x6 r' = A r' := by unfold u7; rw [up_ne h, up_ne h, up_ne h, up_ne h, up_ne h, up_ne h, up_ne h]
theorem u7_o [Inhabited fz_] (h : i < p ∨ p + 7 ≤ i) : u7 A q p x0 x1 x2 x3 x4 x5 x6 q i = A q i := by unfold u7; rw [upo (by omega), upo (by omega), upo (by omega), upo (by omega), upo (by omega), upo (by omega), upo (by omega)]
theorem u7_i [Inhabited fz_] (h0 : 0 ≤ d) (h1 : d < 7) : u7 A q p x0 x1 x2 x3 x4 x5 x6 q (p + d) = s7 x0 x1 x2 x3 x4 x5 x6 d := by
  have : d = 0 ∨ d = 1 ∨ d = 2 ∨ d = 3 ∨ d = 4 ∨ d = 5 ∨ d = 6 := by lia
  unfold u7 s7
  rcases this with e | e | e | e | e | e | e <;> subst e <;> simp only [Int.reduceEq, if_true, if_false]
  · rw [Int.add_zero, upo (by (clear h0 h1; omega)), upo (by (clear h0 h1; lia)), upo (by omega), upo (by (clear h0 h1; lia)), upo (by omega), upo (by omega), up_at]
  · rw [upo (by omega), upo (by omega), upo (by omega), upo (by omega), upo (by omega), up_at]
  · rw [upo (by omega), upo (by (clear h0 h1; omega)), upo (by omega), upo (by omega), up_at]
  · rw [upo (by omega), upo (by omega), upo (by omega), up_at]
  · rw [upo (by omega), upo (by omega), up_at]
  · rw [upo (by omega), up_at]
  · rw [up_at]
theorem XRF_ps [Inhabited fz_] : XRF M (psX M r sg sn rc t a b c) := ⟨fun q hq => by unfold psX; rw [up_ne (fun e => hq (by rw [e]; decide)), u7_r (fun e => hq (by rw [e]; decide))], fun i _ => by unfold psX; rw [up_ne (by decide), u7_r (by decide)]⟩
theorem QRF_ps [Inhabited fz_] : QRF N (psQ N r sg sn rc t) := ⟨fun q hq => by unfold psQ; rw [up_ne (fun e => hq (by rw [e]; decide)), u7_r (fun e => hq (by rw [e]; decide))], fun i _ => by unfold psQ; rw [up_ne (by decide), u7_r (by decide)]⟩
theorem KAX_ps [Inhabited fz_] : KAX M (psX M r sg sn rc t a b c) := ⟨fun q hq => by unfold psX; rw [up_ne (fun e => hq (by rw [e]; decide)), u7_r (fun e => hq (by rw [e]; decide))], fun i _ => by unfold psX; rw [up_ne (by decide), u7_r (by decide)]⟩
theorem RU_ps [Inhabited fz_] (h : RU z M N) (hr : 0 ≤ r ∧ r < N 6 18) (hn : M 21 r < 6) (hg : N 242 0 = a ∧ N 242 1 = b ∧ N 242 2 = c) (ht : 0 ≤ t ∧ t ≤ 2000000000) (hz : (z = 0 ∧ t' = t) ∨ (z = 1 ∧ t' = 0)) : RU z (psX M r sg sn rc t a b c) (psQ N r sg sn rc t') := by
  obtain ⟨r1, r2, r3, r4, r5⟩ := h
  have h10 := r2.1
  have hR : sR r = 674 + 43 * r := rfl
  obtain ⟨⟨o1, o2, o3⟩, o4, o5⟩ := r2.2.1 r hr.1 hr.2
  have xr : ∀ q : Nat, q ≠ 21 → q ≠ 22 → psX M r sg sn rc t a b c q = M q := fun q e1 e2 => by unfold psX; rw [up_ne e1, u7_r e2]
  have qr : ∀ q : Nat, q ≠ 239 → psQ N r sg sn rc t' q = N q := fun q e => by unfold psQ; rw [up_ne e, u7_r e]
  have e22 : psX M r sg sn rc t a b c 22 = u7 M 22 (42 * r + 7 * M 21 r) sg sn rc t a b c 22 := by unfold psX; rw [up_ne (by decide)]
  have q9 : ∀ i, i ≠ sR r → psQ N r sg sn rc t' 239 i = u7 N 239 (sR r + 1 + 7 * M 21 r) sg sn rc t' a b c 239 i := fun i hi => by unfold psQ; rw [upo hi, o3, hg.1, hg.2.1, hg.2.2]
  have q0 : psQ N r sg sn rc t' 239 (sR r) = M 21 r + 1 := by unfold psQ; rw [up_at, o3]
  have qo : ∀ i, i < sR r ∨ sR r + 43 ≤ i → psQ N r sg sn rc t' 239 i = N 239 i := fun i hi => by rw [q9 i (by (clear hr hn hg ht hz r1 r2 r3 r4 r5 h10 o1 o2 o3 o4 o5 xr qr e22 q9 q0; lia)), u7_o (by (clear hr hg ht hz r1 r2 r3 r4 r5 h10 o2 o4 o5 xr qr e22 q9; lia))]
  refine ⟨RI_l r1 (by rw [xr 0 (by decide) (by decide)]; exact ⟨rfl, rfl⟩) (fun q hq => xr q (fun e => by rw [e] at hq; revert hq; decide) (fun e => by rw [e] at hq; revert hq; decide)) (fun i hi => qo i (by (clear hn hg ht hz r1 r2 r3 r4 r5 h10 o1 o2 o3 o4 o5 xr qr e22 q9 q0 qo; omega))) (by rw [qr 6 (by decide)]) (fun q hq => qr q (fun e => by rw [e] at hq; revert hq; decide)), RRt_r r2 hr (fun i hi => by unfold psX; rw [upo hi, u7_r (by decide)]) (fun i hi => by rw [e22, u7_o (by (clear hr hg ht hz r1 r2 r3 r4 r5 h10 hR o2 o4 o5 xr qr e22 q9 qo; lia))]) qo (by rw [qr 6 (by decide)]) ?_, RSC_c r3 (fun i _ => by rw [xr 0 (by decide) (by decide)]) (fun i _ => by rw [qr 6 (by decide)]), ROU_c r4 (fun i _ => by rw [xr 0 (by decide) (by decide)]) (xr 24 (by decide) (by decide)) (fun i _ => by rw [qr 6 (by decide)]) (qr 241 (by decide)), REV_c r5 (fun i _ => by rw [xr 0 (by decide) (by decide)]) (xr 23 (by decide) (by decide)) (fun i _ => by rw [qr 6 (by decide)]) (qr 240 (by decide))⟩
  have e21 : psX M r sg sn rc t a b c 21 r = M 21 r + 1 := by unfold psX; rw [up_at]
  unfold RO
  rw [e21, q0]
  refine ⟨by (clear hr hg ht hz r1 r2 r3 r4 r5 h10 hR o2 o4 o5 xr qr e22 q9 qo; lia), fun q q0 q1 => ?_, fun i i0 i1 => ?_⟩
  · by_cases cq : q = M 21 r
    · have eX : ∀ j, 0 ≤ j → j < 7 → psX M r sg sn rc t a b c 22 (42 * r + 7 * q + j) = s7 sg sn rc t a b c j := fun j j0 j1 => by rw [e22, cq, u7_i j0 j1]
      have eQ : ∀ j, 0 ≤ j → j < 7 → psQ N r sg sn rc t' 239 (sR r + 1 + 7 * q + j) = s7 sg sn rc t' a b c j := fun j j0 j1 => by rw [q9 _ (by (clear hr hg ht hz r1 r2 r3 r4 r5 h10 hR o2 o4 o5 xr qr e22 q9 qo q0 q1 eX; lia)), cq, u7_i j0 j1]
      have e3 := eX 3 (by decide) (by decide)
      have f3 := eQ 3 (by decide) (by decide)
      have g3 : ∀ y, s7 sg sn rc y a b c 3 = y := fun y => by unfold s7; rfl
      rw [g3] at e3 f3
      rw [e3, f3]
      refine ⟨fun j j0 j1 j3 => ?_, ht, fun e => by (clear hr hn hg ht r1 r2 r3 r4 r5 h10 hR o1 o2 o3 o4 o5 xr qr e22 q9 qo e21 q0 q1 cq eX eQ f3 g3; lia), fun e => by (clear hr hn hg ht r1 r2 r3 r4 r5 h10 hR o1 o2 o3 o4 o5 xr qr e22 q9 qo e21 q0 q1 cq eX eQ e3 f3 g3; lia)⟩
      rw [eX j j0 j1, eQ j j0 j1]
      unfold s7
      rw [if_neg (c := j = 3) j3, if_neg (c := j = 3) j3]
    · have eX : ∀ j, 0 ≤ j → j < 7 → psX M r sg sn rc t a b c 22 (42 * r + 7 * q + j) = M 22 (42 * r + 7 * q + j) := fun j j0 j1 => by rw [e22, u7_o (by (clear hr hn hg ht hz r1 r2 r3 r4 r5 h10 hR o1 o2 o4 o5 xr qr e22 q9 qo q0; lia))]
      have eQ : ∀ j, 0 ≤ j → j < 7 → psQ N r sg sn rc t' 239 (sR r + 1 + 7 * q + j) = N 239 (sR r + 1 + 7 * q + j) := fun j j0 j1 => by rw [q9 _ (by (clear hr hn hg ht hz r1 r2 r3 r4 r5 h10 hR o1 o2 o3 o4 o5 xr qr e22 q9 qo e21 q1 cq eX; lia)), u7_o (by (clear hr hn hg ht hz r1 r2 r3 r4 r5 h10 hR o1 o2 o4 o5 xr qr e22 q9 qo q0 eX; lia))]
      obtain ⟨p1, p2, p3, p4⟩ := o4 q q0 (by (clear hr hn hg ht hz r1 r2 r3 r4 r5 h10 hR o1 o2 o4 o5 xr qr e22 q9 qo q0 eX eQ; lia))
      rw [eX 3 (by decide) (by decide), eQ 3 (by decide) (by decide)]
      exact ⟨fun j j0 j1 j3 => by rw [eX j j0 j1, eQ j j0 j1]; exact p1 j j0 j1 j3, p2, p3, p4⟩
  · rw [q9 _ (by (clear hr hg ht hz r1 r2 r3 r4 r5 h10 hR o2 o4 o5 xr qr e22 q9 qo i1; lia)), u7_o (by (clear hr hn hg ht hz r1 r2 r3 r4 r5 h10 hR o1 o2 o4 o5 xr qr e22 q9 qo i1; lia))]; exact o5 i (by (clear hr hn hg ht hz r1 r2 r3 r4 r5 h10 hR o1 o2 o4 o5 xr qr e22 q9 qo i1; lia)) i1
theorem TYA_ps [Inhabited fz_] (h : RU z M N) (hA : TYA N) (hr : 0 ≤ r ∧ r < N 6 18) (hn : M 21 r < 6) (hs : SGV N sg (N 242)) (hsn : R32 sn) (hrc : R32 rc) (ht : R32 t') : TYA (psQ N r sg sn rc t') := by
  have h10 := h.2.1.1
  have hR : sR r = 674 + 43 * r := rfl
  obtain ⟨o1, o2, o3⟩ := (h.2.1.2.1 r hr.1 hr.2).1
  have tt := TYT_Q (QRF_ps (N := N) (r := r) (sg := sg) (sn := sn) (rc := rc) (t := t'))
  have q9 : ∀ i, i ≠ sR r → psQ N r sg sn rc t' 239 i = u7 N 239 (sR r + 1 + 7 * M 21 r) sg sn rc t' (N 242 0) (N 242 1) (N 242 2) 239 i := fun i hi => by unfold psQ; rw [upo hi, o3]
  have q0 : psQ N r sg sn rc t' 239 (sR r) = M 21 r + 1 := by unfold psQ; rw [up_at, o3]
  have g := hA.2.1 r hr.1 (by omega) hr.2
  have v0 := hs.2.2 0 (by decide) (by decide)
  have v1 := hs.2.2 1 (by decide) (by decide)
  have v2 := hs.2.2 2 (by decide) (by decide)
  have sgr : R32 sg := by have := hs.1; unfold R32; omega
  refine TYA_r (r := r) hA tt ⟨hr.1, by omega⟩ (fun j hj => by rw [q9 j (by (clear h hA hr hn hs hsn hrc ht h10 o1 o2 o3 tt q9 q0 g v0 v1 v2 sgr; lia)), u7_o (by (clear h hA hr hs hsn hrc ht h10 o2 tt q9 g v0 v1 v2 sgr; lia))]) (fun q q0' q1 q2 => ?_) (fun j j0 j1 => ?_)
  · have q2 : q < psQ N r sg sn rc t' 239 (sR r + 0) := q2
    rw [Int.add_zero, q0] at q2
    show SGV _ (psQ N r sg sn rc t' 239 (sR r + (1 + 7 * q))) (fun v => psQ N r sg sn rc t' 239 (sR r + (5 + 7 * q + v)))
    by_cases cq : q = M 21 r
    · have eQ : ∀ j, 0 ≤ j → j < 7 → psQ N r sg sn rc t' 239 (sR r + (1 + 7 * q + j)) = s7 sg sn rc t' (N 242 0) (N 242 1) (N 242 2) j := fun j j0 j1 => by rw [q9 _ (by (clear h hA hr hn hs hsn hrc ht h10 hR o1 o2 o3 tt q9 q0 g v0 v1 v2 sgr q2 cq; lia)), cq, show sR r + (1 + 7 * M 21 r + j) = sR r + 1 + 7 * M 21 r + j by omega, u7_i j0 j1]
      have e0 := eQ 0 (by decide) (by decide)
      rw [Int.add_zero] at e0
      rw [e0]
      refine SGV_c hs tt (fun v v0 v1 => ?_)
      have := eQ (4 + v) (by omega) (by omega)
      rw [show sR r + (5 + 7 * q + v) = sR r + (1 + 7 * q + (4 + v)) by (clear h hA hr hn hs hsn hrc ht h10 hR o1 o2 o3 tt q9 q0 g v2 sgr q0' q1 q2 cq eQ e0 v0 v1 this; lia), this]
      have three : v = 0 ∨ v = 1 ∨ v = 2 := by (clear h hA hr hn hs hsn hrc ht h10 hR o1 o2 o3 tt q9 q0 g v2 sgr q0' q1 q2 cq eQ e0 this; lia)
      rcases three with e | e | e <;> subst e <;> rfl
    · rw [q9 _ (by (clear h hA hr hn hs hsn hrc ht h10 hR o1 o2 o3 tt q9 q0 g v0 v1 v2 sgr q0' q1 q2 cq; lia)), u7_o (by (clear h hA hr hn hs hsn hrc ht h10 hR o1 o2 tt q9 g v0 v1 v2 sgr q0' q1; lia))]
      exact SGV_c (g q q0' q1 (show q < N 239 (sR r + 0) by rw [Int.add_zero, o3]; (clear h hA hr hn hs hsn hrc ht h10 hR o1 o2 tt q9 g v0 v1 v2 sgr q0' q1; lia))) tt (fun v v0 v1 => by rw [q9 _ (by omega), u7_o (by (clear h hA hr hn hs hsn hrc ht h10 hR o1 o2 tt q9 g v2 sgr q0' q1; lia))])
  · by_cases c0 : j = sR r
    · rw [c0, q0]; unfold R32; (clear h hA hr hs hsn hrc ht h10 hR o2 tt q9 g v0 v1 v2 sgr j0 j1 c0; lia)
    · rw [q9 j c0]
      by_cases c1 : j < sR r + 1 + 7 * M 21 r ∨ sR r + 1 + 7 * M 21 r + 7 ≤ j
      · rw [u7_o c1]; exact hA.2.2 j
      · have := u7_i (A := N) (q := 239) (p := sR r + 1 + 7 * M 21 r) (d := j - (sR r + 1 + 7 * M 21 r)) (x0 := sg) (x1 := sn) (x2 := rc) (x3 := t') (x4 := N 242 0) (x5 := N 242 1) (x6 := N 242 2) (by (clear h hA hr hn hs hsn hrc ht h10 o1 o2 tt q9 g v0 v1 v2 sgr j0 j1 c0; omega)) (by (clear h hA hr hn hs hsn hrc ht h10 o1 o2 tt q9 g v0 v1 v2 sgr j0 j1 c0; omega))
        rw [show sR r + 1 + 7 * M 21 r + (j - (sR r + 1 + 7 * M 21 r)) = j by (clear h hA hr hn hs hsn hrc ht h10 hR o1 o2 o3 tt q9 q0 g v0 v1 v2 sgr j0 j1 c0 c1 this; lia)] at this
        rw [this]; unfold s7
        repeat' split
        all_goals assumption
theorem KAX_a [Inhabited fz_] : KAX M (aX M sg sn rc a b c) := ⟨fun q hq => aX_s (fun e => hq (by revert e; simp only [List.mem_cons, List.not_mem_nil, or_false]; (clear hq; lia))), fun i hi => aX_0 (fun e => hi (by revert e; simp only [List.mem_cons, List.not_mem_nil, or_false]; (clear hi; lia)))⟩
theorem KAX_lo [Inhabited fz_] : KAX M (loX M p a b) := ⟨fun q hq => LoX_lo.1 q (fun e => hq (by rw [e]; decide)) (fun e => hq (by rw [e]; decide)), fun i hi => LoX_lo.2 i (fun e => hi (by revert e; simp only [List.mem_cons, List.not_mem_nil, or_false]; (clear hi; lia)))⟩
theorem KAX_ev [Inhabited fz_] : KAX M (evX M p a b c) := ⟨fun q hq => EvX_ev.1 q (fun e => hq (by rw [e]; decide)) (fun e => hq (by rw [e]; decide)), fun i hi => EvX_ev.2 i (fun e => hi (by rw [e]; decide)) (fun e => hi (by rw [e]; decide))⟩
theorem KAX_tr [Inhabited fz_] (h : KAX M M1) (g : KAX M1 M') : KAX M M' := ⟨fun q hq => (g.1 q hq).trans (h.1 q hq), fun i hi => (g.2 i hi).trans (h.2 i hi)⟩
theorem RU_10 [Inhabited fz_] (h : RU z M N) (hv : k = k) : RU z (up_ M 0 10 k) (up_ N 6 129 k) := by
  obtain ⟨r1, r2, r3, r4, r5⟩ := h
  have x : ∀ i : Int, i ≠ 10 → up_ M 0 10 k 0 i = M 0 i := fun i e => upo e
  have q : ∀ i : Int, i ≠ 129 → up_ N 6 129 k 6 i = N 6 i := fun i e => upo e
  refine ⟨RI_c r1 ⟨x 7 (by decide), x 8 (by decide)⟩ (fun q hq => up_ne (fun e => by rw [e] at hq; revert hq; decide)) (up_ne (by decide)) (q 19 (by decide)) (fun q hq => up_ne (fun e => by rw [e] at hq; revert hq; decide)), RRt_c r2 (up_ne (by decide)) (up_ne (by decide)) (up_ne (by decide)) (q 18 (by decide)), ?_, ROU_c r4 (fun i hi => x i (fun e => by rw [e] at hi; revert hi; decide)) (up_ne (by decide)) (fun i hi => q i (fun e => by rw [e] at hi; revert hi; decide)) (up_ne (by decide)), REV_c r5 (fun i hi => x i (fun e => by rw [e] at hi; revert hi; decide)) (up_ne (by decide)) (fun i hi => q i (fun e => by rw [e] at hi; revert hi; decide)) (up_ne (by decide))⟩
  unfold RSC at r3 ⊢
  rw [x 9 (by decide), x 25 (by decide), x 26 (by decide), x 27 (by decide), x 28 (by decide), x 29 (by decide), x 30 (by decide), x 31 (by decide), x 37 (by decide), x 38 (by decide), q 127 (by decide), q 128 (by decide), q 131 (by decide), q 132 (by decide), q 133 (by decide), q 134 (by decide), q 135 (by decide), q 136 (by decide), q 138 (by decide), q 139 (by decide), up_at, up_at]
  exact ⟨r3.1, r3.2.1, ⟨rfl, r3.2.2.1.2⟩, r3.2.2.2⟩
end GBa
end T359_gb
section T360_go
/-! the run: a signal goes on a route, walked (X 27 | Q 359) -/
def sdn (x : Int) : Int := w32 (w32 (x * 1103515245) + 12345)
/-- a route's delay -/
def RTF (M N : mm_) (r : Int) : Prop := ((M 84 r = 1 ∧ M 82 r = N 162 r ∧ M 83 r = N 163 r ∧ (0 ≤ N 162 r ∧ N 162 r ≤ 200) ∧ (0 ≤ N 163 r ∧ N 163 r ≤ 200)) ∨ (M 84 r = 0 ∧ M 82 r = 0 ∧ M 83 r = 0 ∧ N 162 r = -1 ∧ N 163 r = -1 ∧ M 85 r = 0)) ∧ (M 85 r = N 166 r ∧ (N 166 r = 0 ∨ N 166 r = 1)) ∧ M 82 r ≤ M 83 r
section GOa
variable {z : Int} {A M N M' N' M1 N1 : mm_} {q : Nat} {p d i r sg sn rc t t' a b c k ah v : Int}
theorem RTF_of [Inhabited fz_] (hP : PLr M N) (hr : 0 ≤ r ∧ r < N 6 18) : RTF M N r := by
  have h := hP.2.2.1 r hr.1 (by rw [tbN_6 (by decide)]; exact hr.2)
  obtain ⟨⟨_, _, _, h4, h5, h6⟩, _, _, h7⟩ := h
  rw [tbN_r (q := 162) (by decide) (by decide), tbN_r (q := 163) (by decide) (by decide), show swc M 117 = M 84 from swc_r (q := 84) (by decide) (by decide), show swc M 115 = M 82 from swc_r (q := 82) (by decide) (by decide), show swc M 116 = M 83 from swc_r (q := 83) (by decide) (by decide), show swc M 118 = M 85 from swc_r (q := 85) (by decide) (by decide)] at h4
  rw [tbN_r (q := 166) (by decide) (by decide), show swc M 118 = M 85 from swc_r (q := 85) (by decide) (by decide)] at h5
  rw [tbN_r (q := 166) (by decide) (by decide)] at h6
  rw [show swc M 115 = M 82 from swc_r (q := 82) (by decide) (by decide), show swc M 116 = M 83 from swc_r (q := 83) (by decide) (by decide)] at h7
  exact ⟨h4, ⟨h5, h6⟩, h7⟩
/-- the time on a route behind another one -/
def tmo (now d ah : Int) : Int := if (if now + d < 2000000000 then now + d else 2000000000) < ah then ah else (if now + d < 2000000000 then now + d else 2000000000)
theorem md_b [Inhabited fz_] {x m : Int} (hm : 1 ≤ m ∧ m ≤ 201) : 0 ≤ Int.tmod (us_ x 16) m ∧ Int.tmod (us_ x 16) m ≤ 200 := by
  have u := us_r x
  have := Int.tmod_nonneg m u.1
  have := Int.tmod_lt_of_pos (us_ x 16) (b := m) (by omega)
  omega
theorem q_71 [Inhabited fz_] {V : vv_} {Qr : qr_} {Qt : qt_} (hV : Cl_ wd0 (Tr_ wd0 pg0 0) V Qr Qt m_360) (hW : Wk_ V) (hn : 0 ≤ N 6 128 ∧ N 6 128 ≤ 2000000000) (hd : 0 ≤ d ∧ d ≤ 400) (ha : 0 ≤ ah ∧ ah ≤ 2000000000) (g : Qr [.inl (tmo (N 6 128) d ah)] N) : V 71 [rr 6, ii r, ii ah, ii d, none, none] [] N := b_360_71 (Tr_mono _) hV hW _ _ _ _ (by
  unfold tmo at g
  rw [w64_id (x := N 6 128 + d) (by omega) (by (clear hV hW ha g; omega))]
  by_cases c1 : N 6 128 + d ≤ 2000000000
  · rw [if_pos (by split; decide; split; decide; (clear hV hW hn hd ha g; omega))]
    have e : (if N 6 128 + d < 2000000000 then N 6 128 + d else 2000000000) = N 6 128 + d := by split <;> omega
    rw [e] at g
    by_cases c2 : N 6 128 + d < ah
    · rw [if_pos c2] at g ⊢; rw [if_pos (by decide)]; exact g
    · rw [if_neg c2] at g ⊢; rw [if_neg (by split <;> decide), w32_id (x := N 6 128 + d) (by (clear hV hW hn hd g c1; lia)) (by omega)]; exact g
  · rw [if_neg (by rw [if_neg (by omega), if_neg (by omega)]; decide)]
    rw [if_neg (c := N 6 128 + d < 2000000000) (by omega), if_neg (by omega)] at g
    rw [if_neg (by rw [if_neg (by omega)]; split <;> decide), w32_id (x := 2000000000) (by decide) (by decide)]; exact g)
/-- Q: the time on a route -/
theorem q_360 [Inhabited fz_] (hr : 0 ≤ r ∧ r < 10) (hF : RTF M N r) (hn : 0 ≤ N 6 128 ∧ N 6 128 ≤ 2000000000) (ha : 0 ≤ ah ∧ ah ≤ 2000000000) : ∃ d, (0 ≤ d ∧ d ≤ 400) ∧ (d = if M 85 r = 0 then M 82 r else w32 (M 82 r + Int.tmod (us_ (sdn (N 6 129)) 16) (w32 (w32 (M 83 r - M 82 r) + 1)))) ∧ Ex_ 1 360 [.inr (.inr 6), .inl r, .inl ah] N [.inl (tmo (N 6 128) d ah)] (if M 85 r = 0 then N else up_ N 6 129 (sdn (N 6 129))) := by
  obtain ⟨h4, ⟨h5, h6⟩, h7⟩ := hF
  have st : ∀ (Qr : qr_) (Qt : qt_), (∀ V : vv_, Cl_ wd0 (Tr_ wd0 pg0 0) V Qr Qt m_360 → Wk_ V → V 20 [rr 6, ii r, ii ah, ii (M 82 r), none, none] [] N) → Tr_ wd0 pg0 1 360 [.inr (.inr 6), .inl r, .inl ah] N Qr Qt := fun Qr Qt h => t_360 fun V hV hW => b_360_0 (Tr_mono _) hV hW _ _ _ (by
    have h' := h V hV hW
    refine ⟨hr, ?_⟩
    by_cases c : N 162 r < 0
    · rw [if_pos c]; rw [show M 82 r = 0 by (clear hr hn ha h7 h5 h hV hW h'; lia)] at h'; exact h'
    · rw [if_neg c]; rw [show M 82 r = N 162 r by (clear hr hn ha h7 h5 h hV hW h'; omega)] at h'; exact ⟨hr, h'⟩)
  by_cases c : M 85 r = 0
  · rw [if_pos c, if_pos c]
    refine ⟨M 82 r, by omega, rfl, fun Qr Qt g => st Qr Qt fun V hV hW => b_360_20 (Tr_mono _) hV hW _ _ _ _ ⟨hr, fun _ => ?_⟩⟩
    rw [if_pos (by (clear hr hn ha h4 h7 h6 st g hV hW; lia))]
    exact q_71 hV hW hn (by omega) ha g
  · rw [if_neg c, if_neg c]
    have m := md_b (x := sdn (N 6 129)) (m := M 83 r - M 82 r + 1) (by (clear hr hn ha st; lia))
    have e1 : w32 (w32 (M 83 r - M 82 r) + 1) = M 83 r - M 82 r + 1 := by rw [w32_id (x := M 83 r - M 82 r) (by omega) (by (clear hr hn ha h7 st m; lia)), w32_id (by omega) (by (clear hr hn ha h7 st m; omega))]
    rw [e1]
    refine ⟨_, ?_, rfl, fun Qr Qt g => st Qr Qt fun V hV hW => b_360_20 (Tr_mono _) hV hW _ _ _ _ ⟨hr, fun _ => ?_⟩⟩
    · rw [w32_id (by omega) (by omega)]; omega
    · rw [if_neg (by (clear hr hn ha h4 h7 h6 st m e1 g hV hW; lia)), show N 163 r = M 83 r by (clear hr hn ha h7 st m g hV hW; lia), show N 162 r = M 82 r by (clear hr hn ha h7 st m e1 g hV hW; lia), e1, show w32 (w32 (N 6 129 * 1103515245) + 12345) = sdn (N 6 129) from rfl]
      refine ⟨hr, hr, by omega, ?_⟩
      refine q_71 hV hW (by rw [upo (by decide)]; exact hn) (by rw [w32_id (by omega) (by omega)]; omega) ha (by rw [upo (by decide)]; exact g)
/-- X: behind the delay -/
theorem x_135 [Inhabited fz_] {V : vv_} {Qr : qr_} {Qt : qt_} (hV : Cl_ wd0 (Tr_ wd0 pg0 4) V Qr Qt m_27) (hW : Wk_ V) (h : RU z M N) (hr : 0 ≤ r ∧ r < N 6 18) (hn : M 21 r < 6) (hd : 0 ≤ d ∧ d ≤ 400) (g : Qr [] (psX M r sg sn rc (tmo (M 0 9) d (if M 21 r ≤ 0 then 0 else M 22 (42 * r + 7 * (M 21 r - 1) + 3))) a b c)) : V 135 [rr 0, ii r, ii sg, ii sn, ii rc, ii a, ii b, ii c, ii d, none, none] [] M := by
  have h10 := h.2.1.1
  have nw := h.2.2.1.2.1
  obtain ⟨o1, o4, o5⟩ := h.2.1.2.1 r hr.1 hr.2
  have k184 : ∀ t, t = tmo (M 0 9) d (if M 21 r ≤ 0 then 0 else M 22 (42 * r + 7 * (M 21 r - 1) + 3)) → V 184 [rr 0, ii r, ii sg, ii sn, ii rc, ii a, ii b, ii c, ii d, ii t, none] [] M := fun t ht => b_27_184 (Tr_mono _) hV hW _ _ _ _ _ _ _ _ _ _ ⟨by omega, Ex_le (d := 1) (by decide) (x_2 (a := M 21 r) (by omega) (by omega)) _ _ (ri_i (by
    rw [w32_id (x := 42 * r + 7 * M 21 r + 1) (by omega) (by omega), w32_id (x := 42 * r + 7 * M 21 r + 2) (by omega) (by (clear hV hW h hd g nw o4 o5 ht; lia)), w32_id (x := 42 * r + 7 * M 21 r + 3) (by omega) (by (clear hV hW h hd g nw o4 o5 ht; omega)), w32_id (x := 42 * r + 7 * M 21 r + 4) (by (clear hV hW h hd g h10 nw o4 o5 ht; lia)) (by omega), w32_id (x := 42 * r + 7 * M 21 r + 5) (by omega) (by omega), w32_id (x := 42 * r + 7 * M 21 r + 6) (by omega) (by (clear hV hW h hd g nw o4 o5 ht; lia)), w32_id (x := M 21 r + 1) (by (clear hV hW h hr hd g h10 nw o4 o5 ht; lia)) (by omega), ht]
    exact ⟨by (clear hV hW h hd g nw o4 o5 ht; lia), by omega, by (clear hV hW h hd g nw o4 o5 ht; lia), by omega, by (clear hV hW h hd g nw o4 o5 ht; lia), by omega, by omega, by omega, by omega, g⟩))⟩
  refine b_27_135 (Tr_mono _) hV hW _ _ _ _ _ _ _ _ _ ⟨by (clear hV hW h hn hd g nw o1 o4 o5 k184; lia), ?_⟩
  rw [w32_id (x := M 0 9 + d) (by omega) (by omega)]
  by_cases c1 : M 21 r ≤ 0
  · rw [if_pos c1]
    refine k184 _ ?_
    rw [if_pos c1]; unfold tmo
    generalize hq : (if M 0 9 + d < 2000000000 then M 0 9 + d else 2000000000) = y
    rw [if_neg (by split at hq <;> (clear hV hW h hr hn g h10 o1 o4 o5 k184 c1; omega))]
  · rw [if_neg c1, w32_id (x := M 21 r - 1) (by omega) (by omega)]
    refine ⟨by omega, Ex_le (d := 1) (by decide) (x_2 (a := M 21 r - 1) (by omega) (by omega)) _ _ (ri_i ?_)⟩
    rw [w32_id (x := 42 * r + 7 * (M 21 r - 1) + 3) (by (clear hV hW h hd g h10 nw o4 o5 k184; lia)) (by omega)]
    refine ⟨by (clear hV hW h hd g nw o4 o5 k184; lia), k184 _ ?_⟩
    rw [if_neg c1]; rfl
/-- Q: the values -/
theorem q_155 [Inhabited fz_] {V : vv_} {Qr : qr_} {Qt : qt_} (hV : Cl_ wd0 (Tr_ wd0 pg0 3) V Qr Qt m_359) (hW : Wk_ V) (hr : 0 ≤ r ∧ r < 10) (hn : 0 ≤ k ∧ k < 6) (h0 : N 239 (sR r) = k) (g : Qr [] (psQ N r sg sn rc t)) : V 155 [rr 6, ii r, ii sg, ii sn, ii rc, ii (sR r), ii (sR r + 1 + 7 * k), ii 0] [] (up_ (up_ (up_ (up_ N 239 (sR r + 1 + 7 * k) sg) 239 (sR r + 1 + 7 * k + 1) sn) 239 (sR r + 1 + 7 * k + 2) rc) 239 (sR r + 1 + 7 * k + 3) t) := by
  have hR : sR r = 674 + 43 * r := rfl
  refine b_359_155 (Tr_mono _) hV hW _ _ _ _ _ _ _ _ ?_
  rw [if_pos (by decide), w32_id (x := sR r + 1 + 7 * k + 4) (by (clear hV hW g; omega)) (by omega), w32_id (x := sR r + 1 + 7 * k + 4 + 0) (by (clear hV hW g; lia)) (by omega), show w32 (0 + 1) = 1 from w32_id (by decide) (by decide)]
  refine ⟨by decide, by omega, b_359_155 (Tr_mono _) hV hW _ _ _ _ _ _ _ _ ?_⟩
  rw [if_pos (by decide), w32_id (x := sR r + 1 + 7 * k + 4) (by omega) (by omega), w32_id (x := sR r + 1 + 7 * k + 4 + 1) (by omega) (by omega), show w32 (1 + 1) = 2 from w32_id (by decide) (by decide)]
  refine ⟨by decide, by omega, b_359_155 (Tr_mono _) hV hW _ _ _ _ _ _ _ _ ?_⟩
  rw [if_pos (by decide), w32_id (x := sR r + 1 + 7 * k + 4) (by omega) (by omega), w32_id (x := sR r + 1 + 7 * k + 4 + 2) (by omega) (by (clear hV hW g; lia)), show w32 (2 + 1) = 3 from w32_id (by decide) (by decide)]
  refine ⟨by decide, by omega, b_359_155 (Tr_mono _) hV hW _ _ _ _ _ _ _ _ ?_⟩
  rw [if_neg (by decide)]
  unfold psQ u7 at g
  rw [h0] at g
  have n2 : ∀ (B : mm_) (i v : Int), up_ B 239 i v 242 = B 242 := fun B i v => up_ne (by decide)
  rw [n2, n2, n2, n2, n2, n2, n2, n2, n2, n2, n2, n2, n2, n2, n2, Int.add_zero, upo (i := sR r + 1 + 7 * k + 4 + 2) (by omega), upo (i := sR r + 1 + 7 * k + 4 + 1) (by (clear hV hW hr hn g hR n2; lia)), upo (i := sR r + 1 + 7 * k + 4) (by omega), upo (i := sR r + 1 + 7 * k + 3) (by (clear hV hW hr hn g hR n2; lia)), upo (i := sR r + 1 + 7 * k + 2) (by (clear hV hW hr hn g hR n2; lia)), upo (i := sR r + 1 + 7 * k + 1) (by (clear hV hW hr hn g hR n2; lia)), upo (i := sR r + 1 + 7 * k) (by (clear hV hW hr hn g hR n2; lia)), h0, w32_id (x := k + 1) (by (clear hV hW hr g hR n2; lia)) (by omega), show sR r + 1 + 7 * k + 4 + 1 = sR r + 1 + 7 * k + 5 by (clear hV hW hr hn h0 g hR n2; lia), show sR r + 1 + 7 * k + 4 + 2 = sR r + 1 + 7 * k + 6 by (clear hV hW hr hn h0 g hR n2; lia)]
  exact ⟨by omega, by omega, g⟩
end GOa
end T360_go
section T361_gw
/-! the run: a signal goes on a route, whole (X 27 | Q 359) -/
section GWx
variable {z : Int} {M N M' N' M1 N1 : mm_} {q : Nat} {p d i r sg sn rc t t' a b c k ah v : Int}
theorem upc [Inhabited fz_] {r r' : Nat} {j w : Int} (h : r ≠ r') : up_ (up_ M r i v) r' j w = up_ (up_ M r' j w) r i v := by
  funext q x
  simp only [ua_]
  by_cases c1 : q = r'
  · subst c1
    simp only [if_true, Ne.symm h, if_false]
  · by_cases c2 : q = r
    · subst c2; simp only [if_true, c1, if_false]
    · simp only [c1, c2, if_false]
theorem tmo_b [Inhabited fz_] {now d ah : Int} (hn : 0 ≤ now ∧ now ≤ 2000000000) (hd : 0 ≤ d ∧ d ≤ 400) (ha : 0 ≤ ah ∧ ah ≤ 2000000000) : 0 ≤ tmo now d ah ∧ tmo now d ah ≤ 2000000000 := by
  unfold tmo
  generalize hq : (if now + d < 2000000000 then now + d else 2000000000) = y
  have : 0 ≤ y ∧ y ≤ 2000000000 := by split at hq <;> omega
  split <;> omega
theorem j_27 [Inhabited fz_] (h : RU z M N) (hP : PLr M N) (hr : 0 ≤ r ∧ r < N 6 18) (hg : N 242 0 = a ∧ N 242 1 = b ∧ N 242 2 = c) : ∃ M' N', Ex_ 5 27 [.inr (.inr 0), .inl r, .inl sg, .inl sn, .inl rc, .inl a, .inl b, .inl c] M [] M' ∧ Ex_ 4 359 [.inr (.inr 6), .inl r, .inl sg, .inl sn, .inl rc] N [] N' ∧ RU z M' N' ∧ (TYA N → SGV N sg (N 242) → R32 sn → R32 rc → TYA N') ∧ (XRF M M' ∧ QRF N N') ∧ KAX M M' := by
  have hF := RTF_of hP hr
  obtain ⟨h4, ⟨h5, h6⟩, h7⟩ := id hF
  have h10 := h.2.1.1
  have hR : sR r = 674 + 43 * r := rfl
  obtain ⟨⟨o1, o2, o3⟩, o4, o5⟩ := h.2.1.2.1 r hr.1 hr.2
  have nw := h.2.2.1.2.1
  have zz := h.2.2.1.1
  by_cases cA : M 84 r = 0 ∧ M 21 r = 0
  · refine ⟨aX M sg sn rc a b c, aQ N sg sn rc, fun Qr Qt g => t_27 fun V hV hW => b_27_0 (Tr_mono _) hV hW _ _ _ _ _ _ _ _ ⟨by omega, fun _ => ?_⟩, fun Qr Qt g => t_359 fun V hV hW => b_359_0 (Tr_mono _) hV hW _ _ _ _ _ (Ex_le (d := 1) (by decide) (q_327 (by omega)) _ _ (ri_i ⟨by omega, ?_⟩)), RU_a h hg, fun hA hs hsn _ => TYA_a h hA hs hsn, ⟨XRF_a, QRF_a⟩, KAX_a⟩
    · rw [if_pos cA.1, if_pos cA.2]; exact ⟨by omega, x_4 h _ _ (rv_i g)⟩
    · rw [if_pos (by (clear h hP hr hg hF h7 h5 h10 hR o1 o2 o3 o4 o5 nw g hV hW; omega)), if_pos (by (clear h hP hr hg hF h4 h7 h5 h6 h10 hR o1 o2 o4 o5 nw zz g hV hW; lia))]; exact ⟨by (clear h hP hg hF h4 h7 h5 h6 o1 o2 o3 o4 o5 nw zz cA g hV hW; omega), q_329 h _ _ (rv_i g)⟩
  · have x36 : ∀ (Qr : qr_) (Qt : qt_), (∀ V : vv_, Cl_ wd0 (Tr_ wd0 pg0 4) V Qr Qt m_27 → Wk_ V → V 36 [rr 0, ii r, ii sg, ii sn, ii rc, ii a, ii b, ii c, none, none, none] [] M) → Tr_ wd0 pg0 5 27 [.inr (.inr 0), .inl r, .inl sg, .inl sn, .inl rc, .inl a, .inl b, .inl c] M Qr Qt := fun Qr Qt g => t_27 fun V hV hW => b_27_0 (Tr_mono _) hV hW _ _ _ _ _ _ _ _ ⟨by omega, fun _ => by
      have g' := g V hV hW
      by_cases c1 : M 84 r = 0
      · rw [if_pos c1, if_neg (by (clear h hP hr hg hF h4 h7 h5 h6 h10 hR o1 o2 o4 o5 nw zz g hV hW g'; lia))]; exact ⟨by omega, g'⟩
      · rw [if_neg c1]; exact g'⟩
    have q34 : ∀ (Qr : qr_) (Qt : qt_), (∀ V : vv_, Cl_ wd0 (Tr_ wd0 pg0 3) V Qr Qt m_359 → Wk_ V → V 34 [rr 6, ii r, ii sg, ii sn, ii rc, ii (sR r), none, none] [] N) → Tr_ wd0 pg0 4 359 [.inr (.inr 6), .inl r, .inl sg, .inl sn, .inl rc] N Qr Qt := fun Qr Qt g => t_359 fun V hV hW => b_359_0 (Tr_mono _) hV hW _ _ _ _ _ (Ex_le (d := 1) (by decide) (q_327 (by omega)) _ _ (ri_i ⟨by omega, by
      have g' := g V hV hW
      by_cases c1 : N 162 r < 0
      · rw [if_pos c1, if_neg (by (clear h hP hr hg hF h7 h5 h10 hR o1 o2 o4 o5 nw x36 g hV hW g'; lia))]; exact ⟨by omega, g'⟩
      · rw [if_neg c1]; exact g'⟩))
    by_cases c6 : M 21 r = 6
    · refine ⟨loX M rc sg sn, loQ N rc sg sn, fun Qr Qt g => x36 Qr Qt fun V hV hW => b_27_36 (Tr_mono _) hV hW _ _ _ _ _ _ _ _ ⟨by omega, ?_⟩, fun Qr Qt g => q34 Qr Qt fun V hV hW => b_359_34 (Tr_mono _) hV hW _ _ _ _ _ _ ⟨by omega, ?_⟩, RU_lo h, fun hA _ _ _ => TYA_lo hA, ⟨XRF_lo, QRF_lo⟩, KAX_lo⟩
      · rw [if_pos c6]; exact Ex_le (d := 2) (by decide) (x_7 h) _ _ (rv_i g)
      · rw [if_pos (by (clear h hP hr hg hF h4 h7 h5 h6 h10 hR o1 o2 o4 o5 nw zz cA x36 q34 g hV hW; lia))]; exact Ex_le (d := 2) (by decide) (q_333 h) _ _ (rv_i g)
    · have n6 : M 21 r < 6 := by (clear h hP hr hg hF h4 h7 h5 h6 h10 hR o4 o5 nw zz cA x36 q34; lia)
      have w1 : w32 (sR r + 1) = sR r + 1 := w32_id (by (clear h hP hg hF h4 h7 h5 h6 h10 o1 o2 o3 o4 o5 nw zz cA x36 q34 c6 n6; omega)) (by (clear h hP hg hF h4 h7 h5 h6 o1 o2 o3 o4 o5 nw zz cA x36 q34 c6 n6; lia))
      have w2 : w32 (7 * M 21 r) = 7 * M 21 r := w32_id (by (clear h hP hr hg hF h4 h7 h5 h6 h10 hR o4 o5 nw zz cA x36 q34 c6 w1; lia)) (by (clear h hP hr hg hF h4 h7 h5 h6 h10 hR o4 o5 nw zz cA x36 q34 c6 w1; lia))
      have w3 : w32 (sR r + 1 + 7 * M 21 r) = sR r + 1 + 7 * M 21 r := w32_id (by (clear h hP hg hF h4 h7 h5 h6 h10 o4 o5 nw zz cA x36 q34 c6 w1 w2; lia)) (by (clear h hP hg hF h4 h7 h5 h6 o4 o5 nw zz cA x36 q34 c6 w1 w2; lia))
      have w4 : w32 (sR r + 1 + 7 * M 21 r + 1) = sR r + 1 + 7 * M 21 r + 1 := w32_id (by (clear h hP hg hF h4 h7 h5 h6 h10 o4 o5 nw zz cA x36 q34 c6 w1 w2 w3; lia)) (by (clear h hP hg hF h4 h7 h5 h6 o4 o5 nw zz cA x36 q34 c6 w1 w2 w3; lia))
      have w5 : w32 (sR r + 1 + 7 * M 21 r + 2) = sR r + 1 + 7 * M 21 r + 2 := w32_id (by (clear h hP hg hF h4 h7 h5 h6 h10 o4 o5 nw zz cA x36 q34 c6 w1 w2 w3 w4; lia)) (by (clear h hP hg hF h4 h7 h5 h6 o4 o5 nw zz cA x36 q34 c6 w1 w2 w3 w4; lia))
      have w6 : w32 (sR r + 1 + 7 * M 21 r + 3) = sR r + 1 + 7 * M 21 r + 3 := w32_id (by (clear h hP hg hF h4 h7 h5 h6 h10 o4 o5 nw zz cA x36 q34 c6 w1 w2 w3 w4 w5; lia)) (by (clear h hP hg hF h4 h7 h5 h6 o4 o5 nw zz cA x36 q34 c6 w1 w2 w3 w4 w5; omega))
      rcases zz.2.2 with cz | cz
      · -- with times
        generalize hah : (if M 21 r ≤ 0 then 0 else M 22 (42 * r + 7 * (M 21 r - 1) + 3)) = ah
        have ahb : 0 ≤ ah ∧ ah ≤ 2000000000 := by
          split at hah
          · (clear h hP hr hg hF h4 h7 h5 h6 h10 hR o1 o2 o3 o4 o5 nw zz cA x36 q34 c6 n6 w1 w2 w3 w4 w5 w6 cz; lia)
          · have := (o4 (M 21 r - 1) (by (clear h hP hr hg hF h4 h7 h5 h6 h10 hR o4 o5 nw zz cA x36 q34 c6 w1 w2 w3 w4 w5 w6 cz hah; lia)) (by omega)).2.1; (clear h hP hr hg hF h4 h7 h5 h6 h10 hR o1 o2 o3 o4 o5 nw zz cA x36 q34 c6 n6 w1 w2 w3 w4 w5 w6 cz; omega)
        have e129 : N 6 129 = M 0 10 := h.2.2.1.2.2.1.1.symm
        have F3 : ∀ (B : mm_) (i v : Int), RTF M B r → RTF M (up_ B 239 i v) r := fun B i v hB => by unfold RTF at hB ⊢; rw [up_ne (by decide), up_ne (by decide), up_ne (by decide)]; exact hB
        generalize hB : up_ (up_ (up_ N 239 (sR r + 1 + 7 * M 21 r) sg) 239 (sR r + 1 + 7 * M 21 r + 1) sn) 239 (sR r + 1 + 7 * M 21 r + 2) rc = B
        have B6 : B 6 = N 6 := by rw [← hB, up_ne (by decide), up_ne (by decide), up_ne (by decide)]
        obtain ⟨d, d0, d1, q36⟩ := q_360 (N := B) (ah := ah) (r := r) (by omega) (by rw [← hB]; exact F3 _ _ _ (F3 _ _ _ (F3 _ _ _ hF))) (by rw [B6]; (clear h hP hr hg hF h4 h7 h5 h6 h10 hR o1 o2 o3 o4 o5 zz cA x36 q34 c6 n6 w1 w2 w3 w4 w5 w6 cz hah ahb e129 F3 hB B6; omega)) ahb
        rw [B6, e129, ← nw.1] at q36
        rw [B6, e129] at d1
        have tb := tmo_b (now := M 0 9) (by (clear h hP hr hg hF h4 h7 h5 h6 h10 hR o1 o2 o3 o4 o5 zz cA x36 q34 c6 n6 w1 w2 w3 w4 w5 w6 cz hah ahb e129 F3 hB B6 d0 d1 q36; lia)) d0 ahb
        -- Q up to the time
        have qw : ∀ (Qr : qr_) (Qt : qt_) (V : vv_), Cl_ wd0 (Tr_ wd0 pg0 3) V Qr Qt m_359 → Wk_ V → V 155 [rr 6, ii r, ii sg, ii sn, ii rc, ii (sR r), ii (sR r + 1 + 7 * M 21 r), ii 0] [] (up_ (if M 85 r = 0 then B else up_ B 6 129 (sdn (M 0 10))) 239 (sR r + 1 + 7 * M 21 r + 3) (tmo (M 0 9) d ah)) → V 34 [rr 6, ii r, ii sg, ii sn, ii rc, ii (sR r), none, none] [] N := fun Qr Qt V hV hW g => b_359_34 (Tr_mono _) hV hW _ _ _ _ _ _ ⟨by (clear h hP hg hF h4 h7 h5 h6 o1 o2 o3 o4 o5 nw zz cA x36 q34 c6 n6 w1 w2 w3 w4 w5 w6 cz hah ahb e129 F3 hB B6 d0 d1 q36 tb hV hW g; omega), by
          rw [o3, if_neg c6, w1, w2, w3, w4, w5, w6, hB]
          refine ⟨by (clear h hP hg hF h4 h7 h5 h6 o1 o2 o3 o4 o5 nw zz cA x36 q34 c6 n6 w1 w2 w3 w4 w5 w6 cz hah ahb e129 F3 hB B6 d0 d1 q36 tb hV hW g; lia), by (clear h hP hg hF h4 h7 h5 h6 o4 o5 nw zz cA x36 q34 c6 w1 w2 w3 w4 w5 w6 cz hah ahb e129 F3 hB B6 d0 d1 q36 tb hV hW g; lia), by (clear h hP hg hF h4 h7 h5 h6 o4 o5 nw zz cA x36 q34 c6 w1 w2 w3 w4 w5 w6 cz hah ahb e129 F3 hB B6 d0 d1 q36 tb hV hW g; lia), by (clear h hP hg hF h4 h7 h5 h6 o4 o5 nw zz cA x36 q34 c6 w1 w2 w3 w4 w5 w6 cz hah ahb e129 F3 hB B6 d0 d1 q36 tb hV hW g; lia), fun _ => ?_⟩
          rw [zz.2.1, if_pos cz]
          have b0 : B 239 (sR r) = M 21 r := by rw [← hB, upo (by (clear h hP hr hg hF h4 h7 h5 h6 h10 hR o1 o2 o4 o5 nw zz cA x36 q34 c6 n6 w1 w2 w3 w4 w5 w6 cz hah ahb e129 F3 hB B6 d0 d1 q36 tb hV hW g; lia)), upo (by (clear h hP hr hg hF h4 h7 h5 h6 h10 hR o1 o2 o4 o5 nw zz cA x36 q34 c6 n6 w1 w2 w3 w4 w5 w6 cz hah ahb e129 F3 hB B6 d0 d1 q36 tb hV hW g; lia)), upo (by (clear h hP hr hg hF h4 h7 h5 h6 h10 hR o1 o2 o4 o5 nw zz cA x36 q34 c6 n6 w1 w2 w3 w4 w5 w6 cz hah ahb e129 F3 hB B6 d0 d1 q36 tb hV hW g; lia))]; exact o3
          rw [b0]
          refine ⟨by (clear h hP hg hF h4 h7 h5 h6 o1 o2 o3 o4 o5 nw zz cA x36 q34 c6 n6 w1 w2 w3 w4 w5 w6 cz hah ahb e129 F3 hB B6 d0 d1 q36 tb hV hW g b0; omega), ?_⟩
          by_cases c0 : M 21 r ≤ 0
          · rw [if_pos c0] at hah ⊢
            rw [← hah] at q36 g
            exact Ex_le (d := 1) (by decide) q36 _ _ (ri_i ⟨by (clear h hP hg hF h4 h7 h5 h6 o4 o5 nw zz cA x36 q34 c6 w1 w2 w3 w4 w5 w6 cz hah ahb e129 F3 hB B6 d0 d1 q36 tb hV hW g; lia), g⟩)
          · rw [if_neg c0] at hah ⊢
            have e3 : w32 (w32 (sR r + 1 + 7 * M 21 r - 7) + 3) = sR r + 1 + 7 * (M 21 r - 1) + 3 := by rw [w32_id (x := sR r + 1 + 7 * M 21 r - 7) (by (clear h hP hg hF h4 h7 h5 h6 h10 o4 o5 nw zz cA x36 q34 c6 w1 w2 w3 w4 w5 w6 cz hah ahb e129 F3 hB B6 d0 d1 q36 tb hV hW g; lia)) (by (clear h hP hg hF h4 h7 h5 h6 o4 o5 nw zz cA x36 q34 c6 w1 w2 w3 w4 w5 w6 cz hah ahb e129 F3 hB B6 d0 d1 q36 tb hV hW g; lia)), w32_id (by (clear h hP hg hF h4 h7 h5 h6 h10 o4 o5 nw zz cA x36 q34 c6 w1 w2 w3 w4 w5 w6 cz hah ahb e129 F3 hB B6 d0 d1 q36 tb hV hW g; lia)) (by (clear h hP hg hF h4 h7 h5 h6 o4 o5 nw zz cA x36 q34 c6 w1 w2 w3 w4 w5 w6 cz hah ahb e129 F3 hB B6 d0 d1 q36 tb hV hW g; lia))]; (clear h hP hr hg hF h4 h7 h5 h6 h10 hR o1 o2 o3 o4 o5 nw zz cA x36 q34 c6 n6 w1 w2 w3 w4 w5 w6 cz hah ahb e129 F3 hB B6 d0 d1 q36 tb hV hW g b0 c0; lia)
            rw [e3]
            have ea : B 239 (sR r + 1 + 7 * (M 21 r - 1) + 3) = ah := by
              rw [← hB, upo (by (clear h hP hr hg hF h4 h7 h5 h6 h10 hR o1 o2 o3 o4 o5 nw zz cA x36 q34 c6 n6 w1 w2 w3 w4 w5 w6 cz hah ahb e129 F3 hB B6 d0 d1 q36 tb hV hW g b0 c0 e3; lia)), upo (by (clear h hP hr hg hF h4 h7 h5 h6 h10 hR o1 o2 o3 o4 o5 nw zz cA x36 q34 c6 n6 w1 w2 w3 w4 w5 w6 cz hah ahb e129 F3 hB B6 d0 d1 q36 tb hV hW g b0 c0 e3; lia)), upo (by (clear h hP hr hg hF h4 h7 h5 h6 h10 hR o1 o2 o3 o4 o5 nw zz cA x36 q34 c6 n6 w1 w2 w3 w4 w5 w6 cz hah ahb e129 F3 hB B6 d0 d1 q36 tb hV hW g b0 c0 e3; lia)), ← hah]
              exact ((o4 (M 21 r - 1) (by (clear h hP hr hg hF h4 h7 h5 h6 h10 hR o4 o5 nw zz cA x36 q34 c6 w1 w2 w3 w4 w5 w6 cz hah ahb e129 F3 hB B6 d0 d1 q36 tb hV hW g e3; lia)) (by (clear h hP hr hg hF h4 h7 h5 h6 h10 hR o1 o2 o3 o4 o5 nw zz cA x36 q34 c6 n6 w1 w2 w3 w4 w5 w6 cz hah ahb e129 F3 hB B6 d0 d1 q36 tb hV hW g b0 c0 e3; lia))).2.2.1 cz).symm
            rw [ea]
            exact ⟨by (clear h hP hg hF h4 h7 h5 h6 o4 o5 nw zz cA x36 q34 c6 w1 w2 w3 w4 w5 w6 cz hah ahb e129 F3 hB B6 d0 d1 q36 tb hV hW g e3 ea; lia), Ex_le (d := 1) (by decide) q36 _ _ (ri_i ⟨by (clear h hP hg hF h4 h7 h5 h6 o4 o5 nw zz cA x36 q34 c6 w1 w2 w3 w4 w5 w6 cz hah ahb e129 F3 hB B6 d0 d1 q36 tb hV hW g e3 ea; lia), g⟩)⟩⟩
        by_cases c85 : M 85 r = 0
        · rw [if_pos c85] at d1
          refine ⟨psX M r sg sn rc (tmo (M 0 9) d ah) a b c, psQ N r sg sn rc (tmo (M 0 9) d ah), fun Qr Qt g => x36 Qr Qt fun V hV hW => b_27_36 (Tr_mono _) hV hW _ _ _ _ _ _ _ _ ⟨by (clear h hP hg hF h4 h7 h5 h6 hR o1 o2 o3 o4 o5 nw zz cA x36 q34 c6 n6 w1 w2 w3 w4 w5 w6 cz hah ahb e129 F3 hB B6 d0 d1 q36 tb qw c85 g hV hW; omega), ?_⟩, fun Qr Qt g => q34 Qr Qt fun V hV hW => qw Qr Qt V hV hW ?_, RU_ps h hr n6 hg tb (.inl ⟨cz, rfl⟩), fun hA hs hsn hrc => TYA_ps h hA hr n6 hs hsn hrc (by unfold R32; (clear h hP hr hg hF h4 h7 h5 h6 h10 hR o1 o2 o3 o4 o5 nw zz cA x36 q34 c6 n6 w1 w2 w3 w4 w5 w6 cz hah ahb e129 F3 hB B6 d0 d1 q36 qw c85 hA hs hsn hrc; omega)), ⟨XRF_ps, QRF_ps⟩, KAX_ps⟩
          · rw [if_neg c6]
            refine ⟨by omega, by omega, fun _ => ?_⟩
            rw [if_pos c85, ← d1]
            exact x_135 hV hW h hr n6 d0 (by rw [hah]; exact g)
          · rw [if_pos c85, ← hB]
            exact q_155 hV hW (by omega) (by omega) o3 g
        · rw [if_neg c85] at d1
          have h1 := RU_10 (k := sdn (M 0 10)) h rfl
          have xo : ∀ q : Nat, q ≠ 0 → up_ M 0 10 (sdn (M 0 10)) q = M q := fun q e => up_ne e
          have qo : ∀ q : Nat, q ≠ 6 → up_ N 6 129 (sdn (M 0 10)) q = N q := fun q e => up_ne e
          have fx : XRF M (up_ M 0 10 (sdn (M 0 10))) := XRF_up (by decide) (fun _ => by decide)
          have fq : QRF N (up_ N 6 129 (sdn (M 0 10))) := QRF_up (by decide) (fun _ => by decide)
          have hr1 : 0 ≤ r ∧ r < up_ N 6 129 (sdn (M 0 10)) 6 18 := by rw [upo (by decide)]; exact hr
          have n61 : up_ M 0 10 (sdn (M 0 10)) 21 r < 6 := by rw [xo 21 (by decide)]; exact n6
          refine ⟨psX (up_ M 0 10 (sdn (M 0 10))) r sg sn rc (tmo (M 0 9) d ah) a b c, psQ (up_ N 6 129 (sdn (M 0 10))) r sg sn rc (tmo (M 0 9) d ah), fun Qr Qt g => x36 Qr Qt fun V hV hW => b_27_36 (Tr_mono _) hV hW _ _ _ _ _ _ _ _ ⟨by (clear h hP hg hF h4 h7 h5 h6 hR o1 o2 o3 o4 o5 nw zz cA x36 q34 c6 n6 w1 w2 w3 w4 w5 w6 cz hah ahb e129 F3 hB B6 d0 d1 q36 tb qw c85 h1 xo qo fx fq hr1 n61 g hV hW; omega), ?_⟩, fun Qr Qt g => q34 Qr Qt fun V hV hW => qw Qr Qt V hV hW ?_, RU_ps h1 hr1 n61 (by rw [qo 242 (by decide)]; exact hg) tb (.inl ⟨cz, rfl⟩), fun hA hs hsn hrc => TYA_ps h1 (TYA_c hA (TYT_Q fq) (qo 239 (by decide))) hr1 n61 (SGV_c hs (TYT_Q fq) (fun v _ _ => by rw [qo 242 (by decide)])) hsn hrc (by unfold R32; omega), ⟨XRF_tr fx XRF_ps, QRF_tr fq QRF_ps⟩, KAX_tr ⟨fun q hq => xo q (fun e => hq (by rw [e]; decide)), fun i hi => upo (fun e => hi (by rw [e]; decide))⟩ KAX_ps⟩
          · rw [if_neg c6]
            refine ⟨by omega, by omega, fun _ => ?_⟩
            rw [if_neg c85]
            refine fun _ => ?_
            rw [if_pos (by (clear h hP hr hg hF h4 h7 h5 h6 h10 hR o1 o2 o3 o4 o5 nw cA x36 q34 c6 n6 w1 w2 w3 w4 w5 w6 hah ahb e129 F3 hB B6 d0 d1 q36 tb qw c85 h1 xo qo fx fq hr1 n61 g hV hW; lia)), show w32 (w32 (M 0 10 * 1103515245) + 12345) = sdn (M 0 10) from rfl, ← d1]
            refine ⟨by (clear h hP hg hF h4 h7 h5 h6 hR o1 o2 o3 o4 o5 nw zz cA x36 q34 c6 n6 w1 w2 w3 w4 w5 w6 cz hah ahb e129 F3 hB B6 d0 d1 q36 tb qw c85 h1 xo qo fx fq hr1 n61 g hV hW; omega), by omega, ?_, ?_⟩
            · rw [w32_id (x := M 83 r - M 82 r) (by omega) (by (clear h hP hr hg hF h7 h10 hR o4 o5 nw x36 q34 w1 w2 w3 w4 w5 w6 hah ahb e129 F3 hB B6 d0 d1 q36 tb qw h1 xo qo fx fq hr1 n61 g hV hW; lia)), w32_id (by (clear h hP hr hg hF h4 h5 h6 h10 hR o1 o2 o3 o4 o5 nw zz cA x36 q34 c6 n6 w1 w2 w3 w4 w5 w6 cz hah ahb e129 F3 hB B6 d0 d1 q36 tb qw c85 h1 xo qo fx fq hr1 n61 g hV hW; omega)) (by (clear h hP hr hg hF h7 h10 hR o4 o5 nw x36 q34 w1 w2 w3 w4 w5 w6 hah ahb e129 F3 hB B6 d0 d1 q36 tb qw h1 xo qo fx fq hr1 n61 g hV hW; lia))]; (clear h hP hr hg hF h4 h5 h6 h10 hR o1 o2 o3 o4 o5 nw zz cA x36 q34 c6 n6 w1 w2 w3 w4 w5 w6 cz hah ahb e129 F3 hB B6 d0 d1 q36 tb qw c85 h1 xo qo fx fq hr1 n61 g hV hW; omega)
            · refine x_135 hV hW h1 hr1 n61 d0 ?_
              rw [xo 21 (by decide), xo 22 (by decide), upo (by decide), hah]; exact g
          · rw [if_neg c85, ← hB, upc (r := 239) (r' := 6) (by decide), upc (r := 239) (r' := 6) (by decide), upc (r := 239) (r' := 6) (by decide)]
            exact q_155 hV hW (by omega) (by omega) (by rw [qo 239 (by decide)]; exact o3) g
      · -- quiet
        have d82 : 0 ≤ M 82 r ∧ M 82 r ≤ 400 := by (clear h hP hr hg hF h7 h5 h10 hR o4 o5 nw x36 q34 w1 w2 w3 w4 w5 w6; lia)
        generalize hah : (if M 21 r ≤ 0 then 0 else M 22 (42 * r + 7 * (M 21 r - 1) + 3)) = ah
        have ahb : 0 ≤ ah ∧ ah ≤ 2000000000 := by
          split at hah
          · omega
          · have := (o4 (M 21 r - 1) (by omega) (by omega)).2.1; omega
        have tb := tmo_b (now := M 0 9) (by (clear h hP hr hg hF h4 h7 h5 h6 h10 hR o1 o2 o3 o4 o5 zz cA x36 q34 c6 n6 w1 w2 w3 w4 w5 w6 cz d82 hah ahb; lia)) d82 ahb
        refine ⟨psX M r sg sn rc (tmo (M 0 9) (M 82 r) ah) a b c, psQ N r sg sn rc 0, fun Qr Qt g => x36 Qr Qt fun V hV hW => b_27_36 (Tr_mono _) hV hW _ _ _ _ _ _ _ _ ⟨by omega, ?_⟩, fun Qr Qt g => q34 Qr Qt fun V hV hW => b_359_34 (Tr_mono _) hV hW _ _ _ _ _ _ ⟨by (clear h hP hg hF h4 h7 h5 h6 o1 o2 o3 o4 o5 nw zz cA x36 q34 c6 n6 w1 w2 w3 w4 w5 w6 cz d82 hah ahb tb g hV hW; lia), ?_⟩, RU_ps h hr n6 hg tb (.inr ⟨cz, rfl⟩), fun hA hs hsn hrc => TYA_ps h hA hr n6 hs hsn hrc ⟨by decide, by decide⟩, ⟨XRF_ps, QRF_ps⟩, KAX_ps⟩
        · rw [if_neg c6]
          refine ⟨by omega, by omega, fun _ => ?_⟩
          have k9 := x_135 (d := M 82 r) (sg := sg) (sn := sn) (rc := rc) (a := a) (b := b) (c := c) hV hW h hr n6 d82 (by rw [hah]; exact g)
          by_cases c85 : M 85 r = 0
          · rw [if_pos c85]; exact k9
          · rw [if_neg c85]
            refine fun _ => ?_
            rw [if_neg (by (clear h hP hr hg hF h4 h7 h5 h6 h10 hR o1 o2 o3 o4 o5 nw cA x36 q34 c6 n6 w1 w2 w3 w4 w5 w6 d82 hah ahb tb g hV hW k9 c85; lia))]; exact k9
        · rw [o3, if_neg c6, w1, w2, w3, w4, w5, w6]
          refine ⟨by omega, by (clear h hP hg hF h4 h7 h5 h6 o4 o5 nw zz cA x36 q34 c6 w1 w2 w3 w4 w5 w6 cz d82 hah ahb tb g hV hW; lia), by (clear h hP hg hF h4 h7 h5 h6 o4 o5 nw zz cA x36 q34 c6 w1 w2 w3 w4 w5 w6 cz d82 hah ahb tb g hV hW; omega), by (clear h hP hg hF h4 h7 h5 h6 o4 o5 nw zz cA x36 q34 c6 w1 w2 w3 w4 w5 w6 cz d82 hah ahb tb g hV hW; lia), fun _ => ?_⟩
          rw [zz.2.1, if_neg (by (clear h hP hr hg hF h4 h7 h5 h6 h10 hR o1 o2 o3 o4 o5 nw cA x36 q34 c6 n6 w1 w2 w3 w4 w5 w6 d82 hah ahb tb g hV hW; lia))]
          exact ⟨by (clear h hP hg hF h4 h7 h5 h6 o4 o5 nw zz cA x36 q34 c6 w1 w2 w3 w4 w5 w6 cz d82 hah ahb tb g hV hW; lia), q_155 hV hW (by omega) (by (clear h hP hr hg hF h4 h7 h5 h6 h10 hR o4 o5 nw zz cA x36 q34 c6 w1 w2 w3 w4 w5 w6 cz d82 hah ahb tb g hV hW; lia)) o3 g⟩
end GWx
end T361_gw
section T362_wy
/-! the run: which route, which receiver (X 26, 25 | Q 357, 358) -/
def rcv (f p : Int → Int) (s : Int) : Nat → Int → Int
  | 0, _ => 0
  | d + 1, i => if f i = s then p i else rcv f p s d (i + 1)
def RTG (M N : mm_) (r : Int) : Prop := (∀ T, 0 ≤ T → (M 81 (2 * r) = T ↔ N 160 r = T)) ∧ (∀ T, 0 ≤ T → (M 81 (2 * r + 1) = T ↔ N 161 r = T)) ∧ ((M 81 (2 * r + 1) = -2 ∧ N 161 r = -1) ∨ (0 ≤ M 81 (2 * r + 1) ∧ N 161 r = M 81 (2 * r + 1))) ∧ (M 86 r = N 164 r ∧ 0 ≤ N 164 r ∧ N 164 r < 1048576)
section WYa
variable {z : Int} {M N M' N' M1 N1 : mm_} {i r sg T to_ tq any s v k : Int} {f p : Int → Int}
theorem RTG_of [Inhabited fz_] (hP : PLr M N) (hr : 0 ≤ r ∧ r < N 6 18) : RTG M N r := by
  obtain ⟨⟨⟨a1, a2⟩, ⟨b1, b2⟩, c1, _⟩, d1, d2, _⟩ := hP.2.2.1 r hr.1 (by rw [tbN_6 (by decide)]; exact hr.2)
  rw [show swc M 114 = M 81 from swc_r (q := 81) (by decide) (by decide)] at a1 b1 d1 d2
  rw [show swc M 119 = M 86 from swc_r (q := 86) (by decide) (by decide)] at c1
  rw [tbN_r (q := 158) (by decide) (by decide)] at a1 a2
  rw [tbN_r (q := 159) (by decide) (by decide)] at b1 b2
  rw [tbN_r (q := 160) (by decide) (by decide)] at a2
  rw [tbN_r (q := 161) (by decide) (by decide)] at b2
  rw [tbN_r (q := 164) (by decide) (by decide)] at c1
  have t1 := tpl_ge (tbN N) (N 158 r)
  have t2 := tpl_ge (tbN N) (N 159 r)
  refine ⟨fun T hT => ?_, fun T hT => ?_, ?_, c1⟩
  · by_cases c : N 158 r = 0
    · rw [if_pos c] at a1 a2; omega
    · rw [if_neg c] at a1 a2; (clear hP hr b1 b2 c1 d1 d2 t1 t2 hT c; lia)
  · by_cases c : N 159 r = 0
    · rw [if_pos c] at b1 b2; omega
    · rw [if_neg c] at b1 b2; (clear hP hr a1 a2 c1 d1 d2 t1 t2 hT c; lia)
  · by_cases c : N 159 r = 0
    · rw [if_pos c] at b1 b2; omega
    · rw [if_neg c] at b1 b2; (clear hP hr a1 a2 c1 d1 t1; lia)
theorem j_26 [Inhabited fz_] (hP : PLr M N) (hT : 0 ≤ T) (hto : any = 0 → 0 ≤ to_ ∧ tq = to_) (hs : 0 ≤ sg ∧ sg < 20) : ∃ v, (v = -1 ∨ (0 ≤ v ∧ v < N 6 18)) ∧ Ex_ 2 26 [.inr (.inr 0), .inl T, .inl to_, .inl sg, .inl any] M [.inl v] M ∧ Ex_ 1 357 [.inr (.inr 6), .inl T, .inl tq, .inl sg, .inl any] N [.inl v] N := by
  have p18 := hP.1.2.1
  rw [tbN_6 (by decide)] at p18
  have e41 : M 4 1 = N 6 18 := p18.1
  have lp : ∀ (d : Nat) (i : Int), i + d = N 6 18 → 0 ≤ i → ∃ v, (v = -1 ∨ (0 ≤ v ∧ v < N 6 18)) ∧ (∀ (V : vv_) (Qr : qr_) (Qt : qt_), Cl_ wd0 (Tr_ wd0 pg0 1) V Qr Qt m_26 → Wk_ V → Qr [.inl v] M → V 3 [rr 0, ii T, ii to_, ii sg, ii any, ii i] [] M) ∧ (∀ (V : vv_) (Qr : qr_) (Qt : qt_), Cl_ wd0 (Tr_ wd0 pg0 0) V Qr Qt m_357 → Wk_ V → Qr [.inl v] N → V 3 [rr 6, ii T, ii tq, ii sg, ii any, ii i] [] N) := by
    intro d
    induction d with
    | zero =>
      intro i hi i0
      refine ⟨-1, .inl rfl, fun V Qr Qt hV hW g => b_26_3 (Tr_mono _) hV hW _ _ _ _ _ _ ?_, fun V Qr Qt hV hW g => b_357_3 (Tr_mono _) hV hW _ _ _ _ _ _ ?_⟩
      · rw [if_neg (by omega)]; exact g
      · rw [if_neg (by (clear hP hT hto hs p18 i0 hV hW g; omega))]; exact g
    | succ d ih =>
      intro i hi i0
      obtain ⟨g1, g2, g3, g4⟩ := RTG_of (r := i) hP ⟨i0, by (clear hP hT hto hs p18 ih i0; omega)⟩
      obtain ⟨v, v0, xv, qv⟩ := ih (i + 1) (by (clear hP hT hto hs p18 ih i0 g1 g2 g3 g4; lia)) (by omega)
      have bits := an_sr (c := N 164 i) (s := sg) g4.2.1 (by omega) hs.1 (by omega)
      have w2 : w32 (2 * i) = 2 * i := w32_id (by omega) (by omega)
      have w3 : w32 (2 * i + 1) = 2 * i + 1 := w32_id (by omega) (by omega)
      have w1 : w32 (i + 1) = i + 1 := w32_id (by omega) (by omega)
      -- the route does not fit
      have no : (¬ (M 81 (2 * i) = T ∧ (any = 0 → M 81 (2 * i + 1) = to_) ∧ bt_ (N 164 i) sg)) → ∃ v, (v = -1 ∨ (0 ≤ v ∧ v < N 6 18)) ∧ (∀ (V : vv_) (Qr : qr_) (Qt : qt_), Cl_ wd0 (Tr_ wd0 pg0 1) V Qr Qt m_26 → Wk_ V → Qr [.inl v] M → V 3 [rr 0, ii T, ii to_, ii sg, ii any, ii i] [] M) ∧ (∀ (V : vv_) (Qr : qr_) (Qt : qt_), Cl_ wd0 (Tr_ wd0 pg0 0) V Qr Qt m_357 → Wk_ V → Qr [.inl v] N → V 3 [rr 6, ii T, ii tq, ii sg, ii any, ii i] [] N) := fun hn => by
        refine ⟨v, v0, fun V Qr Qt hV hW g => b_26_3 (Tr_mono _) hV hW _ _ _ _ _ _ ?_, fun V Qr Qt hV hW g => b_357_3 (Tr_mono _) hV hW _ _ _ _ _ _ ?_⟩
        · have n3 := xv V Qr Qt hV hW g
          have c5 : ¬ bt_ (N 164 i) sg → Tr_ wd0 pg0 1 205 [.inr (.inr 4), .inl i, .inl sg] M (ri_ fun v2 M2 => if v2 = 0 then V 3 [rr 0, ii T, ii to_, ii sg, ii any, ii (i + 1)] [] M2 else Qr [.inl i] M2) Qt := fun hb => t_205a fun V' hV' hW' => b_205a_0 (Tr_mono _) hV' hW' _ _ _ ⟨by (clear hP hT hto hs ih g1 g2 g3 g4 v0 xv qv bits w2 w3 hn hV hW g n3 hb hV' hW'; omega), by
            rw [g4.1, if_pos (bits.1.2 hb)]
            exact ⟨.inl rfl, ri_i (by rw [if_pos rfl]; exact n3)⟩⟩
          rw [if_pos (by omega), w2, w3, w1]
          refine ⟨by (clear hP hT hto hs ih g1 g2 g3 g4 v0 xv qv bits w2 w3 hn hV hW g n3 c5; lia), ?_⟩
          by_cases k1 : M 81 (2 * i) = T
          · rw [if_pos k1]
            by_cases k2 : any = 0
            · rw [if_pos k2]
              refine ⟨by (clear hP hT hto hs ih g1 g2 g3 g4 v0 xv qv bits w2 w3 hn hV hW g n3 c5 k1 k2; lia), ?_⟩
              by_cases k3 : M 81 (2 * i + 1) = to_
              · rw [if_pos k3]; exact c5 (fun hb => hn ⟨k1, fun _ => k3, hb⟩)
              · rw [if_neg k3]; exact n3
            · rw [if_neg k2]; exact c5 (fun hb => hn ⟨k1, fun e => absurd e k2, hb⟩)
          · rw [if_neg k1]; exact n3
        · have n3 := qv V Qr Qt hV hW g
          rw [if_pos (by omega), w1]
          refine ⟨by omega, ?_⟩
          by_cases k1 : N 160 i = T
          · rw [if_pos k1]
            by_cases k2 : any = 0
            · rw [if_pos k2]
              refine ⟨by (clear hP hT hto hs ih g1 g2 g3 g4 v0 xv qv bits w2 w3 hn hV hW g n3 k1 k2; omega), ?_⟩
              by_cases k3 : N 161 i = tq
              · rw [if_pos k3, if_neg (fun e => hn ⟨(g1 T hT).2 k1, fun _ => (g2 to_ (hto k2).1).2 (k3.trans (hto k2).2), bits.2.1 e⟩)]; exact ⟨by (clear hP hT hto hs ih g1 g2 g3 g4 v0 xv qv bits w2 w3 hn hV hW g n3 k1 k2 k3; omega), n3⟩
              · rw [if_neg k3]; exact n3
            · rw [if_neg k2, if_neg (fun e => hn ⟨(g1 T hT).2 k1, fun e => absurd e k2, bits.2.1 e⟩)]; exact ⟨by omega, n3⟩
          · rw [if_neg k1]; exact n3
      by_cases c1 : M 81 (2 * i) = T ∧ (any = 0 → M 81 (2 * i + 1) = to_) ∧ bt_ (N 164 i) sg
      · refine ⟨i, .inr ⟨i0, by omega⟩, fun V Qr Qt hV hW g => b_26_3 (Tr_mono _) hV hW _ _ _ _ _ _ ?_, fun V Qr Qt hV hW g => b_357_3 (Tr_mono _) hV hW _ _ _ _ _ _ ?_⟩
        · have c5 : Tr_ wd0 pg0 1 205 [.inr (.inr 4), .inl i, .inl sg] M (ri_ fun v2 M2 => if v2 = 0 then V 3 [rr 0, ii T, ii to_, ii sg, ii any, ii (i + 1)] [] M2 else Qr [.inl i] M2) Qt := t_205a fun V' hV' hW' => b_205a_0 (Tr_mono _) hV' hW' _ _ _ ⟨by omega, by
            rw [g4.1, if_neg (fun e => bits.1.1 e c1.2.2)]
            exact ⟨.inr rfl, ri_i (by rw [if_neg (by decide)]; exact g)⟩⟩
          rw [if_pos (by omega), w2, w3, w1, if_pos c1.1]
          refine ⟨by omega, ?_⟩
          by_cases k2 : any = 0
          · rw [if_pos k2, if_pos (c1.2.1 k2)]; exact ⟨by omega, c5⟩
          · rw [if_neg k2]; exact c5
        · rw [if_pos (by omega), w1, if_pos ((g1 T hT).1 c1.1)]
          refine ⟨by omega, ?_⟩
          by_cases k2 : any = 0
          · rw [if_pos k2, if_pos (by rw [(hto k2).2]; exact (g2 to_ (hto k2).1).1 (c1.2.1 k2)), if_pos (bits.2.2 c1.2.2)]
            exact ⟨by omega, by omega, g⟩
          · rw [if_neg k2, if_pos (bits.2.2 c1.2.2)]
            exact ⟨by omega, g⟩
      · exact no c1
  obtain ⟨v, v0, xv, qv⟩ := lp (N 6 18).toNat 0 (by (clear hP hT hto hs lp; lia)) (by decide)
  exact ⟨v, v0, fun Qr Qt g => t_26 fun V hV hW => b_26_0 (Tr_mono _) hV hW _ _ _ _ _ (xv V Qr Qt hV hW g), fun Qr Qt g => t_357 fun V hV hW => b_357_0 (Tr_mono _) hV hW _ _ _ _ _ (qv V Qr Qt hV hW g)⟩
theorem rcv_0 [Inhabited fz_] (h : ∀ j, f j ≠ s) : ∀ (d : Nat) (i : Int), rcv f p s d i = 0
  | 0, _ => rfl
  | d + 1, i => by unfold rcv; rw [if_neg (h i)]; exact rcv_0 h d (i + 1)
/-- Q: the receiver -/
theorem q_358 [Inhabited fz_] (h : RU z M N) (hs : s = -1 ∨ 0 ≤ s) : Ex_ 2 358 [.inr (.inr 6), .inl s] N [.inl (if s < 0 then 0 else rcv (M 11) (M 10) s (M 0 7).toNat 0)] N := by
  have n12 := h.1.1
  have lp : ∀ (d : Nat) (i : Int), i + d = M 0 7 → 0 ≤ i → ∀ (V : vv_) (Qr : qr_) (Qt : qt_), Cl_ wd0 (Tr_ wd0 pg0 1) V Qr Qt m_358 → Wk_ V → Qr [.inl (if s < 0 then 0 else rcv (M 11) (M 10) s d i)] N → V 2 [rr 6, ii s, ii i] [] N := by
    intro d
    induction d with
    | zero =>
      intro i hi i0 V Qr Qt hV hW g
      refine b_358_2 (Tr_mono _) hV hW _ _ _ ⟨by decide, ?_⟩
      rw [if_neg (by (clear h hs i0 hV hW g; lia))]
      by_cases c : s < 0
      · rw [if_pos c] at g; exact g
      · rw [if_neg c] at g; exact g
    | succ d ih =>
      intro i hi i0 V Qr Qt hV hW g
      have hB : sB i = 2 + 56 * i := rfl
      have hin := (h.1.2.2.1 i i0 (by omega)).1
      refine b_358_2 (Tr_mono _) hV hW _ _ _ ⟨by decide, ?_⟩
      rw [if_pos (by omega), w32_id (x := i + 1) (by omega) (by omega)]
      have nx := ih (i + 1) (by omega) (by (clear h hs n12 ih hi hV hW g hB hin; omega)) V Qr Qt hV hW
      by_cases c : s < 0
      · rw [if_pos c] at g ⊢; exact nx (by rw [if_pos c]; exact g)
      · rw [if_neg c] at g ⊢
        refine q_323 (by (clear h hs ih hV hW g hB hin nx c; omega)) _ _ (ri_i ?_)
        rw [w32_id (x := sB i + 1) (by omega) (by omega), ← hin.2.1]
        unfold rcv at g
        refine ⟨by (clear h hs ih hV hW hin nx c g; omega), ?_⟩
        by_cases c2 : M 11 i = s
        · rw [if_pos c2] at g ⊢
          refine q_323 (by omega) _ _ (ri_i ?_)
          rw [← hin.1]; exact ⟨by (clear h hs ih hV hW hin nx c g c2; omega), g⟩
        · rw [if_neg c2] at g ⊢; exact nx (by rw [if_neg c]; exact g)
  exact fun Qr Qt g => t_358 fun V hV hW => b_358_0 (Tr_mono _) hV hW _ _ (lp (M 0 7).toNat 0 (by omega) (by decide) V Qr Qt hV hW g)
/-- X: the receiver -/
theorem x_266 [Inhabited fz_] (h : RU z M N) {V : vv_} {Qr : qr_} {Qt : qt_} (hV : Cl_ wd0 (Tr_ wd0 pg0 5) V Qr Qt m_25) (hW : Wk_ V) {y1 y2 y3 y4 y5 y6 y7 y8 y9 y10 y11 : Int} (g : V 266 [rr 0, ii y1, ii y2, ii y3, ii y4, ii y5, ii y6, ii y7, ii y8, ii y9, ii y10, ii y11, ii s, ii (rcv (M 11) (M 10) s (M 0 7).toNat 0), ii (-1)] [] M) : ∀ (d : Nat) (j : Int) (e : Nat), j + 1 = d → j + 1 + e = M 0 7 → V 266 [rr 0, ii y1, ii y2, ii y3, ii y4, ii y5, ii y6, ii y7, ii y8, ii y9, ii y10, ii y11, ii s, ii (rcv (M 11) (M 10) s e (j + 1)), ii j] [] M := fun d => by
  have n12 := h.1.1
  induction d with
  | zero =>
    intro j e hj he
    have e1 : j = -1 := by (clear h hV hW g n12 he; omega)
    subst e1
    rw [show (-1 : Int) + 1 = 0 from rfl, show e = (M 0 7).toNat by omega]; exact g
  | succ d ih =>
    intro j e hj he
    have nx := ih (j - 1) (e + 1) (by (clear h hV hW g n12 ih he; lia)) (by (clear h hV hW g ih; lia))
    rw [show j - 1 + 1 = j by (clear h hV hW g n12 ih hj he nx; lia)] at nx
    unfold rcv at nx
    refine b_25_266 (Tr_mono _) hV hW _ _ _ _ _ _ _ _ _ _ _ _ _ _ _ ?_
    rw [if_neg (by omega), w32_id (x := j + (-1)) (by omega) (by omega), show j + (-1) = j - 1 by (clear h hV hW g n12 ih hj he nx; lia)]
    refine ⟨by omega, ?_⟩
    by_cases c : M 11 j = s
    · rw [if_pos c] at nx; rw [if_pos c.symm]; exact ⟨by (clear h hV hW g ih nx c; omega), nx⟩
    · rw [if_neg c] at nx; rw [if_neg (fun e => c e.symm)]; exact nx
end WYa
end T362_wy
section T363_ou
/-! the run: OUTPUT (X 25 | Q 356) -/
def g4 (N : mm_) : mm_ := up_ (up_ (up_ N 242 0 (N 244 0)) 242 1 (N 244 1)) 242 2 (N 244 2)
section OUa
variable {z : Int} {M N M' N' M1 N1 : mm_} {A : Int → Int} {σ : Int → Int} {k e s x2 v n bp T c c1 c2 f fe op sg to_ r me m rt a b d : Int}
/-- X: up to the ways -/
theorem x_25o [Inhabited fz_] {Qr : qr_} {Qt : qt_} (hn : 0 ≤ n ∧ n ≤ 3) (h46 : M 0 46 = s) (hs : 0 ≤ s ∧ s < 12) (ha : a = if n ≤ 0 then 0 else A 0) (hb : b = if n ≤ 1 then 0 else A 1) (hd : d = if n ≤ 2 then 0 else A 2)
    (h : ∀ V : vv_, Cl_ wd0 (Tr_ wd0 pg0 5) V Qr Qt m_25 → Wk_ V → V 110 [rr 0, ii sg, ii n, ii m, ii rt, ii (M 10 s), ii (M 11 s), ii (if m = 1 then A n else 0), ii a, ii b, ii d, none, none, none, none] [] (exX M A 0)) : Tr_ wd0 pg0 6 25 [.inr (.inr 0), .inl sg, .inl n, .inl m, .inl rt] (exX M A (if m = 1 then n + 1 else n)) Qr Qt := t_25 fun V hV hW => by
  have h66 : ∀ y, V 66 [rr 0, ii sg, ii n, ii m, ii rt, ii (M 10 s), ii (M 11 s), ii (if m = 1 then A n else 0), ii a, none, none, none, none, none, none] [] (exX M A 0) → y = a → V 66 [rr 0, ii sg, ii n, ii m, ii rt, ii (M 10 s), ii (M 11 s), ii (if m = 1 then A n else 0), ii y, none, none, none, none, none, none] [] (exX M A 0) := fun y h e => by rw [e]; exact h
  have h110 := h V hV hW
  have g66 : V 66 [rr 0, ii sg, ii n, ii m, ii rt, ii (M 10 s), ii (M 11 s), ii (if m = 1 then A n else 0), ii a, none, none, none, none, none, none] [] (exX M A 0) := b_25_66 (Tr_mono _) hV hW _ _ _ _ _ _ _ _ _ (by
    rw [exX_45, exX_26, show w32 (0 + 1) = 1 from w32_id (by decide) (by decide), show w32 (0 + 2) = 2 from w32_id (by decide) (by decide)]
    by_cases k1 : n ≤ 1
    · rw [if_pos k1] at hb ⊢
      rw [if_pos (by omega)] at hd ⊢
      rw [hb, hd] at h110; exact h110
    · rw [if_neg k1] at hb ⊢
      refine ⟨by decide, ?_⟩
      by_cases k2 : n ≤ 2
      · rw [if_pos k2] at hd ⊢
        rw [hb, hd] at h110; exact h110
      · rw [if_neg k2] at hd ⊢
        rw [hb, hd] at h110; exact ⟨by decide, h110⟩)
  have g37 : V 37 [rr 0, ii sg, ii n, ii m, ii rt, ii (M 10 s), ii (M 11 s), ii (if m = 1 then A n else 0), none, none, none, none, none, none, none] [] (exX M A n) := b_25_37 (Tr_mono _) hV hW _ _ _ _ _ _ _ _ (by
    rw [exX_45, Int.sub_self, show w32 0 = 0 from w32_id (by decide) (by decide), exX_o, exX_26]
    by_cases k0 : n ≤ 0
    · rw [if_pos k0] at ha ⊢; exact h66 0 g66 ha.symm
    · rw [if_neg k0] at ha ⊢; exact ⟨by decide, h66 _ g66 ha.symm⟩)
  refine b_25_0 (Tr_mono _) hV hW _ _ _ _ _ ?_
  rw [exX_0 (i := 46) (by decide), h46, exX_r (r := 10) (by decide) (by decide), exX_r (r := 11) (by decide) (by decide)]
  refine ⟨hs, hs, ?_⟩
  by_cases k1 : m = 1
  · rw [if_pos k1] at g37 ⊢
    rw [if_pos k1]
    have p18 := x_18 (M := M) (A := A) (n := n + 1) (by (clear h46 hs ha hb hd h hV hW h66 h110 g66 g37 k1; omega))
    rw [show n + 1 - 1 = n by (clear hn h46 hs ha hb hd h hV hW h66 h110 g66 g37 k1 p18; lia)] at p18
    exact Ex_le (d := 1) (by decide) p18 _ _ (ri_i g37)
  · rw [if_neg k1] at g37 ⊢
    rw [if_neg k1]; exact g37
theorem g4_r [Inhabited fz_] {q : Nat} (h : q ≠ 242) : g4 N q = N q := by unfold g4; rw [up_ne h, up_ne h, up_ne h]
theorem g4_v [Inhabited fz_] : g4 N 242 0 = N 244 0 ∧ g4 N 242 1 = N 244 1 ∧ g4 N 242 2 = N 244 2 := by
  unfold g4
  exact ⟨by rw [upo (by decide), upo (by decide), up_at], by rw [upo (by decide), up_at], by rw [up_at]⟩
theorem QRF_g4 [Inhabited fz_] : QRF N (g4 N) := ⟨fun q hq => g4_r (fun e => hq (by rw [e]; decide)), fun i _ => by rw [g4_r (by decide)]⟩
theorem RU_g4 [Inhabited fz_] (h : RU z M N) : RU z M (g4 N) := RU_2 h (fun q hq => g4_r (fun e => hq (by rw [e]; decide)))
theorem TYA_g4 [Inhabited fz_] (h : TYA N) : TYA (g4 N) := TYA_c h (TYT_Q QRF_g4) (g4_r (by decide))
/-- Q: the values are given -/
theorem q_219 [Inhabited fz_] {V : vv_} {Qr : qr_} {Qt : qt_} (hV : Cl_ wd0 (Tr_ wd0 pg0 5) V Qr Qt m_356) (hW : Wk_ V) {y3 y4 y5 : Int} (hr : 0 ≤ r ∧ r < 10) (g : if to_ = 0 then (if N 161 r < 0 then Tr_ wd0 pg0 5 359 [.inr (.inr 6), .inl r, .inl sg, .inl me, .inl to_] (g4 N) (rv_ fun M2 => Qr [.inl 0] M2) Qt else Tr_ wd0 pg0 5 333 [.inr (.inr 6), .inl 0, .inl sg, .inl me] (g4 N) (rv_ fun M3 => Qr [.inl 0] M3) Qt) else Tr_ wd0 pg0 5 359 [.inr (.inr 6), .inl r, .inl sg, .inl me, .inl to_] (g4 N) (rv_ fun M1 => Qr [.inl 0] M1) Qt) : V 219 [rr 6, ii s, ii k, ii y3, ii y4, ii y5, ii me, ii sg, ii to_, ii r, ii 0] [] N := by
  refine b_356_219 (Tr_mono _) hV hW _ _ _ _ _ _ _ _ _ _ _ ?_
  rw [if_pos (by decide), show w32 (0 + 1) = 1 from w32_id (by decide) (by decide)]
  refine ⟨by decide, by decide, b_356_219 (Tr_mono _) hV hW _ _ _ _ _ _ _ _ _ _ _ ?_⟩
  rw [if_pos (by decide), show w32 (1 + 1) = 2 from w32_id (by decide) (by decide)]
  refine ⟨by decide, by decide, b_356_219 (Tr_mono _) hV hW _ _ _ _ _ _ _ _ _ _ _ ?_⟩
  rw [if_pos (by decide), show w32 (2 + 1) = 3 from w32_id (by decide) (by decide)]
  refine ⟨by decide, by decide, b_356_219 (Tr_mono _) hV hW _ _ _ _ _ _ _ _ _ _ _ ?_⟩
  rw [if_neg (by decide), up_ne (r := 242) (r' := 244) (by decide), up_ne (r := 242) (r' := 244) (by decide), up_ne (r := 242) (r' := 244) (by decide)]
  have e161 : g4 N 161 = N 161 := g4_r (by decide)
  show if to_ = 0 then (0 ≤ r ∧ r < 10) ∧ (if g4 N 161 r < 0 then _ else _) else _
  by_cases c : to_ = 0
  · rw [if_pos c] at g ⊢
    rw [e161]
    by_cases c2 : N 161 r < 0
    · rw [if_pos c2] at g ⊢; exact ⟨hr, g⟩
    · rw [if_neg c2] at g ⊢; exact ⟨hr, g⟩
  · rw [if_neg c] at g ⊢; exact g
/-- values of a signal -/
theorem SGV_g4 [Inhabited fz_] (hs : 0 ≤ sg ∧ sg < 20) (h17 : sg < N 6 17) (hn : n = N 156 sg) (hv : ∀ j, 0 ≤ j → j < n → (N 157 (3 * sg + j) = 2 → BV (N 244 j)) ∧ R32 (N 244 j)) (hz : ∀ j, n ≤ j → 0 ≤ j → j < 3 → N 244 j = 0) : SGV (g4 N) sg (g4 N 242) := by
  have e : ∀ v, 0 ≤ v → v < 3 → g4 N 242 v = N 244 v := fun v v0 v1 => by
    have three : v = 0 ∨ v = 1 ∨ v = 2 := by (clear hs h17 hn hv hz; lia)
    rcases three with e | e | e <;> rw [e]
    · exact g4_v.1
    · exact g4_v.2.1
    · exact g4_v.2.2
  refine ⟨.inl ⟨hs.1, hs.2, by rw [g4_r (by decide)]; exact h17⟩, fun _ v v0 v3 v1 v2 => ?_, fun v v0 v1 => ?_⟩
  · rw [g4_r (by decide)] at v1 v2
    rw [e v v0 v3]; exact (hv v v0 (by omega)).1 v2
  · rw [e v v0 v1]
    by_cases c : v < n
    · exact (hv v v0 c).2
    · rw [hz v (by omega) v0 v1]; exact ⟨by decide, by decide⟩
theorem SGV_ev [Inhabited fz_] {x y w u : Int} (h : SGV (g4 N) sg (g4 N 242)) : SGV (g4 (evQ N x y w u)) sg (g4 (evQ N x y w u) 242) := by
  have e : ∀ q : Nat, q ≠ 6 → q ≠ 240 → evQ N x y w u q = N q := EvQ_ev.1
  refine SGV_c h ⟨fun q hq => by rw [g4_r (fun c => by rw [c] at hq; revert hq; decide), g4_r (fun c => by rw [c] at hq; revert hq; decide), e q (fun c => by rw [c] at hq; revert hq; decide) (fun c => by rw [c] at hq; revert hq; decide)], by rw [g4_r (by decide), g4_r (by decide)]; exact EvQ_ev.2 18 (by decide) (by decide), by rw [g4_r (by decide), g4_r (by decide)]; exact EvQ_ev.2 17 (by decide) (by decide)⟩ (fun v v0 v1 => ?_)
  have three : v = 0 ∨ v = 1 ∨ v = 2 := by (clear h e; lia)
  have g := g4_v (N := N)
  have g' := g4_v (N := evQ N x y w u)
  rw [e 244 (by decide) (by decide)] at g'
  rcases three with c | c | c <;> rw [c]
  · rw [g'.1, g.1]
  · rw [g'.2.1, g.2.1]
  · rw [g'.2.2, g.2.2]
/-- both send -/
theorem j_snd [Inhabited fz_] {y3 y4 y5 : Int} (h : RU z M N) (hP : PLr M N) (hA : TYA N) (hr : 0 ≤ r ∧ r < N 6 18) (hS : SGV (g4 N) sg (g4 N 242)) (hm : R32 me) (ht : R32 to_) (hv : N 244 0 = a ∧ N 244 1 = b ∧ N 244 2 = d) (hz : to_ = 0 → N 161 r < 0) :
    ∃ M' N', (∀ (Qr : qr_) (Qt : qt_), Qr [] M' → Tr_ wd0 pg0 5 5 [.inr (.inr 0), .inl 1, .inl me, .inl sg, .inl to_] M (rv_ fun M4 => Tr_ wd0 pg0 5 27 [.inr (.inr 0), .inl r, .inl sg, .inl me, .inl to_, .inl a, .inl b, .inl d] M4 (rv_ fun M5 => Qr [] M5) Qt) Qt) ∧ (∀ (V : vv_) (Qr : qr_) (Qt : qt_), Cl_ wd0 (Tr_ wd0 pg0 5) V Qr Qt m_356 → Wk_ V → Qr [.inl 0] N' → Tr_ wd0 pg0 5 324 [.inr (.inr 6), .inl 1, .inl me, .inl sg, .inl to_] N (rv_ fun M3 => V 219 [rr 6, ii s, ii k, ii y3, ii y4, ii y5, ii me, ii sg, ii to_, ii r, ii 0] [] M3) Qt) ∧ RU z M' N' ∧ TYA N' ∧ (XRF M M' ∧ QRF N N') ∧ KAX M M' := by
  have h10 := h.2.1.1
  have b5 := RU_b5 h
  have b3 := RU_b324 h
  have ru := RU_ev (k := 1) (a := me) (s := sg) (b := to_) h
  have e1 : ∀ q : Nat, q ≠ 6 → q ≠ 240 → evQ N 1 me sg to_ q = N q := EvQ_ev.1
  have hP2 : PLr (evX M 1 me sg to_) (g4 (evQ N 1 me sg to_)) := PLr_c hP XRF_ev (QRF_tr QRF_ev QRF_g4)
  have e18 : g4 (evQ N 1 me sg to_) 6 18 = N 6 18 := by rw [g4_r (by decide)]; exact EvQ_ev.2 18 (by decide) (by decide)
  have gv := g4_v (N := evQ N 1 me sg to_)
  rw [e1 244 (by decide) (by decide)] at gv
  obtain ⟨M', N', x1, q1, r1, t1, f1, k1⟩ := j_27 (r := r) (sg := sg) (sn := me) (rc := to_) (a := a) (b := b) (c := d) (RU_g4 ru) hP2 (by rw [e18]; exact hr) ⟨gv.1.trans hv.1, gv.2.1.trans hv.2.1, gv.2.2.trans hv.2.2⟩
  refine ⟨M', N', fun Qr Qt g => Ex_le (d := 1) (by decide) (x_5 b5.1 b5.2.1 b5.2.2) _ _ (rv_i (x1 _ _ (rv_i g))), fun V Qr Qt hV hW g => Ex_le (d := 1) (by decide) (q_324 b3.1 b3.2.1 b3.2.2) _ _ (rv_i (q_219 hV hW (by omega) ?_)), r1, t1 (TYA_g4 (TYA_ev hA)) (SGV_ev hS) hm ht, ⟨XRF_tr XRF_ev f1.1, QRF_tr (QRF_tr QRF_ev QRF_g4) f1.2⟩, KAX_tr KAX_ev k1⟩
  have q1' := Ex_le (d := 4) (d' := 5) (by decide) q1
  by_cases c : to_ = 0
  · rw [if_pos c, e1 161 (by decide) (by decide), if_pos (hz c)]; exact q1' _ _ (rv_i g)
  · rw [if_neg c]; exact q1' _ _ (rv_i g)
end OUa
end T363_ou
section T364_ow
/-! the run: OUTPUT whole (X 24 | Q 350) -/
section OWa
variable {z : Int} {M N M' N' M1 N1 : mm_} {A : Int → Int} {k e s x2 v n bp T c c1 c2 f fe op sg to_ r me m rt a b d : Int} {g p : Int → Int}
theorem rcv_z [Inhabited fz_] : ∀ (d : Nat) (i : Int), (∀ j, i ≤ j → j < i + d → g j ≠ s) → rcv g p s d i = 0
  | 0, _, _ => rfl
  | d + 1, i, h => by
    unfold rcv
    rw [if_neg (h i (Int.le_refl _) (by omega))]
    exact rcv_z d (i + 1) (fun j h0 h1 => h j (by omega) (by omega))
theorem rcv_p [Inhabited fz_] : ∀ (d : Nat) (i : Int), rcv g p s d i = 0 ∨ ∃ j, (i ≤ j ∧ j < i + d) ∧ rcv g p s d i = p j
  | 0, _ => .inl rfl
  | d + 1, i => by
    unfold rcv
    by_cases c : g i = s
    · rw [if_pos c]; exact .inr ⟨i, by omega, rfl⟩
    · rw [if_neg c]
      rcases rcv_p d (i + 1) with h | ⟨j, h, e⟩
      · exact .inl h
      · exact .inr ⟨j, by omega, e⟩
theorem bo_k [Inhabited fz_] (hW : WST z 0 M N s) (hT : M 11 s = T) (q1 : QRF N N1) (ru : RU z M' N') (tA : TYA N') (fr : XRF (exX M A 0) M' ∧ QRF N1 N') (ka : KAX (exX M A 0) M') : WST z 0 M' N' s ∧ M' 11 s = T ∧ (XRF M M' ∧ QRF N N') ∧ M' 0 47 = M 0 47 ∧ M' 0 8 ≤ M 0 8 + 1 := by
  obtain ⟨w1, w2, w3, w4, w5, w6⟩ := hW
  have fX := XRF_tr (XRF_ef (EFX_ex (M := M) (A := A) (n := 0))) fr.1
  have fQ := QRF_tr q1 fr.2
  have e : ∀ i : Int, i ∉ [10, 27, 32, 33, 34, 35, 36, 37] → i ≠ 45 → M' 0 i = M 0 i := fun i h1 h2 => (ka.2 i h1).trans (exX_0 h2)
  exact ⟨⟨ru, PLr_c w2 fX fQ, tA, by rw [e 7 (by decide) (by decide)]; exact w4, by rw [e 46 (by decide) (by decide)]; exact w5, by rw [ka.2 45 (by decide), exX_45]⟩, by rw [ka.1 11 (by decide), exX_r (by decide) (by decide)]; exact hT, ⟨fX, fQ⟩, e 47 (by decide) (by decide), by rw [e 8 (by decide) (by decide)]; omega⟩
theorem q350_2 [Inhabited fz_] (hs : 0 ≤ s ∧ s < 12) (hk : 0 ≤ k ∧ k < 1300) (h203 : N 203 k = 2) (h : Ex_ 6 356 [.inr (.inr 6), .inl s, .inl k] N [.inl v] N') : Ex_ 7 350 [.inr (.inr 6), .inl s, .inl k] N [.inl v] N' := fun Qr Qt g => t_350 fun V hV hW => b_350_0 (Tr_mono _) hV hW _ _ _ (Ex_le (d := 1) (by decide) (q_323 (by omega)) _ _ (ri_i ⟨hk, by
  rw [h203]; simp only [Int.reduceEq, if_true, if_false]
  exact h _ _ (ri_i g)⟩))
/-- Q: the values, then the ways -/
theorem q356_0 [Inhabited fz_] (hs : 0 ≤ s ∧ s < 12) (hk : 0 ≤ k ∧ k < 1300) (q1 : Ex_ 5 355 [.inr (.inr 6), .inl s, .inl k] N [.inl 0] N1) (qv : QVF N N1) (he : N 239 (sB s + 1) = T ∧ N 239 (sB s) = me)
    (h : ∀ (V : vv_) (Qr : qr_) (Qt : qt_), Cl_ wd0 (Tr_ wd0 pg0 5) V Qr Qt m_356 → Wk_ V → Qr [.inl v] N' → (if N 206 k < 0 then (if N 207 k < 0 then Tr_ wd0 pg0 5 357 [.inr (.inr 6), .inl T, .inl 0, .inl (N 205 k), .inl 1] N1 (ri_ fun v3 M3 => V 180 [rr 6, ii s, ii k, ii 0, ii (sB s), ii T, ii me, ii (N 205 k), ii 0, ii v3, none] [] M3) Qt else V 180 [rr 6, ii s, ii k, ii 0, ii (sB s), ii T, ii me, ii (N 205 k), ii 0, ii (N 207 k), none] [] N1) else Tr_ wd0 pg0 5 339 [.inr (.inr 6), .inl s, .inl (N 206 k)] N1 (ri_ fun v4 M4 => if M4 6 149 ≤ 0 then (if v4 = 0 then V 109 [rr 6, ii s, ii k, ii 0, ii (sB s), ii T, ii me, ii (N 205 k), ii v4, ii (N 207 k), ii (-1)] [] M4 else Tr_ wd0 pg0 5 331 [.inr (.inr 6), .inl v4] M4 (ri_ fun v5 M5 => V 109 [rr 6, ii s, ii k, ii 0, ii (sB s), ii T, ii me, ii (N 205 k), ii v4, ii (N 207 k), ii v5] [] M5) Qt) else Qr [.inl (M4 6 149)] M4) Qt)) : Ex_ 6 356 [.inr (.inr 6), .inl s, .inl k] N [.inl v] N' := fun Qr Qt g => t_356 fun V hV hW => b_356_0 (Tr_mono _) hV hW _ _ _ (q1 _ _ (ri_i (by
  have hB : sB s = 2 + 56 * s := rfl
  have qq : ∀ r : Nat, r ≠ 6 → r ≠ 243 → r ≠ 244 → N1 r = N r := qv.1
  rw [if_pos (by decide)]
  refine Ex_le (d := 1) (by decide) (q_323 (by omega)) _ _ (ri_i ?_)
  rw [w32_id (x := sB s + 1) (by omega) (by omega), qq 239 (by decide) (by decide) (by decide), qq 205 (by decide) (by decide) (by decide), qq 206 (by decide) (by decide) (by decide), qq 207 (by decide) (by decide) (by decide), he.1, he.2]
  refine ⟨by omega, by omega, hk, hk, hk, ?_⟩
  have h' := h V Qr Qt hV hW g
  by_cases c : N 206 k < 0
  · rw [if_pos c] at h' ⊢; exact h'
  · rw [if_neg c] at h' ⊢; exact ⟨hk, h'⟩)))
theorem bo_2a [Inhabited fz_] (hW : WST z 0 M N s) (hT : M 11 s = T) (hk : 0 ≤ k ∧ k < 1300) (hc : 0 ≤ c ∧ c ≤ c2 ∧ c2 ≤ 11800) (h203 : N 203 k = 2) (hsg : 0 ≤ N 205 k ∧ N 205 k < 20) (h17 : N 205 k < N 6 17) (h210 : (0 ≤ N 210 k ∧ N 210 k ≤ 3) ∧ N 210 k = N 156 (N 205 k))
    (x1 : ∀ x1, RC 2 m_15 10 [rr 0, ii x1, rr 109, ii c, none, none] M 10 [rr 0, ii x1, rr 109, ii c2, none, none] (exX M A (N 210 k))) (q1 : Ex_ 5 355 [.inr (.inr 6), .inl s, .inl k] N [.inl 0] N1) (qv : QVF N N1) (vs : ∀ j : Int, 0 ≤ j → j < N 210 k → A j = N1 244 j ∧ (N 157 (3 * N 205 k + j) = 2 → BV (A j)) ∧ R32 (A j)) (vz : ∀ j, N 210 k ≤ j → 0 ≤ j → j < 3 → N1 244 j = 0)
    (hm : (m = 0 ∧ N 206 k = -1 ∧ N 207 k = -1) ∨ (m = 2 ∧ N 206 k = -1 ∧ 0 ≤ N 207 k ∧ N 207 k < N 6 18)) (hx : M 109 c2 = 33) (hx1 : M 109 (c2 + 1) = N 205 k) (hx2 : M 109 (c2 + 2) = N 210 k) (hx3 : M 109 (c2 + 3) = m) (hx4 : M 109 (c2 + 4) = N 207 k) : BOD z T bp M N s x2 k c (c2 + 5) := by
  obtain ⟨w1, w2, w3, w4, w5, w6⟩ := id hW
  have n12 := w1.1.1
  have hin := w1.1.2.2.1 s w4.1 w4.2
  have hB : sB s = 2 + 56 * s := rfl
  have qq : ∀ r : Nat, r ≠ 6 → r ≠ 243 → r ≠ 244 → N1 r = N r := qv.1
  have hT0 : 0 ≤ T := by have := hin.2.1.2.1.1; omega
  have ep : N 239 (sB s) = M 10 s := hin.1.1.symm
  have rme : R32 (M 10 s) := by rw [← ep]; exact w3.2.2 _
  have x15 : Ex_ 3 15 [.inr (.inr 0), .inl c] M [.inl c2] (exX M A (N 210 k)) := fun Qr Qt g => x_15s fun V hV hW => x1 c V Qr Qt hV hW (x_15e (by (clear hT hk h203 hsg h17 h210 x1 q1 qv vs vz hm hx hx1 hx2 hx3 hx4 w1 w2 w3 w4 w5 w6 n12 hin hB qq hT0 ep rme g hV hW; omega)) (by rw [exX_r (r := 109) (by decide) (by decide)]; omega) hV hW g)
  have fx2 := EFX_ex (M := M) (A := A) (n := 0)
  have ru2 : RU z (exX M A 0) N1 := RU_ef (RU_qv w1 qv) fx2 EFQ_rf
  have hP2 : PLr (exX M A 0) N1 := PLr_c w2 (XRF_ef fx2) (QRF_qv qv)
  have tA2 := TYA_qv w3 qv
  have e18 : N1 6 18 = N 6 18 := qv.2 18 (by decide) (by decide)
  have m7 : exX M A 0 0 7 = M 0 7 := exX_0 (by decide)
  have m10 : exX M A 0 10 = M 10 := exX_r (by decide) (by decide)
  have m11 : exX M A 0 11 = M 11 := exX_r (by decide) (by decide)
  have m81 : exX M A 0 81 = M 81 := exX_r (by decide) (by decide)
  have hS : SGV (g4 N1) (N 205 k) (g4 N1 242) := SGV_g4 hsg (by rw [qv.2 17 (by decide) (by decide)]; exact h17) (n := N 210 k) (by rw [qq 156 (by decide) (by decide) (by decide)]; exact h210.2) (fun j j0 j1 => by rw [qq 157 (by decide) (by decide) (by decide), ← (vs j j0 j1).1]; exact (vs j j0 j1).2) vz
  -- a, b, d
  have va : N1 244 0 = if N 210 k ≤ 0 then 0 else A 0 := by
    split
    · exact vz 0 (by omega) (by decide) (by decide)
    · exact (vs 0 (by decide) (by (clear hW hT hk hc h203 hsg h17 x1 q1 qv vs vz hm hx hx1 hx3 hx4 w1 w2 w3 w4 w5 w6 n12 hin hB qq hT0 ep rme x15 fx2 ru2 hP2 tA2 e18 m7 m10 m11 m81 hS; lia))).1.symm
  have vb : N1 244 1 = if N 210 k ≤ 1 then 0 else A 1 := by
    split
    · exact vz 1 (by omega) (by decide) (by decide)
    · exact (vs 1 (by decide) (by (clear hW hT hk hc h203 hsg h17 x1 q1 qv vs vz hm hx hx1 hx3 hx4 w1 w2 w3 w4 w5 w6 n12 hin hB qq hT0 ep rme x15 fx2 ru2 hP2 tA2 e18 m7 m10 m11 m81 hS va; lia))).1.symm
  have vd : N1 244 2 = if N 210 k ≤ 2 then 0 else A 2 := by
    split
    · exact vz 2 (by omega) (by decide) (by decide)
    · exact (vs 2 (by decide) (by (clear hW hT hk hc h203 hsg h17 x1 q1 qv vs vz hm hx hx1 hx3 hx4 w1 w2 w3 w4 w5 w6 n12 hin hB qq hT0 ep rme x15 fx2 ru2 hP2 tA2 e18 m7 m10 m11 m81 hS va vb; lia))).1.symm
  have m1 : m ≠ 1 := by (clear hW hT hk hc h203 hsg h17 x1 q1 qv vs vz hx hx1 hx3 hx4 w1 w2 w3 w4 w5 w6 n12 hin hB qq hT0 ep rme x15 fx2 ru2 hP2 tA2 e18 m7 m10 m11 m81 hS va vb vd; omega)
  -- X: the act
  have x25 : ∀ (Qr : qr_) (Qt : qt_), (∀ V : vv_, Cl_ wd0 (Tr_ wd0 pg0 5) V Qr Qt m_25 → Wk_ V → V 110 [rr 0, ii (N 205 k), ii (N 210 k), ii m, ii (N 207 k), ii (M 10 s), ii T, ii 0, ii (N1 244 0), ii (N1 244 1), ii (N1 244 2), none, none, none, none] [] (exX M A 0)) → Tr_ wd0 pg0 6 25 [.inr (.inr 0), .inl (N 205 k), .inl (N 210 k), .inl m, .inl (N 207 k)] (exX M A (N 210 k)) Qr Qt := fun Qr Qt h => by
    have := x_25o (M := M) (A := A) (s := s) (sg := N 205 k) (m := m) (rt := N 207 k) (Qr := Qr) (Qt := Qt) h210.1 w5 (by (clear hW hT hk hc h203 hsg h17 h210 x1 q1 qv vs vz hm hx hx1 hx2 hx3 hx4 w1 w2 w3 w6 hin hB qq hT0 ep rme x15 fx2 ru2 hP2 tA2 e18 m10 m11 m81 hS va vb vd m1 h; lia)) va vb vd (fun V hV hW => by rw [if_neg m1, hT]; exact h V hV hW)
    rw [if_neg m1] at this; exact this
  have x24 : ∀ (M2 : mm_), (∀ (Qr : qr_) (Qt : qt_), Qr [] M2 → Tr_ wd0 pg0 6 25 [.inr (.inr 0), .inl (N 205 k), .inl (N 210 k), .inl m, .inl (N 207 k)] (exX M A (N 210 k)) Qr Qt) → RC 7 m_23 17 [rr 0, ii s, ii x2, ii c] M 17 [rr 0, ii s, ii x2, ii (c2 + 5)] M2 := fun M2 h => xw_go (by (clear hW hT hk h203 hsg h17 h210 x1 q1 qv vs vz hm hx hx1 hx2 hx3 hx4 w1 w2 w3 w4 w5 w6 n12 hin hB qq hT0 ep rme x15 fx2 ru2 hP2 tA2 e18 m7 m10 m11 m81 hS va vb vd m1 x25 h; omega)) x15 (fun Qr Qt g => t_24 fun V hV hW => b_24_0 (Tr_mono _) hV hW _ _ ⟨by (clear hT hk h203 hsg h17 h210 x1 q1 qv vs vz hm hx hx1 hx2 hx3 hx4 w1 w2 w3 w4 w5 w6 n12 hin hB qq hT0 ep rme x15 fx2 ru2 hP2 tA2 e18 m7 m10 m11 m81 hS va vb vd m1 x25 h g hV hW; omega), by
    rw [exX_r (r := 109) (by decide) (by decide), hx]; simp only [Int.reduceEq, if_true, if_false]
    rw [w32_id (x := c2 + 1) (by (clear hT hk h203 hsg h17 h210 x1 q1 qv vs vz hm hx hx1 hx2 hx3 hx4 w1 w2 w3 w4 w5 w6 n12 hin hB qq hT0 ep rme x15 fx2 ru2 hP2 tA2 e18 m7 m10 m11 m81 hS va vb vd m1 x25 h g hV hW; omega)) (by (clear hT hk h203 hsg h17 h210 x1 q1 qv vs vz hm hx hx1 hx2 hx3 hx4 w1 w2 w3 w4 w5 w6 n12 hin hB qq hT0 ep rme x15 fx2 ru2 hP2 tA2 e18 m7 m10 m11 m81 hS va vb vd m1 x25 h g hV hW; omega)), w32_id (x := c2 + 2) (by (clear hT hk h203 hsg h17 h210 x1 q1 qv vs vz hm hx hx1 hx2 hx3 hx4 w1 w2 w3 w4 w5 w6 n12 hin hB qq hT0 ep rme x15 fx2 ru2 hP2 tA2 e18 m7 m10 m11 m81 hS va vb vd m1 x25 h g hV hW; omega)) (by (clear hT hk h203 hsg h17 h210 x1 q1 qv vs vz hm hx hx1 hx2 hx3 hx4 w1 w2 w3 w4 w5 w6 n12 hin hB qq hT0 ep rme x15 fx2 ru2 hP2 tA2 e18 m7 m10 m11 m81 hS va vb vd m1 x25 h g hV hW; omega)), w32_id (x := c2 + 3) (by (clear hT hk h203 hsg h17 h210 x1 q1 qv vs vz hm hx hx1 hx2 hx3 hx4 w1 w2 w3 w4 w5 w6 n12 hin hB qq hT0 ep rme x15 fx2 ru2 hP2 tA2 e18 m7 m10 m11 m81 hS va vb vd m1 x25 h g hV hW; omega)) (by (clear hT hk h203 hsg h17 h210 x1 q1 qv vs vz hm hx hx1 hx2 hx3 hx4 w1 w2 w3 w4 w5 w6 n12 hin hB qq hT0 ep rme x15 fx2 ru2 hP2 tA2 e18 m7 m10 m11 m81 hS va vb vd m1 x25 h g hV hW; omega)), w32_id (x := c2 + 4) (by (clear hT hk h203 hsg h17 h210 x1 q1 qv vs vz hm hx hx1 hx2 hx3 hx4 w1 w2 w3 w4 w5 w6 n12 hin hB qq hT0 ep rme x15 fx2 ru2 hP2 tA2 e18 m7 m10 m11 m81 hS va vb vd m1 x25 h g hV hW; omega)) (by (clear hT hk h203 hsg h17 h210 x1 q1 qv vs vz hm hx hx1 hx2 hx3 hx4 w1 w2 w3 w4 w5 w6 n12 hin hB qq hT0 ep rme x15 fx2 ru2 hP2 tA2 e18 m7 m10 m11 m81 hS va vb vd m1 x25 h g hV hW; omega)), w32_id (x := c2 + 5) (by (clear hT hk h203 hsg h17 h210 x1 q1 qv vs vz hm hx hx1 hx2 hx3 hx4 w1 w2 w3 w4 w5 w6 n12 hin hB qq hT0 ep rme x15 fx2 ru2 hP2 tA2 e18 m7 m10 m11 m81 hS va vb vd m1 x25 h g hV hW; omega)) (by (clear hT hk h203 hsg h17 h210 x1 q1 qv vs vz hm hx hx1 hx2 hx3 hx4 w1 w2 w3 w4 w5 w6 n12 hin hB qq hT0 ep rme x15 fx2 ru2 hP2 tA2 e18 m7 m10 m11 m81 hS va vb vd m1 x25 h g hV hW; omega)), hx1, hx2, hx3, hx4]
    exact ⟨by (clear hT hk h203 hsg h17 h210 x1 q1 qv vs vz hm hx hx1 hx2 hx3 hx4 w1 w2 w3 w4 w5 w6 n12 hin hB qq hT0 ep rme x15 fx2 ru2 hP2 tA2 e18 m7 m10 m11 m81 hS va vb vd m1 x25 h g hV hW; omega), by (clear hT hk h203 hsg h17 h210 x1 q1 qv vs vz hm hx hx1 hx2 hx3 hx4 w1 w2 w3 w4 w5 w6 n12 hin hB qq hT0 ep rme x15 fx2 ru2 hP2 tA2 e18 m7 m10 m11 m81 hS va vb vd m1 x25 h g hV hW; omega), by (clear hT hk h203 hsg h17 h210 x1 q1 qv vs vz hm hx hx1 hx2 hx3 hx4 w1 w2 w3 w4 w5 w6 n12 hin hB qq hT0 ep rme x15 fx2 ru2 hP2 tA2 e18 m7 m10 m11 m81 hS va vb vd m1 x25 h g hV hW; omega), by (clear hT hk h203 hsg h17 h210 x1 q1 qv vs vz hm hx hx1 hx2 hx3 hx4 w1 w2 w3 w4 w5 w6 n12 hin hB qq hT0 ep rme x15 fx2 ru2 hP2 tA2 e18 m7 m10 m11 m81 hS va vb vd m1 x25 h g hV hW; omega), h _ _ (rv_i g)⟩⟩)
  -- the route
  obtain ⟨v, v0, xv, yv⟩ := j_26 (M := exX M A 0) (N := N1) (T := T) (to_ := -1) (tq := 0) (any := 1) (sg := N 205 k) hP2 hT0 (fun e => absurd e (by decide)) hsg
  have hrr : ∃ r, (r = -1 ∨ (0 ≤ r ∧ r < N 6 18)) ∧ (∀ (V : vv_) (Qr : qr_) (Qt : qt_), Cl_ wd0 (Tr_ wd0 pg0 5) V Qr Qt m_25 → Wk_ V → V 227 [rr 0, ii (N 205 k), ii (N 210 k), ii m, ii (N 207 k), ii (M 10 s), ii T, ii 0, ii (N1 244 0), ii (N1 244 1), ii (N1 244 2), ii r, none, none, none] [] (exX M A 0) → V 110 [rr 0, ii (N 205 k), ii (N 210 k), ii m, ii (N 207 k), ii (M 10 s), ii T, ii 0, ii (N1 244 0), ii (N1 244 1), ii (N1 244 2), none, none, none, none] [] (exX M A 0)) ∧ (∀ (w : Int) (N2 : mm_), (∀ (V : vv_) (Qr : qr_) (Qt : qt_), Cl_ wd0 (Tr_ wd0 pg0 5) V Qr Qt m_356 → Wk_ V → Qr [.inl w] N2 → V 180 [rr 6, ii s, ii k, ii 0, ii (sB s), ii T, ii (M 10 s), ii (N 205 k), ii 0, ii r, none] [] N1) → Ex_ 7 350 [.inr (.inr 6), .inl s, .inl k] N [.inl w] N2) := by
    rcases hm with ⟨e0, e6, e7⟩ | ⟨e0, e6, e7⟩
    · refine ⟨v, by rw [e18] at v0; exact v0, fun V Qr Qt hV hW g => b_25_110 (Tr_mono _) hV hW _ _ _ _ _ _ _ _ _ _ _ ?_, fun w N2 h => q350_2 (by omega) hk h203 (q356_0 (T := T) (me := M 10 s) (by omega) hk q1 qv ⟨by rw [← hT]; exact hin.1.2.1.symm, ep⟩ (fun V Qr Qt hV hW g => ?_))⟩
      · rw [if_neg m1, if_neg (by (clear hT hk hc h203 hsg h17 h210 x1 q1 qv vs vz hx hx1 hx2 hx3 hx4 w1 w2 w3 w4 w5 w6 n12 hin hB qq hT0 ep rme x15 fx2 ru2 hP2 tA2 e18 m7 m10 m11 m81 hS va vb vd m1 x25 x24 v0 xv yv e6 e7 hV hW g; lia))]
        exact Ex_le (d := 2) (by decide) xv _ _ (ri_i g)
      · rw [if_pos (by (clear hT hk hc h203 hsg h17 h210 x1 q1 qv vs vz hx hx1 hx2 hx3 hx4 w1 w2 w3 w4 w5 w6 n12 hin hB qq hT0 ep rme x15 fx2 ru2 hP2 tA2 e18 m7 m10 m11 m81 hS va vb vd m1 x25 x24 v0 xv yv e0 e7 h hV hW g; omega)), if_pos (by (clear hT hk hc h203 hsg h17 h210 x1 q1 qv vs vz hx hx1 hx2 hx3 hx4 w1 w2 w3 w4 w5 w6 n12 hin hB qq hT0 ep rme x15 fx2 ru2 hP2 tA2 e18 m7 m10 m11 m81 hS va vb vd m1 x25 x24 v0 xv yv e0 e6 h hV hW g; lia))]
        exact Ex_le (d := 1) (by decide) yv _ _ (ri_i (h V Qr Qt hV hW g))
    · refine ⟨N 207 k, .inr e7, fun V Qr Qt hV hW g => b_25_110 (Tr_mono _) hV hW _ _ _ _ _ _ _ _ _ _ _ ?_, fun w N2 h => q350_2 (by omega) hk h203 (q356_0 (T := T) (me := M 10 s) (by omega) hk q1 qv ⟨by rw [← hT]; exact hin.1.2.1.symm, ep⟩ (fun V Qr Qt hV hW g => ?_))⟩
      · rw [if_neg m1, if_pos e0]; exact g
      · rw [if_pos (by omega), if_neg (by (clear hT hk hc h203 hsg h17 h210 x1 q1 qv vs vz hx hx1 hx2 hx3 hx4 w1 w2 w3 w4 w5 w6 n12 hin hB qq hT0 ep rme x15 fx2 ru2 hP2 tA2 e18 m7 m10 m11 m81 hS va vb vd m1 x25 x24 v0 xv yv e0 e6 h hV hW g; omega))]
        exact h V Qr Qt hV hW g
  obtain ⟨r, r0, xr, qr⟩ := hrr
  by_cases cr : r = -1
  · -- no way
    have fx3 : EFX M (up_ (exX M A 0) 0 49 3) := EFX_tr fx2 (EFX_up (by decide))
    refine .inr ⟨3, up_ (exX M A 0) 0 49 3, N1, by decide, xw_e2 (by (clear hW hT hk h203 hsg h17 h210 x1 q1 qv vs vz hm hx hx1 hx2 hx3 hx4 w1 w2 w3 w4 w5 w6 n12 hin hB qq hT0 ep rme x15 fx2 ru2 hP2 tA2 e18 m7 m10 m11 m81 hS va vb vd m1 x25 x24 v0 xv yv r0 xr qr cr fx3; omega)) x15 (fun Qr Qt g => t_24 fun V hV hW => b_24_0 (Tr_mono _) hV hW _ _ ⟨by (clear hT hk h203 hsg h17 h210 x1 q1 qv vs vz hm hx hx1 hx2 hx3 hx4 w1 w2 w3 w4 w5 w6 n12 hin hB qq hT0 ep rme x15 fx2 ru2 hP2 tA2 e18 m7 m10 m11 m81 hS va vb vd m1 x25 x24 v0 xv yv r0 xr qr cr fx3 g hV hW; omega), ?_⟩), ⟨up_at, by rw [upo (by decide), exX_0 (by decide)]⟩, qr 3 N1 (fun V Qr Qt hV hW g => b_356_180 (Tr_mono _) hV hW _ _ _ _ _ _ _ _ _ _ ?_), RU_ef (RU_qv w1 qv) fx3 EFQ_rf, tA2, ⟨XRF_ef fx3, QRF_qv qv⟩, by rw [upo (by decide), exX_0 (by decide)], by rw [upo (by decide), exX_0 (by decide)]⟩
    · rw [exX_r (r := 109) (by decide) (by decide), hx]; simp only [Int.reduceEq, if_true, if_false]
      rw [w32_id (x := c2 + 1) (by omega) (by omega), w32_id (x := c2 + 2) (by omega) (by omega), w32_id (x := c2 + 3) (by (clear hT hk h203 hsg h17 h210 x1 q1 qv vs vz hm hx hx1 hx2 hx3 hx4 w1 w2 w3 w4 w5 w6 n12 hin hB qq hT0 ep rme x15 fx2 ru2 hP2 tA2 e18 m7 m10 m11 m81 hS va vb vd m1 x25 x24 v0 xv yv r0 xr qr cr fx3 g hV hW; omega)) (by omega), w32_id (x := c2 + 4) (by omega) (by (clear hT hk h203 hsg h17 h210 x1 q1 qv vs vz hm hx hx1 hx2 hx3 hx4 w1 w2 w3 w4 w5 w6 n12 hin hB qq hT0 ep rme x15 fx2 ru2 hP2 tA2 e18 m7 m10 m11 m81 hS va vb vd m1 x25 x24 v0 xv yv r0 xr qr cr fx3 g hV hW; omega)), hx1, hx2, hx3, hx4]
      refine ⟨by omega, by (clear hT hk h203 hsg h17 h210 x1 q1 qv vs vz hm hx hx1 hx2 hx3 hx4 w1 w2 w3 w4 w5 w6 n12 hin hB qq hT0 ep rme x15 fx2 ru2 hP2 tA2 e18 m7 m10 m11 m81 hS va vb vd m1 x25 x24 v0 xv yv r0 xr qr cr fx3 g hV hW; omega), by (clear hT hk h203 hsg h17 h210 x1 q1 qv vs vz hm hx hx1 hx2 hx3 hx4 w1 w2 w3 w4 w5 w6 n12 hin hB qq hT0 ep rme x15 fx2 ru2 hP2 tA2 e18 m7 m10 m11 m81 hS va vb vd m1 x25 x24 v0 xv yv r0 xr qr cr fx3 g hV hW; omega), by (clear hT hk h203 hsg h17 h210 x1 q1 qv vs vz hm hx hx1 hx2 hx3 hx4 w1 w2 w3 w4 w5 w6 n12 hin hB qq hT0 ep rme x15 fx2 ru2 hP2 tA2 e18 m7 m10 m11 m81 hS va vb vd m1 x25 x24 v0 xv yv r0 xr qr cr fx3 g hV hW; lia), x25 _ _ fun V' hV' hW' => xr V' _ _ hV' hW' (b_25_227 (Tr_mono _) hV' hW' _ _ _ _ _ _ _ _ _ _ _ _ ?_)⟩
      rw [if_pos cr]
      exact Ex_le (d := 1) (by decide) x_19 _ _ (rf_i (by rw [if_neg (by decide)]; exact g))
    · rw [if_pos (by (clear hT hk hc h203 hsg h17 h210 x1 q1 qv vs vz hm hx hx1 hx2 hx3 hx4 w1 w2 w3 w4 w5 w6 n12 hin hB qq hT0 ep rme x15 fx2 ru2 hP2 tA2 e18 m7 m10 m11 m81 hS va vb vd m1 x25 x24 v0 xv yv r0 xr qr fx3 hV hW g; omega)), if_pos (by omega)]; exact g
  · have hr : 0 ≤ r ∧ r < N 6 18 := by (clear hW hT hk hc h203 hsg h17 h210 x1 q1 qv vs vz hm hx hx1 hx2 hx3 hx4 w1 w2 w3 w4 w5 w6 n12 hin hB qq hT0 ep rme x15 fx2 ru2 hP2 tA2 e18 m7 m10 m11 m81 hS va vb vd m1 x25 x24 v0 xv yv xr qr; lia)
    have h10 := w1.2.1.1
    obtain ⟨_, _, g3, _⟩ := RTG_of (r := r) w2 hr
    have e161 : N1 161 = N 161 := qq 161 (by decide) (by decide) (by decide)
    -- the receiver
    generalize hR : rcv (M 11) (M 10) (M 81 (2 * r + 1)) (M 0 7).toNat 0 = R
    have hQ : (if N 161 r < 0 then 0 else rcv (M 11) (M 10) (N 161 r) (M 0 7).toNat 0) = R := by
      rcases g3 with ⟨a1, a2⟩ | ⟨a1, a2⟩
      · rw [if_pos (by (clear hW hT hk hc h203 hsg h17 h210 x1 q1 qv vs vz hm hx hx1 hx2 hx3 hx4 w1 w2 w3 w4 w5 w6 n12 hin hB qq hT0 ep rme x15 fx2 ru2 hP2 tA2 e18 m7 m10 m11 m81 hS va vb vd m1 x25 x24 v0 xv yv r0 xr qr cr hr h10 e161 hR a1; omega)), ← hR, rcv_z _ _ (fun j j0 j1 => by have := (w1.1.2.2.1 j j0 (by (clear hW hT hk hc h203 hsg h17 h210 x1 q1 qv vs vz hm hx hx1 hx2 hx3 hx4 w1 w2 w3 w6 hin hB qq hT0 ep rme x15 fx2 ru2 hP2 tA2 e18 m10 m11 m81 hS va vb vd m1 x25 x24 v0 xv yv r0 xr qr cr hr h10 e161 hR a1 a2 j0; lia))).2.1.2.1.1; (clear hW hT hk hc h203 hsg h17 h210 x1 q1 qv vs vz hm hx hx1 hx2 hx3 hx4 w1 w2 w3 w4 w5 w6 n12 hin hB qq hT0 ep rme x15 fx2 ru2 hP2 tA2 e18 m7 m10 m11 m81 hS va vb vd m1 x25 x24 v0 xv yv r0 xr qr cr hr h10 e161 hR a2 j0 j1; omega))]
      · rw [if_neg (by (clear hW hT hk hc h203 hsg h17 h210 x1 q1 qv vs vz hm hx hx1 hx2 hx3 hx4 w1 w2 w3 w4 w5 w6 n12 hin hB qq hT0 ep rme x15 fx2 ru2 hP2 tA2 e18 m7 m10 m11 m81 hS va vb vd m1 x25 x24 v0 xv yv r0 xr qr cr hr h10 e161 hR; omega)), a2]; exact hR
    have q358 := q_358 (s := N 161 r) ru2 (by (clear hW hT hk hc h203 hsg h17 h210 x1 q1 qv vs vz hm hx hx1 hx2 hx3 hx4 w1 w2 w3 w4 w5 w6 n12 hin hB qq hT0 ep rme x15 fx2 ru2 hP2 tA2 e18 m7 m10 m11 m81 hS va vb vd m1 x25 x24 v0 xv yv r0 xr qr cr hr h10 e161 hR hQ; omega))
    rw [m11, m10, m7, hQ] at q358
    have R32R : R32 R := by
      rw [← hR]
      rcases rcv_p (g := M 11) (p := M 10) (s := M 81 (2 * r + 1)) (M 0 7).toNat 0 with e | ⟨j, hj, e⟩
      · rw [e]; exact ⟨by decide, by decide⟩
      · rw [e, (w1.1.2.2.1 j hj.1 (by (clear hW hT hk hc h203 hsg h17 h210 x1 q1 qv vs vz hm hx hx1 hx2 hx3 hx4 w1 w2 w3 w6 hin hB qq hT0 ep rme x15 fx2 ru2 hP2 tA2 e18 m10 m11 m81 hS va vb vd m1 x25 x24 v0 xv yv r0 xr qr cr hr h10 g3 e161 hR hQ q358 e; omega))).1.1]; exact w3.2.2 _
    have x266 : ∀ (V : vv_) (Qr : qr_) (Qt : qt_), Cl_ wd0 (Tr_ wd0 pg0 5) V Qr Qt m_25 → Wk_ V → V 266 [rr 0, ii (N 205 k), ii (N 210 k), ii m, ii (N 207 k), ii (M 10 s), ii T, ii 0, ii (N1 244 0), ii (N1 244 1), ii (N1 244 2), ii r, ii (M 81 (2 * r + 1)), ii R, ii (-1)] [] (exX M A 0) → V 227 [rr 0, ii (N 205 k), ii (N 210 k), ii m, ii (N 207 k), ii (M 10 s), ii T, ii 0, ii (N1 244 0), ii (N1 244 1), ii (N1 244 2), ii r, none, none, none] [] (exX M A 0) := fun V Qr Qt hV hW g => b_25_227 (Tr_mono _) hV hW _ _ _ _ _ _ _ _ _ _ _ _ (by
      rw [if_neg cr, w32_id (x := 2 * r) (by (clear hT hk hc h203 hsg h17 h210 x1 q1 qv vs vz hm hx hx1 hx2 hx3 hx4 w1 w2 w3 w4 w5 w6 n12 hin hB qq hT0 ep rme x15 fx2 ru2 hP2 tA2 e18 m7 m10 m11 m81 hS va vb vd m1 x25 x24 v0 xv yv r0 xr qr cr h10 g3 e161 hR hQ q358 R32R hV hW g; omega)) (by (clear hT hk hc h203 hsg h17 h210 x1 q1 qv vs vz hm hx hx1 hx2 hx3 hx4 w1 w2 w3 w4 w5 w6 n12 hin hB qq hT0 ep rme x15 fx2 ru2 hP2 tA2 e18 m7 m10 m11 m81 hS va vb vd m1 x25 x24 v0 xv yv r0 xr qr cr g3 e161 hR hQ q358 R32R hV hW g; omega)), w32_id (x := 2 * r + 1) (by (clear hT hk hc h203 hsg h17 h210 x1 q1 qv vs vz hm hx hx1 hx2 hx3 hx4 w1 w2 w3 w4 w5 w6 n12 hin hB qq hT0 ep rme x15 fx2 ru2 hP2 tA2 e18 m7 m10 m11 m81 hS va vb vd m1 x25 x24 v0 xv yv r0 xr qr cr h10 g3 e161 hR hQ q358 R32R hV hW g; omega)) (by (clear hT hk hc h203 hsg h17 h210 x1 q1 qv vs vz hm hx hx1 hx2 hx3 hx4 w1 w2 w3 w4 w5 w6 n12 hin hB qq hT0 ep rme x15 fx2 ru2 hP2 tA2 e18 m7 m10 m11 m81 hS va vb vd m1 x25 x24 v0 xv yv r0 xr qr cr g3 e161 hR hQ q358 R32R hV hW g; omega)), m81, m7, w32_id (x := M 0 7 - 1) (by (clear hT hk hc h203 hsg h17 h210 x1 q1 qv vs vz hm hx hx1 hx2 hx3 hx4 w1 w2 w3 w4 w5 w6 hin hB qq hT0 ep rme x15 fx2 ru2 hP2 tA2 e18 m10 m11 m81 hS va vb vd m1 x25 x24 v0 xv yv r0 xr qr cr hr h10 g3 e161 hR hQ q358 R32R hV hW g; omega)) (by (clear hT hk hc h203 hsg h17 h210 x1 q1 qv vs vz hm hx hx1 hx2 hx3 hx4 w1 w2 w3 w4 w5 w6 hin hB qq hT0 ep rme x15 fx2 ru2 hP2 tA2 e18 m10 m11 m81 hS va vb vd m1 x25 x24 v0 xv yv r0 xr qr cr hr h10 g3 e161 hR hQ q358 R32R hV hW g; omega))]
      refine ⟨by (clear hT hk hc h203 hsg h17 h210 x1 q1 qv vs vz hm hx hx1 hx2 hx3 hx4 w1 w2 w3 w4 w5 w6 n12 hin hB qq hT0 ep rme x15 fx2 ru2 hP2 tA2 e18 m7 m10 m11 m81 hS va vb vd m1 x25 x24 v0 xv yv r0 xr qr cr g3 e161 hR hQ q358 R32R hV hW g; omega), ?_⟩
      have := x_266 (s := M 81 (2 * r + 1)) ru2 hV hW (by rw [m11, m10, m7, hR]; exact g) (M 0 7).toNat (M 0 7 - 1) 0 (by (clear hT hk hc h203 hsg h17 h210 x1 q1 qv vs vz hm hx hx1 hx2 hx3 hx4 w1 w2 w3 w4 w5 w6 hin hB qq hT0 ep rme x15 fx2 ru2 hP2 tA2 e18 m10 m11 m81 hS va vb vd m1 x25 x24 v0 xv yv r0 xr qr cr hr h10 g3 e161 hR hQ q358 R32R hV hW g; omega)) (by rw [m7]; (clear hT hk hc h203 hsg h17 h210 x1 q1 qv vs vz hm hx hx1 hx2 hx3 hx4 w1 w2 w3 w4 w5 w6 n12 hin hB qq hT0 ep rme x15 fx2 ru2 hP2 tA2 e18 m7 m10 m11 m81 hS va vb vd m1 x25 x24 v0 xv yv r0 xr qr cr hr h10 g3 e161 hR hQ q358 R32R hV hW g; omega))
      exact this)
    by_cases cl : R = 0 ∧ ¬ N 161 r < 0
    · -- nobody
      have b5 := RU_b5 ru2
      have b3 := RU_b324 ru2
      have ru3 := RU_ev (k := 1) (a := M 10 s) (s := N 205 k) (b := 0) ru2
      have ru4 := RU_g4 ru3
      have e1 : ∀ q : Nat, q ≠ 6 → q ≠ 240 → evQ N1 1 (M 10 s) (N 205 k) 0 q = N1 q := EvQ_ev.1
      have bk := bo_k (M' := loX (evX (exX M A 0) 1 (M 10 s) (N 205 k) 0) 0 (N 205 k) (M 10 s)) (N' := loQ (g4 (evQ N1 1 (M 10 s) (N 205 k) 0)) 0 (N 205 k) (M 10 s)) hW hT (QRF_qv qv) (RU_lo ru4) (TYA_lo (TYA_g4 (TYA_ev tA2))) ⟨XRF_tr XRF_ev XRF_lo, QRF_tr (QRF_tr QRF_ev QRF_g4) QRF_lo⟩ (KAX_tr KAX_ev KAX_lo)
      refine .inl ⟨_, _, x24 _ (fun Qr Qt g => x25 Qr Qt fun V hV hW => xr V Qr Qt hV hW (x266 V Qr Qt hV hW (b_25_266 (Tr_mono _) hV hW _ _ _ _ _ _ _ _ _ _ _ _ _ _ _ ?_))), qr 0 _ (fun V Qr Qt hV hW g => b_356_180 (Tr_mono _) hV hW _ _ _ _ _ _ _ _ _ _ ?_), bk⟩
      · rw [if_pos (by decide), cl.1]
        refine Ex_le (d := 1) (by decide) (x_5 b5.1 b5.2.1 b5.2.2) _ _ (rv_i ?_)
        rw [if_pos rfl, if_neg (by (clear hT hk hc h203 hsg h17 h210 x1 q1 qv vs vz hm hx hx1 hx2 hx3 hx4 w1 w2 w3 w4 w5 w6 n12 hin hB qq hT0 ep rme x15 fx2 ru2 hP2 tA2 e18 m7 m10 m11 m81 hS va vb vd m1 x25 x24 v0 xv yv r0 xr qr cr hr h10 e161 hR hQ q358 R32R x266 ru3 ru4 e1 bk g hV hW; omega))]
        exact Ex_le (d := 2) (by decide) (x_7 ru3) _ _ (rv_i g)
      · rw [if_neg (by (clear hT hk hc h203 hsg h17 h210 x1 q1 qv vs vz hm hx hx1 hx2 hx3 hx4 w1 w2 w3 w4 w5 w6 n12 hin hB qq hT0 ep rme x15 fx2 ru2 hP2 tA2 e18 m7 m10 m11 m81 hS va vb vd m1 x25 x24 v0 xv yv r0 xr qr cr h10 g3 e161 hR hQ q358 R32R x266 cl b5 b3 ru3 ru4 e1 bk hV hW g; omega)), e161]
        refine ⟨by (clear hT hk hc h203 hsg h17 h210 x1 q1 qv vs vz hm hx hx1 hx2 hx3 hx4 w1 w2 w3 w4 w5 w6 n12 hin hB qq hT0 ep rme x15 fx2 ru2 hP2 tA2 e18 m7 m10 m11 m81 hS va vb vd m1 x25 x24 v0 xv yv r0 xr qr cr g3 e161 hR hQ q358 R32R x266 cl b5 b3 ru3 ru4 e1 bk hV hW g; omega), Ex_le (d := 2) (by decide) q358 _ _ (ri_i ?_)⟩
        rw [if_neg (by omega), cl.1]
        refine Ex_le (d := 1) (by decide) (q_324 b3.1 b3.2.1 b3.2.2) _ _ (rv_i (q_219 hV hW (by omega) ?_))
        rw [if_pos rfl, e1 161 (by decide) (by decide), e161, if_neg cl.2]
        exact Ex_le (d := 2) (by decide) (q_333 ru4) _ _ (rv_i g)
    · obtain ⟨M', N', xs, qs, ru', tA', fr', ka'⟩ := j_snd (s := s) (k := k) (y3 := 0) (y4 := sB s) (y5 := T) (r := r) (sg := N 205 k) (me := M 10 s) (to_ := R) ru2 hP2 tA2 (by rw [e18]; exact hr) hS rme R32R ⟨rfl, rfl, rfl⟩ (fun e => by rw [e161]; by_cases c9 : N 161 r < 0; exact c9; exact absurd ⟨e, c9⟩ cl)
      have bk := bo_k hW hT (QRF_qv qv) ru' tA' fr' ka'
      refine .inl ⟨M', N', x24 _ (fun Qr Qt g => x25 Qr Qt fun V hV hW => xr V Qr Qt hV hW (x266 V Qr Qt hV hW (b_25_266 (Tr_mono _) hV hW _ _ _ _ _ _ _ _ _ _ _ _ _ _ _ ?_))), qr 0 _ (fun V Qr Qt hV hW g => b_356_180 (Tr_mono _) hV hW _ _ _ _ _ _ _ _ _ _ ?_), bk⟩
      · rw [if_pos (by decide)]
        have xs' := xs Qr Qt g
        by_cases c0 : R = 0
        · have : M 81 (2 * r + 1) = -2 := by
            rcases g3 with ⟨a1, a2⟩ | ⟨a1, a2⟩
            · exact a1
            · exact absurd ⟨c0, by (clear hT hk hc h203 hsg h17 h210 x1 q1 qv vs vz hm hx hx1 hx2 hx3 hx4 w1 w2 w3 w4 w5 w6 n12 hin hB qq hT0 ep rme x15 fx2 ru2 hP2 tA2 e18 m7 m10 m11 m81 hS va vb vd m1 x25 x24 v0 xv yv r0 xr qr cr hr h10 e161 hR hQ q358 R32R x266 cl xs qs ru' tA' fr' ka' bk g hV hW xs' c0; lia)⟩ cl
          refine Tr_mono _ _ _ _ _ _ _ _ ?_ (fun _ _ h => h) xs'
          intro vs' M9 h9
          exact ⟨h9.1, by dsimp only; rw [if_pos c0, if_pos this]; exact h9.2⟩
        · refine Tr_mono _ _ _ _ _ _ _ _ ?_ (fun _ _ h => h) xs'
          intro vs' M9 h9
          exact ⟨h9.1, by dsimp only; rw [if_neg c0]; exact h9.2⟩
      · rw [if_neg (by (clear hT hk hc h203 hsg h17 h210 x1 q1 qv vs vz hm hx hx1 hx2 hx3 hx4 w1 w2 w3 w4 w5 w6 n12 hin hB qq hT0 ep rme x15 fx2 ru2 hP2 tA2 e18 m7 m10 m11 m81 hS va vb vd m1 x25 x24 v0 xv yv r0 xr qr cr h10 g3 e161 hR hQ q358 R32R x266 cl xs qs ru' tA' fr' ka' bk hV hW g; omega)), e161]
        refine ⟨by (clear hT hk hc h203 hsg h17 h210 x1 q1 qv vs vz hm hx hx1 hx2 hx3 hx4 w1 w2 w3 w4 w5 w6 n12 hin hB qq hT0 ep rme x15 fx2 ru2 hP2 tA2 e18 m7 m10 m11 m81 hS va vb vd m1 x25 x24 v0 xv yv r0 xr qr cr g3 e161 hR hQ q358 R32R x266 cl xs qs ru' tA' fr' ka' bk hV hW g; omega), Ex_le (d := 2) (by decide) q358 _ _ (ri_i ?_)⟩
        rw [if_neg (by omega)]
        exact qs V Qr Qt hV hW g
end OWa
end T364_ow
section T365_ot
/-! the run: OUTPUT .. TO (X 24 | Q 350) -/
section OTa
variable {z : Int} {M N M' N' M1 N1 : mm_} {A : Int → Int} {k e s x2 v n bp T c c1 c2 f fe op sg to_ r me m rt a b d : Int}
theorem bo_2b [Inhabited fz_] (hW : WST z 0 M N s) (hT : M 11 s = T) (hk : 0 ≤ k ∧ k < 1300) (hc : 0 ≤ c ∧ c ≤ c2 ∧ c2 ≤ 11800) (h203 : N 203 k = 2) (hsg : 0 ≤ N 205 k ∧ N 205 k < 20) (h17 : N 205 k < N 6 17) (h210 : (0 ≤ N 210 k ∧ N 210 k ≤ 3) ∧ N 210 k = N 156 (N 205 k))
    (x1 : ∀ x1, RC 2 m_15 10 [rr 0, ii x1, rr 109, ii c, none, none] M 10 [rr 0, ii x1, rr 109, ii c1, none, none] (exX M A (N 210 k))) (q1 : Ex_ 5 355 [.inr (.inr 6), .inl s, .inl k] N [.inl 0] N1) (qv : QVF N N1) (vs : ∀ j : Int, 0 ≤ j → j < N 210 k → A j = N1 244 j ∧ (N 157 (3 * N 205 k + j) = 2 → BV (A j)) ∧ R32 (A j)) (vz : ∀ j, N 210 k ≤ j → 0 ≤ j → j < 3 → N1 244 j = 0)
    (hfe : fe ≤ 2900) (h206 : 0 ≤ N 206 k) (hE : EXP (swc M) (tbN N) T c1 c2 (N 206 k) fe 3) (hx : M 109 c2 = 33) (hx1 : M 109 (c2 + 1) = N 205 k) (hx2 : M 109 (c2 + 2) = N 210 k) (hx3 : M 109 (c2 + 3) = 1) (hx4 : M 109 (c2 + 4) = N 207 k) : BOD z T bp M N s x2 k c (c2 + 5) := by
  obtain ⟨w1, w2, w3, w4, w5, w6⟩ := id hW
  have n12 := w1.1.1
  have hin := w1.1.2.2.1 s w4.1 w4.2
  have hB : sB s = 2 + 56 * s := rfl
  have qq : ∀ r : Nat, r ≠ 6 → r ≠ 243 → r ≠ 244 → N1 r = N r := qv.1
  have hT0 : 0 ≤ T := by have := hin.2.1.2.1.1; (clear hW hk hc h203 hsg h17 h210 x1 q1 qv vs vz hfe h206 hE hx hx1 hx2 hx3 hx4 w1 w2 w3 w4 w5 w6 n12 hin hB qq; lia)
  have ep : N 239 (sB s) = M 10 s := hin.1.1.symm
  have e1T : N 239 (sB s + 1) = T := by rw [← hT]; exact hin.1.2.1.symm
  have rme : R32 (M 10 s) := by rw [← ep]; exact w3.2.2 _
  have hW1 := WST_qv hW qv
  have ev := EVC_of hW1.1 hW1.2.1 hW1.2.2.1 hW1.2.2.2.1 hW1.2.2.2.2.1
  rw [hT] at ev
  have tb : tbN N1 = tbN N := tbN_e (QRF_qv qv)
  have q356 : ∀ (w : Int) (N3 : mm_), (∀ (V : vv_) (Qr : qr_) (Qt : qt_), Cl_ wd0 (Tr_ wd0 pg0 5) V Qr Qt m_356 → Wk_ V → Qr [.inl w] N3 → Tr_ wd0 pg0 5 339 [.inr (.inr 6), .inl s, .inl (N 206 k)] N1 (ri_ fun v4 M4 => if M4 6 149 ≤ 0 then (if v4 = 0 then V 109 [rr 6, ii s, ii k, ii 0, ii (sB s), ii T, ii (M 10 s), ii (N 205 k), ii v4, ii (N 207 k), ii (-1)] [] M4 else Tr_ wd0 pg0 5 331 [.inr (.inr 6), .inl v4] M4 (ri_ fun v5 M5 => V 109 [rr 6, ii s, ii k, ii 0, ii (sB s), ii T, ii (M 10 s), ii (N 205 k), ii v4, ii (N 207 k), ii v5] [] M5) Qt) else Qr [.inl (M4 6 149)] M4) Qt) → Ex_ 7 350 [.inr (.inr 6), .inl s, .inl k] N [.inl w] N3 := fun w N3 h => q350_2 (by (clear hW hT hk hc h203 hsg h17 h210 x1 q1 qv vs vz hfe h206 hE hx hx1 hx2 hx3 hx4 w1 w2 w3 w6 hin hB qq hT0 ep e1T rme hW1 ev tb h; lia)) hk h203 (q356_0 (by omega) hk q1 qv ⟨e1T, ep⟩ (fun V Qr Qt hV hW g => by rw [if_neg (by (clear hT hk hc h203 hsg h17 h210 x1 q1 qv vs vz hfe hE hx hx1 hx2 hx3 hx4 w1 w2 w3 w4 w5 w6 n12 hin hB qq hT0 ep e1T rme hW1 ev tb h hV hW g; lia))]; exact h V Qr Qt hV hW g))
  rcases ev_e (p := N 210 k) (A := A) (c := c1) (c' := c2) (f := N 206 k) (fe := fe) (t := 3) ev (by rw [tb]; exact hE) (by (clear hW hT hk hc h203 hsg h17 x1 q1 qv vs vz hfe h206 hE hx hx1 hx3 hx4 w1 w2 w3 w4 w5 w6 n12 hin hB qq hT0 ep e1T rme hW1 ev tb q356; omega)) (by (clear hW hT hk h203 hsg h17 h210 x1 q1 qv vs vz hfe h206 hE hx hx1 hx2 hx3 hx4 w1 w2 w3 w4 w5 w6 n12 hin hB qq hT0 ep e1T rme hW1 ev tb q356; lia)) hfe with ⟨A2, B2, to_, y1, y2, y3, y4, y5⟩ | ⟨e, A2, n2, B2, m2, v, he, y1, y2⟩
  · have x15 : Ex_ 3 15 [.inr (.inr 0), .inl c] M [.inl c2] (exX M A2 (N 210 k + 1)) := fun Qr Qt g => x_15s fun V hV hW => x1 c V Qr Qt hV hW (y1 c V Qr Qt hV hW (x_15e (by omega) (by rw [exX_r (r := 109) (by decide) (by decide)]; (clear hT hk hc h203 hsg h17 h210 x1 q1 qv vs vz hfe h206 hE hx1 hx2 hx3 hx4 w1 w2 w3 w4 w5 w6 n12 hin hB qq hT0 ep e1T rme hW1 ev tb q356 y1 y2 y3 y4 y5 g hV hW; lia)) hV hW g))
    have fx2 := EFX_ex (M := M) (A := A2) (n := 0)
    generalize hN2 : exQ N1 B2 1 0 = N2 at y2
    have fq2 : EFQ N1 N2 := by rw [← hN2]; exact EFQ_ex
    have e149 : N2 6 149 = 0 := by rw [← hN2]; exact exQ_149
    have ru2 : RU z (exX M A2 0) N2 := RU_ef (RU_qv w1 qv) fx2 fq2
    have qrf2 : QRF N N2 := QRF_tr (QRF_qv qv) (QRF_ef fq2)
    have hP2 : PLr (exX M A2 0) N2 := PLr_c w2 (XRF_ef fx2) qrf2
    have tA2 : TYA N2 := TYA_ef (TYA_qv w3 qv) fq2
    have e18 : N2 6 18 = N 6 18 := by rw [fq2.2 18 (by decide) (by decide), qv.2 18 (by decide) (by decide)]
    have q2 : ∀ r : Nat, r ≠ 6 → r ≠ 243 → r ≠ 244 → N2 r = N r := fun r h1 h2 h3 => (fq2.1 r h1 h2).trans (qq r h1 h2 h3)
    have q244 : N2 244 = N1 244 := fq2.1 244 (by decide) (by decide)
    have m7 : exX M A2 0 0 7 = M 0 7 := exX_0 (by decide)
    have m10 : exX M A2 0 10 = M 10 := exX_r (by decide) (by decide)
    have m11 : exX M A2 0 11 = M 11 := exX_r (by decide) (by decide)
    have av : ∀ j : Int, 0 ≤ j → j < N 210 k → A2 j = N2 244 j ∧ (N 157 (3 * N 205 k + j) = 2 → BV (N2 244 j)) ∧ R32 (N2 244 j) := fun j j0 j1 => by
      have := vs j j0 j1
      rw [q244, ← this.1, y5 j j1]; exact ⟨rfl, this.2⟩
    have hS : SGV (g4 N2) (N 205 k) (g4 N2 242) := SGV_g4 hsg (by rw [fq2.2 17 (by decide) (by decide), qv.2 17 (by decide) (by decide)]; exact h17) (n := N 210 k) (by rw [q2 156 (by decide) (by decide) (by decide)]; exact h210.2) (fun j j0 j1 => by rw [q2 157 (by decide) (by decide) (by decide)]; exact (av j j0 j1).2) (fun j h1 h2 h3 => by rw [q244]; exact vz j h1 h2 h3)
    have va : N2 244 0 = if N 210 k ≤ 0 then 0 else A2 0 := by
      split
      · rw [q244]; exact vz 0 (by omega) (by decide) (by decide)
      · exact (av 0 (by decide) (by (clear hW hT hk hc h203 hsg h17 x1 q1 qv vs vz hfe h206 hE hx hx1 hx3 hx4 w1 w2 w3 w4 w5 w6 n12 hin hB qq hT0 ep e1T rme hW1 ev tb q356 y1 y3 y4 y5 x15 fx2 hN2 y2 fq2 e149 ru2 qrf2 hP2 tA2 e18 q2 q244 m7 m10 m11 av hS; lia))).1.symm
    have vb : N2 244 1 = if N 210 k ≤ 1 then 0 else A2 1 := by
      split
      · rw [q244]; exact vz 1 (by omega) (by decide) (by decide)
      · exact (av 1 (by decide) (by (clear hW hT hk hc h203 hsg h17 x1 q1 qv vs vz hfe h206 hE hx hx1 hx3 hx4 w1 w2 w3 w4 w5 w6 n12 hin hB qq hT0 ep e1T rme hW1 ev tb q356 y1 y3 y4 y5 x15 fx2 hN2 y2 fq2 e149 ru2 qrf2 hP2 tA2 e18 q2 q244 m7 m10 m11 av hS va; lia))).1.symm
    have vd : N2 244 2 = if N 210 k ≤ 2 then 0 else A2 2 := by
      split
      · rw [q244]; exact vz 2 (by omega) (by decide) (by decide)
      · exact (av 2 (by decide) (by (clear hW hT hk hc h203 hsg h17 x1 q1 qv vs vz hfe h206 hE hx hx1 hx3 hx4 w1 w2 w3 w4 w5 w6 n12 hin hB qq hT0 ep e1T rme hW1 ev tb q356 y1 y3 y4 y5 x15 fx2 hN2 y2 fq2 e149 ru2 qrf2 hP2 tA2 e18 q2 q244 m7 m10 m11 av hS va vb; omega))).1.symm
    have x25 : ∀ (Qr : qr_) (Qt : qt_), (∀ V : vv_, Cl_ wd0 (Tr_ wd0 pg0 5) V Qr Qt m_25 → Wk_ V → V 110 [rr 0, ii (N 205 k), ii (N 210 k), ii 1, ii (N 207 k), ii (M 10 s), ii T, ii to_, ii (N2 244 0), ii (N2 244 1), ii (N2 244 2), none, none, none, none] [] (exX M A2 0)) → Tr_ wd0 pg0 6 25 [.inr (.inr 0), .inl (N 205 k), .inl (N 210 k), .inl 1, .inl (N 207 k)] (exX M A2 (N 210 k + 1)) Qr Qt := fun Qr Qt h => by
      have := x_25o (M := M) (A := A2) (s := s) (sg := N 205 k) (m := 1) (rt := N 207 k) (Qr := Qr) (Qt := Qt) h210.1 w5 (by (clear hW hT hk hc h203 hsg h17 h210 x1 q1 qv vs vz hfe h206 hE hx hx1 hx2 hx3 hx4 w1 w2 w3 w6 hin hB qq hT0 ep e1T rme hW1 ev tb q356 y1 y3 y4 y5 x15 fx2 hN2 y2 fq2 e149 ru2 qrf2 hP2 tA2 e18 q2 q244 m10 m11 av hS va vb vd h; lia)) va vb vd (fun V hV hW => by rw [if_pos rfl, hT, y3]; exact h V hV hW)
      rw [if_pos rfl] at this; exact this
    have x24 : ∀ (M2 : mm_), (∀ (Qr : qr_) (Qt : qt_), Qr [] M2 → Tr_ wd0 pg0 6 25 [.inr (.inr 0), .inl (N 205 k), .inl (N 210 k), .inl 1, .inl (N 207 k)] (exX M A2 (N 210 k + 1)) Qr Qt) → RC 7 m_23 17 [rr 0, ii s, ii x2, ii c] M 17 [rr 0, ii s, ii x2, ii (c2 + 5)] M2 := fun M2 h => xw_go (by omega) x15 (fun Qr Qt g => t_24 fun V hV hW => b_24_0 (Tr_mono _) hV hW _ _ ⟨by omega, by
      rw [exX_r (r := 109) (by decide) (by decide), hx]; simp only [Int.reduceEq, if_true, if_false]
      rw [w32_id (x := c2 + 1) (by (clear hT hk h203 hsg h17 h210 x1 q1 qv vs vz hfe h206 hE hx hx1 hx2 hx3 hx4 w1 w2 w3 w4 w5 w6 n12 hin hB qq hT0 ep e1T rme hW1 ev tb q356 y1 y3 y4 y5 x15 fx2 hN2 y2 fq2 e149 ru2 qrf2 hP2 tA2 e18 q2 q244 m7 m10 m11 av hS va vb vd x25 h g hV hW; omega)) (by omega), w32_id (x := c2 + 2) (by (clear hT hk h203 hsg h17 h210 x1 q1 qv vs vz hfe h206 hE hx hx1 hx2 hx3 hx4 w1 w2 w3 w4 w5 w6 n12 hin hB qq hT0 ep e1T rme hW1 ev tb q356 y1 y3 y4 y5 x15 fx2 hN2 y2 fq2 e149 ru2 qrf2 hP2 tA2 e18 q2 q244 m7 m10 m11 av hS va vb vd x25 h g hV hW; lia)) (by omega), w32_id (x := c2 + 3) (by omega) (by omega), w32_id (x := c2 + 4) (by (clear hT hk h203 hsg h17 h210 x1 q1 qv vs vz hfe h206 hE hx hx1 hx2 hx3 hx4 w1 w2 w3 w4 w5 w6 n12 hin hB qq hT0 ep e1T rme hW1 ev tb q356 y1 y3 y4 y5 x15 fx2 hN2 y2 fq2 e149 ru2 qrf2 hP2 tA2 e18 q2 q244 m7 m10 m11 av hS va vb vd x25 h g hV hW; omega)) (by omega), w32_id (x := c2 + 5) (by (clear hT hk h203 hsg h17 h210 x1 q1 qv vs vz hfe h206 hE hx hx1 hx2 hx3 hx4 w1 w2 w3 w4 w5 w6 n12 hin hB qq hT0 ep e1T rme hW1 ev tb q356 y1 y3 y4 y5 x15 fx2 hN2 y2 fq2 e149 ru2 qrf2 hP2 tA2 e18 q2 q244 m7 m10 m11 av hS va vb vd x25 h g hV hW; lia)) (by omega), hx1, hx2, hx3, hx4]
      exact ⟨by omega, by omega, by omega, by (clear hT hk h203 hsg h17 h210 x1 q1 qv vs vz hfe h206 hE hx hx1 hx2 hx3 hx4 w1 w2 w3 w4 w5 w6 n12 hin hB qq hT0 ep e1T rme hW1 ev tb q356 y1 y3 y4 y5 x15 fx2 hN2 y2 fq2 e149 ru2 qrf2 hP2 tA2 e18 q2 q244 m7 m10 m11 av hS va vb vd x25 h g hV hW; omega), h _ _ (rv_i g)⟩⟩)
    -- the slot
    obtain ⟨nn, n1, n2', n3, n4, n5⟩ := RU_n ru2
    have x6 := x_6 (M := exX M A2 0) (p := to_) n1 n3
    have q31 := q_331 (N := N2) (p := to_) n2' n3
    have es := slQ_e (p := to_) ru2
    unfold slQ at es
    rw [n5, n4] at es
    rw [es] at q31
    generalize hS9 : fi_ (exX M A2 0 10) to_ nn 0 = S at x6 q31
    have sr : S = -1 ∨ (0 ≤ S ∧ S < M 0 7 ∧ M 10 S = to_) := by
      have := fi_rg (g := exX M A2 0 10) (v := to_) (n := nn)
      rw [hS9, m10] at this
      rw [m7] at n1
      (clear hW hT hk hc h203 hsg h17 h210 x1 q1 qv vs vz hfe h206 hE hx hx1 hx2 hx3 hx4 w1 w2 w3 w6 hin hB qq hT0 ep e1T rme hW1 ev tb q356 y1 y3 y4 y5 x15 fx2 hN2 y2 fq2 e149 ru2 qrf2 hP2 tA2 e18 q2 q244 m10 m11 av hS va vb vd x25 x24 n3 es hS9 x6 q31; lia)
    have b5 := RU_b5 ru2
    have b3 := RU_b324 ru2
    have q109 : ∀ (w : Int) (N3 : mm_), (∀ (V : vv_) (Qr : qr_) (Qt : qt_), Cl_ wd0 (Tr_ wd0 pg0 5) V Qr Qt m_356 → Wk_ V → Qr [.inl w] N3 → V 109 [rr 6, ii s, ii k, ii 0, ii (sB s), ii T, ii (M 10 s), ii (N 205 k), ii to_, ii (N 207 k), ii S] [] N2) → Ex_ 7 350 [.inr (.inr 6), .inl s, .inl k] N [.inl w] N3 := fun w N3 h => q356 w N3 (fun V Qr Qt hV hW g => Ex_le (d := 4) (by decide) y2 _ _ (ri_i (by
      have h' := h V Qr Qt hV hW g
      rw [e149, if_pos (by decide)]
      by_cases c0 : to_ = 0
      · have : S = -1 := by
          rcases sr with h | ⟨h1, h2, h3⟩
          · exact h
          · have := (w1.1.2.2.1 S h1 h2).2.1.1.1; (clear hT hk hc h203 hsg h17 h210 x1 q1 qv vs vz hfe h206 hE hx hx1 hx2 hx3 hx4 w1 w2 w3 w4 w5 w6 n12 hin hB qq hT0 ep e1T rme hW1 ev tb q356 y1 y3 y4 y5 x15 fx2 hN2 y2 fq2 e149 ru2 qrf2 hP2 tA2 e18 q2 q244 m7 m10 m11 av hS va vb vd x25 x24 n1 n2' n3 n4 n5 es hS9 x6 q31 b5 b3 h hV hW g h' h1 h2; lia)
        rw [if_pos c0]; rw [this] at h'; exact h'
      · rw [if_neg c0]
        exact Ex_le (d := 2) (by decide) q31 _ _ (ri_i h'))))
    rcases sr with cs | ⟨s0, s1, s2⟩
    · -- nobody of that pid
      have ru3 := RU_ev (k := 1) (a := M 10 s) (s := N 205 k) (b := to_) ru2
      have bk := bo_k (M' := loX (evX (exX M A2 0) 1 (M 10 s) (N 205 k) to_) to_ (N 205 k) (M 10 s)) (N' := loQ (evQ N2 1 (M 10 s) (N 205 k) to_) to_ (N 205 k) (M 10 s)) hW hT qrf2 (RU_lo ru3) (TYA_lo (TYA_ev tA2)) ⟨XRF_tr XRF_ev XRF_lo, QRF_tr QRF_ev QRF_lo⟩ (KAX_tr KAX_ev KAX_lo)
      refine .inl ⟨_, _, x24 _ (fun Qr Qt g => x25 Qr Qt fun V hV hW => b_25_110 (Tr_mono _) hV hW _ _ _ _ _ _ _ _ _ _ _ ?_), q109 0 _ (fun V Qr Qt hV hW g => b_356_109 (Tr_mono _) hV hW _ _ _ _ _ _ _ _ _ _ _ ?_), bk⟩
      · rw [if_pos rfl]
        refine Ex_le (d := 1) (by decide) x6 _ _ (ri_i ?_)
        rw [if_pos cs]
        exact Ex_le (d := 1) (by decide) (x_5 b5.1 b5.2.1 b5.2.2) _ _ (rv_i (Ex_le (d := 2) (by decide) (x_7 ru3) _ _ (rv_i g)))
      · rw [if_pos (by (clear hT hk hc h203 hsg h17 h210 x1 q1 qv vs vz hfe h206 hE hx hx1 hx2 hx3 hx4 w1 w2 w3 w4 w5 w6 n12 hin hB qq hT0 ep e1T rme hW1 ev tb q356 y1 y3 y4 y5 x15 fx2 hN2 y2 fq2 e149 ru2 qrf2 hP2 tA2 e18 q2 q244 m7 m10 m11 av hS va vb vd x25 x24 n1 n2' n3 n4 n5 es hS9 x6 q31 b5 b3 q109 ru3 bk hV hW g; lia))]
        exact Ex_le (d := 1) (by decide) (q_324 b3.1 b3.2.1 b3.2.2) _ _ (rv_i (Ex_le (d := 2) (by decide) (q_333 ru3) _ _ (rv_i g)))
    · have hBS : sB S = 2 + 56 * S := rfl
      have hinS := w1.1.2.2.1 S s0 s1
      have t0 := hinS.2.1.2.1.1
      have eqS : N2 239 (sB S + 1) = M 11 S := by rw [q2 239 (by decide) (by decide) (by decide)]; exact hinS.1.2.1.symm
      have tp := hinS.2.1.1.1
      obtain ⟨r, r0, xv, yv⟩ := j_26 (M := exX M A2 0) (N := N2) (T := T) (to_ := M 11 S) (tq := M 11 S) (any := 0) (sg := N 205 k) hP2 hT0 (fun _ => ⟨t0, rfl⟩) hsg
      rw [e18] at r0
      have x110 : ∀ (V : vv_) (Qr : qr_) (Qt : qt_), Cl_ wd0 (Tr_ wd0 pg0 5) V Qr Qt m_25 → Wk_ V → (if r = -1 then Tr_ wd0 pg0 5 19 [.inr (.inr 0), .inl 3] (exX M A2 0) (rf_r fun v4 M6 => if v4 = 1999 then False else Qt v4 M6) Qt else Tr_ wd0 pg0 5 5 [.inr (.inr 0), .inl 1, .inl (M 10 s), .inl (N 205 k), .inl to_] (exX M A2 0) (rv_ fun M4 => Tr_ wd0 pg0 5 27 [.inr (.inr 0), .inl r, .inl (N 205 k), .inl (M 10 s), .inl to_, .inl (N2 244 0), .inl (N2 244 1), .inl (N2 244 2)] M4 (rv_ fun M5 => Qr [] M5) Qt) Qt) → V 110 [rr 0, ii (N 205 k), ii (N 210 k), ii 1, ii (N 207 k), ii (M 10 s), ii T, ii to_, ii (N2 244 0), ii (N2 244 1), ii (N2 244 2), none, none, none, none] [] (exX M A2 0) := fun V Qr Qt hV hW g => b_25_110 (Tr_mono _) hV hW _ _ _ _ _ _ _ _ _ _ _ (by
        rw [if_pos rfl]
        refine Ex_le (d := 1) (by decide) x6 _ _ (ri_i ?_)
        rw [if_neg (by (clear hT hk hc h203 hsg h17 h210 x1 q1 qv vs vz hfe h206 hE hx hx1 hx2 hx3 hx4 w1 w2 w3 w4 w5 w6 n12 hin hB qq hT0 ep e1T rme hW1 ev tb q356 y1 y3 y4 y5 x15 fx2 hN2 y2 fq2 e149 ru2 qrf2 hP2 tA2 e18 q2 q244 m7 m10 m11 av hS va vb vd x25 x24 n1 n2' n3 n4 n5 es hS9 x6 q31 b5 b3 q109 s1 s2 hBS hinS t0 eqS tp r0 xv yv hV hW g; lia)), m11]
        exact ⟨by (clear hT hk hc h203 hsg h17 h210 x1 q1 qv vs vz hfe h206 hE hx hx1 hx2 hx3 hx4 w1 w2 w3 w6 hin hB qq hT0 ep e1T rme hW1 ev tb q356 y1 y3 y4 y5 x15 fx2 hN2 y2 fq2 e149 ru2 qrf2 hP2 tA2 e18 q2 q244 m10 m11 av hS va vb vd x25 x24 n3 es hS9 x6 q31 b5 b3 q109 s2 hBS hinS t0 eqS tp r0 xv yv hV hW g; lia), Ex_le (d := 2) (by decide) xv _ _ (ri_i g)⟩)
      have qq9 : ∀ (w : Int) (N3 : mm_), (∀ (V : vv_) (Qr : qr_) (Qt : qt_), Cl_ wd0 (Tr_ wd0 pg0 5) V Qr Qt m_356 → Wk_ V → Qr [.inl w] N3 → (if r < 0 then Qr [.inl 3] N2 else Tr_ wd0 pg0 5 324 [.inr (.inr 6), .inl 1, .inl (M 10 s), .inl (N 205 k), .inl to_] N2 (rv_ fun M3 => V 219 [rr 6, ii s, ii k, ii 0, ii (sB s), ii T, ii (M 10 s), ii (N 205 k), ii to_, ii r, ii 0] [] M3) Qt)) → Ex_ 7 350 [.inr (.inr 6), .inl s, .inl k] N [.inl w] N3 := fun w N3 h => q109 w N3 (fun V Qr Qt hV hW g => b_356_109 (Tr_mono _) hV hW _ _ _ _ _ _ _ _ _ _ _ (by
        rw [if_neg (by (clear hT hk hc h203 hsg h17 h210 x1 q1 qv vs vz hfe h206 hE hx hx1 hx2 hx3 hx4 w1 w2 w3 w4 w5 w6 n12 hin hB qq hT0 ep e1T rme hW1 ev tb q356 y1 y3 y4 y5 x15 fx2 hN2 y2 fq2 e149 ru2 qrf2 hP2 tA2 e18 q2 q244 m7 m10 m11 av hS va vb vd x25 x24 n1 n2' n3 n4 n5 es hS9 x6 q31 b5 b3 q109 s1 s2 hBS hinS t0 eqS tp r0 xv yv x110 h hV hW g; omega))]
        refine Ex_le (d := 1) (by decide) (q_323 (by (clear hT hk hc h203 hsg h17 h210 x1 q1 qv vs vz hfe h206 hE hx hx1 hx2 hx3 hx4 w1 w2 w3 w6 hin hB qq hT0 ep e1T rme hW1 ev tb q356 y1 y3 y4 y5 x15 fx2 hN2 y2 fq2 e149 ru2 qrf2 hP2 tA2 e18 q2 q244 m10 m11 av hS va vb vd x25 x24 n3 es hS9 x6 q31 b5 b3 q109 s2 hBS hinS t0 eqS tp r0 xv yv x110 h hV hW g; lia))) _ _ (ri_i ?_)
        rw [w32_id (x := sB S + 1) (by (clear hT hk hc h203 hsg h17 h210 x1 q1 qv vs vz hfe h206 hE hx hx1 hx2 hx3 hx4 w1 w2 w3 w6 hin hB qq hT0 ep e1T rme hW1 ev tb q356 y1 y3 y4 y5 x15 fx2 hN2 y2 fq2 e149 ru2 qrf2 hP2 tA2 e18 q2 q244 m10 m11 av hS va vb vd x25 x24 n3 es hS9 x6 q31 b5 b3 q109 s2 hinS t0 eqS tp r0 xv yv x110 h hV hW g; lia)) (by (clear hT hk hc h203 hsg h17 h210 x1 q1 qv vs vz hfe h206 hE hx hx1 hx2 hx3 hx4 w1 w2 w3 w6 hin hB qq hT0 ep e1T rme hW1 ev tb q356 y1 y3 y4 y5 x15 fx2 hN2 y2 fq2 e149 ru2 qrf2 hP2 tA2 e18 q2 q244 m10 m11 av hS va vb vd x25 x24 n3 es hS9 x6 q31 b5 b3 q109 s2 hinS t0 eqS tp r0 xv yv x110 h hV hW g; lia)), eqS]
        exact ⟨by (clear hT hk hc h203 hsg h17 h210 x1 q1 qv vs vz hfe h206 hE hx hx1 hx2 hx3 hx4 w1 w2 w3 w6 hin hB qq hT0 ep e1T rme hW1 ev tb q356 y1 y3 y4 y5 x15 fx2 hN2 y2 fq2 e149 ru2 qrf2 hP2 tA2 e18 q2 q244 m10 m11 av hS va vb vd x25 x24 n3 es hS9 x6 q31 b5 b3 q109 s2 hinS t0 eqS tp r0 xv yv x110 h hV hW g; lia), Ex_le (d := 1) (by decide) yv _ _ (ri_i (h V Qr Qt hV hW g))⟩))
      by_cases cr : r = -1
      · have fx3 : EFX M (up_ (exX M A2 0) 0 49 3) := EFX_tr fx2 (EFX_up (by decide))
        refine .inr ⟨3, up_ (exX M A2 0) 0 49 3, N2, by decide, xw_e2 (by (clear hW hT hk h203 hsg h17 h210 x1 q1 qv vs vz hfe h206 hE hx hx1 hx2 hx3 hx4 w1 w2 w3 w4 w5 w6 n12 hin hB qq hT0 ep e1T rme hW1 ev tb q356 y1 y3 y4 y5 x15 fx2 hN2 y2 fq2 e149 ru2 qrf2 hP2 tA2 e18 q2 q244 m7 m10 m11 av hS va vb vd x25 x24 n1 n2' n3 n4 n5 es hS9 x6 q31 b5 b3 q109 s0 s1 s2 hBS hinS t0 eqS tp r0 xv yv x110 qq9 cr fx3; lia)) x15 (fun Qr Qt g => t_24 fun V hV hW => b_24_0 (Tr_mono _) hV hW _ _ ⟨by (clear hT hk h203 hsg h17 h210 x1 q1 qv vs vz hfe h206 hE hx hx1 hx2 hx3 hx4 w1 w2 w3 w4 w5 w6 n12 hin hB qq hT0 ep e1T rme hW1 ev tb q356 y1 y3 y4 y5 x15 fx2 hN2 y2 fq2 e149 ru2 qrf2 hP2 tA2 e18 q2 q244 m7 m10 m11 av hS va vb vd x25 x24 n1 n2' n3 n4 n5 es hS9 x6 q31 b5 b3 q109 s0 s1 s2 hBS hinS t0 eqS tp r0 xv yv x110 qq9 cr fx3 g hV hW; omega), ?_⟩), ⟨up_at, by rw [upo (by decide), exX_0 (by decide)]⟩, qq9 3 N2 (fun V Qr Qt hV hW g => by rw [if_pos (by (clear hT hk hc h203 hsg h17 h210 x1 q1 qv vs vz hfe h206 hE hx hx1 hx2 hx3 hx4 w1 w2 w3 w4 w5 w6 n12 hin hB qq hT0 ep e1T rme hW1 ev tb q356 y1 y3 y4 y5 x15 fx2 hN2 y2 fq2 e149 ru2 qrf2 hP2 tA2 e18 q2 q244 m7 m10 m11 av hS va vb vd x25 x24 n1 n2' n3 n4 n5 es hS9 x6 q31 b5 b3 q109 s0 s1 s2 hBS hinS t0 eqS tp r0 xv yv x110 qq9 fx3 hV hW g; omega))]; exact g), RU_ef (RU_qv w1 qv) fx3 fq2, tA2, ⟨XRF_ef fx3, qrf2⟩, by rw [upo (by decide), exX_0 (by decide)], by rw [upo (by decide), exX_0 (by decide)]⟩
        rw [exX_r (r := 109) (by decide) (by decide), hx]; simp only [Int.reduceEq, if_true, if_false]
        rw [w32_id (x := c2 + 1) (by (clear hT hk h203 hsg h17 h210 x1 q1 qv vs vz hfe h206 hE hx hx1 hx2 hx3 hx4 w1 w2 w3 w4 w5 w6 n12 hin hB qq hT0 ep e1T rme hW1 ev tb q356 y1 y3 y4 y5 x15 fx2 hN2 y2 fq2 e149 ru2 qrf2 hP2 tA2 e18 q2 q244 m7 m10 m11 av hS va vb vd x25 x24 n1 n2' n3 n4 n5 es hS9 x6 q31 b5 b3 q109 s0 s1 s2 hBS hinS t0 eqS tp r0 xv yv x110 qq9 cr fx3 g hV hW; omega)) (by (clear hT hk h203 hsg h17 h210 x1 q1 qv vs vz hfe h206 hE hx hx1 hx2 hx3 hx4 w1 w2 w3 w4 w5 w6 n12 hin hB qq hT0 ep e1T rme hW1 ev tb q356 y1 y3 y4 y5 x15 fx2 hN2 y2 fq2 e149 ru2 qrf2 hP2 tA2 e18 q2 q244 m7 m10 m11 av hS va vb vd x25 x24 n1 n2' n3 n4 n5 es hS9 x6 q31 b5 b3 q109 s0 s1 s2 hBS hinS t0 eqS tp r0 xv yv x110 qq9 cr fx3 g hV hW; omega)), w32_id (x := c2 + 2) (by (clear hT hk h203 hsg h17 h210 x1 q1 qv vs vz hfe h206 hE hx hx1 hx2 hx3 hx4 w1 w2 w3 w4 w5 w6 n12 hin hB qq hT0 ep e1T rme hW1 ev tb q356 y1 y3 y4 y5 x15 fx2 hN2 y2 fq2 e149 ru2 qrf2 hP2 tA2 e18 q2 q244 m7 m10 m11 av hS va vb vd x25 x24 n1 n2' n3 n4 n5 es hS9 x6 q31 b5 b3 q109 s0 s1 s2 hBS hinS t0 eqS tp r0 xv yv x110 qq9 cr fx3 g hV hW; omega)) (by (clear hT hk h203 hsg h17 h210 x1 q1 qv vs vz hfe h206 hE hx hx1 hx2 hx3 hx4 w1 w2 w3 w4 w5 w6 n12 hin hB qq hT0 ep e1T rme hW1 ev tb q356 y1 y3 y4 y5 x15 fx2 hN2 y2 fq2 e149 ru2 qrf2 hP2 tA2 e18 q2 q244 m7 m10 m11 av hS va vb vd x25 x24 n1 n2' n3 n4 n5 es hS9 x6 q31 b5 b3 q109 s0 s1 s2 hBS hinS t0 eqS tp r0 xv yv x110 qq9 cr fx3 g hV hW; omega)), w32_id (x := c2 + 3) (by (clear hT hk h203 hsg h17 h210 x1 q1 qv vs vz hfe h206 hE hx hx1 hx2 hx3 hx4 w1 w2 w3 w4 w5 w6 n12 hin hB qq hT0 ep e1T rme hW1 ev tb q356 y1 y3 y4 y5 x15 fx2 hN2 y2 fq2 e149 ru2 qrf2 hP2 tA2 e18 q2 q244 m7 m10 m11 av hS va vb vd x25 x24 n1 n2' n3 n4 n5 es hS9 x6 q31 b5 b3 q109 s0 s1 s2 hBS hinS t0 eqS tp r0 xv yv x110 qq9 cr fx3 g hV hW; lia)) (by (clear hT hk h203 hsg h17 h210 x1 q1 qv vs vz hfe h206 hE hx hx1 hx2 hx3 hx4 w1 w2 w3 w4 w5 w6 n12 hin hB qq hT0 ep e1T rme hW1 ev tb q356 y1 y3 y4 y5 x15 fx2 hN2 y2 fq2 e149 ru2 qrf2 hP2 tA2 e18 q2 q244 m7 m10 m11 av hS va vb vd x25 x24 n1 n2' n3 n4 n5 es hS9 x6 q31 b5 b3 q109 s0 s1 s2 hBS hinS t0 eqS tp r0 xv yv x110 qq9 cr fx3 g hV hW; omega)), w32_id (x := c2 + 4) (by (clear hT hk h203 hsg h17 h210 x1 q1 qv vs vz hfe h206 hE hx hx1 hx2 hx3 hx4 w1 w2 w3 w4 w5 w6 n12 hin hB qq hT0 ep e1T rme hW1 ev tb q356 y1 y3 y4 y5 x15 fx2 hN2 y2 fq2 e149 ru2 qrf2 hP2 tA2 e18 q2 q244 m7 m10 m11 av hS va vb vd x25 x24 n1 n2' n3 n4 n5 es hS9 x6 q31 b5 b3 q109 s0 s1 s2 hBS hinS t0 eqS tp r0 xv yv x110 qq9 cr fx3 g hV hW; omega)) (by (clear hT hk h203 hsg h17 h210 x1 q1 qv vs vz hfe h206 hE hx hx1 hx2 hx3 hx4 w1 w2 w3 w4 w5 w6 n12 hin hB qq hT0 ep e1T rme hW1 ev tb q356 y1 y3 y4 y5 x15 fx2 hN2 y2 fq2 e149 ru2 qrf2 hP2 tA2 e18 q2 q244 m7 m10 m11 av hS va vb vd x25 x24 n1 n2' n3 n4 n5 es hS9 x6 q31 b5 b3 q109 s0 s1 s2 hBS hinS t0 eqS tp r0 xv yv x110 qq9 cr fx3 g hV hW; omega)), hx1, hx2, hx3, hx4]
        refine ⟨by (clear hT hk h203 hsg h17 h210 x1 q1 qv vs vz hfe h206 hE hx hx1 hx2 hx3 hx4 w1 w2 w3 w4 w5 w6 n12 hin hB qq hT0 ep e1T rme hW1 ev tb q356 y1 y3 y4 y5 x15 fx2 hN2 y2 fq2 e149 ru2 qrf2 hP2 tA2 e18 q2 q244 m7 m10 m11 av hS va vb vd x25 x24 n1 n2' n3 n4 n5 es hS9 x6 q31 b5 b3 q109 s0 s1 s2 hBS hinS t0 eqS tp r0 xv yv x110 qq9 cr fx3 g hV hW; omega), by (clear hT hk h203 hsg h17 h210 x1 q1 qv vs vz hfe h206 hE hx hx1 hx2 hx3 hx4 w1 w2 w3 w4 w5 w6 n12 hin hB qq hT0 ep e1T rme hW1 ev tb q356 y1 y3 y4 y5 x15 fx2 hN2 y2 fq2 e149 ru2 qrf2 hP2 tA2 e18 q2 q244 m7 m10 m11 av hS va vb vd x25 x24 n1 n2' n3 n4 n5 es hS9 x6 q31 b5 b3 q109 s0 s1 s2 hBS hinS t0 eqS tp r0 xv yv x110 qq9 cr fx3 g hV hW; omega), by (clear hT hk h203 hsg h17 h210 x1 q1 qv vs vz hfe h206 hE hx hx1 hx2 hx3 hx4 w1 w2 w3 w4 w5 w6 n12 hin hB qq hT0 ep e1T rme hW1 ev tb q356 y1 y3 y4 y5 x15 fx2 hN2 y2 fq2 e149 ru2 qrf2 hP2 tA2 e18 q2 q244 m7 m10 m11 av hS va vb vd x25 x24 n1 n2' n3 n4 n5 es hS9 x6 q31 b5 b3 q109 s0 s1 s2 hBS hinS t0 eqS tp r0 xv yv x110 qq9 cr fx3 g hV hW; omega), by (clear hT hk h203 hsg h17 h210 x1 q1 qv vs vz hfe h206 hE hx hx1 hx2 hx3 hx4 w1 w2 w3 w4 w5 w6 n12 hin hB qq hT0 ep e1T rme hW1 ev tb q356 y1 y3 y4 y5 x15 fx2 hN2 y2 fq2 e149 ru2 qrf2 hP2 tA2 e18 q2 q244 m7 m10 m11 av hS va vb vd x25 x24 n1 n2' n3 n4 n5 es hS9 x6 q31 b5 b3 q109 s0 s1 s2 hBS hinS t0 eqS tp r0 xv yv x110 qq9 cr fx3 g hV hW; omega), x25 _ _ fun V' hV' hW' => x110 V' _ _ hV' hW' ?_⟩
        rw [if_pos cr]
        exact Ex_le (d := 1) (by decide) x_19 _ _ (rf_i (by rw [if_neg (by decide)]; exact g))
      · obtain ⟨M', N', xs, qs, ru', tA', fr', ka'⟩ := j_snd (s := s) (k := k) (y3 := 0) (y4 := sB s) (y5 := T) (r := r) (sg := N 205 k) (me := M 10 s) (to_ := to_) ru2 hP2 tA2 (by rw [e18]; (clear hW hT hk hc h203 hsg h17 h210 x1 q1 qv vs vz hfe h206 hE hx hx1 hx2 hx3 hx4 w1 w2 w3 w4 w5 w6 n12 hin hB qq hT0 ep e1T rme hW1 ev tb q356 y1 y3 y4 y5 x15 fx2 hN2 y2 fq2 e149 ru2 qrf2 hP2 tA2 e18 q2 q244 m7 m10 m11 av hS va vb vd x25 x24 n1 n2' n3 n4 n5 es hS9 x6 q31 b5 b3 q109 s0 s1 s2 hBS hinS t0 eqS tp xv yv x110 qq9; lia)) hS rme y4.2 ⟨rfl, rfl, rfl⟩ (fun e => by (clear hW hT hk hc h203 hsg h17 h210 x1 q1 qv vs vz hfe h206 hE hx hx1 hx2 hx3 hx4 w1 w2 w3 w4 w5 w6 n12 hin hB qq hT0 ep e1T rme hW1 ev tb q356 y1 y3 y4 y5 x15 fx2 hN2 y2 fq2 e149 ru2 qrf2 hP2 tA2 e18 q2 q244 m7 m10 m11 av hS va vb vd x25 x24 n1 n2' n3 n4 n5 es hS9 x6 q31 b5 b3 q109 s0 s1 hBS hinS t0 eqS r0 xv yv x110 qq9 cr; lia))
        have bk := bo_k hW hT qrf2 ru' tA' fr' ka'
        exact .inl ⟨M', N', x24 _ (fun Qr Qt g => x25 Qr Qt fun V hV hW => x110 V Qr Qt hV hW (by rw [if_neg cr]; exact xs Qr Qt g)), qq9 0 _ (fun V Qr Qt hV hW g => by rw [if_neg (by (clear hT hk hc h203 hsg h17 h210 x1 q1 qv vs vz hfe h206 hE hx hx1 hx2 hx3 hx4 w1 w2 w3 w4 w5 w6 n12 hin hB qq hT0 ep e1T rme hW1 ev tb q356 y1 y3 y4 y5 x15 fx2 hN2 y2 fq2 e149 ru2 qrf2 hP2 tA2 e18 q2 q244 m7 m10 m11 av hS va vb vd x25 x24 n1 n2' n3 n4 n5 es hS9 x6 q31 b5 b3 q109 s0 s1 s2 hBS hinS t0 eqS tp xv yv x110 qq9 xs qs ru' tA' fr' ka' bk hV hW g; omega))]; exact qs V Qr Qt hV hW g), bk⟩
  · have fx3 : EFX M (up_ (exX M A2 n2) 0 49 e) := EFX_tr EFX_ex (EFX_up (by decide))
    have fq3 : EFQ N1 (exQ N1 B2 m2 e) := EFQ_ex
    refine .inr ⟨e, up_ (exX M A2 n2) 0 49 e, exQ N1 B2 m2 e, by (clear hW hT hk hc h203 hsg h17 h210 x1 q1 qv vs vz hfe h206 hE hx hx1 hx2 hx3 hx4 w1 w2 w3 w4 w5 w6 n12 hin hB qq hT0 ep e1T rme hW1 ev tb q356 y1 y2 fx3 fq3; omega), xw_e1 (by (clear hW hT hk h203 hsg h17 h210 x1 q1 qv vs vz hfe h206 hE hx hx1 hx2 hx3 hx4 w1 w2 w3 w4 w5 w6 n12 hin hB qq hT0 ep e1T rme hW1 ev tb q356 he y1 y2 fx3 fq3; omega)) (fun Qr Qt g => x_15s fun V hV hW => x1 c V Qr Qt hV hW (y1 c V Qr Qt hV hW g)), ⟨up_at, by rw [upo (by decide), exX_0 (by decide)]⟩, q356 e _ (fun V Qr Qt hV hW g => Ex_le (d := 4) (by decide) y2 _ _ (ri_i (by rw [exQ_149, if_neg (by (clear hT hk hc h203 hsg h17 h210 x1 q1 qv vs vz hfe h206 hE hx hx1 hx2 hx3 hx4 w1 w2 w3 w4 w5 w6 n12 hin hB qq hT0 ep e1T rme hW1 ev tb q356 y1 y2 fx3 fq3 hV hW g; omega))]; exact g))), RU_ef (RU_qv w1 qv) fx3 fq3, TYA_ef (TYA_qv w3 qv) fq3, ⟨XRF_ef fx3, QRF_tr (QRF_qv qv) (QRF_ef fq3)⟩, by rw [upo (by decide), exX_0 (by decide)], by rw [upo (by decide), exX_0 (by decide)]⟩
end OTa
end T365_ot
