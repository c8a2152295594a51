section T372_js
/-! the run: the stim that a signal meets -/
section JSa
variable {z : Int} {M N M' N' : mm_} {T st sg s k i y j : Int}
def uST (N : mm_) (k i : Int) : mm_ := up_ (up_ N 6 151 k) 6 153 i
theorem fq_row [Inhabited fz_] (hP : PLr M N) (hk : 0 ≤ k ∧ k < N 6 62) (hf : FQ N T st sg k i) : N 193 k < 2 ∧ ROWk M N k (i - N 198 k) (xsf (tbN N) k.toNat + (i - N 198 k)) := by
  have b := (ps_b hP).2.2 k hk.1 hk.2
  have l2 : N 193 k < 2 := by
    have := hf.2.2.1
    by_cases c : N 193 k < 2
    · exact c
    · have := b.2.2.2 (by omega); omega
  have := hf.2.2.1
  exact ⟨l2, hk, by rw [nsK_e, if_pos l2]; omega, rfl⟩
theorem j_stim [Inhabited fz_] (hP : PLr M N) (hs : 0 ≤ s ∧ s < 12) (hst : 0 ≤ M 12 s ∧ M 12 s < M 90 (M 11 s) ∧ M 12 s < 31) : ∃ r, Ex_ 1 13 [.inr (.inr 0), .inl s, .inl sg] M [.inl r] M ∧
    ((r = -1 ∧ Ex_ 1 337 [.inr (.inr 6), .inl (M 11 s), .inl (M 12 s), .inl sg] N [.inl 0] N ∧ Ex_ 1 337 [.inr (.inr 6), .inl (M 11 s), .inl (M 12 s), .inl 200] N [.inl 0] N)
     ∨ ∃ k j, ROWk M N k j r ∧ N 193 k < 2 ∧ N 192 k = M 11 s ∧ (N 200 (N 198 k + j) = sg ∨ N 200 (N 198 k + j) = 200) ∧ (Ex_ 1 337 [.inr (.inr 6), .inl (M 11 s), .inl (M 12 s), .inl sg] N [.inl 1] (uST N k (N 198 k + j)) ∨ (Ex_ 1 337 [.inr (.inr 6), .inl (M 11 s), .inl (M 12 s), .inl sg] N [.inl 0] N ∧ Ex_ 1 337 [.inr (.inr 6), .inl (M 11 s), .inl (M 12 s), .inl 200] N [.inl 1] (uST N k (N 198 k + j))))) := by
  have b := ps_b hP
  have s31 : 0 ≤ M 12 s ∧ M 12 s < 31 := ⟨hst.1, hst.2.2⟩
  have xm := xsfm hP (N 6 62).toNat (by omega)
  obtain ⟨r, xr, hr⟩ := x_13 (M := M) (s := s) (sg := sg) hs b.2.1.2 (by rw [← b.2.1.1]; exact xm)
  have hq : ∀ k, 0 ≤ k → k < N 6 62 → 0 ≤ N 198 k ∧ N 198 k ≤ N 199 k ∧ N 199 k ≤ 600 := fun k k0 k1 => (b.2.2 k k0 k1).2.2.1
  -- a fit of X is one of Q
  have toQ : ∀ g y, 0 ≤ y → y < M 4 4 → FX M (M 11 s) (M 12 s) g y → ∃ k i, (0 ≤ k ∧ k < N 6 62) ∧ FQ N (M 11 s) (M 12 s) g k i := fun g y y0 y1 hf => by
    obtain ⟨k, j, hrow⟩ := row_c hP (N 6 62).toNat y (by omega) y0 (by rw [b.2.1.1]; exact y1)
    exact ⟨k, N 198 k + j, hrow.1, ((row_q hP hrow hst).1 hf).2⟩
  have toX : ∀ g k i, (0 ≤ k ∧ k < N 6 62) → FQ N (M 11 s) (M 12 s) g k i → ∃ y, ROWk M N k (i - N 198 k) y ∧ N 193 k < 2 ∧ FX M (M 11 s) (M 12 s) g y ∧ 0 ≤ y ∧ y < M 4 4 := fun g k i hk hf => by
    obtain ⟨l2, hrow⟩ := fq_row hP hk hf
    have rb := row_b hP hrow
    refine ⟨_, hrow, l2, (row_q hP hrow hst).2 ⟨l2, ?_⟩, rb.1, rb.2⟩
    rw [show N 198 k + (i - N 198 k) = i by omega]; exact hf
  refine ⟨r, xr, ?_⟩
  rcases q_337 (T := M 11 s) (st := M 12 s) (sg := sg) b.1 hq with ⟨k, i, hk, hf, q⟩ | ⟨hn, q⟩
  · obtain ⟨y, hrow, l2, fy, y0, y1⟩ := toX sg k i hk hf
    have e : r = y := by
      rcases hr with ⟨hb, fr⟩ | ⟨hno, _⟩
      · exact row_u hP s31 hb ⟨y0, y1⟩ fr fy
      · exact absurd fy (hno y y0 y1)
    refine .inr ⟨k, i - N 198 k, by rw [e]; exact hrow, l2, hf.1, .inl (by rw [show N 198 k + (i - N 198 k) = i by omega]; exact hf.2.2.2), .inl ?_⟩
    rw [show N 198 k + (i - N 198 k) = i by omega]; exact q
  · have hr2 : ((0 ≤ r ∧ r < M 4 4) ∧ FX M (M 11 s) (M 12 s) 200 r) ∨ (r = -1 ∧ ∀ y, 0 ≤ y → y < M 4 4 → ¬ FX M (M 11 s) (M 12 s) 200 y) := by
      rcases hr with ⟨hb, fr⟩ | ⟨_, h⟩
      · obtain ⟨k, i, hk, hf⟩ := toQ sg r hb.1 hb.2 fr
        exact absurd hf (hn k i hk.1 hk.2)
      · exact h
    rcases q_337 (T := M 11 s) (st := M 12 s) (sg := 200) b.1 hq with ⟨k, i, hk, hf, q2⟩ | ⟨hn2, q2⟩
    · obtain ⟨y, hrow, l2, fy, y0, y1⟩ := toX 200 k i hk hf
      have e : r = y := by
        rcases hr2 with ⟨hb, fr⟩ | ⟨_, hno⟩
        · exact row_u hP s31 hb ⟨y0, y1⟩ fr fy
        · exact absurd fy (hno y y0 y1)
      refine .inr ⟨k, i - N 198 k, by rw [e]; exact hrow, l2, hf.1, .inr (by rw [show N 198 k + (i - N 198 k) = i by omega]; exact hf.2.2.2), .inr ⟨q, ?_⟩⟩
      rw [show N 198 k + (i - N 198 k) = i by omega]; exact q2
    · rcases hr2 with ⟨hb, fr⟩ | ⟨e, _⟩
      · obtain ⟨k, i, hk, hf⟩ := toQ 200 r hb.1 hb.2 fr
        exact absurd hf (hn2 k i hk.1 hk.2)
      · exact .inl ⟨e, q, q2⟩
/-- what a look for a step leaves -/
def EGX (M M' : mm_) : Prop := (∀ r : Nat, r ≠ 0 → r ≠ 26 → M' r = M r) ∧ ∀ i : Int, i ∉ [41, 42, 45, 46, 47, 49, 50] → M' 0 i = M 0 i
def EGQ (N N' : mm_) : Prop := (∀ r : Nat, r ≠ 6 → r ≠ 243 → N' r = N r) ∧ ∀ i : Int, i ∉ [148, 149, 151, 152, 153] → N' 6 i = N 6 i
theorem EGX_rf [Inhabited fz_] : EGX M M := ⟨fun _ _ _ => rfl, fun _ _ => rfl⟩
theorem EGQ_rf [Inhabited fz_] : EGQ N N := ⟨fun _ _ _ => rfl, fun _ _ => rfl⟩
theorem EGX_tr [Inhabited fz_] {M1 : mm_} (h : EGX M M1) (g : EGX M1 M') : EGX M M' := ⟨fun r a b => (g.1 r a b).trans (h.1 r a b), fun i a => (g.2 i a).trans (h.2 i a)⟩
theorem EGQ_tr [Inhabited fz_] {N1 : mm_} (h : EGQ N N1) (g : EGQ N1 N') : EGQ N N' := ⟨fun r a b => (g.1 r a b).trans (h.1 r a b), fun i a => (g.2 i a).trans (h.2 i a)⟩
theorem EGX_ef [Inhabited fz_] (h : EFX M M') : EGX M M' := ⟨h.1, fun i hi => by simp only [List.mem_cons, List.not_mem_nil, or_false, not_or] at hi; exact h.2 i hi.2.2.1 hi.2.2.2.1 hi.2.2.2.2.1 hi.2.2.2.2.2.1 hi.2.2.2.2.2.2⟩
theorem EGQ_ef [Inhabited fz_] (h : EFQ N N') : EGQ N N' := ⟨h.1, fun i hi => by simp only [List.mem_cons, List.not_mem_nil, or_false, not_or] at hi; exact h.2 i hi.1 hi.2.1⟩
theorem EGX_up [Inhabited fz_] {i v : Int} (h : i = 41 ∨ i = 42) : EGX M (up_ M 0 i v) := ⟨fun r a _ => up_ne a, fun j hj => upo (fun e => by subst e; rcases h with e | e <;> (subst e; exact hj (by decide)))⟩
theorem EGQ_up [Inhabited fz_] {i v : Int} (h : i = 151 ∨ i = 152 ∨ i = 153) : EGQ N (up_ N 6 i v) := ⟨fun r a _ => up_ne a, fun j hj => upo (fun e => by subst e; rcases h with e | e | e <;> (subst e; exact hj (by decide)))⟩
theorem XRF_eg [Inhabited fz_] (h : EGX M M') : XRF M M' := ⟨fun r hr => h.1 r (fun e => hr (by rw [e]; decide)) (fun e => hr (by rw [e]; decide)), fun i hi => h.2 i (fun e => hi (by revert e; simp only [xfL, List.mem_cons, List.not_mem_nil, or_false]; omega))⟩
theorem QRF_eg [Inhabited fz_] (h : EGQ N N') : QRF N N' := ⟨fun r hr => h.1 r (fun e => hr (by rw [e]; decide)) (fun e => hr (by rw [e]; decide)), fun i hi => h.2 i (fun e => hi (by revert e; simp only [qfL, List.mem_cons, List.not_mem_nil, or_false]; omega))⟩
theorem TYA_eg [Inhabited fz_] (hA : TYA N) (h : EGQ N N') : TYA N' := TYA_c hA (TYT_Q (QRF_eg h)) (h.1 239 (by decide) (by decide))
theorem RU_eg [Inhabited fz_] (h : RU z M N) (hx : EGX M M') (hq : EGQ N N') : RU z M' N' := by
  obtain ⟨h1, h2, h3, h4, h5⟩ := h
  have x := hx.1
  have x0 := hx.2
  have q := hq.1
  have q6 := hq.2
  refine ⟨RI_c h1 ⟨x0 7 (by decide), x0 8 (by decide)⟩ (fun r hr => x r (fun c => by rw [c] at hr; revert hr; decide) (fun c => by rw [c] at hr; revert hr; decide)) (q 239 (by decide) (by decide)) (q6 19 (by decide)) (fun r hr => q r (fun c => by rw [c] at hr; revert hr; decide) (fun c => by rw [c] at hr; revert hr; decide)), RRt_c h2 (x 21 (by decide) (by decide)) (x 22 (by decide) (by decide)) (q 239 (by decide) (by decide)) (q6 18 (by decide)), RSC_c h3 (fun i hi => x0 i (fun c => by revert hi c; simp only [List.mem_cons, List.not_mem_nil, or_false]; omega)) (fun i hi => q6 i (fun c => by revert hi c; simp only [List.mem_cons, List.not_mem_nil, or_false]; omega)), ROU_c h4 (fun i hi => x0 i (fun c => by revert hi c; simp only [List.mem_cons, List.not_mem_nil, or_false]; omega)) (x 24 (by decide) (by decide)) (fun i hi => q6 i (fun c => by revert hi c; simp only [List.mem_cons, List.not_mem_nil, or_false]; omega)) (q 241 (by decide) (by decide)), REV_c h5 (fun i hi => x0 i (fun c => by revert hi c; simp only [List.mem_cons, List.not_mem_nil, or_false]; omega)) (x 23 (by decide) (by decide)) (fun i hi => q6 i (fun c => by revert hi c; simp only [List.mem_cons, List.not_mem_nil, or_false]; omega)) (q 240 (by decide) (by decide))⟩
end JSa
end T372_js
section T373_wq
/-! the run: what the queue would do (X 12 | Q 336) -/
def LK [Inhabited fz_] (z : Int) (M N : mm_) (s : Int) : Prop := RU z M N ∧ PLr M N ∧ TYA N ∧ (0 ≤ s ∧ s < M 0 7) ∧ 0 ≤ M 12 s
def WF2 (M N M' N' : mm_) (s : Int) : Prop := ∃ it k j, (0 ≤ it ∧ it < M 14 s) ∧ (M' 0 41 = it ∧ N' 6 152 = it) ∧ ROWk M N k j (M' 0 42) ∧ (N' 6 151 = k ∧ N' 6 153 = N 198 k + j) ∧ N 193 k = 0 ∧ N 192 k = M 11 s ∧ (N 200 (N 198 k + j) = M 15 (30 * s + 5 * it) ∨ N 200 (N 198 k + j) = 200)
def WF3 (M M' N' : mm_) (s : Int) : Prop := ∃ it, (0 ≤ it ∧ it < M 14 s) ∧ M' 0 41 = it ∧ N' 6 152 = it
section WQa
variable {z : Int} {M N M' N' M1 N1 : mm_} {T st sg s k i y j it : Int}
theorem LK_eg [Inhabited fz_] (h : LK z M N s) (hx : EGX M M') (hq : EGQ N N') : LK z M' N' s := ⟨RU_eg h.1 hx hq, PLr_c h.2.1 (XRF_eg hx) (QRF_eg hq), TYA_eg h.2.2.1 hq, by rw [hx.2 7 (by decide)]; exact h.2.2.2.1, by rw [hx.1 12 (by decide) (by decide)]; exact h.2.2.2.2⟩
theorem ROWk_eg [Inhabited fz_] (hx : EGX M M') (hq : EGQ N N') : ROWk M' N' k j y ↔ ROWk M N k j y := by
  unfold ROWk
  rw [tbN_e (QRF_eg hq), hq.2 62 (by decide)]
theorem LK_st [Inhabited fz_] (h : LK z M N s) : 0 ≤ M 12 s ∧ M 12 s < M 90 (M 11 s) ∧ M 12 s < 31 := by
  obtain ⟨w1, w2, w3, w4, w5⟩ := h
  have hin := w1.1.2.2.1 s w4.1 w4.2
  have pt := PT_of w2 hin.2.1.2.1
  unfold PTY at pt
  rw [tbN_r (q := 174) (by decide) (by decide), show swc M 123 = M 90 from swc_r (q := 90) (by decide) (by decide)] at pt
  have := pt.2.2.1.1
  have := hin.2.1.2.2
  omega
theorem l_24 [Inhabited fz_] : ∀ (d : Nat) (it : Int) (M N : mm_), it + d = M 14 s → 0 ≤ it → LK z M N s →
    (∃ w M' N', (∀ (V : vv_) (Qr : qr_) (Qt : qt_), Cl_ wd0 (Tr_ wd0 pg0 4) V Qr Qt m_12 → Wk_ V → Qr [.inl w] M' → V 24 [rr 0, ii s, ii it, none] [] M) ∧ (∀ (V : vv_) (Qr : qr_) (Qt : qt_), Cl_ wd0 (Tr_ wd0 pg0 5) V Qr Qt m_336 → Wk_ V → Qr [.inl w] N' → V 34 [rr 6, ii s, ii (sB s), ii (M 11 s), ii (M 12 s), ii it, none] [] N) ∧ EGX M M' ∧ EGQ N N' ∧ ((w = 2 ∧ WF2 M N M' N' s) ∨ (w = 3 ∧ WF3 M M' N' s)))
    ∨ (∃ M' N', RC 4 m_12 24 [rr 0, ii s, ii it, none] M 130 [rr 0, ii s, ii 0, none] M' ∧ RC 5 m_336 34 [rr 6, ii s, ii (sB s), ii (M 11 s), ii (M 12 s), ii it, none] N 142 [rr 6, ii s, ii (sB s), ii (M 11 s), ii (M 12 s), ii (-1), ii 0] N' ∧ EGX M M' ∧ EGQ N N' ∧ M' 0 42 = M 0 42) := fun d => by
  induction d with
  | zero =>
    intro it M N hi i0 hL
    have n12 := hL.1.1.1
    have w4 := hL.2.2.2.1
    have hB : sB s = 2 + 56 * s := rfl
    have q := (hL.1.1.2.2.1 s w4.1 w4.2).2.2.2.2.1
    refine .inr ⟨M, N, fun V Qr Qt hV hW g => b_12_24 (Tr_mono _) hV hW _ _ _ ⟨by omega, ?_⟩, fun V Qr Qt hV hW g => b_336_34 (Tr_mono _) hV hW _ _ _ _ _ _ ?_, EGX_rf, EGQ_rf, rfl⟩
    · rw [if_neg (by omega)]; exact g
    · rw [w32_id (x := sB s + 25) (by omega) (by omega), q.2.2, if_neg (by omega)]; exact ⟨by omega, g⟩
  | succ d ih =>
    intro it M N hi i0 hL
    obtain ⟨w1, w2, w3, w4, w5⟩ := id hL
    have n12 := w1.1.1
    have hB : sB s = 2 + 56 * s := rfl
    have hin := w1.1.2.2.1 s w4.1 w4.2
    have qb := hin.2.2.2.2.1
    have qi := hin.2.2.2.2.2.1 (5 * it) (by omega) (by omega)
    have stt := LK_st hL
    -- Q: up to the search
    have q34 : ∀ (V : vv_) (Qr : qr_) (Qt : qt_), Cl_ wd0 (Tr_ wd0 pg0 5) V Qr Qt m_336 → Wk_ V → Tr_ wd0 pg0 5 337 [.inr (.inr 6), .inl (M 11 s), .inl (M 12 s), .inl (M 15 (30 * s + 5 * it))] (up_ N 6 152 it) (ri_ fun v1 M1 => if v1 = 0 then Tr_ wd0 pg0 5 337 [.inr (.inr 6), .inl (M 11 s), .inl (M 12 s), .inl 200] M1 (ri_ fun v2 M2 => if v2 = 0 then Qr [.inl 3] M2 else V 99 [rr 6, ii s, ii (sB s), ii (M 11 s), ii (M 12 s), ii it, ii (M 15 (30 * s + 5 * it))] [] M2) Qt else V 99 [rr 6, ii s, ii (sB s), ii (M 11 s), ii (M 12 s), ii it, ii (M 15 (30 * s + 5 * it))] [] M1) Qt → V 34 [rr 6, ii s, ii (sB s), ii (M 11 s), ii (M 12 s), ii it, none] [] N := fun V Qr Qt hV hW g => b_336_34 (Tr_mono _) hV hW _ _ _ _ _ _ (by
      rw [w32_id (x := sB s + 25) (by omega) (by omega), qb.2.2, if_pos (by omega), w32_id (x := sB s + 25 + 1) (by omega) (by omega), w32_id (x := 5 * it) (by omega) (by omega), w32_id (x := sB s + 25 + 1 + 5 * it) (by omega) (by omega), show sB s + 25 + 1 + 5 * it = sB s + 26 + 5 * it by omega, ← qi]
      exact ⟨by omega, by omega, g⟩)
    have x24 : ∀ (V : vv_) (Qr : qr_) (Qt : qt_) (r : Int), Cl_ wd0 (Tr_ wd0 pg0 4) V Qr Qt m_12 → Wk_ V → Ex_ 1 13 [.inr (.inr 0), .inl s, .inl (M 15 (30 * s + 5 * it))] M [.inl r] M → (if r = -1 then Qr [.inl 3] (up_ (up_ M 0 41 it) 0 42 r) else (0 ≤ r ∧ r < 600) ∧ (if M 100 r = 1 then V 24 [rr 0, ii s, ii (it + 1), none] [] M else (if M 106 r = -1 then Qr [.inl 2] (up_ (up_ M 0 41 it) 0 42 r) else Tr_ wd0 pg0 4 14 [.inr (.inr 0), .inl s, .inl (M 106 r)] M (ri_ fun v3 M3 => if v3 = 0 then V 24 [rr 0, ii s, ii (it + 1), none] [] M3 else Qr [.inl 2] (up_ (up_ M3 0 41 it) 0 42 r)) Qt))) → V 24 [rr 0, ii s, ii it, none] [] M := fun V Qr Qt r hV hW xr g => b_12_24 (Tr_mono _) hV hW _ _ _ ⟨by omega, by
      rw [if_pos (by omega)]
      refine Ex_le (d := 1) (by decide) (x_9 (by omega) (by omega)) _ _ (ri_i ⟨by omega, Ex_le (d := 1) (by decide) xr _ _ (ri_i ?_)⟩)
      rw [w32_id (x := it + 1) (by omega) (by omega)]
      by_cases c : r = -1
      · rw [if_pos c] at g ⊢; rw [if_pos c]; exact g
      · rw [if_neg c] at g ⊢
        refine ⟨g.1, ?_⟩
        have g2 := g.2
        by_cases c1 : M 100 r = 1
        · rw [if_pos c1] at g2 ⊢; exact g2
        · rw [if_neg c1] at g2 ⊢
          refine ⟨g.1, ?_⟩
          by_cases c2 : M 106 r = -1
          · rw [if_pos c2] at g2 ⊢; rw [if_neg c]; exact g2
          · rw [if_neg c2] at g2 ⊢
            refine ⟨g.1, Tr_mono _ _ _ _ _ _ _ _ ?_ (fun _ _ h => h) g2⟩
            rintro vs M9 ⟨v3, e, h⟩
            refine ⟨v3, e, ?_⟩
            by_cases c3 : v3 = 0
            · rw [if_pos c3] at h ⊢; exact h
            · rw [if_neg c3] at h ⊢; rw [if_neg c]; exact h⟩
    have g152 : EGQ N (up_ N 6 152 it) := EGQ_up (by decide)
    have hP9 : PLr M (up_ N 6 152 it) := PLr_c w2 XRF_rf (QRF_eg g152)
    have n9 : ∀ r : Nat, r ≠ 6 → up_ N 6 152 it r = N r := fun r e => up_ne e
    obtain ⟨r, xr, hr⟩ := j_stim (sg := M 15 (30 * s + 5 * it)) hP9 (by omega) stt
    rcases hr with ⟨e, qa, qc⟩ | ⟨k, j, hrow, l2, hT, hsig, hq⟩
    · -- lost
      refine .inl ⟨3, up_ (up_ M 0 41 it) 0 42 r, up_ N 6 152 it, fun V Qr Qt hV hW g => x24 V Qr Qt r hV hW xr (by rw [if_pos e]; exact g), fun V Qr Qt hV hW g => q34 V Qr Qt hV hW (Ex_le (d := 1) (by decide) qa _ _ (ri_i ?_)), EGX_tr (EGX_up (by decide)) (EGX_up (by decide)), g152, .inr ⟨rfl, it, by omega, by rw [upo (by decide), up_at], up_at⟩⟩
      rw [if_pos rfl]
      refine Ex_le (d := 1) (by decide) qc _ _ (ri_i ?_)
      rw [if_pos rfl]; exact g
    · rw [n9 193 (by decide)] at l2
      rw [n9 192 (by decide)] at hT
      rw [n9 198 (by decide)] at hsig hq
      rw [n9 200 (by decide)] at hsig
      have hrow' : ROWk M N k j r := (ROWk_eg EGX_rf g152).1 hrow
      obtain ⟨⟨f1, f2, f3, f4⟩, sro⟩ := row_f w2 hrow'
      have rb := row_b w2 hrow'
      have b6 := (ps_b w2).2.1.2
      have r1 : ¬ r = -1 := by omega
      generalize hN1 : uST (up_ N 6 152 it) k (N 198 k + j) = N1 at hq
      have gN1 : EGQ N N1 := by rw [← hN1]; exact EGQ_tr g152 (EGQ_tr (EGQ_up (by decide)) (EGQ_up (by decide)))
      have e151 : N1 6 151 = k := by rw [← hN1]; unfold uST; rw [upo (by decide), up_at]
      have e153 : N1 6 153 = N 198 k + j := by rw [← hN1]; unfold uST; rw [up_at]
      have e152 : N1 6 152 = it := by rw [← hN1]; unfold uST; rw [upo (by decide), upo (by decide), up_at]
      have k62 := hrow'.1
      have b62 := (ps_b w2).1
      have q99 : ∀ (V : vv_) (Qr : qr_) (Qt : qt_), Cl_ wd0 (Tr_ wd0 pg0 5) V Qr Qt m_336 → Wk_ V → (if N 193 k = 0 then Tr_ wd0 pg0 5 338 [.inr (.inr 6), .inl s, .inl (N 196 k)] N1 (ri_ fun v1 M1 => if v1 = 0 then V 34 [rr 6, ii s, ii (sB s), ii (M 11 s), ii (M 12 s), ii (it + 1), none] [] M1 else Qr [.inl 2] M1) Qt else V 34 [rr 6, ii s, ii (sB s), ii (M 11 s), ii (M 12 s), ii (it + 1), none] [] N1) → V 34 [rr 6, ii s, ii (sB s), ii (M 11 s), ii (M 12 s), ii it, none] [] N := fun V Qr Qt hV hW g => by
        have k99 : V 99 [rr 6, ii s, ii (sB s), ii (M 11 s), ii (M 12 s), ii it, ii (M 15 (30 * s + 5 * it))] [] N1 := b_336_99 (Tr_mono _) hV hW _ _ _ _ _ _ _ (by
          rw [e151, gN1.1 193 (by decide) (by decide), gN1.1 196 (by decide) (by decide), w32_id (x := it + 1) (by omega) (by omega)]
          refine ⟨by omega, ?_⟩
          by_cases c : N 193 k = 0
          · rw [if_pos c] at g ⊢; exact ⟨by omega, g⟩
          · rw [if_neg c] at g ⊢; exact g)
        refine q34 V Qr Qt hV hW ?_
        rcases hq with h | ⟨h1, h2⟩
        · exact Ex_le (d := 1) (by decide) h _ _ (ri_i (by rw [if_neg (by decide)]; exact k99))
        · refine Ex_le (d := 1) (by decide) h1 _ _ (ri_i ?_)
          rw [if_pos rfl]
          exact Ex_le (d := 1) (by decide) h2 _ _ (ri_i (by rw [if_neg (by decide)]; exact k99))
      -- on to the next one
      have nxt : ∀ (M2 N2 : mm_), EGX M M2 → EGQ N N2 → M2 0 42 = M 0 42 → RC 4 m_12 24 [rr 0, ii s, ii it, none] M 24 [rr 0, ii s, ii (it + 1), none] M2 → RC 5 m_336 34 [rr 6, ii s, ii (sB s), ii (M 11 s), ii (M 12 s), ii it, none] N 34 [rr 6, ii s, ii (sB s), ii (M 11 s), ii (M 12 s), ii (it + 1), none] N2 →
          (∃ w M' N', (∀ (V : vv_) (Qr : qr_) (Qt : qt_), Cl_ wd0 (Tr_ wd0 pg0 4) V Qr Qt m_12 → Wk_ V → Qr [.inl w] M' → V 24 [rr 0, ii s, ii it, none] [] M) ∧ (∀ (V : vv_) (Qr : qr_) (Qt : qt_), Cl_ wd0 (Tr_ wd0 pg0 5) V Qr Qt m_336 → Wk_ V → Qr [.inl w] N' → V 34 [rr 6, ii s, ii (sB s), ii (M 11 s), ii (M 12 s), ii it, none] [] N) ∧ EGX M M' ∧ EGQ N N' ∧ ((w = 2 ∧ WF2 M N M' N' s) ∨ (w = 3 ∧ WF3 M M' N' s)))
          ∨ (∃ M' N', RC 4 m_12 24 [rr 0, ii s, ii it, none] M 130 [rr 0, ii s, ii 0, none] M' ∧ RC 5 m_336 34 [rr 6, ii s, ii (sB s), ii (M 11 s), ii (M 12 s), ii it, none] N 142 [rr 6, ii s, ii (sB s), ii (M 11 s), ii (M 12 s), ii (-1), ii 0] N' ∧ EGX M M' ∧ EGQ N N' ∧ M' 0 42 = M 0 42) := fun M2 N2 hx hq e42 rx rq => by
        have e14 : M2 14 = M 14 := hx.1 14 (by decide) (by decide)
        have e11 : M2 11 = M 11 := hx.1 11 (by decide) (by decide)
        have e12 : M2 12 = M 12 := hx.1 12 (by decide) (by decide)
        have e15 : M2 15 = M 15 := hx.1 15 (by decide) (by decide)
        have h := ih (it + 1) M2 N2 (by rw [e14]; omega) (by omega) (LK_eg hL hx hq)
        rw [e11, e12] at h
        rcases h with ⟨w, M', N', x1, q1, gx, gq, hw⟩ | ⟨M', N', x1, q1, gx, gq, h42⟩
        · refine .inl ⟨w, M', N', fun V Qr Qt hV hW g => rx V Qr Qt hV hW (x1 V Qr Qt hV hW g), fun V Qr Qt hV hW g => rq V Qr Qt hV hW (q1 V Qr Qt hV hW g), EGX_tr hx gx, EGQ_tr hq gq, ?_⟩
          rcases hw with ⟨e, it', k', j', a1, a2, a3, a4, a5, a6, a7⟩ | ⟨e, it', a1, a2, a3⟩
          · refine .inl ⟨e, it', k', j', by rw [e14] at a1; exact a1, a2, (ROWk_eg hx hq).1 a3, ?_, ?_, ?_, ?_⟩
            · rw [hq.1 198 (by decide) (by decide)] at a4; exact a4
            · rw [hq.1 193 (by decide) (by decide)] at a5; exact a5
            · rw [hq.1 192 (by decide) (by decide), e11] at a6; exact a6
            · rw [hq.1 198 (by decide) (by decide), hq.1 200 (by decide) (by decide), e15] at a7; exact a7
          · exact .inr ⟨e, it', by rw [e14] at a1; exact a1, a2, a3⟩
        · exact .inr ⟨M', N', RC_tr rx x1, RC_tr rq q1, EGX_tr hx gx, EGQ_tr hq gq, h42.trans e42⟩
      by_cases ck : N 193 k = 0
      · have sr := sro.2.1
        rw [tbN_r (q := 193) (by decide) (by decide), tbN_r (q := 196) (by decide) (by decide), tbN_r (q := 192) (by decide) (by decide), show swc M 139 = M 106 from swc_r (q := 106) (by decide) (by decide), hT] at sr
        rcases sr ck with ⟨e6, e9⟩ | ask
        · refine .inl ⟨2, up_ (up_ M 0 41 it) 0 42 r, N1, fun V Qr Qt hV hW g => x24 V Qr Qt r hV hW xr ?_, fun V Qr Qt hV hW g => q99 V Qr Qt hV hW ?_, EGX_tr (EGX_up (by decide)) (EGX_up (by decide)), gN1, .inl ⟨rfl, it, k, j, by omega, ⟨by rw [upo (by decide), up_at], e152⟩, by rw [up_at]; exact hrow', ⟨e151, e153⟩, ck, hT, hsig⟩⟩
          · rw [if_neg r1, if_neg (by omega), if_pos e9]; exact ⟨by omega, g⟩
          · rw [if_pos ck, e6]
            exact t_338 fun V' hV' hW' => b_338_0 (Tr_mono _) hV' hW' _ _ _ (by rw [if_pos (by decide)]; exact ⟨.inr rfl, ri_i (by rw [if_neg (by decide)]; exact g)⟩)
        · have hL1 := LK_eg hL EGX_rf gN1
          have tb1 : tbN N1 = tbN N := tbN_e (QRF_eg gN1)
          obtain ⟨v, M2, N2, bv, x14, q38, fx, fq⟩ := j_14 (k := s) (c := M 106 r) (f := N 196 k) hL1.1 hL1.2.1 hL1.2.2.1 w4 (by rw [tb1]; exact ask)
          obtain ⟨c9, fe9, _, _, hE9, _⟩ := ask
          have c0 := EXP_0 hE9
          rcases bv with e0 | e1
          · refine nxt M2 N2 (EGX_ef fx) (EGQ_tr gN1 (EGQ_ef fq)) (fx.2 42 (by decide) (by decide) (by decide) (by decide) (by decide)) (fun V Qr Qt hV hW g => x24 V Qr Qt r hV hW xr ?_) (fun V Qr Qt hV hW g => q99 V Qr Qt hV hW ?_)
            · rw [if_neg r1, if_neg (by omega), if_neg (by omega)]
              exact ⟨by omega, x14 _ _ (ri_i (by rw [if_pos e0]; exact g))⟩
            · rw [if_pos ck]; exact q38 _ _ (ri_i (by rw [if_pos e0]; exact g))
          · refine .inl ⟨2, up_ (up_ M2 0 41 it) 0 42 r, N2, fun V Qr Qt hV hW g => x24 V Qr Qt r hV hW xr ?_, fun V Qr Qt hV hW g => q99 V Qr Qt hV hW ?_, EGX_tr (EGX_ef fx) (EGX_tr (EGX_up (by decide)) (EGX_up (by decide))), EGQ_tr gN1 (EGQ_ef fq), .inl ⟨rfl, it, k, j, by omega, ⟨by rw [upo (by decide), up_at], by rw [fq.2 152 (by decide) (by decide)]; exact e152⟩, by rw [up_at]; exact hrow', ⟨by rw [fq.2 151 (by decide) (by decide)]; exact e151, by rw [fq.2 153 (by decide) (by decide)]; exact e153⟩, ck, hT, hsig⟩⟩
            · rw [if_neg r1, if_neg (by omega), if_neg (by omega)]
              exact ⟨by omega, x14 _ _ (ri_i (by rw [if_neg (by omega)]; exact g))⟩
            · rw [if_pos ck]; exact q38 _ _ (ri_i (by rw [if_neg (by omega)]; exact g))
      · have p1 : 0 ≤ N 193 k := ((ps_b w2).2.2 k k62.1 k62.2).2.1.1
        refine nxt M N1 EGX_rf gN1 rfl (fun V Qr Qt hV hW g => x24 V Qr Qt r hV hW xr ?_) (fun V Qr Qt hV hW g => q99 V Qr Qt hV hW ?_)
        · rw [if_neg r1, if_pos (by omega)]; exact ⟨by omega, g⟩
        · rw [if_neg ck]; exact g
end WQa
end T373_wq
section T374_ww
/-! the run: what an instance would do (X 12 | Q 336) -/
def BR (M N : mm_) (s b : Int) : Prop := (b = -1 ∧ M 0 42 = -1) ∨ (0 ≤ b ∧ N 193 b = 2 ∧ N 192 b = M 11 s ∧ ROWk M N b 0 (M 0 42))
def WF4 (M N M' N' : mm_) (s : Int) : Prop := ∃ k, ROWk M N k 0 (M' 0 42) ∧ N' 6 151 = k ∧ N 193 k = 2 ∧ N 192 k = M 11 s
section WWa
variable {z : Int} {M N M' N' M1 N1 : mm_} {T st sg s k i y j it b : Int}
theorem BR_eg [Inhabited fz_] (h : BR M N s b) (hx : EGX M M') (hq : EGQ N N') (h42 : M' 0 42 = M 0 42) : BR M' N' s b := by
  unfold BR at h ⊢
  rw [h42, hq.1 193 (by decide) (by decide), hq.1 192 (by decide) (by decide), hx.1 11 (by decide) (by decide), ROWk_eg hx hq]; exact h
/-- X: rows that are no WHEN -/
theorem sk_x [Inhabited fz_] (hs : 0 ≤ s ∧ s < 12) (h4 : M 4 4 ≤ 600) : ∀ (d : Nat) (y : Int), 0 ≤ y → y + d ≤ M 4 4 → (∀ x, y ≤ x → x < y + d → M 100 x ≠ 2) → RC 4 m_12 130 [rr 0, ii s, ii y, none] M 130 [rr 0, ii s, ii (y + d), none] M := fun d => by
  induction d with
  | zero => intro y _ _ _; rw [show y + ((0 : Nat) : Int) = y from Int.add_zero y]; exact RC_rf
  | succ d ih =>
    intro y y0 y1 h
    have n := ih (y + 1) (by omega) (by omega) (fun x x0 x1 => h x (by omega) (by omega))
    rw [show y + 1 + (d : Int) = y + ((d + 1 : Nat) : Int) by omega] at n
    refine RC_tr (fun V Qr Qt hV hW g => b_12_130 (Tr_mono _) hV hW _ _ _ ?_) n
    have h2 := h y (Int.le_refl _) (by omega)
    rw [if_pos (by omega), w32_id (x := y + 1) (by omega) (by omega), if_neg h2]
    refine ⟨by omega, hs, ?_⟩
    by_cases c : M 101 y = M 11 s
    · rw [if_pos c]; exact ⟨by omega, g⟩
    · rw [if_neg c]; exact g
theorem l_130 [Inhabited fz_] : ∀ (d : Nat) (k b : Int) (M N : mm_), k + d = N 6 62 → 0 ≤ k → LK z M N s → BR M N s b → b < N 6 62 →
    ∃ w M' N', (∀ (V : vv_) (Qr : qr_) (Qt : qt_), Cl_ wd0 (Tr_ wd0 pg0 4) V Qr Qt m_12 → Wk_ V → Qr [.inl w] M' → V 130 [rr 0, ii s, ii (xsf (tbN N) k.toNat), none] [] M) ∧ (∀ (V : vv_) (Qr : qr_) (Qt : qt_), Cl_ wd0 (Tr_ wd0 pg0 5) V Qr Qt m_336 → Wk_ V → Qr [.inl w] N' → V 142 [rr 6, ii s, ii (sB s), ii (M 11 s), ii (M 12 s), ii b, ii k] [] N) ∧ EGX M M' ∧ EGQ N N' ∧ (w = 0 ∨ (w = 4 ∧ WF4 M N M' N' s)) := fun d => by
  induction d with
  | zero =>
    intro k b M N hk k0 hL hB hb
    have pb := ps_b hL.2.1
    have e : xsf (tbN N) k.toNat = M 4 4 := by rw [show k = N 6 62 by omega]; exact pb.2.1.1
    have g151 : EGQ N (up_ N 6 151 b) := EGQ_up (by decide)
    rcases hB with ⟨b1, m1⟩ | ⟨b0, b2, b3, b4⟩
    · refine ⟨0, M, up_ N 6 151 b, fun V Qr Qt hV hW g => b_12_130 (Tr_mono _) hV hW _ _ _ ?_, fun V Qr Qt hV hW g => b_336_142 (Tr_mono _) hV hW _ _ _ _ _ _ _ ?_, EGX_rf, g151, .inl rfl⟩
      · rw [e, if_neg (by omega), if_pos m1]; exact g
      · rw [if_neg (by omega), if_pos (by omega)]; exact g
    · have rb := row_b hL.2.1 b4
      refine ⟨4, M, up_ N 6 151 b, fun V Qr Qt hV hW g => b_12_130 (Tr_mono _) hV hW _ _ _ ?_, fun V Qr Qt hV hW g => b_336_142 (Tr_mono _) hV hW _ _ _ _ _ _ _ ?_, EGX_rf, g151, .inr ⟨rfl, b, b4, up_at, b2, b3⟩⟩
      · rw [e, if_neg (by omega), if_neg (by omega)]; exact g
      · rw [if_neg (by omega), if_neg (by omega)]; exact g
  | succ d ih =>
    intro k b M N hk k0 hL hB hb
    obtain ⟨w1, w2, w3, w4, w5⟩ := id hL
    have n12 := w1.1.1
    have pb := ps_b w2
    have kb := pb.2.2 k k0 (by omega)
    have stt := LK_st hL
    have w1' : w32 (k + 1) = k + 1 := w32_id (by omega) (by omega)
    have hxs := xsfm w2 k.toNat (by omega)
    have e1 : xsf (tbN N) (k + 1).toNat = xsf (tbN N) k.toNat + nsK (tbN N) k := by
      rw [show (k + 1).toNat = k.toNat + 1 by omega]
      show xsf (tbN N) k.toNat + nsK (tbN N) ((k.toNat : Nat) : Int) = _
      rw [show ((k.toNat : Nat) : Int) = k by omega]
    -- on to the next stim
    have nxt : ∀ (M2 N2 : mm_) (b2 : Int), EGX M M2 → EGQ N N2 → BR M2 N2 s b2 → b2 < N 6 62 → RC 4 m_12 130 [rr 0, ii s, ii (xsf (tbN N) k.toNat), none] M 130 [rr 0, ii s, ii (xsf (tbN N) (k + 1).toNat), none] M2 → RC 5 m_336 142 [rr 6, ii s, ii (sB s), ii (M 11 s), ii (M 12 s), ii b, ii k] N 142 [rr 6, ii s, ii (sB s), ii (M 11 s), ii (M 12 s), ii b2, ii (k + 1)] N2 → ∃ w M' N', (∀ (V : vv_) (Qr : qr_) (Qt : qt_), Cl_ wd0 (Tr_ wd0 pg0 4) V Qr Qt m_12 → Wk_ V → Qr [.inl w] M' → V 130 [rr 0, ii s, ii (xsf (tbN N) k.toNat), none] [] M) ∧ (∀ (V : vv_) (Qr : qr_) (Qt : qt_), Cl_ wd0 (Tr_ wd0 pg0 5) V Qr Qt m_336 → Wk_ V → Qr [.inl w] N' → V 142 [rr 6, ii s, ii (sB s), ii (M 11 s), ii (M 12 s), ii b, ii k] [] N) ∧ EGX M M' ∧ EGQ N N' ∧ (w = 0 ∨ (w = 4 ∧ WF4 M N M' N' s)) := fun M2 N2 b2 hx hq hB2 hb2 rx rq => by
      have h := ih (k + 1) b2 M2 N2 (by rw [hq.2 62 (by decide)]; omega) (by omega) (LK_eg hL hx hq) hB2 (by rw [hq.2 62 (by decide)]; exact hb2)
      rw [tbN_e (QRF_eg hq), hx.1 11 (by decide) (by decide), hx.1 12 (by decide) (by decide)] at h
      obtain ⟨w, M', N', x1, q1, gx, gq, hw⟩ := h
      refine ⟨w, M', N', fun V Qr Qt hV hW g => rx V Qr Qt hV hW (x1 V Qr Qt hV hW g), fun V Qr Qt hV hW g => rq V Qr Qt hV hW (q1 V Qr Qt hV hW g), EGX_tr hx gx, EGQ_tr hq gq, ?_⟩
      rcases hw with h | ⟨h, k', a1, a2, a3, a4⟩
      · exact .inl h
      · refine .inr ⟨h, k', (ROWk_eg hx hq).1 a1, a2, ?_, ?_⟩
        · rw [hq.1 193 (by decide) (by decide)] at a3; exact a3
        · rw [hq.1 192 (by decide) (by decide), hx.1 11 (by decide) (by decide)] at a4; exact a4
    by_cases c2 : N 193 k = 2
    · have ns : nsK (tbN N) k = 1 := by rw [nsK_e, if_neg (by omega)]
      have hrow : ROWk M N k 0 (xsf (tbN N) k.toNat) := ⟨⟨k0, by omega⟩, by rw [ns]; decide, by omega⟩
      rw [ns] at e1
      obtain ⟨⟨f1, f2, f3, _⟩, sro⟩ := row_f w2 hrow
      have rb := row_b w2 hrow
      have sr := sro.2.2.1 (by rw [tbN_r (q := 193) (by decide) (by decide)]; exact c2)
      rw [tbN_r (q := 196) (by decide) (by decide), tbN_r (q := 195) (by decide) (by decide), tbN_r (q := 192) (by decide) (by decide), show swc M 139 = M 106 from swc_r (q := 106) (by decide) (by decide), show swc M 140 = M 107 from swc_r (q := 107) (by decide) (by decide)] at sr
      generalize hy : xsf (tbN N) k.toNat = y at *
      have wy : w32 (y + 1) = y + 1 := w32_id (by omega) (by omega)
      rw [e1] at nxt
      by_cases cT : N 192 k = M 11 s
      · have bX := an_sr (c := M 102 y) (s := M 12 s) f3.1.1 (by have := f3.1.2; omega) stt.1 stt.2.2
        have bQ := an_sr (c := N 194 k) (s := M 12 s) f3.2.1.1 (by have := f3.2.1.2; omega) stt.1 stt.2.2
        have mb := f3.2.2 (M 12 s) stt.1
        rw [cT] at mb
        by_cases cb : bt_ (N 194 k) (M 12 s)
        · have xb : ¬ an_ (sr_ (M 102 y) (M 12 s)) 1 = 0 := fun e0 => bX.1.1 e0 (mb.2 ⟨cb, stt.2.1⟩)
          have qb : ¬ an_ (sr_ (N 194 k) (M 12 s)) 1 = 0 := fun e0 => bQ.1.1 e0 cb
          -- whether it is asked
          have pr : M 0 42 ≠ -1 → (0 ≤ M 0 42 ∧ M 0 42 < 600) ∧ (0 ≤ b ∧ b < 600) ∧ M 107 (M 0 42) = N 195 b := fun hne => by
            rcases hB with ⟨_, m1⟩ | ⟨b0, b2, b3, b4⟩
            · exact absurd m1 hne
            · have rb2 := row_b w2 b4
              obtain ⟨_, sro2⟩ := row_f w2 b4
              have sr2 := (sro2.2.2.1 (by rw [tbN_r (q := 193) (by decide) (by decide)]; exact b2)).2
              rw [tbN_r (q := 195) (by decide) (by decide), show swc M 140 = M 107 from swc_r (q := 107) (by decide) (by decide)] at sr2
              exact ⟨by omega, by omega, sr2⟩
          have bm : (b < 0 ∧ M 0 42 = -1) ∨ (¬ b < 0 ∧ M 0 42 ≠ -1) := by
            rcases hB with ⟨b1, m1⟩ | ⟨b0, b2, b3, b4⟩
            · exact .inl ⟨by omega, m1⟩
            · have := row_b w2 b4; exact .inr ⟨by omega, by omega⟩
          obtain ⟨v, M2, N2, bv, x14, q38, fx, fq⟩ := j_14 (k := s) (c := M 106 y) (f := N 196 k) w1 w2 w3 w4 (by rw [← cT]; exact sr.1)
          have xa : ∀ (V : vv_) (Qr : qr_) (Qt : qt_), Cl_ wd0 (Tr_ wd0 pg0 4) V Qr Qt m_12 → Wk_ V → (if v = 0 then V 130 [rr 0, ii s, ii (y + 1), none] [] M2 else V 130 [rr 0, ii s, ii (y + 1), none] [] (up_ M2 0 42 y)) → V 228 [rr 0, ii s, ii y, none] [] M := fun V Qr Qt hV hW g => b_12_228 (Tr_mono _) hV hW _ _ _ ⟨by omega, x14 _ _ (ri_i (by rw [wy]; exact g))⟩
          by_cases ca : M 0 42 = -1 ∨ N 195 k < N 195 b
          · have x130 : ∀ (V : vv_) (Qr : qr_) (Qt : qt_), Cl_ wd0 (Tr_ wd0 pg0 4) V Qr Qt m_12 → Wk_ V → V 228 [rr 0, ii s, ii y, none] [] M → V 130 [rr 0, ii s, ii y, none] [] M := fun V Qr Qt hV hW g => b_12_130 (Tr_mono _) hV hW _ _ _ (by
              rw [if_pos (by omega), if_pos (by rw [f2]; exact cT), if_pos (by rw [f1]; exact c2), if_neg xb]
              refine ⟨by omega, by omega, by omega, by omega, by omega, ?_⟩
              by_cases c9 : M 0 42 = -1
              · rw [if_pos c9]; exact g
              · have p := pr c9
                rw [if_neg c9, sr.2, p.2.2, if_pos (by omega)]; exact ⟨by omega, p.1, g⟩)
            have q142 : ∀ (V : vv_) (Qr : qr_) (Qt : qt_), Cl_ wd0 (Tr_ wd0 pg0 5) V Qr Qt m_336 → Wk_ V → (if v = 0 then V 142 [rr 6, ii s, ii (sB s), ii (M 11 s), ii (M 12 s), ii b, ii (k + 1)] [] N2 else V 142 [rr 6, ii s, ii (sB s), ii (M 11 s), ii (M 12 s), ii k, ii (k + 1)] [] N2) → V 142 [rr 6, ii s, ii (sB s), ii (M 11 s), ii (M 12 s), ii b, ii k] [] N := fun V Qr Qt hV hW g => b_336_142 (Tr_mono _) hV hW _ _ _ _ _ _ _ (by
              rw [if_pos (by omega), if_pos cT, if_pos c2, if_neg qb, w1']
              refine ⟨by omega, by omega, by omega, ?_⟩
              rcases bm with ⟨b1, m1⟩ | ⟨b1, m1⟩
              · rw [if_pos b1]; exact ⟨by omega, q38 _ _ (ri_i g)⟩
              · have p := pr m1
                rw [if_neg b1, if_pos (by omega)]; exact ⟨by omega, by omega, by omega, q38 _ _ (ri_i g)⟩)
            rcases bv with e0 | e1'
            · exact nxt M2 N2 b (EGX_ef fx) (EGQ_ef fq) (BR_eg hB (EGX_ef fx) (EGQ_ef fq) (fx.2 42 (by decide) (by decide) (by decide) (by decide) (by decide))) hb (fun V Qr Qt hV hW g => x130 V Qr Qt hV hW (xa V Qr Qt hV hW (by rw [if_pos e0]; exact g))) (fun V Qr Qt hV hW g => q142 V Qr Qt hV hW (by rw [if_pos e0]; exact g))
            · have gx : EGX M (up_ M2 0 42 y) := EGX_tr (EGX_ef fx) (EGX_up (by decide))
              have gq := EGQ_ef fq
              refine nxt (up_ M2 0 42 y) N2 k gx gq (.inr ⟨k0, by rw [gq.1 193 (by decide) (by decide)]; exact c2, by rw [gq.1 192 (by decide) (by decide), gx.1 11 (by decide) (by decide)]; exact cT, (ROWk_eg gx gq).2 (by rw [up_at]; exact hrow)⟩) (by omega) (fun V Qr Qt hV hW g => x130 V Qr Qt hV hW (xa V Qr Qt hV hW (by rw [if_neg (by omega)]; exact g))) (fun V Qr Qt hV hW g => q142 V Qr Qt hV hW (by rw [if_neg (by omega)]; exact g))
          · have m1 : M 0 42 ≠ -1 := fun e => ca (.inl e)
            have p := pr m1
            refine nxt M N b EGX_rf EGQ_rf hB hb (fun V Qr Qt hV hW g => b_12_130 (Tr_mono _) hV hW _ _ _ ?_) (fun V Qr Qt hV hW g => b_336_142 (Tr_mono _) hV hW _ _ _ _ _ _ _ ?_)
            · rw [if_pos (by omega), if_pos (by rw [f2]; exact cT), if_pos (by rw [f1]; exact c2), if_neg xb, if_neg m1, sr.2, p.2.2, if_neg (by omega), wy]
              exact ⟨by omega, by omega, by omega, by omega, by omega, by omega, p.1, g⟩
            · rw [if_pos (by omega), if_pos cT, if_pos c2, if_neg qb, if_neg (by omega), if_neg (by omega), w1']
              exact ⟨by omega, by omega, by omega, by omega, by omega, g⟩
        · refine nxt M N b EGX_rf EGQ_rf hB hb (fun V Qr Qt hV hW g => b_12_130 (Tr_mono _) hV hW _ _ _ ?_) (fun V Qr Qt hV hW g => b_336_142 (Tr_mono _) hV hW _ _ _ _ _ _ _ ?_)
          · rw [if_pos (by omega), if_pos (by rw [f2]; exact cT), if_pos (by rw [f1]; exact c2), if_pos (bX.1.2 (fun h => cb (mb.1 h).1)), wy]
            exact ⟨by omega, by omega, by omega, by omega, by omega, g⟩
          · rw [if_pos (by omega), if_pos cT, if_pos c2, if_pos (bQ.1.2 cb), w1']
            exact ⟨by omega, by omega, by omega, g⟩
      · refine nxt M N b EGX_rf EGQ_rf hB hb (fun V Qr Qt hV hW g => b_12_130 (Tr_mono _) hV hW _ _ _ ?_) (fun V Qr Qt hV hW g => b_336_142 (Tr_mono _) hV hW _ _ _ _ _ _ _ ?_)
        · rw [if_pos (by omega), if_neg (by rw [f2]; exact cT), wy]; exact ⟨by omega, by omega, g⟩
        · rw [if_pos (by omega), if_neg cT, w1']; exact ⟨by omega, g⟩
    · have ns : 0 ≤ nsK (tbN N) k := by rw [nsK_e]; split <;> omega
      have hall : ∀ x, xsf (tbN N) k.toNat ≤ x → x < xsf (tbN N) k.toNat + nsK (tbN N) k → ROWk M N k (x - xsf (tbN N) k.toNat) x := fun x x0 x1 => ⟨⟨k0, by omega⟩, by omega, by omega⟩
      have hend : xsf (tbN N) k.toNat + nsK (tbN N) k ≤ M 4 4 := by
        by_cases c : nsK (tbN N) k = 0
        · have m := xsfm w2 k.toNat (by omega)
          have := row_c w2
          rw [c, Int.add_zero]
          have mono : ∀ (d n : Nat), ((n + d : Nat) : Int) ≤ N 6 62 → xsf (tbN N) n ≤ xsf (tbN N) (n + d) := fun d => by
            induction d with
            | zero => intro n _; exact Int.le_refl _
            | succ d ih2 =>
              intro n hn
              have := ih2 n (by omega)
              have b9 := pb.2.2 ((n + d : Nat) : Int) (by omega) (by omega)
              show xsf (tbN N) n ≤ xsf (tbN N) (n + d) + nsK (tbN N) ((n + d : Nat) : Int)
              rw [nsK_e]; split <;> omega
          have mm := mono ((N 6 62).toNat - k.toNat) k.toNat (by omega)
          rw [show k.toNat + ((N 6 62).toNat - k.toNat) = (N 6 62).toNat by omega, pb.2.1.1] at mm
          exact mm
        · have := row_b w2 (hall (xsf (tbN N) k.toNat + nsK (tbN N) k - 1) (by omega) (by omega)); omega
      have sk := sk_x (s := s) (M := M) (by omega) pb.2.1.2 (nsK (tbN N) k).toNat (xsf (tbN N) k.toNat) hxs (by omega) (fun x x0 x1 => by rw [(row_f w2 (hall x x0 (by omega))).1.1]; exact c2)
      rw [show xsf (tbN N) k.toNat + (((nsK (tbN N) k).toNat : Nat) : Int) = xsf (tbN N) (k + 1).toNat by omega] at sk
      refine nxt M N b EGX_rf EGQ_rf hB hb sk (fun V Qr Qt hV hW g => b_336_142 (Tr_mono _) hV hW _ _ _ _ _ _ _ ?_)
      rw [if_pos (by omega), w1', if_neg c2]
      refine ⟨by omega, ?_⟩
      by_cases c : N 192 k = M 11 s
      · rw [if_pos c]; exact ⟨by omega, g⟩
      · rw [if_neg c]; exact g
end WWa
end T374_ww
section T375_wo
/-! the run: would | stepOf whole -/
section WOa
variable {z : Int} {M N M' N' M1 N1 : mm_} {s : Int}
theorem WF2_eg [Inhabited fz_] (hx : EGX M M1) (hq : EGQ N N1) (h : WF2 M1 N1 M' N' s) : WF2 M N M' N' s := by
  obtain ⟨it, k, j, a1, a2, a3, a4, a5, a6, a7⟩ := h
  rw [hx.1 14 (by decide) (by decide)] at a1
  rw [hq.1 198 (by decide) (by decide)] at a4 a7
  rw [hq.1 193 (by decide) (by decide)] at a5
  rw [hq.1 192 (by decide) (by decide), hx.1 11 (by decide) (by decide)] at a6
  rw [hq.1 200 (by decide) (by decide), hx.1 15 (by decide) (by decide)] at a7
  exact ⟨it, k, j, a1, a2, (ROWk_eg hx hq).1 a3, a4, a5, a6, a7⟩
theorem WF4_eg [Inhabited fz_] (hx : EGX M M1) (hq : EGQ N N1) (h : WF4 M1 N1 M' N' s) : WF4 M N M' N' s := by
  obtain ⟨k, a1, a2, a3, a4⟩ := h
  rw [hq.1 193 (by decide) (by decide)] at a3
  rw [hq.1 192 (by decide) (by decide), hx.1 11 (by decide) (by decide)] at a4
  exact ⟨k, (ROWk_eg hx hq).1 a1, a2, a3, a4⟩
theorem j_12 [Inhabited fz_] (h : RU z M N) (hP : PLr M N) (hA : TYA N) (hs : 0 ≤ s ∧ s < M 0 7) : ∃ w M' N', Ex_ 5 12 [.inr (.inr 0), .inl s] M [.inl w] M' ∧ Ex_ 6 336 [.inr (.inr 6), .inl s] N [.inl w] N' ∧ EGX M M' ∧ EGQ N N' ∧ (w = 0 ∨ (w = 1 ∧ M 12 s = -1) ∨ (w = 2 ∧ 0 ≤ M 12 s ∧ WF2 M N M' N' s) ∨ (w = 3 ∧ 0 ≤ M 12 s ∧ WF3 M M' N' s) ∨ (w = 4 ∧ 0 ≤ M 12 s ∧ WF4 M N M' N' s)) := by
  have n12 := h.1.1
  have hB : sB s = 2 + 56 * s := rfl
  have hin := h.1.2.2.1 s hs.1 hs.2
  have e2 : N 239 (sB s + 2) = M 12 s := hin.1.2.2.1.symm
  have eT : N 239 (sB s + 1) = M 11 s := hin.1.2.1.symm
  have st := hin.2.1.2.2
  have gx : EGX M (up_ (up_ M 0 41 (-1)) 0 42 (-1)) := EGX_tr (EGX_up (by decide)) (EGX_up (by decide))
  generalize hM1 : up_ (up_ M 0 41 (-1)) 0 42 (-1) = M1 at gx
  have m42 : M1 0 42 = -1 := by rw [← hM1, up_at]
  by_cases c : M 12 s = -1
  · refine ⟨1, M1, N, fun Qr Qt g => t_12 fun V hV hW => b_12_0 (Tr_mono _) hV hW _ _ ⟨by omega, ?_⟩, fun Qr Qt g => t_336 fun V hV hW => b_336_0 (Tr_mono _) hV hW _ _ (Ex_le (d := 1) (by decide) (q_323 (by omega)) _ _ (ri_i ?_)), gx, EGQ_rf, .inr (.inl ⟨rfl, c⟩)⟩
    · rw [if_pos c, hM1]; exact g
    · rw [w32_id (x := sB s + 1) (by omega) (by omega), w32_id (x := sB s + 2) (by omega) (by omega), e2, if_pos (by omega)]; exact ⟨by omega, by omega, g⟩
  · have c0 : 0 ≤ M 12 s := by omega
    have m11 : M1 11 = M 11 := gx.1 11 (by decide) (by decide)
    have m12 : M1 12 = M 12 := gx.1 12 (by decide) (by decide)
    have m14 : M1 14 = M 14 := gx.1 14 (by decide) (by decide)
    have x0 : ∀ (w : Int) (M2 : mm_), (∀ (V : vv_) (Qr : qr_) (Qt : qt_), Cl_ wd0 (Tr_ wd0 pg0 4) V Qr Qt m_12 → Wk_ V → Qr [.inl w] M2 → V 24 [rr 0, ii s, ii 0, none] [] M1) → Ex_ 5 12 [.inr (.inr 0), .inl s] M [.inl w] M2 := fun w M2 h Qr Qt g => t_12 fun V hV hW => b_12_0 (Tr_mono _) hV hW _ _ ⟨by omega, by rw [if_neg c, hM1]; exact h V Qr Qt hV hW g⟩
    have q0 : ∀ (w : Int) (N2 : mm_), (∀ (V : vv_) (Qr : qr_) (Qt : qt_), Cl_ wd0 (Tr_ wd0 pg0 5) V Qr Qt m_336 → Wk_ V → Qr [.inl w] N2 → V 34 [rr 6, ii s, ii (sB s), ii (M 11 s), ii (M 12 s), ii 0, none] [] N) → Ex_ 6 336 [.inr (.inr 6), .inl s] N [.inl w] N2 := fun w N2 h Qr Qt g => t_336 fun V hV hW => b_336_0 (Tr_mono _) hV hW _ _ (Ex_le (d := 1) (by decide) (q_323 (by omega)) _ _ (ri_i (by
      rw [w32_id (x := sB s + 1) (by omega) (by omega), w32_id (x := sB s + 2) (by omega) (by omega), e2, eT, if_neg (by omega)]
      exact ⟨by omega, by omega, h V Qr Qt hV hW g⟩)))
    have hL : LK z M1 N s := LK_eg ⟨h, hP, hA, hs, c0⟩ gx EGQ_rf
    have q14 := hin.2.2.2.2.1
    have l := l_24 (z := z) (s := s) (M 14 s).toNat 0 M1 N (by rw [m14]; omega) (by decide) hL
    rw [m11, m12] at l
    rcases l with ⟨w, M', N', x1, q1, g1, g2, hw⟩ | ⟨M2, N2, x1, q1, g1, g2, e42⟩
    · refine ⟨w, M', N', x0 w M' x1, q0 w N' q1, EGX_tr gx g1, g2, ?_⟩
      rcases hw with ⟨e, f⟩ | ⟨e, it, a1, a2⟩
      · exact .inr (.inr (.inl ⟨e, c0, WF2_eg gx EGQ_rf f⟩))
      · exact .inr (.inr (.inr (.inl ⟨e, c0, it, by rw [m14] at a1; exact a1, a2⟩)))
    · have hL2 := LK_eg hL g1 g2
      have pb := ps_b hL2.2.1
      have l2 := l_130 (z := z) (s := s) (N2 6 62).toNat 0 (-1) M2 N2 (by omega) (by decide) hL2 (.inl ⟨rfl, e42.trans m42⟩) (by omega)
      have gM := EGX_tr gx g1
      rw [gM.1 11 (by decide) (by decide), gM.1 12 (by decide) (by decide)] at l2
      obtain ⟨w, M', N', x2, q2, h1, h2, hw⟩ := l2
      refine ⟨w, M', N', x0 w M' (fun V Qr Qt hV hW g => x1 V Qr Qt hV hW (x2 V Qr Qt hV hW g)), q0 w N' (fun V Qr Qt hV hW g => q1 V Qr Qt hV hW (q2 V Qr Qt hV hW g)), EGX_tr gM h1, EGQ_tr g2 h2, ?_⟩
      rcases hw with e | ⟨e, f⟩
      · exact .inl e
      · exact .inr (.inr (.inr (.inr ⟨e, c0, WF4_eg gM g2 f⟩)))
end WOa
end T375_wo
section T376_nm
/-! no miracles where nothing is given; the outcome is one -/
def nmS : List Nat := [323, 336, 337, 338, 339, 340, 341, 342, 343, 344]
def nmI (e : Instr × Nat × Nat × Int × List (Int × Nat)) : Bool := match e.1 with
  | .getfield _ => !(e.2.2.1 == 1)
  | .baload => false
  | .invokevirtual _ => nmS.contains e.2.2.1
  | .invokestatic _ => nmS.contains e.2.2.1
  | _ => true
section NMa
variable {w : wd_} {D : ca_}
theorem sw_nm [Inhabited fz_] {x : Int} : ∀ {tb : List (Int × Nat)} {d : Nat}, sw_ (fun _ => False) x tb d → False
  | [], d, h => h
  | k :: t, d, h => by
    unfold sw_ at h
    by_cases e : x = k.1
    · rw [if_pos e] at h; exact h
    · rw [if_neg e] at h; exact sw_nm h
theorem th_nm [Inhabited fz_] {hs : List (Nat × Nat × Nat)} {pc : Nat} {ls : lo_} {r : Nat} {M : mm_} (h : th_ (fun _ _ _ _ => False) (fun _ _ => False) hs pc ls r M) : False := by
  unfold th_ at h
  cases e : hd_ hs pc with
  | none => rw [e] at h; exact h
  | some q => rw [e] at h; exact h.2
theorem rk_nm [Inhabited fz_] {k pc : Nat} {ls : lo_} {st : List pv_} {vs : List pv_} {M : mm_} (h : rk_ (fun _ _ _ _ => False) k pc ls st vs M) : False := by
  unfold rk_ at h
  split at h
  · exact h.2
  · obtain ⟨x, _, h⟩ := h; exact h
  · obtain ⟨x, _, h⟩ := h; exact h
  · obtain ⟨x, _, h⟩ := h; exact h
theorem cl_nm [Inhabited fz_] (hD : ∀ a as M Qr Qt, a ∈ nmS → (∀ vs M, ¬ Qr vs M) → (∀ r M, ¬ Qt r M) → ¬ D a as M Qr Qt) {hs : List (Nat × Nat × Nat)} {pc a n k : Nat} {ls : lo_} {st : List pv_} {M : mm_} (ha : a ∈ nmS) (h : cl_ D (fun _ _ _ _ => False) (fun _ _ => False) hs pc a n k ls st M) : False := by
  unfold cl_ at h
  split at h
  · exact hD a _ _ _ _ ha (fun vs M g => rk_nm g) (fun r M g => th_nm g) h
  · exact h
set_option maxHeartbeats 4000000 in
theorem ex_nm [Inhabited fz_] (hD : ∀ a as M Qr Qt, a ∈ nmS → (∀ vs M, ¬ Qr vs M) → (∀ r M, ¬ Qt r M) → ¬ D a as M Qr Qt) {m : md_} {pc len a : Nat} {i : Instr} {b : Int} {tb : List (Int × Nat)} {ls : lo_} {st : List pv_} {M : mm_} (hi : nmI (i, len, a, b, tb) = true) (h : ex_ w D (fun _ _ _ _ => False) (fun _ _ => False) (fun _ _ => False) m pc i len a b tb ls st M) : False := by
  revert h hi
  cases i <;> simp only [ex_, nmI]
  all_goals first
    | exact fun _ h => h
    | exact fun h => absurd h (by decide)
    | skip
  all_goals (repeat' split)
  all_goals first
    | exact fun _ h => h
    | exact fun _ h => h.2
    | exact fun h => absurd h (by decide)
    | exact fun _ h => sw_nm h
    | exact fun _ h => th_nm h
    | exact fun g h => cl_nm hD (List.contains_iff_mem.1 g) h
    | skip
end NMa
end T376_nm
section T377_dt
/-! no miracles in Q's look for a step; its outcome is one -/
section DTa
variable {N N' N'' : mm_} {s w w2 : Int}
theorem lk_nm [Inhabited fz_] : ∀ (l : List en_) {pc : Nat} {e : Instr × Nat × Nat × Int × List (Int × Nat)}, l.all (fun q => nmI q.2) = true → lk_ l pc = some e → nmI e = true
  | [], pc, e, _, h => by unfold lk_ at h; exact absurd h (by simp)
  | q :: t, pc, e, ha, h => by
    rw [List.all_cons, Bool.and_eq_true] at ha
    unfold lk_ at h
    split at h
    · injection h with h; rw [← h]; exact ha.1
    · exact lk_nm t ha.2 h
theorem nm_ok [Inhabited fz_] : ∀ n, n ∈ nmS → (pg0 n).1.all (fun q => nmI q.2) = true := by
  intro n hn
  simp only [nmS, List.mem_cons, List.not_mem_nil, or_false] at hn
  rcases hn with e | e | e | e | e | e | e | e | e | e <;> subst e
  · show m_323.1.all _ = true; decide +kernel
  · show m_336.1.all _ = true; decide +kernel
  · show m_337.1.all _ = true; decide +kernel
  · show m_338.1.all _ = true; decide +kernel
  · show m_339.1.all _ = true; decide +kernel
  · show m_340.1.all _ = true; decide +kernel
  · show m_341.1.all _ = true; decide +kernel
  · show m_342.1.all _ = true; decide +kernel
  · show m_343.1.all _ = true; decide +kernel
  · show m_344.1.all _ = true; decide +kernel
theorem Tr_nm [Inhabited fz_] : ∀ (d : Nat) (n : Nat) (as : List pv_) (M : mm_) (Qr : qr_) (Qt : qt_), n ∈ nmS → (∀ vs M, ¬ Qr vs M) → (∀ r M, ¬ Qt r M) → ¬ Tr_ wd0 pg0 d n as M Qr Qt
  | 0, n, as, M, Qr, Qt, _, _, _ => fun h => h
  | d + 1, n, as, M, Qr, Qt, hn, hr, ht => fun h => by
    have h := h.2
    refine h (fun _ _ _ _ => False) (fun pc ls st M hs => ?_) (fun _ _ _ _ _ _ h => h)
    have hs2 : st_ wd0 (Tr_ wd0 pg0 d) (fun _ _ _ _ => False) (fun _ _ => False) (fun _ _ => False) (pg0 n) pc ls st M := st_mono (Tr_mono d) (fun _ _ _ _ g => g) (fun vs M g => hr vs M g) (fun r M g => ht r M g) hs
    unfold st_ at hs2
    cases e : lk_ (pg0 n).1 pc with
    | none => rw [e] at hs2; exact hs2
    | some q =>
      rw [e] at hs2
      exact ex_nm (fun a as M Qr Qt ha h1 h2 => Tr_nm d a as M Qr Qt ha h1 h2) (lk_nm _ (nm_ok n hn) e) hs2
/-- the outcome is one -/
theorem DET [Inhabited fz_] {d n : Nat} {as : List pv_} {v1 v2 : List pv_} (hn : n ∈ nmS) (h1 : Ex_ d n as N v1 N') (h2 : Ex_ d n as N v2 N'') : v1 = v2 ∧ N' = N'' := by
  refine Classical.byContradiction fun hne => ?_
  have a : Tr_ wd0 pg0 d n as N (fun vs M => vs = v1 ∧ M = N') (fun _ _ => False) := h1 _ _ ⟨rfl, rfl⟩
  have b : Tr_ wd0 pg0 d n as N (fun vs M => vs = v2 ∧ M = N'') (fun _ _ => False) := h2 _ _ ⟨rfl, rfl⟩
  have c := Tr_sp a
  refine Tr_nm d n as N _ _ hn (fun vs M g => ?_) (fun r M g => g.1) c
  obtain ⟨⟨e1, e2⟩, g2⟩ := g
  obtain ⟨e3, e4⟩ := g2 _ _ b
  exact hne ⟨e1.symm.trans e3, e2.symm.trans e4⟩
end DTa
end T377_dt
section T378_w2
/-! the run: would, asked twice -/
section W2a
variable {z : Int} {M N M' N' M1 N1 : mm_} {s : Int}
def WFS (M N M' N' : mm_) (s w : Int) : Prop := w = 0 ∨ (w = 1 ∧ M 12 s = -1) ∨ (w = 2 ∧ 0 ≤ M 12 s ∧ WF2 M N M' N' s) ∨ (w = 3 ∧ 0 ≤ M 12 s ∧ WF3 M M' N' s) ∨ (w = 4 ∧ 0 ≤ M 12 s ∧ WF4 M N M' N' s)
theorem j_12t [Inhabited fz_] (h : RU z M N) (hP : PLr M N) (hA : TYA N) (hs : 0 ≤ s ∧ s < M 0 7) : ∃ w M' N', Ex_ 5 12 [.inr (.inr 0), .inl s] M [.inl w] M' ∧ Ex_ 6 336 [.inr (.inr 6), .inl s] N [.inl w] N' ∧ EGX M M' ∧ EGQ N N' ∧ WFS M N M' N' s w ∧ ∀ M1, EGX M M1 → ∃ M2, Ex_ 5 12 [.inr (.inr 0), .inl s] M1 [.inl w] M2 ∧ EGX M M2 ∧ WFS M N M2 N' s w := by
  obtain ⟨w, M', N', x1, q1, gx, gq, f⟩ := j_12 h hP hA hs
  refine ⟨w, M', N', x1, q1, gx, gq, f, fun M1 g1 => ?_⟩
  obtain ⟨w2, M2, N2, x2, q2, hx, hq, f2⟩ := j_12 (s := s) (RU_eg h g1 EGQ_rf) (PLr_c hP (XRF_eg g1) QRF_rf) hA (by rw [g1.2 7 (by decide)]; exact hs)
  obtain ⟨e1, e2⟩ := DET (by decide) q1 q2
  have ew : w = w2 := by injection e1 with e1 _; injection e1
  subst ew; subst e2
  refine ⟨M2, x2, EGX_tr g1 hx, ?_⟩
  have m12 : M1 12 = M 12 := g1.1 12 (by decide) (by decide)
  rw [m12] at f2
  rcases f2 with e | ⟨e, a⟩ | ⟨e, a, b⟩ | ⟨e, a, it, b1, b2⟩ | ⟨e, a, b⟩
  · exact .inl e
  · exact .inr (.inl ⟨e, a⟩)
  · exact .inr (.inr (.inl ⟨e, a, WF2_eg g1 EGQ_rf b⟩))
  · exact .inr (.inr (.inr (.inl ⟨e, a, it, by rw [g1.1 14 (by decide) (by decide)] at b1; exact b1, b2⟩)))
  · exact .inr (.inr (.inr (.inr ⟨e, a, WF4_eg g1 EGQ_rf b⟩)))
end W2a
end T378_w2
section T379_s1
/-! the run: a step: START and WHEN (X 22 | Q 345) -/
section S1a
variable {z : Int} {M N M' N' M1 M2 N1 : mm_} {s k v y w : Int}
theorem RU_18 [Inhabited fz_] (h : RU z M N) (hk : 0 ≤ k ∧ k < M 0 7) : RU z (up_ M 18 k v) (up_ N 239 (sB k + 3) v) := by
  obtain ⟨r1, r2, r3, r4, r5⟩ := h
  have n12 := r1.1
  have hB : sB k = 2 + 56 * k := rfl
  have xr : ∀ r : Nat, r ≠ 18 → up_ M 18 k v r = M r := fun r c => up_ne c
  have qr : ∀ r : Nat, r ≠ 239 → up_ N 239 (sB k + 3) v r = N r := fun r c => up_ne c
  have no : ∀ i, i ≠ sB k + 3 → up_ N 239 (sB k + 3) v 239 i = N 239 i := fun i e => upo e
  refine ⟨RI_k r1 hk (by rw [xr 0 (by decide)]; exact ⟨rfl, rfl⟩) (fun q hq i hi => by
      by_cases c : q = 18
      · rw [c, upo hi]
      · rw [xr q c]) (fun j hj => by rw [xr 13 (by decide)]) (fun j _ => by rw [xr 15 (by decide)]) (fun j _ => by rw [xr 16 (by decide), xr 17 (by decide)]; exact ⟨rfl, rfl⟩) (fun j hj => no j (by omega)) (by rw [qr 6 (by decide)]) (fun q hq => qr q (fun e => by rw [e] at hq; revert hq; decide)) ?_, RRt_k r2 (xr 21 (by decide)) (xr 22 (by decide)) (fun j hj => no j (by omega)) (by rw [qr 6 (by decide)]), RSC_c r3 (fun i _ => by rw [xr 0 (by decide)]) (fun i _ => by rw [qr 6 (by decide)]), ROU_c r4 (fun i _ => by rw [xr 0 (by decide)]) (xr 24 (by decide)) (fun i _ => by rw [qr 6 (by decide)]) (qr 241 (by decide)), REV_c r5 (fun i _ => by rw [xr 0 (by decide)]) (xr 23 (by decide)) (fun i _ => by rw [qr 6 (by decide)]) (qr 240 (by decide))⟩
  obtain ⟨b1, b2, b3, b4, b5⟩ := r1.2.2.1 k hk.1 hk.2
  unfold IN
  rw [xr 10 (by decide), xr 11 (by decide), xr 12 (by decide), xr 20 (by decide), xr 19 (by decide), xr 0 (by decide), xr 13 (by decide), xr 14 (by decide), xr 15 (by decide), xr 16 (by decide), xr 17 (by decide), qr 6 (by decide), qr 174 (by decide), qr 172 (by decide), qr 173 (by decide), no (sB k) (by omega), no (sB k + 1) (by omega), no (sB k + 2) (by omega), no (sB k + 5) (by omega), no (sB k + 4) (by omega), no (sB k + 25) (by omega), up_at, up_at]
  exact ⟨⟨b1.1, b1.2.1, b1.2.2.1, rfl, b1.2.2.2.2⟩, b2, ⟨fun j j0 j1 => by rw [no _ (by omega)]; exact b3.1 j j0 j1, fun j j0 j1 j2 => by rw [no _ (by omega)]; exact b3.2 j j0 j1 j2⟩, fun t t0 t1 => by rw [no _ (by omega)]; exact b4 t t0 t1, b5.1, fun j j0 j1 => by rw [no _ (by omega)]; exact b5.2.1 j j0 j1, fun j j0 j1 => by rw [no _ (by omega)]; exact b5.2.2 j j0 j1⟩
/-- START -/
theorem st_1 [Inhabited fz_] (h : RU z M N) (hP : PLr M N) (hA : TYA N) (hs : 0 ≤ s ∧ s < M 0 7) (h8 : M 0 8 + 200 ≤ 2000000000) (gx : EGX M M2) (gq : EGQ N N1) (x12 : Ex_ 5 12 [.inr (.inr 0), .inl s] M1 [.inl 1] M2) : ∃ M' N', Ex_ 9 22 [.inr (.inr 0), .inl s] M1 [] M' ∧ Ex_ 9 345 [.inr (.inr 6), .inl s, .inl 1] N1 [] N' ∧ RU z M' N' ∧ TYA N' ∧ (XRF M M' ∧ QRF N N') ∧ M' 0 8 ≤ M 0 8 + 200 := by
  have n12 := h.1.1
  have hB : sB s = 2 + 56 * s := rfl
  have hin := h.1.2.2.1 s hs.1 hs.2
  have hT := hin.2.1.2.1
  have p6 := hP.1.2.2
  rw [tbN_6 (by decide)] at p6
  have pt := (PT_of hP hT).2.2.2.2.1
  rw [tbN_r (q := 176) (by decide) (by decide), show swc M 127 = M 94 from swc_r (q := 94) (by decide) (by decide)] at pt
  have m11 : M2 11 = M 11 := gx.1 11 (by decide) (by decide)
  have m94 : M2 94 = M 94 := gx.1 94 (by decide) (by decide)
  obtain ⟨M', N', x1, q1, ru, ty, fr, b8⟩ := j_23 (k := N 176 (M 11 s)) (c := M 94 (M 11 s)) (RU_eg h gx gq) (PLr_c hP (XRF_eg gx) (QRF_eg gq)) (TYA_eg hA gq) (s := s) (by rw [gx.2 7 (by decide)]; exact hs) (by rw [gx.2 8 (by decide)]; exact h8) (by rw [swc_e (XRF_eg gx), tbN_e (QRF_eg gq), m11]; exact pt)
  refine ⟨M', N', fun Qr Qt g => t_22 fun V hV hW => b_22_0 (Tr_mono _) hV hW _ _ (Ex_le (d := 5) (by decide) x12 _ _ (ri_i ⟨by omega, ?_⟩)), fun Qr Qt g => t_345 fun V hV hW => b_345_0 (Tr_mono _) hV hW _ _ _ (Ex_le (d := 1) (by decide) (q_323 (by omega)) _ _ (ri_i ⟨by omega, ?_⟩)), ru, ty, ⟨XRF_tr (XRF_eg gx) fr.1, QRF_tr (QRF_eg gq) fr.2⟩, by rw [gx.2 8 (by decide)] at b8; exact b8⟩
  · rw [if_pos rfl, m11, m94]; exact ⟨by omega, by omega, x1 _ _ (rv_i g)⟩
  · rw [if_pos rfl, w32_id (x := sB s + 1) (by omega) (by omega), gq.1 239 (by decide) (by decide), gq.1 176 (by decide) (by decide), show N 239 (sB s + 1) = M 11 s from hin.1.2.1.symm]
    exact ⟨by omega, by omega, q1 _ _ (rv_i g)⟩
/-- WHEN -/
theorem st_4 [Inhabited fz_] (h : RU z M N) (hP : PLr M N) (hA : TYA N) (hs : 0 ≤ s ∧ s < M 0 7) (h8 : M 0 8 + 200 ≤ 2000000000) (gx : EGX M M2) (gq : EGQ N N1) (x12 : Ex_ 5 12 [.inr (.inr 0), .inl s] M1 [.inl 4] M2) (hf : WF4 M N M2 N1 s) : ∃ M' N', Ex_ 9 22 [.inr (.inr 0), .inl s] M1 [] M' ∧ Ex_ 9 345 [.inr (.inr 6), .inl s, .inl 4] N1 [] N' ∧ RU z M' N' ∧ TYA N' ∧ (XRF M M' ∧ QRF N N') ∧ M' 0 8 ≤ M 0 8 + 200 := by
  have n12 := h.1.1
  have hB : sB s = 2 + 56 * s := rfl
  have hin := h.1.2.2.1 s hs.1 hs.2
  obtain ⟨k, hrow, e151, c2, cT⟩ := hf
  obtain ⟨_, sro⟩ := row_f hP hrow
  have rb := row_b hP hrow
  have pb := ps_b hP
  have k62 := hrow.1
  have at_ := sro.1 (by rw [tbN_r (q := 193) (by decide) (by decide)]; omega)
  rw [tbN_r (q := 192) (by decide) (by decide), tbN_r (q := 197) (by decide) (by decide), show swc M 141 = M 108 from swc_r (q := 108) (by decide) (by decide), cT] at at_
  have m11 : M2 11 = M 11 := gx.1 11 (by decide) (by decide)
  have m10 : M2 10 = M 10 := gx.1 10 (by decide) (by decide)
  have m108 : M2 108 = M 108 := gx.1 108 (by decide) (by decide)
  have e239 : N1 239 = N 239 := gq.1 239 (by decide) (by decide)
  have ep : N 239 (sB s) = M 10 s := hin.1.1.symm
  have hs2 : 0 ≤ s ∧ s < M2 0 7 := by rw [gx.2 7 (by decide)]; exact hs
  have ru1 := RU_18 (v := M 10 s) (RU_eg h gx gq) hs2
  have f18 : XRF M2 (up_ M2 18 s (M 10 s)) := XRF_up (by decide) (fun e => absurd e (by decide))
  have f239 : QRF N1 (up_ N1 239 (sB s + 3) (M 10 s)) := QRF_up (by decide) (fun e => absurd e (by decide))
  have fX := XRF_tr (XRF_eg gx) f18
  have fQ := QRF_tr (QRF_eg gq) f239
  have u0 : up_ M2 18 s (M 10 s) 0 = M2 0 := up_ne (by decide)
  obtain ⟨M', N', x1, q1, ru, ty, fr, b8⟩ := j_23 (k := N 197 k) (c := M 108 (M2 0 42)) ru1 (PLr_c hP fX fQ) (TYA_239 (TYA_eg hA gq) (by omega) 3 _ (by decide) (by rw [e239]; omega) (by rw [← ep]; exact hA.2.2 _)) (s := s) (by rw [u0]; exact hs2) (by rw [u0, gx.2 8 (by decide)]; exact h8) (by rw [swc_e fX, tbN_e fQ, up_ne (by decide), m11]; exact at_)
  refine ⟨M', N', fun Qr Qt g => t_22 fun V hV hW => b_22_0 (Tr_mono _) hV hW _ _ (Ex_le (d := 5) (by decide) x12 _ _ (ri_i ⟨by omega, ?_⟩)), fun Qr Qt g => t_345 fun V hV hW => b_345_0 (Tr_mono _) hV hW _ _ _ (Ex_le (d := 1) (by decide) (q_323 (by omega)) _ _ (ri_i ⟨by omega, ?_⟩)), ru, ty, ⟨XRF_tr fX fr.1, QRF_tr fQ fr.2⟩, by rw [u0, gx.2 8 (by decide)] at b8; exact b8⟩
  · rw [if_neg (by decide), if_pos rfl, m108, m10]; exact ⟨by omega, by omega, x1 _ _ (rv_i g)⟩
  · rw [if_neg (by decide), if_pos rfl, w32_id (x := sB s + 3) (by omega) (by omega), e151, e239, gq.1 197 (by decide) (by decide), ep]
    exact ⟨by omega, by omega, q1 _ _ (rv_i g)⟩
end S1a
end T379_s1
section T380_rm
/-! the run: an item leaves the queue -/
def rmX (M : mm_) (s it : Int) : mm_ := up_ (wr_ M 15 (cpf (M 15) (30 * s + 5 * it) (30 * s + 5 * (M 14 s - 1)) 5)) 14 s (M 14 s - 1)
def rmQ (N : mm_) (s it : Int) : mm_ := wr_ N 239 (uqf (N 239) (sB s + 25) it)
section RMa
variable {z : Int} {M N : mm_} {s it : Int}
theorem RU_rm [Inhabited fz_] (h : RU z M N) (hs : 0 ≤ s ∧ s < M 0 7) (hi : 0 ≤ it ∧ it < M 14 s) : RU z (rmX M s it) (rmQ N s it) := by
  obtain ⟨r1, r2, r3, r4, r5⟩ := h
  have n12 := r1.1
  have hB : sB s = 2 + 56 * s := rfl
  obtain ⟨b1, b2, b3, b4, ⟨q1, q2, q3⟩, q4, q5⟩ := r1.2.2.1 s hs.1 hs.2
  have xr : ∀ r : Nat, r ≠ 14 → r ≠ 15 → rmX M s it r = M r := fun r c1 c2 => by unfold rmX; rw [up_ne c1, wr_ne c2]
  have x15 : rmX M s it 15 = cpf (M 15) (30 * s + 5 * it) (30 * s + 5 * (M 14 s - 1)) 5 := by unfold rmX; rw [up_ne (by decide), wr_same]
  have qr : ∀ r : Nat, r ≠ 239 → rmQ N s it r = N r := fun r c => by unfold rmQ; rw [wr_ne c]
  have q9 : rmQ N s it 239 = uqf (N 239) (sB s + 25) it := by unfold rmQ; rw [wr_same]
  have qo : ∀ i, i < sB s + 25 ∨ sB s + 56 ≤ i → rmQ N s it 239 i = N 239 i := fun i h => by rw [q9]; exact uqf_o hi.1 h
  refine ⟨RI_k r1 hs (by rw [xr 0 (by decide) (by decide)]; exact ⟨rfl, rfl⟩) (fun q hq i hi => by
      by_cases c : q = 14
      · rw [c]; unfold rmX; rw [upo hi, wr_ne (by decide)]
      · rw [xr q c (fun e => by rw [e] at hq; revert hq; decide)]) (fun j _ => by rw [xr 13 (by decide) (by decide)]) (fun j hj => by rw [x15]; unfold cpf; rw [if_neg (by omega)]) (fun j _ => by rw [xr 16 (by decide) (by decide), xr 17 (by decide) (by decide)]; exact ⟨rfl, rfl⟩) (fun j hj => qo j (by omega)) (by rw [qr 6 (by decide)]) (fun q hq => qr q (fun e => by rw [e] at hq; revert hq; decide)) ?_, RRt_k r2 (xr 21 (by decide) (by decide)) (xr 22 (by decide) (by decide)) (fun j hj => qo j (by omega)) (by rw [qr 6 (by decide)]), RSC_c r3 (fun i _ => by rw [xr 0 (by decide) (by decide)]) (fun i _ => by rw [qr 6 (by decide)]), ROU_c r4 (fun i _ => by rw [xr 0 (by decide) (by decide)]) (xr 24 (by decide) (by decide)) (fun i _ => by rw [qr 6 (by decide)]) (qr 241 (by decide)), REV_c r5 (fun i _ => by rw [xr 0 (by decide) (by decide)]) (xr 23 (by decide) (by decide)) (fun i _ => by rw [qr 6 (by decide)]) (qr 240 (by decide))⟩
  have e14 : rmX M s it 14 s = M 14 s - 1 := by unfold rmX; rw [up_at]
  unfold IN
  rw [xr 10 (by decide) (by decide), xr 11 (by decide) (by decide), xr 12 (by decide) (by decide), xr 18 (by decide) (by decide), xr 19 (by decide) (by decide), xr 20 (by decide) (by decide), xr 0 (by decide) (by decide), xr 13 (by decide) (by decide), xr 16 (by decide) (by decide), xr 17 (by decide) (by decide), qr 6 (by decide), qr 174 (by decide), qr 172 (by decide), qr 173 (by decide), e14, qo (sB s) (by omega), qo (sB s + 1) (by omega), qo (sB s + 2) (by omega), qo (sB s + 3) (by omega), qo (sB s + 4) (by omega), qo (sB s + 5) (by omega)]
  refine ⟨b1, b2, ⟨fun j j0 j1 => by rw [qo _ (by omega)]; exact b3.1 j j0 j1, fun j j0 j1 j2 => by rw [qo _ (by omega)]; exact b3.2 j j0 j1 j2⟩, fun t t0 t1 => by rw [qo _ (by omega)]; exact b4 t t0 t1, ⟨by omega, by omega, by rw [q9, uqf_25, q3]⟩, fun j j0 j1 => ?_, fun j j0 j1 => ?_⟩
  · rw [x15, q9]
    unfold cpf
    by_cases c : 5 * it ≤ j
    · rw [if_pos (by omega), uqf_hi (by omega) hi.1, show 30 * s + j + 5 = 30 * s + (j + 5) by omega]; exact q4 (j + 5) (by omega) (by omega)
    · rw [if_neg (by omega)]
      rcases uqf_lo (g := N 239) (k := s) (i := it) (j := j) (by omega) with e | e
      · rw [e]; exact q4 j j0 (by omega)
      · omega
  · rw [q9]
    by_cases c : 25 ≤ j
    · exact uqf_z (by omega)
    · rw [uqf_hi (by omega) hi.1]; exact q5 (j + 5) (by omega) (by omega)
theorem TYA_rm [Inhabited fz_] (h : RU z M N) (hA : TYA N) (hs : 0 ≤ s ∧ s < M 0 7) (hi : 0 ≤ it ∧ it < M 14 s) : TYA (rmQ N s it) := by
  have n12 := h.1.1
  have q := (h.1.2.2.1 s hs.1 hs.2).2.2.2.2.1
  have := TYA_uq (N := N) (g := N 239) (k := s) (i := it) (by rw [wr_id]; exact hA) (by omega) (by omega) (by omega) (by omega)
  exact this
end RMa
end T380_rm
section T381_tk
/-! the run: a signal is taken, X's and Q's walks -/
def tkX9 (M : mm_) (s it : Int) : mm_ := up_ (up_ (up_ M 25 0 (M 15 (30 * s + 5 * it + 2))) 25 1 (M 15 (30 * s + 5 * it + 3))) 25 2 (M 15 (30 * s + 5 * it + 4))
section TKa
variable {z : Int} {M N : mm_} {s it y2 y3 y5 y6 y7 : Int}
theorem tk_r [Inhabited fz_] {r : Nat} (h : r ≠ 25) : tkX9 M s it r = M r := by unfold tkX9; rw [up_ne h, up_ne h, up_ne h]
theorem rm_e [Inhabited fz_] : wr_ (up_ (tkX9 M s it) 14 s (M 14 s - 1)) 15 (cpf (M 15) (30 * s + 5 * it) (30 * s + 5 * (M 14 s - 1)) 5) = rmX (tkX9 M s it) s it := by
  unfold rmX
  rw [tk_r (r := 14) (by decide), tk_r (r := 15) (by decide)]
  funext r
  by_cases c : r = 15
  · subst c; rw [wr_same, up_ne (by decide), wr_same]
  · rw [wr_ne c]
    by_cases c2 : r = 14
    · subst c2
      funext j
      rw [ua_, ua_, if_pos rfl, if_pos rfl, wr_ne (by decide)]
    · rw [up_ne c2, up_ne c2, wr_ne c]
/-- X: the item is taken out -/
theorem x_117t [Inhabited fz_] (h : RU z M N) (hs : 0 ≤ s ∧ s < M 0 7) (hi : 0 ≤ it ∧ it < M 14 s) : RC 8 m_22 117 [rr 0, ii s, ii y2, ii y3, ii (30 * s + 5 * it), ii y5, ii y6, ii y7, rr 25, ii 0] M 160 [rr 0, ii s, ii y2, ii y3, ii (30 * s + 5 * it), ii y5, ii y6, ii y7, rr 25, ii (30 * s + 5 * (M 14 s - 1))] (rmX (tkX9 M s it) s it) := by
  have n12 := h.1.1
  have q := (h.1.2.2.1 s hs.1 hs.2).2.2.2.2.1
  have lp : ∀ (d : Nat) (x : Int), x + d = 30 * s + 5 * (M 14 s - 1) → 30 * s + 5 * it ≤ x → RC 8 m_22 160 [rr 0, ii s, ii y2, ii y3, ii (30 * s + 5 * it), ii y5, ii y6, ii y7, rr 25, ii x] (wr_ (up_ (tkX9 M s it) 14 s (M 14 s - 1)) 15 (cpf (M 15) (30 * s + 5 * it) x 5)) 160 [rr 0, ii s, ii y2, ii y3, ii (30 * s + 5 * it), ii y5, ii y6, ii y7, rr 25, ii (30 * s + 5 * (M 14 s - 1))] (wr_ (up_ (tkX9 M s it) 14 s (M 14 s - 1)) 15 (cpf (M 15) (30 * s + 5 * it) (30 * s + 5 * (M 14 s - 1)) 5)) := fun d => by
    induction d with
    | zero => intro x hx _; rw [show x = 30 * s + 5 * (M 14 s - 1) by omega]; exact RC_rf
    | succ d ih =>
      intro x hx x0
      refine RC_tr (fun V Qr Qt hV hW g => b_22_160 (Tr_mono _) hV hW _ _ _ _ _ _ _ _ _ ⟨by omega, ?_⟩) (ih (x + 1) (by omega) (by omega))
      rw [wr_ne (r' := 14) (by decide), up_at]
      refine Ex_le (d := 1) (by decide) (x_9 (by omega) (by omega)) _ _ (ri_i ?_)
      rw [if_pos (by omega), w32_id (x := x + 5) (by omega) (by omega), w32_id (x := x + 1) (by omega) (by omega), wr_same, cpf_s x0 (by decide)]
      exact ⟨by omega, by omega, g⟩
  have l2 := lp (5 * (M 14 s - 1 - it)).toNat (30 * s + 5 * it) (by omega) (Int.le_refl _)
  rw [cpf_0, rm_e] at l2
  have e15 : up_ (tkX9 M s it) 14 s (M 14 s - 1) 15 = M 15 := by rw [up_ne (by decide), tk_r (by decide)]
  rw [← e15, wr_id] at l2
  refine RC_tr (fun V Qr Qt hV hW g => ?_) l2
  refine b_22_117 (Tr_mono _) hV hW _ _ _ _ _ _ _ _ _ ?_
  rw [if_pos (by decide), w32_id (x := 30 * s + 5 * it + 2) (by omega) (by omega), w32_id (x := 30 * s + 5 * it + 2 + 0) (by omega) (by omega), show w32 (0 + 1) = 1 from w32_id (by decide) (by decide)]
  refine ⟨by omega, by decide, b_22_117 (Tr_mono _) hV hW _ _ _ _ _ _ _ _ _ ?_⟩
  rw [if_pos (by decide), w32_id (x := 30 * s + 5 * it + 2) (by omega) (by omega), w32_id (x := 30 * s + 5 * it + 2 + 1) (by omega) (by omega), show w32 (1 + 1) = 2 from w32_id (by decide) (by decide)]
  refine ⟨by omega, by decide, b_22_117 (Tr_mono _) hV hW _ _ _ _ _ _ _ _ _ ?_⟩
  rw [if_pos (by decide), w32_id (x := 30 * s + 5 * it + 2) (by omega) (by omega), w32_id (x := 30 * s + 5 * it + 2 + 2) (by omega) (by omega), show w32 (2 + 1) = 3 from w32_id (by decide) (by decide)]
  refine ⟨by omega, by decide, b_22_117 (Tr_mono _) hV hW _ _ _ _ _ _ _ _ _ ?_⟩
  have n5 : ∀ (B : mm_) (i v : Int), up_ B 25 i v 15 = B 15 := fun B i v => up_ne (by decide)
  have n4 : ∀ (B : mm_) (i v : Int), up_ B 25 i v 14 = B 14 := fun B i v => up_ne (by decide)
  rw [if_neg (by decide), n5, n5, n5, n4, n4, n4, w32_id (x := M 14 s - 1) (by omega) (by omega), Int.add_zero, show 30 * s + 5 * it + 2 + 1 = 30 * s + 5 * it + 3 by omega, show 30 * s + 5 * it + 2 + 2 = 30 * s + 5 * it + 4 by omega]
  exact ⟨by omega, by omega, g⟩
end TKa
end T381_tk
section T382_s3
/-! the run: a step: a signal is lost (X 22 | Q 345) -/
section S3a
variable {z : Int} {M N M' N' M1 M2 N1 : mm_} {s it v : Int}
theorem RU_25 [Inhabited fz_] (h : RU z M N) (hx : ∀ r : Nat, r ≠ 25 → M' r = M r) : RU z M' N := by
  obtain ⟨h1, h2, h3, h4, h5⟩ := h
  have e0 := hx 0 (by decide)
  exact ⟨RI_c h1 ⟨by rw [e0], by rw [e0]⟩ (fun q hq => hx q (fun e => by rw [e] at hq; revert hq; decide)) rfl rfl (fun _ _ => rfl), RRt_c h2 (hx 21 (by decide)) (hx 22 (by decide)) rfl rfl, RSC_c h3 (fun i _ => by rw [e0]) (fun _ _ => rfl), ROU_c h4 (fun i _ => by rw [e0]) (hx 24 (by decide)) (fun _ _ => rfl) rfl, REV_c h5 (fun i _ => by rw [e0]) (hx 23 (by decide)) (fun _ _ => rfl) rfl⟩
theorem rm_18 [Inhabited fz_] : up_ (rmX M s it) 18 s v = rmX (up_ M 18 s v) s it := by
  unfold rmX
  rw [up_ne (r' := 14) (by decide), up_ne (r' := 15) (by decide), upc (r := 14) (r' := 18) (by decide)]
  congr 1
  funext r
  by_cases c : r = 15
  · subst c; rw [up_ne (by decide), wr_same, wr_same]
  · rw [wr_ne c]
    by_cases c2 : r = 18
    · subst c2; funext j; rw [ua_, ua_, if_pos rfl, if_pos rfl, wr_ne (by decide)]
    · rw [up_ne c2, up_ne c2, wr_ne c]
theorem XRF_tk [Inhabited fz_] : XRF M (tkX9 M s it) := ⟨fun r hr => tk_r (fun e => hr (by rw [e]; decide)), fun i _ => by rw [tk_r (by decide)]⟩
theorem XRF_rm [Inhabited fz_] : XRF M (rmX M s it) := by unfold rmX; exact XRF_tr (XRF_wr (by decide) (by decide)) (XRF_up (by decide) (fun e => absurd e (by decide)))
theorem QRF_rm [Inhabited fz_] : QRF N (rmQ N s it) := by unfold rmQ; exact QRF_wr (by decide) (by decide)
end S3a
end T382_s3
section T383_s4
/-! the run: a step: a signal is lost, walked -/
section S4a
variable {z : Int} {M N M' N' M1 M2 N1 : mm_} {s it v : Int}
theorem st_3 [Inhabited fz_] (h : RU z M N) (hP : PLr M N) (hA : TYA N) (hs : 0 ≤ s ∧ s < M 0 7) (gx : EGX M M2) (gq : EGQ N N1) (x12 : Ex_ 5 12 [.inr (.inr 0), .inl s] M1 [.inl 3] M2) (hf : WF3 M M2 N1 s) : ∃ M' N', Ex_ 9 22 [.inr (.inr 0), .inl s] M1 [] M' ∧ Ex_ 9 345 [.inr (.inr 6), .inl s, .inl 3] N1 [] N' ∧ RU z M' N' ∧ TYA N' ∧ (XRF M M' ∧ QRF N N') ∧ M' 0 8 = M 0 8 := by
  obtain ⟨it, hi, e41, e152⟩ := hf
  have n12 := h.1.1
  have hB : sB s = 2 + 56 * s := rfl
  have ru2 := RU_eg h gx gq
  have tA2 := TYA_eg hA gq
  have m7 : M2 0 7 = M 0 7 := gx.2 7 (by decide)
  have m14 : M2 14 = M 14 := gx.1 14 (by decide) (by decide)
  have hs2 : 0 ≤ s ∧ s < M2 0 7 := by rw [m7]; exact hs
  have hi2 : 0 ≤ it ∧ it < M2 14 s := by rw [m14]; exact hi
  have hin := ru2.1.2.2.1 s hs2.1 hs2.2
  have qb := hin.2.2.2.2.1
  have q0 := hin.2.2.2.2.2.1 (5 * it) (by omega) (by omega)
  have q1 := hin.2.2.2.2.2.1 (5 * it + 1) (by omega) (by omega)
  rw [show 30 * s + (5 * it + 1) = 30 * s + 5 * it + 1 by omega, show sB s + 26 + (5 * it + 1) = sB s + 26 + 5 * it + 1 by omega] at q1
  have ep : N1 239 (sB s) = M2 10 s := hin.1.1.symm
  generalize hsn : M2 15 (30 * s + 5 * it + 1) = sn at q1
  generalize hsg : M2 15 (30 * s + 5 * it) = sg at q0
  have ruT : RU z (tkX9 M2 s it) N1 := RU_25 ru2 (fun r hr => tk_r hr)
  have t0 : tkX9 M2 s it 0 = M2 0 := tk_r (by decide)
  have ru3 := RU_18 (v := sn) (k := s) ruT (by rw [t0]; exact hs2)
  have u0 : up_ (tkX9 M2 s it) 18 s sn 0 = M2 0 := by rw [up_ne (by decide), t0]
  have u14 : up_ (tkX9 M2 s it) 18 s sn 14 = M2 14 := by rw [up_ne (by decide), tk_r (by decide)]
  have ru4 := RU_rm (it := it) ru3 (by rw [u0]; exact hs2) (by rw [u14]; exact hi2)
  have rsn : R32 sn := by rw [q1]; exact tA2.2.2 _
  have tA3 : TYA (up_ N1 239 (sB s + 3) sn) := TYA_239 tA2 (by omega) 3 sn (by decide) (by have := ru2.1.1; omega) rsn
  have tA4 := TYA_rm (it := it) ru3 tA3 (by rw [u0]; exact hs2) (by rw [u14]; exact hi2)
  have x7 := x_7 (p := M2 10 s) (s := sg) (b := sn) ru4
  have q7 := q_333 (p := M2 10 s) (s := sg) (b := sn) ru4
  have r0 : rmX (up_ (tkX9 M2 s it) 18 s sn) s it 0 = M2 0 := by unfold rmX; rw [up_ne (by decide), wr_ne (by decide), u0]
  refine ⟨loX (rmX (up_ (tkX9 M2 s it) 18 s sn) s it) (M2 10 s) sg sn, loQ (rmQ (up_ N1 239 (sB s + 3) sn) s it) (M2 10 s) sg sn, fun Qr Qt g => t_22 fun V hV hW => b_22_0 (Tr_mono _) hV hW _ _ (Ex_le (d := 5) (by decide) x12 _ _ (ri_i ⟨by omega, ?_⟩)), fun Qr Qt g => t_345 fun V hV hW => b_345_0 (Tr_mono _) hV hW _ _ _ (Ex_le (d := 1) (by decide) (q_323 (by omega)) _ _ (ri_i ⟨by omega, ?_⟩)), RU_lo ru4, TYA_lo tA4, ⟨XRF_tr (XRF_eg gx) (XRF_tr (XRF_tr XRF_tk (XRF_up (by decide) (fun e => absurd e (by decide)))) (XRF_tr XRF_rm XRF_lo)), QRF_tr (QRF_eg gq) (QRF_tr (QRF_up (by decide) (fun e => absurd e (by decide))) (QRF_tr QRF_rm QRF_lo))⟩, by rw [LoX_lo.2 8 (by decide), r0]; exact gx.2 8 (by decide)⟩
  · rw [if_neg (by decide), if_neg (by decide), e41]
    refine Ex_le (d := 1) (by decide) (x_9 (by omega) (by omega)) _ _ (ri_i ⟨by omega, ?_⟩)
    rw [w32_id (x := 30 * s + 5 * it + 1) (by omega) (by omega), hsn, hsg]
    refine ⟨by omega, x_117t ru2 hs2 hi2 V Qr Qt hV hW (b_22_160 (Tr_mono _) hV hW _ _ _ _ _ _ _ _ _ ⟨by omega, ?_⟩)⟩
    have e14 : rmX (tkX9 M2 s it) s it 14 s = M2 14 s - 1 := by unfold rmX; rw [up_at, tk_r (by decide)]
    rw [e14]
    refine Ex_le (d := 1) (by decide) (x_9 (by omega) (by omega)) _ _ (ri_i ?_)
    rw [if_neg (by omega), if_pos rfl, rm_18]
    exact ⟨by omega, Ex_le (d := 2) (by decide) x7 _ _ (rv_i g)⟩
  · rw [if_neg (by decide), if_neg (by decide), if_neg (by decide), e152, w32_id (x := sB s + 25) (by omega) (by omega), w32_id (x := sB s + 25 + 1) (by omega) (by omega), w32_id (x := 5 * it) (by omega) (by omega), w32_id (x := sB s + 25 + 1 + 5 * it) (by omega) (by omega), w32_id (x := sB s + 25 + 1 + 5 * it + 1) (by omega) (by omega), w32_id (x := sB s + 3) (by omega) (by omega), show sB s + 25 + 1 + 5 * it = sB s + 26 + 5 * it by omega, ← q0, ← q1, ep]
    refine ⟨by omega, by omega, by omega, b_345_188 (Tr_mono _) hV hW _ _ _ _ _ _ _ _ _ _ ?_⟩
    have e6 : up_ N1 239 (sB s + 3) sn 6 152 = it := by rw [up_ne (by decide)]; exact e152
    rw [e6]
    have q53 := q_353 (N := up_ N1 239 (sB s + 3) sn) (g := up_ N1 239 (sB s + 3) sn 239) (k := s) (i := it) (by omega) (by omega) (by rw [upo (by omega)]; omega)
    rw [wr_id] at q53
    refine Ex_le (d := 2) (by decide) q53 _ _ (rv_i ?_)
    rw [if_neg (by decide)]
    exact Ex_le (d := 2) (by decide) q7 _ _ (rv_i g)
end S4a
end T383_s4
section T384_c2
/-! the run: cells set and the queue, in either order -/
section C2a
variable {z : Int} {M N : mm_} {s it i v p a b c : Int}
theorem rm_13 [Inhabited fz_] : up_ (rmX M s it) 13 i v = rmX (up_ M 13 i v) s it := by
  unfold rmX
  rw [up_ne (r' := 14) (by decide), up_ne (r' := 15) (by decide), upc (r := 14) (r' := 13) (by decide)]
  congr 1
  funext r
  by_cases c : r = 15
  · subst c; rw [up_ne (by decide), wr_same, wr_same]
  · rw [wr_ne c]
    by_cases c2 : r = 13
    · subst c2; funext j; rw [ua_, ua_, if_pos rfl, if_pos rfl, wr_ne (by decide)]
    · rw [up_ne c2, up_ne c2, wr_ne c]
theorem evX_13 [Inhabited fz_] {k : Int} : up_ (evX M k a b c) 13 i v = evX (up_ M 13 i v) k a b c := by
  unfold evX
  rw [up_ne (r' := 0) (by decide)]
  split
  · rw [upc (r := 0) (r' := 13) (by decide), upc (r := 0) (r' := 13) (by decide), upc (r := 23) (r' := 13) (by decide), upc (r := 23) (r' := 13) (by decide), upc (r := 23) (r' := 13) (by decide), upc (r := 23) (r' := 13) (by decide)]
  · rfl
end C2a
end T384_c2
section T385_cl
/-! the run: the values of a signal go into cells (X 22 | Q 345) -/
section CLa
variable {z : Int} {A0 B0 : mm_} {s it n T r i me sg sn y2 y4 x3 x4 x5 x9 : Int}
theorem l_233 [Inhabited fz_] (hs : 0 ≤ s ∧ s < 12) (hit : 0 ≤ it ∧ it < 6) (hn : 0 ≤ n ∧ n ≤ 3) (hr : 0 ≤ r ∧ r < 600) (hi : 0 ≤ i ∧ i < 1200) (h105 : A0 105 r = n) (h201 : B0 201 i = n) (hT : A0 11 s = T) (h7 : s < A0 0 7)
    (hv : ∀ v, 0 ≤ v → v < n → A0 25 v = B0 239 (sB s + 28 + 5 * it + v) ∧ R32 (A0 25 v) ∧ A0 104 (3 * r + v) = B0 202 (3 * i + v) ∧ ∃ u, (0 ≤ u ∧ u < B0 171 T) ∧ B0 202 (3 * i + v) = B0 184 (8 * T + u) ∧ B0 183 (8 * T + u) = 0 ∧ (B0 182 (8 * T + u) = 2 → BV (A0 25 v))) :
    ∀ (d : Nat) (v : Int) (A B : mm_), v + d = n → 0 ≤ v → RU z A B → PLr A B → TYA B → (∀ r : Nat, r ≠ 13 → A r = A0 r) → (∀ r : Nat, r ≠ 239 → B r = B0 r) → (∀ j, j < sB s + 6 ∨ sB s + 22 ≤ j → B 239 j = B0 239 j) →
    ∃ A' B', RC 8 m_22 233 [rr 0, ii s, ii y2, ii me, ii y4, ii sg, ii sn, ii r, rr 25, ii v] (evX (rmX A s it) 2 me sg sn) 233 [rr 0, ii s, ii y2, ii me, ii y4, ii sg, ii sn, ii r, rr 25, ii n] (evX (rmX A' s it) 2 me sg sn) ∧ RC 8 m_345 136 [rr 6, ii s, ii 2, ii (sB s), ii x4, ii (sB s + 26 + 5 * it), ii sg, ii sn, ii i, ii x9, ii v] B 136 [rr 6, ii s, ii 2, ii (sB s), ii x4, ii (sB s + 26 + 5 * it), ii sg, ii sn, ii i, ii x9, ii n] B' ∧ RU z A' B' ∧ PLr A' B' ∧ TYA B' ∧ (∀ r : Nat, r ≠ 13 → A' r = A0 r) ∧ (∀ r : Nat, r ≠ 239 → B' r = B0 r) ∧ (∀ j, j < sB s + 6 ∨ sB s + 22 ≤ j → B' 239 j = B0 239 j) := fun d => by
  have hB : sB s = 2 + 56 * s := rfl
  induction d with
  | zero =>
    intro v A B hd v0 a1 a2 a3 a4 a5 a6
    rw [show v = n by omega]
    exact ⟨A, B, RC_rf, RC_rf, a1, a2, a3, a4, a5, a6⟩
  | succ d ih =>
    intro v A B hd v0 a1 a2 a3 a4 a5 a6
    obtain ⟨e1, e2, e3, u, u1, e4, e5, e6⟩ := hv v v0 (by omega)
    have k7 : 0 ≤ s ∧ s < A 0 7 := ⟨hs.1, by rw [a4 0 (by decide)]; exact h7⟩
    have kT : A 11 s = T := by rw [a4 11 (by decide)]; exact hT
    obtain ⟨t1, t2, t3⟩ := TYA_as (i := B0 202 (3 * i + v)) (v := A0 25 v) (u := u) a1 a2 a3 k7 kT (by rw [a5 171 (by decide)]; exact u1) (by rw [a5 184 (by decide), a5 183 (by decide), e4, e5]; rw [if_neg (by decide)]; omega) (by rw [a5 182 (by decide)]; exact e6) e2
    have ru := RU_as (v := A0 25 v) a1 k7 t2 (by rw [kT]; exact t3)
    have f13 : XRF A (up_ A 13 (16 * s + B0 202 (3 * i + v)) (A0 25 v)) := XRF_up (by decide) (fun e => absurd e (by decide))
    have f239 : QRF B (up_ B 239 (sB s + 6 + B0 202 (3 * i + v)) (A0 25 v)) := QRF_up (by decide) (fun e => absurd e (by decide))
    obtain ⟨A', B', x, q, b⟩ := ih (v + 1) _ _ (by omega) (by omega) ru (PLr_c a2 f13 f239) t1 (fun r hr => (up_ne hr).trans (a4 r hr)) (fun r hr => (up_ne hr).trans (a5 r hr)) (fun j hj => (upo (by omega)).trans (a6 j hj))
    refine ⟨A', B', RC_tr (fun V Qr Qt hV hW g => b_22_233 (Tr_mono _) hV hW _ _ _ _ _ _ _ _ _ ⟨hr, ?_⟩) x, RC_tr (fun V Qr Qt hV hW g => b_345_136 (Tr_mono _) hV hW _ _ _ _ _ _ _ _ _ _ _ ⟨by omega, ?_⟩) q, b⟩
    · have ev : ∀ q : Nat, q ≠ 0 → q ≠ 23 → q ≠ 13 → q ≠ 14 → q ≠ 15 → evX (rmX A s it) 2 me sg sn q = A0 q := fun q h1 h2 h3 h4 h5 => by
        rw [EvX_ev.1 q h1 h2]; unfold rmX; rw [up_ne h4, wr_ne h5]; exact a4 q h3
      rw [ev 105 (by decide) (by decide) (by decide) (by decide) (by decide), ev 104 (by decide) (by decide) (by decide) (by decide) (by decide), ev 25 (by decide) (by decide) (by decide) (by decide) (by decide), h105, if_pos (by omega), w32_id (x := 3 * r) (by omega) (by omega), w32_id (x := 3 * r + v) (by omega) (by omega), e3, w32_id (x := 16 * s) (by omega) (by omega), w32_id (x := 16 * s + B0 202 (3 * i + v)) (by omega) (by omega), w32_id (x := v + 1) (by omega) (by omega), evX_13, rm_13]
      exact ⟨by omega, by omega, by omega, g⟩
    · rw [a5 201 (by decide), a5 202 (by decide), h201, if_pos (by omega), w32_id (x := 3 * i) (by omega) (by omega), w32_id (x := 3 * i + v) (by omega) (by omega), w32_id (x := sB s + 26 + 5 * it + 2) (by omega) (by omega), w32_id (x := sB s + 26 + 5 * it + 2 + v) (by omega) (by omega), w32_id (x := sB s + 6) (by omega) (by omega), w32_id (x := sB s + 6 + B0 202 (3 * i + v)) (by omega) (by omega), w32_id (x := v + 1) (by omega) (by omega), a6 _ (by omega), show sB s + 26 + 5 * it + 2 + v = sB s + 28 + 5 * it + v by omega, ← e1]
      exact ⟨by omega, by omega, by omega, g⟩
end CLa
end T385_cl
section T386_s2
/-! the run: a step: a signal is taken (X 22 | Q 345) -/
section S2x
variable {z : Int} {M N M' N' M1 M2 N1 : mm_} {s : Int}
theorem st_2 [Inhabited fz_] (h : RU z M N) (hP : PLr M N) (hA : TYA N) (hs : 0 ≤ s ∧ s < M 0 7) (h8 : M 0 8 + 200 ≤ 2000000000) (gx : EGX M M2) (gq : EGQ N N1) (x12 : Ex_ 5 12 [.inr (.inr 0), .inl s] M1 [.inl 2] M2) (hf : WF2 M N M2 N1 s) : ∃ M' N', Ex_ 9 22 [.inr (.inr 0), .inl s] M1 [] M' ∧ Ex_ 9 345 [.inr (.inr 6), .inl s, .inl 2] N1 [] N' ∧ RU z M' N' ∧ TYA N' ∧ (XRF M M' ∧ QRF N N') ∧ M' 0 8 ≤ M 0 8 + 200 := by
  obtain ⟨it, k, j, hi, ⟨e41, e152⟩, hrow, ⟨e151, e153⟩, ck, cT, hsig⟩ := hf
  have n12 := h.1.1
  have hB : sB s = 2 + 56 * s := rfl
  have ru2 := RU_eg h gx gq
  have tA2 := TYA_eg hA gq
  have hP2 : PLr M2 N1 := PLr_c hP (XRF_eg gx) (QRF_eg gq)
  have m7 : M2 0 7 = M 0 7 := gx.2 7 (by decide)
  have m14 : M2 14 = M 14 := gx.1 14 (by decide) (by decide)
  have m15 : M2 15 = M 15 := gx.1 15 (by decide) (by decide)
  have m11 : M2 11 = M 11 := gx.1 11 (by decide) (by decide)
  have qN : ∀ r : Nat, r ≠ 6 → r ≠ 243 → N1 r = N r := gq.1
  have hs2 : 0 ≤ s ∧ s < M2 0 7 := by rw [m7]; exact hs
  have hi2 : 0 ≤ it ∧ it < M2 14 s := by rw [m14]; exact hi
  have hin := ru2.1.2.2.1 s hs2.1 hs2.2
  have qb := hin.2.2.2.2.1
  have qv := hin.2.2.2.2.2.1
  have q0 := qv (5 * it) (by omega) (by omega)
  have q1 := qv (5 * it + 1) (by omega) (by omega)
  rw [show 30 * s + (5 * it + 1) = 30 * s + 5 * it + 1 by omega, show sB s + 26 + (5 * it + 1) = sB s + 26 + 5 * it + 1 by omega] at q1
  have ep : N1 239 (sB s) = M2 10 s := hin.1.1.symm
  rw [← m15] at hsig
  obtain ⟨⟨f1, f2, f3, f4⟩, sro⟩ := row_f hP hrow
  have rb := row_b hP hrow
  have pb := ps_b hP
  have k62 := hrow.1
  have kb := pb.2.2 k k62.1 k62.2
  have hj := hrow.2.1
  rw [nsK_e, if_pos (by omega)] at hj
  have at_ := sro.1 (by rw [tbN_r (q := 193) (by decide) (by decide)]; omega)
  rw [tbN_r (q := 192) (by decide) (by decide), tbN_r (q := 197) (by decide) (by decide), show swc M 141 = M 108 from swc_r (q := 108) (by decide) (by decide), cT] at at_
  have rwi := sro.2.2.2 (by rw [tbN_r (q := 193) (by decide) (by decide)]; omega)
  unfold RWI at rwi
  rw [tbN_r (q := 192) (by decide) (by decide), tbN_r (q := 200) (by decide) (by decide), tbN_r (q := 201) (by decide) (by decide), tbN_r (q := 202) (by decide) (by decide), tbN_r (q := 171) (by decide) (by decide), tbN_r (q := 184) (by decide) (by decide), tbN_r (q := 183) (by decide) (by decide), tbN_r (q := 156) (by decide) (by decide), tbN_r (q := 157) (by decide) (by decide), tbN_r (q := 182) (by decide) (by decide), show swc M 138 = M 105 from swc_r (q := 105) (by decide) (by decide), show swc M 137 = M 104 from swc_r (q := 104) (by decide) (by decide), cT] at rwi
  obtain ⟨_, w2, w3, w4, w5⟩ := rwi
  generalize hii : N 198 k + j = i at *
  generalize hrr : M2 0 42 = r at *
  have i0 : 0 ≤ i ∧ i < 1200 := by omega
  generalize hsn : M2 15 (30 * s + 5 * it + 1) = sn at q1
  have rsn : R32 sn := by rw [q1]; exact tA2.2.2 _
  have ruT : RU z (tkX9 M2 s it) N1 := RU_25 ru2 (fun r hr => tk_r hr)
  have t0 : tkX9 M2 s it 0 = M2 0 := tk_r (by decide)
  have ru3 := RU_18 (v := sn) (k := s) ruT (by rw [t0]; exact hs2)
  have tA3 : TYA (up_ N1 239 (sB s + 3) sn) := TYA_239 tA2 (by omega) 3 sn (by decide) (by have := ru2.1.1; omega) rsn
  have fA : XRF M2 (up_ (tkX9 M2 s it) 18 s sn) := XRF_tr XRF_tk (XRF_up (by decide) (fun e => absurd e (by decide)))
  have fB : QRF N1 (up_ N1 239 (sB s + 3) sn) := QRF_up (by decide) (fun e => absurd e (by decide))
  have uA : ∀ q : Nat, q ≠ 18 → q ≠ 25 → up_ (tkX9 M2 s it) 18 s sn q = M2 q := fun q h1 h2 => by rw [up_ne h1, tk_r h2]
  have uB : ∀ q : Nat, q ≠ 239 → up_ N1 239 (sB s + 3) sn q = N1 q := fun q h1 => up_ne h1
  have a25 : ∀ v, 0 ≤ v → v < 3 → up_ (tkX9 M2 s it) 18 s sn 25 v = M2 15 (30 * s + 5 * it + 2 + v) := fun v v0 v1 => by
    have three : v = 0 ∨ v = 1 ∨ v = 2 := by omega
    rw [up_ne (by decide)]
    unfold tkX9
    rcases three with e | e | e <;> subst e
    · rw [upo (by decide), upo (by decide), up_at, Int.add_zero]
    · rw [upo (by decide), up_at, show 30 * s + 5 * it + 2 + 1 = 30 * s + 5 * it + 3 by omega]
    · rw [up_at, show 30 * s + 5 * it + 2 + 2 = 30 * s + 5 * it + 4 by omega]
  have vq : ∀ v, 0 ≤ v → v < 3 → M2 15 (30 * s + 5 * it + 2 + v) = N1 239 (sB s + 28 + 5 * it + v) := fun v v0 v1 => by
    have := qv (5 * it + 2 + v) (by omega) (by omega)
    rw [show 30 * s + (5 * it + 2 + v) = 30 * s + 5 * it + 2 + v by omega, show sB s + 26 + (5 * it + 2 + v) = sB s + 28 + 5 * it + v by omega] at this; exact this
  have sgv := (tA2.1 s hs.1 (by omega) (by have := ru2.1.1; omega)).2 it hi.1 (by omega) (show it < N1 239 (sB s + 25) by omega)
  have hval : ∀ v, 0 ≤ v → v < N 201 i → up_ (tkX9 M2 s it) 18 s sn 25 v = up_ N1 239 (sB s + 3) sn 239 (sB s + 28 + 5 * it + v) ∧ R32 (up_ (tkX9 M2 s it) 18 s sn 25 v) ∧ up_ (tkX9 M2 s it) 18 s sn 104 (3 * r + v) = up_ N1 239 (sB s + 3) sn 202 (3 * i + v) ∧ ∃ u, (0 ≤ u ∧ u < up_ N1 239 (sB s + 3) sn 171 (M 11 s)) ∧ up_ N1 239 (sB s + 3) sn 202 (3 * i + v) = up_ N1 239 (sB s + 3) sn 184 (8 * M 11 s + u) ∧ up_ N1 239 (sB s + 3) sn 183 (8 * M 11 s + u) = 0 ∧ (up_ N1 239 (sB s + 3) sn 182 (8 * M 11 s + u) = 2 → BV (up_ (tkX9 M2 s it) 18 s sn 25 v)) := fun v v0 v1 => by
    obtain ⟨g1, u, g2, g3, g4, g5, g6, g7⟩ := w5 v v0 v1
    rw [a25 v v0 (by omega), vq v v0 (by omega), upo (by omega), uA 104 (by decide) (by decide), gx.1 104 (by decide) (by decide), uB 202 (by decide), uB 171 (by decide), uB 184 (by decide), uB 183 (by decide), uB 182 (by decide), qN 202 (by decide) (by decide), qN 171 (by decide) (by decide), qN 184 (by decide) (by decide), qN 183 (by decide) (by decide), qN 182 (by decide) (by decide)]
    refine ⟨rfl, tA2.2.2 _, g1, u, g2, g3, g4, fun e2 => ?_⟩
    have esg : N1 239 (sB s + (26 + 5 * it)) = N 200 i := by
      rw [show sB s + (26 + 5 * it) = sB s + 26 + 5 * it by omega, ← q0]
      rcases hsig with e | e
      · exact e.symm
      · omega
    have sg2 := sgv.2.1
    dsimp only at sg2
    rw [esg, qN 156 (by decide) (by decide), qN 157 (by decide) (by decide)] at sg2
    have := sg2 g5 v v0 (by omega) g6 (by rw [g7]; exact e2)
    rw [show sB s + (28 + 5 * it + v) = sB s + 28 + 5 * it + v by omega] at this; exact this
  obtain ⟨A', B', xl, ql, ruA, hPA, tAA, kA, kB, kq⟩ := l_233 (z := z) (y2 := 2) (me := M2 10 s) (y4 := 30 * s + 5 * it) (sg := M2 15 (30 * s + 5 * it)) (sn := sn) (x4 := M2 10 s) (x9 := k) (it := it) (n := N 201 i) (T := M 11 s) (r := r) (i := i) (s := s) (by omega) (by omega) w3 (by omega) i0 (by rw [uA 105 (by decide) (by decide), gx.1 105 (by decide) (by decide)]; exact w4) (by rw [uB 201 (by decide), qN 201 (by decide) (by decide)]) (by rw [uA 11 (by decide) (by decide), m11]) (by rw [uA 0 (by decide) (by decide)]; exact hs2.2) hval (N 201 i).toNat 0 _ _ (by omega) (by decide) ru3 (PLr_c hP2 fA fB) tA3 (fun _ _ => rfl) (fun _ _ => rfl) (fun _ _ => rfl)
  have kA0 : A' 0 = M2 0 := by rw [kA 0 (by decide), uA 0 (by decide) (by decide)]
  have kA14 : A' 14 = M2 14 := by rw [kA 14 (by decide), uA 14 (by decide) (by decide)]
  have ruR := RU_rm (it := it) ruA (by rw [kA0]; exact hs2) (by rw [kA14]; exact hi2)
  have tAR := TYA_rm (it := it) ruA tAA (by rw [kA0]; exact hs2) (by rw [kA14]; exact hi2)
  have b5 := RU_b5 (RU_rm (it := it) ru3 (by rw [uA 0 (by decide) (by decide)]; exact hs2) (by rw [uA 14 (by decide) (by decide)]; exact hi2))
  have b3 := RU_b324 ruR
  have ruE := RU_ev (k := 2) (a := M2 10 s) (s := M2 15 (30 * s + 5 * it)) (b := sn) ruR
  have e0 : rmX A' s it 0 = M2 0 := by unfold rmX; rw [up_ne (by decide), wr_ne (by decide), kA0]
  have e11 : evX (rmX A' s it) 2 (M2 10 s) (M2 15 (30 * s + 5 * it)) sn 11 = M 11 := by
    rw [EvX_ev.1 11 (by decide) (by decide)]; unfold rmX; rw [up_ne (by decide), wr_ne (by decide), kA 11 (by decide), uA 11 (by decide) (by decide), m11]
  have fA' : XRF (up_ (tkX9 M2 s it) 18 s sn) A' := ⟨fun r hr => kA r (fun e => hr (by rw [e]; decide)), fun i _ => by rw [kA 0 (by decide)]⟩
  have fB' : QRF (up_ N1 239 (sB s + 3) sn) B' := ⟨fun r hr => kB r (fun e => hr (by rw [e]; decide)), fun i _ => by rw [kB 6 (by decide)]⟩
  have fX : XRF M (evX (rmX A' s it) 2 (M2 10 s) (M2 15 (30 * s + 5 * it)) sn) := XRF_tr (XRF_eg gx) (XRF_tr fA (XRF_tr fA' (XRF_tr XRF_rm XRF_ev)))
  have fQ : QRF N (evQ (rmQ B' s it) 2 (M2 10 s) (M2 15 (30 * s + 5 * it)) sn) := QRF_tr (QRF_eg gq) (QRF_tr fB (QRF_tr fB' (QRF_tr QRF_rm QRF_ev)))
  have e08 : evX (rmX A' s it) 2 (M2 10 s) (M2 15 (30 * s + 5 * it)) sn 0 8 = M 0 8 := by rw [EvX_ev.2 8 (by decide) (by decide), e0]; exact gx.2 8 (by decide)
  obtain ⟨M', N', x1, y1, ru, ty, fr, b8⟩ := j_23 (k := N 197 k) (c := M 108 r) ruE (PLr_c hP fX fQ) (TYA_ev tAR) (s := s) (by rw [EvX_ev.2 7 (by decide) (by decide), e0]; exact hs2) (by rw [e08]; exact h8) (by rw [swc_e fX, tbN_e fQ, e11]; exact at_)
  rw [e08] at b8
  refine ⟨M', N', fun Qr Qt g => t_22 fun V hV hW => b_22_0 (Tr_mono _) hV hW _ _ (Ex_le (d := 5) (by decide) x12 _ _ (ri_i ⟨by omega, ?_⟩)), fun Qr Qt g => t_345 fun V hV hW => b_345_0 (Tr_mono _) hV hW _ _ _ (Ex_le (d := 1) (by decide) (q_323 (by omega)) _ _ (ri_i ⟨by omega, ?_⟩)), ru, ty, ⟨XRF_tr fX fr.1, QRF_tr fQ fr.2⟩, b8⟩
  · rw [if_neg (by decide), if_neg (by decide), e41]
    refine Ex_le (d := 1) (by decide) (x_9 (by omega) (by omega)) _ _ (ri_i ⟨by omega, ?_⟩)
    rw [w32_id (x := 30 * s + 5 * it + 1) (by omega) (by omega), hsn, hrr]
    refine ⟨by omega, x_117t ru2 hs2 hi2 V Qr Qt hV hW (b_22_160 (Tr_mono _) hV hW _ _ _ _ _ _ _ _ _ ⟨by omega, ?_⟩)⟩
    have e14 : rmX (tkX9 M2 s it) s it 14 s = M2 14 s - 1 := by unfold rmX; rw [up_at, tk_r (by decide)]
    rw [e14]
    refine Ex_le (d := 1) (by decide) (x_9 (by omega) (by omega)) _ _ (ri_i ?_)
    rw [if_neg (by omega), if_neg (by decide), rm_18]
    refine ⟨by omega, Ex_le (d := 1) (by decide) (x_5 b5.1 b5.2.1 b5.2.2) _ _ (rv_i (xl V Qr Qt hV hW (b_22_233 (Tr_mono _) hV hW _ _ _ _ _ _ _ _ _ ⟨by omega, ?_⟩)))⟩
    have ev : ∀ q : Nat, q ≠ 0 → q ≠ 23 → q ≠ 13 → q ≠ 14 → q ≠ 15 → q ≠ 18 → q ≠ 25 → q ≠ 26 → evX (rmX A' s it) 2 (M2 10 s) (M2 15 (30 * s + 5 * it)) sn q = M q := fun q h1 h2 h3 h4 h5 h6 h7 h9 => by
      rw [EvX_ev.1 q h1 h2]; unfold rmX; rw [up_ne h4, wr_ne h5, kA q h3, uA q h6 h7]; exact gx.1 q h1 h9
    rw [ev 105 (by decide) (by decide) (by decide) (by decide) (by decide) (by decide) (by decide) (by decide), ev 108 (by decide) (by decide) (by decide) (by decide) (by decide) (by decide) (by decide) (by decide), w4, if_neg (by omega)]
    exact ⟨by omega, x1 _ _ (rv_i g)⟩
  · rw [if_neg (by decide), if_neg (by decide), if_pos rfl, e152, e151, e153, w32_id (x := sB s + 25) (by omega) (by omega), w32_id (x := sB s + 25 + 1) (by omega) (by omega), w32_id (x := 5 * it) (by omega) (by omega), w32_id (x := sB s + 25 + 1 + 5 * it) (by omega) (by omega), w32_id (x := sB s + 25 + 1 + 5 * it + 1) (by omega) (by omega), w32_id (x := sB s + 3) (by omega) (by omega), show sB s + 25 + 1 + 5 * it = sB s + 26 + 5 * it by omega, ← q0, ← q1, ep]
    refine ⟨by omega, by omega, by omega, ql V Qr Qt hV hW (b_345_136 (Tr_mono _) hV hW _ _ _ _ _ _ _ _ _ _ _ ⟨by omega, ?_⟩)⟩
    rw [kB 201 (by decide), uB 201 (by decide), qN 201 (by decide) (by decide), if_neg (by omega)]
    refine b_345_188 (Tr_mono _) hV hW _ _ _ _ _ _ _ _ _ _ ?_
    have e6 : B' 6 152 = it := by rw [kB 6 (by decide), uB 6 (by decide)]; exact e152
    rw [e6]
    have q53 := q_353 (N := B') (g := B' 239) (k := s) (i := it) (by omega) (by omega) (by rw [kq _ (by omega), upo (by omega)]; omega)
    rw [wr_id] at q53
    refine Ex_le (d := 2) (by decide) q53 _ _ (rv_i ?_)
    rw [if_pos rfl]
    refine Ex_le (d := 1) (by decide) (q_324 b3.1 b3.2.1 b3.2.2) _ _ (rv_i ?_)
    have e197 : evQ (rmQ B' s it) 2 (M2 10 s) (M2 15 (30 * s + 5 * it)) sn 197 = N 197 := by
      rw [EvQ_ev.1 197 (by decide) (by decide)]; unfold rmQ; rw [wr_ne (by decide), kB 197 (by decide), uB 197 (by decide), qN 197 (by decide) (by decide)]
    refine ⟨by omega, ?_⟩
    show Tr_ wd0 pg0 8 346 [Sum.inr (Sum.inr 6), Sum.inl s, Sum.inl (evQ (rmQ B' s it) 2 (M2 10 s) (M2 15 (30 * s + 5 * it)) sn 197 k)] (evQ (rmQ B' s it) 2 (M2 10 s) (M2 15 (30 * s + 5 * it)) sn) _ Qt
    rw [e197]; exact y1 _ _ (rv_i g)
end S2x
end T386_s2
section T387_xd
/-! no miracles in X's look for a step, where switches are 0 or 1; its outcome is one -/
def nxS : List Nat := [9, 12, 13, 14, 15, 16, 17, 18, 19, 20]
def GB (M : mm_) : Prop := ∀ (r : Nat) (i : Int), (wd0.2.2.2.1 r = 2 → -128 ≤ M r i ∧ M r i ≤ 127) ∧ (wd0.2.2.2.1 r = 3 → bl_ (M r i))
def nxI (e : Instr × Nat × Nat × Int × List (Int × Nat)) : Bool := match e.1 with
  | .getfield _ => !(e.2.2.1 == 1)
  | .putfield _ => e.2.2.1 == 0 && e.2.2.2.2.all (fun q => q.1 == 0)
  | .bastore => false
  | .lastore => false
  | .invokevirtual _ => nxS.contains e.2.2.1
  | .invokestatic _ => nxS.contains e.2.2.1
  | _ => true
section NXa
variable {D : ca_}
theorem GB_up [Inhabited fz_] {M : mm_} {r : Nat} {k x : Int} (h : GB M) (h2 : wd0.2.2.2.1 r ≠ 2) (h3 : wd0.2.2.2.1 r ≠ 3) : GB (up_ M r k x) := fun q i => by
  by_cases e : q = r
  · subst e; exact ⟨fun c => absurd c h2, fun c => absurd c h3⟩
  · rw [up_ne e]; exact h q i
theorem sw_nx [Inhabited fz_] {P : Nat → Prop} {x : Int} (hP : ∀ n, ¬ P n) : ∀ {tb : List (Int × Nat)} {d : Nat}, sw_ P x tb d → False
  | [], d, h => hP _ h
  | k :: t, d, h => by
    unfold sw_ at h
    by_cases e : x = k.1
    · rw [if_pos e] at h; exact hP _ h
    · rw [if_neg e] at h; exact sw_nx hP h
theorem th_nx [Inhabited fz_] {hs : List (Nat × Nat × Nat)} {pc : Nat} {ls : lo_} {r : Nat} {M : mm_} (h : th_ (fun _ _ _ M => ¬ GB M) (fun _ M => ¬ GB M) hs pc ls r M) : ¬ GB M := by
  unfold th_ at h
  cases e : hd_ hs pc with
  | none => rw [e] at h; exact h
  | some q => rw [e] at h; exact h.2
theorem rk_nx [Inhabited fz_] {k pc : Nat} {ls : lo_} {st : List pv_} {vs : List pv_} {M : mm_} (h : rk_ (fun _ _ _ M => ¬ GB M) k pc ls st vs M) : ¬ GB M := by
  unfold rk_ at h
  split at h
  · exact h.2
  · obtain ⟨x, _, h⟩ := h; exact h
  · obtain ⟨x, _, h⟩ := h; exact h
  · obtain ⟨x, _, h⟩ := h; exact h
theorem cl_nx [Inhabited fz_] (hD : ∀ a as M Qr Qt, a ∈ nxS → (∀ vs M, Qr vs M → ¬ GB M) → (∀ r M, Qt r M → ¬ GB M) → GB M → ¬ D a as M Qr Qt) {hs : List (Nat × Nat × Nat)} {pc a n k : Nat} {ls : lo_} {st : List pv_} {M : mm_} (ha : a ∈ nxS) (gM : GB M) (h : cl_ D (fun _ _ _ M => ¬ GB M) (fun _ M => ¬ GB M) hs pc a n k ls st M) : False := by
  unfold cl_ at h
  split at h
  · exact hD a _ _ _ _ ha (fun vs M g => rk_nx g) (fun r M g => th_nx g) gM h
  · exact h
theorem fd_0 [Inhabited fz_] : ∀ {tb : List (Int × Nat)} {r t : Nat}, tb.all (fun q => q.1 == 0) = true → fd_ tb r = some t → r = 0
  | [], r, t, _, h => by unfold fd_ at h; exact absurd h (by simp)
  | q :: tb, r, t, ha, h => by
    rw [List.all_cons, Bool.and_eq_true] at ha
    unfold fd_ at h
    split at h
    · rename_i e
      have := beq_iff_eq.1 ha.1
      omega
    · exact fd_0 ha.2 h
set_option maxHeartbeats 4000000 in
theorem ex_nx [Inhabited fz_] (hD : ∀ a as M Qr Qt, a ∈ nxS → (∀ vs M, Qr vs M → ¬ GB M) → (∀ r M, Qt r M → ¬ GB M) → GB M → ¬ D a as M Qr Qt) {m : md_} {pc len a : Nat} {i : Instr} {b : Int} {tb : List (Int × Nat)} {ls : lo_} {st : List pv_} {M : mm_} (gM : GB M) (hi : nxI (i, len, a, b, tb) = true) (h : ex_ wd0 D (fun _ _ _ M => ¬ GB M) (fun _ M => ¬ GB M) (fun _ M => ¬ GB M) m pc i len a b tb ls st M) : False := by
  revert h hi
  cases i <;> simp only [ex_, nxI]
  all_goals first
    | exact fun _ h => h gM
    | exact fun _ h => h
    | exact fun h => absurd h (by decide)
    | skip
  all_goals (repeat' split)
  all_goals first
    | exact fun _ h => h gM
    | exact fun _ h => h
    | exact fun _ h => h.2 gM
    | exact fun h => absurd h (by decide)
    | exact fun _ h => h.2 ((gM _ _).1 (by assumption)) gM
    | exact fun _ h => h.2 ((gM _ _).2 (by assumption)) gM
    | exact fun _ h => sw_nx (fun _ h => h gM) h
    | exact fun _ h => th_nx h gM
    | exact fun g h => cl_nx hD (List.contains_iff_mem.1 g) gM h
    | exact fun _ h => h.2 (GB_up gM (by omega) (by omega))
    | (intro g h
       rw [Bool.and_eq_true] at g
       have e := fd_0 g.2 (by assumption)
       subst e
       exact h (GB_up gM (by decide) (by decide)))
    | (intro g; rw [Bool.and_eq_true] at g; exact absurd g.1 (by decide))
    | skip
theorem lk_nx [Inhabited fz_] : ∀ (l : List en_) {pc : Nat} {e : Instr × Nat × Nat × Int × List (Int × Nat)}, l.all (fun q => nxI q.2) = true → lk_ l pc = some e → nxI e = true
  | [], pc, e, _, h => by unfold lk_ at h; exact absurd h (by simp)
  | q :: t, pc, e, ha, h => by
    rw [List.all_cons, Bool.and_eq_true] at ha
    unfold lk_ at h
    split at h
    · injection h with h; rw [← h]; exact ha.1
    · exact lk_nx t ha.2 h
theorem nxok [Inhabited fz_] : ∀ n, n ∈ nxS → (pg0 n).1.all (fun q => nxI q.2) = true := by
  intro n hn
  simp only [nxS, List.mem_cons, List.not_mem_nil, or_false] at hn
  rcases hn with e | e | e | e | e | e | e | e | e | e <;> subst e
  · show m_9.1.all _ = true; decide +kernel
  · show m_12.1.all _ = true; decide +kernel
  · show m_13.1.all _ = true; decide +kernel
  · show m_14.1.all _ = true; decide +kernel
  · show m_15.1.all _ = true; decide +kernel
  · show m_16.1.all _ = true; decide +kernel
  · show m_17.1.all _ = true; decide +kernel
  · show m_18.1.all _ = true; decide +kernel
  · show m_19.1.all _ = true; decide +kernel
  · show m_20.1.all _ = true; decide +kernel
theorem Tr_nx [Inhabited fz_] : ∀ (d : Nat) (n : Nat) (as : List pv_) (M : mm_) (Qr : qr_) (Qt : qt_), n ∈ nxS → (∀ vs M, Qr vs M → ¬ GB M) → (∀ r M, Qt r M → ¬ GB M) → GB M → ¬ Tr_ wd0 pg0 d n as M Qr Qt
  | 0, n, as, M, Qr, Qt, _, _, _, _ => fun h => h
  | d + 1, n, as, M, Qr, Qt, hn, hr, ht, gM => fun h => by
    have h := h.2
    refine h (fun _ _ _ M => ¬ GB M) (fun pc ls st M hs => ?_) (fun _ _ _ _ _ _ h => h) gM
    intro gM
    have hs2 : st_ wd0 (Tr_ wd0 pg0 d) (fun _ _ _ M => ¬ GB M) (fun _ M => ¬ GB M) (fun _ M => ¬ GB M) (pg0 n) pc ls st M := st_mono (Tr_mono d) (fun _ _ _ _ g => g) (fun vs M g => hr vs M g) (fun r M g => ht r M g) hs
    unfold st_ at hs2
    cases e : lk_ (pg0 n).1 pc with
    | none => rw [e] at hs2; exact hs2
    | some q =>
      rw [e] at hs2
      exact ex_nx (fun a as M Qr Qt ha h1 h2 g => Tr_nx d a as M Qr Qt ha h1 h2 g) gM (lk_nx _ (nxok n hn) e) hs2
/-- the outcome is one -/
theorem DETX [Inhabited fz_] {d n : Nat} {as : List pv_} {v1 v2 : List pv_} {N N' N'' : mm_} (hn : n ∈ nxS) (gM : GB N) (h1 : Ex_ d n as N v1 N') (h2 : Ex_ d n as N v2 N'') : v1 = v2 ∧ N' = N'' := by
  refine Classical.byContradiction fun hne => ?_
  have a : Tr_ wd0 pg0 d n as N (fun vs M => vs = v1 ∧ M = N') (fun _ _ => False) := h1 _ _ ⟨rfl, rfl⟩
  have b : Tr_ wd0 pg0 d n as N (fun vs M => vs = v2 ∧ M = N'') (fun _ _ => False) := h2 _ _ ⟨rfl, rfl⟩
  have c := Tr_sp a
  refine Tr_nx d n as N _ _ hn (fun vs M g => ?_) (fun r M g => g.1.elim) gM c
  obtain ⟨⟨e1, e2⟩, g2⟩ := g
  obtain ⟨e3, e4⟩ := g2 _ _ b
  exact (hne ⟨e1.symm.trans e3, e2.symm.trans e4⟩).elim
end NXa
end T387_xd
