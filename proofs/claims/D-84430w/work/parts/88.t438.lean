section T438_cj
/-! charts: whether an inst follows, whole (X 86, 88, 89 | Q 407, 409) -/
section CJc
variable {M N M' N' M1 N1 M2 N2 : mm_} {a k f t x c w p i u v s l o m A W x1 x2 x3 κ σ ω u' : Int}
theorem j_88 [Inhabited fz_] (h : CHS M N) (hu : SDJ M u u') : ∃ ω, Ex_ 1 88 [.inr (.inr 0), .inl u] M [.inl ω] M ∧ ((u' < 0 ∧ ω = 0) ∨ ((0 ≤ u' ∧ u' < 8) ∧ ω = N 255 u')) := by
  have n1 := h.1
  rcases hu with ⟨rfl, rfl⟩ | ⟨rfl, h1, h2⟩
  · exact ⟨0, fun Qr Qt g => t_88 fun V hV hW => b_88_0 (Tr_mono _) hV hW _ _ (by rw [if_pos rfl]; exact g), .inl ⟨by decide, rfl⟩⟩
  · exact ⟨M 45 u, fun Qr Qt g => t_88 fun V hV hW => b_88_0 (Tr_mono _) hV hW _ _ (by rw [if_neg (by omega)]; exact ⟨by omega, g⟩), .inr ⟨by omega, (h.2.2.2.1 u h1 h2).symm⟩⟩
theorem j_89 [Inhabited fz_] (h : CHS M N) (hw : 0 ≤ w ∧ w < M 0 77) (e98 : M 0 98 = i) (e189 : N 6 189 = i) (hi : 0 ≤ i ∧ i ≤ N 6 142) (hω : (u' < 0 ∧ ω = 0) ∨ ((0 ≤ u' ∧ u' < 8) ∧ ω = N 255 u')) : ∃ v M' N', BV v ∧ X98 M M' ∧ Q189 N N' ∧ (v = 1 → M' 0 98 = N' 6 189 ∧ 0 ≤ M' 0 98 ∧ M' 0 98 ≤ N 6 142) ∧ Ex_ 3 89 [.inr (.inr 0), .inl (M 45 w), .inl κ, .inl σ, .inl ω] M [.inl v] M' ∧ Ex_ 3 409 [.inr (.inr 6), .inl w, .inl κ, .inl σ, .inl u'] N [.inl v] N' := by
  have hE := h.2.2.2.2.2.2
  obtain ⟨k, M', hk, fx, fk, gx, gq⟩ := j_90 (x2 := i) hw.1 (N 6 142 - i).toNat i M (by omega) (by omega) e98 h hw.2
  have x90 : Ex_ 2 90 [.inr (.inr 0), .inl (M 45 w)] M [.inl (if k = -1 then -1 else evp N k)] M' := fun Qr Qt g => t_90 fun V hV hW => gx V Qr Qt hV hW g
  have q410 : Ex_ 2 410 [.inr (.inr 6), .inl w, .inl i] N [.inl k] N := fun Qr Qt g => t_410 fun V hV hW => b_410_0 (Tr_mono _) hV hW _ _ _ (gq V Qr Qt hV hW g)
  by_cases ck : k = -1
  · refine ⟨0, M', N, .inl rfl, fx, Q189_rf, fun z => absurd z (by decide), fun Qr Qt g => t_89 fun V hV hW => b_89_0 (Tr_mono _) hV hW _ _ _ _ _ (x90 _ _ (ri_i ?_)), fun Qr Qt g => t_409 fun V hV hW => b_409_0 (Tr_mono _) hV hW _ _ _ _ _ ?_⟩
    · rw [if_pos ck, if_pos rfl]; exact ⟨.inl rfl, g⟩
    · rw [e189]
      refine q410 _ _ (ri_i ?_)
      rw [if_pos (by omega)]; exact ⟨.inl rfl, g⟩
  · have hk' := hk.resolve_left ck
    rw [if_neg ck] at x90
    obtain ⟨ep, ep0, ep1⟩ := evp_w hE hk'
    have n142 := hE.1.2.2.1
    have w2 : w32 (evp N k + 2) = evp N k + 2 := w32_id (by omega) (by omega)
    have w3 : w32 (evp N k + 3) = evp N k + 3 := w32_id (by omega) (by omega)
    have wk : w32 (k + 1) = k + 1 := w32_id (by omega) (by omega)
    have e0 : M 23 (evp N k) = N 240 (evp N k) := hE.2 _ (by omega) (by omega)
    have e2 : M 23 (evp N k + 2) = N 240 (evp N k + 2) := hE.2 _ (by omega) (by omega)
    have e3 : M 23 (evp N k + 3) = N 240 (evp N k + 3) := hE.2 _ (by omega) (by omega)
    have e23 : M' 23 = M 23 := fx.1 23 (by decide)
    obtain ⟨v, hv, iff⟩ := bit9 (N 240 (evp N k) = κ ∧ N 240 (evp N k + 2) = σ ∧ N 240 (evp N k + 3) = ω)
    refine ⟨v, M', up_ N 6 189 (k + 1), hv, fx, Q189_u, fun _ => by rw [up_at, fk ck]; exact ⟨rfl, by omega, by omega⟩, fun Qr Qt g => t_89 fun V hV hW => b_89_0 (Tr_mono _) hV hW _ _ _ _ _ (x90 _ _ (ri_i ?_)), fun Qr Qt g => t_409 fun V hV hW => b_409_0 (Tr_mono _) hV hW _ _ _ _ _ ?_⟩
    · have yes : v = 1 → bl_ 1 ∧ Qr [.inl 1] M' := fun z => by rw [z] at g; exact ⟨.inr rfl, g⟩
      have no : v ≠ 1 → bl_ 0 ∧ Qr [.inl 0] M' := fun z => by rw [hv.resolve_right z] at g; exact ⟨.inl rfl, g⟩
      rw [if_neg (by omega), e23, w2, w3, e0, e2, e3]
      refine ⟨by omega, ?_⟩
      by_cases c1 : N 240 (evp N k) = κ
      · rw [if_pos c1]
        refine ⟨by omega, ?_⟩
        by_cases c2 : N 240 (evp N k + 2) = σ
        · rw [if_pos c2]
          refine ⟨by omega, ?_⟩
          by_cases c3 : N 240 (evp N k + 3) = ω
          · rw [if_pos c3]; exact yes (iff.2 ⟨c1, c2, c3⟩)
          · rw [if_neg c3]; exact no fun z => c3 (iff.1 z).2.2
        · rw [if_neg c2]; exact no fun z => c2 (iff.1 z).2.1
      · rw [if_neg c1]; exact no fun z => c1 (iff.1 z).1
    · have yes : v = 1 → bl_ 1 ∧ Qr [.inl 1] (up_ N 6 189 (k + 1)) := fun z => by rw [z] at g; exact ⟨.inr rfl, g⟩
      have no : v ≠ 1 → bl_ 0 ∧ Qr [.inl 0] (up_ N 6 189 (k + 1)) := fun z => by rw [hv.resolve_right z] at g; exact ⟨.inl rfl, g⟩
      rw [e189]
      refine q410 _ _ (ri_i ?_)
      rw [if_neg (by omega), ep, w2, w3, wk]
      refine ⟨by decide, by omega, ?_⟩
      by_cases c1 : N 240 (evp N k) = κ
      · rw [if_pos c1]
        refine ⟨by omega, ?_⟩
        by_cases c2 : N 240 (evp N k + 2) = σ
        · rw [if_pos c2]
          refine ⟨by omega, ?_⟩
          rcases hω with ⟨h1, h2⟩ | ⟨h1, h2⟩
          · rw [if_pos h1]
            by_cases c3 : N 240 (evp N k + 3) = 0
            · rw [if_pos c3]; exact yes (iff.2 ⟨c1, c2, by rw [h2]; exact c3⟩)
            · rw [if_neg c3]; exact no fun z => c3 (by have := (iff.1 z).2.2; rw [h2] at this; exact this)
          · rw [if_neg (by omega)]
            refine ⟨h1, ?_⟩
            by_cases c3 : N 240 (evp N k + 3) = N 255 u'
            · rw [if_pos c3]; exact yes (iff.2 ⟨c1, c2, by rw [h2]; exact c3⟩)
            · rw [if_neg c3]; exact no fun z => c3 (by have := (iff.1 z).2.2; rw [h2] at this; exact this)
        · rw [if_neg c2]; exact no fun z => c2 (iff.1 z).2.1
      · rw [if_neg c1]; exact no fun z => c1 (iff.1 z).1
/-- Q's loop when it has failed -/
theorem q_407f [Inhabited fz_] {V : vv_} {Qr : qr_} {Qt : qt_} (hV : Cl_ wd0 (Tr_ wd0 pg0 3) V Qr Qt m_407) (hW : Wk_ V) (g : Qr [.inl 0] N) : V 9 [rr 6, ii w, ii 0, ii l] [] N := b_407_9 (Tr_mono _) hV hW _ _ _ _ (by
  split
  · rw [if_pos rfl, if_pos rfl]; exact ⟨.inl rfl, g⟩
  · rw [if_pos rfl]; exact ⟨.inl rfl, g⟩)
/-- the lines of an inst -/
theorem j_86l [Inhabited fz_] (hw0 : 0 ≤ w) : ∀ (n : Nat) (l : Int) (M N : mm_), M 0 76 - l = n → 0 ≤ l → CHS M N → CHO M N → w < M 0 77 → M 0 98 = N 6 189 → 0 ≤ M 0 98 → M 0 98 ≤ N 6 142 → ∃ v M' N', BV v ∧ X98 M M' ∧ Q189 N N' ∧ (∀ (V : vv_) (Qr : qr_) (Qt : qt_), Cl_ wd0 (Tr_ wd0 pg0 3) V Qr Qt m_86 → Wk_ V → Qr [.inl v] M' → V 7 [rr 0, ii w, ii l] [] M) ∧ (∀ (V : vv_) (Qr : qr_) (Qt : qt_), Cl_ wd0 (Tr_ wd0 pg0 3) V Qr Qt m_407 → Wk_ V → Qr [.inl v] N' → V 9 [rr 6, ii w, ii 1, ii l] [] N) := by
  intro n
  induction n with
  | zero =>
    intro l M N hl l0 h hC hw e98 i0 i1
    have n1 := h.1
    have n2 := h.2.1
    obtain ⟨k, M', hk, fx, fk, gx, gq⟩ := j_90 (x2 := N 6 189) hw0 (N 6 142 - M 0 98).toNat (M 0 98) M (by omega) i0 rfl h hw
    have x90 : Ex_ 2 90 [.inr (.inr 0), .inl (M 45 w)] M [.inl (if k = -1 then -1 else evp N k)] M' := fun Qr Qt g => t_90 fun V hV hW => gx V Qr Qt hV hW g
    have q410 : Ex_ 2 410 [.inr (.inr 6), .inl w, .inl (N 6 189)] N [.inl k] N := fun Qr Qt g => t_410 fun V hV hW => b_410_0 (Tr_mono _) hV hW _ _ _ (by have := gq V Qr Qt hV hW g; rw [e98] at this; exact this)
    obtain ⟨v, hv, iff⟩ := bit9 (k = -1)
    have ek : (if k = -1 then -1 else evp N k) = -1 ↔ k = -1 := by
      by_cases c : k = -1
      · rw [if_pos c]; exact ⟨fun _ => c, fun _ => rfl⟩
      · rw [if_neg c]
        have := evp_w h.2.2.2.2.2.2 (hk.resolve_left c)
        exact ⟨fun z => by omega, fun z => absurd z c⟩
    refine ⟨v, M', N, hv, fx, Q189_rf, fun V Qr Qt hV hW g => b_86_7 (Tr_mono _) hV hW _ _ _ ?_, fun V Qr Qt hV hW g => b_407_9 (Tr_mono _) hV hW _ _ _ _ ?_⟩
    · rw [if_neg (by omega)]
      refine ⟨by omega, Ex_le (d := 2) (by decide) x90 _ _ (ri_i ?_)⟩
      by_cases c : k = -1
      · rw [if_pos (ek.2 c)]; rw [iff.2 c] at g; exact ⟨.inr rfl, g⟩
      · rw [if_neg (fun z => c (ek.1 z))]; rw [hv.resolve_right (fun z => c (iff.1 z))] at g; exact ⟨.inl rfl, g⟩
    · rw [if_neg (by omega), if_neg (by decide)]
      refine Ex_le (d := 2) (by decide) q410 _ _ (ri_i ?_)
      by_cases c : k = -1
      · rw [if_pos (by omega)]; rw [iff.2 c] at g; exact ⟨.inr rfl, g⟩
      · rw [if_neg (by omega)]; rw [hv.resolve_right (fun z => c (iff.1 z))] at g; exact ⟨.inl rfl, g⟩
  | succ n ih =>
    intro l M N hl l0 h hC hw e98 i0 i1
    have n1 := h.1
    have n2 := h.2.1
    have wl : w32 (l + 1) = l + 1 := w32_id (by omega) (by omega)
    obtain ⟨y, hy, xy, qy⟩ := j_87 h hC (l := l) (by omega)
    obtain ⟨s1, s2, s3, _⟩ := h.2.2.2.2.1 l l0 (by omega)
    have px : ∀ (V : vv_) (Qr : qr_) (Qt : qt_), Cl_ wd0 (Tr_ wd0 pg0 3) V Qr Qt m_86 → Wk_ V → (if y = 0 then V 7 [rr 0, ii w, ii (w32 (l + 1))] [] M else (0 ≤ l ∧ l < 40) ∧ (if M 46 l = w then (0 ≤ w ∧ w < 8) ∧ (0 ≤ l ∧ l < 40) ∧ (0 ≤ l ∧ l < 40) ∧ Tr_ wd0 pg0 3 88 [.inr (.inr 0), .inl (M 47 l)] M (ri_ fun v3 M3 => Tr_ wd0 pg0 3 89 [.inr (.inr 0), .inl (M 45 w), .inl 1, .inl (M 48 l), .inl v3] M3 (ri_ fun v4 M4 => if v4 = 0 then bl_ 0 ∧ Qr [.inl 0] M4 else V 79 [rr 0, ii w, ii l] [] M4) Qt) Qt else V 79 [rr 0, ii w, ii l] [] M)) → V 7 [rr 0, ii w, ii l] [] M := fun V Qr Qt hV hW g => b_86_7 (Tr_mono _) hV hW _ _ _ (by
      rw [if_pos (by omega)]
      exact ⟨by omega, by omega, Ex_le (d := 1) (by decide) xy _ _ (ri_i g)⟩)
    have pq : ∀ (V : vv_) (Qr : qr_) (Qt : qt_), Cl_ wd0 (Tr_ wd0 pg0 3) V Qr Qt m_407 → Wk_ V → (if y = 0 then V 9 [rr 6, ii w, ii 1, ii (w32 (l + 1))] [] N else (0 ≤ l ∧ l < 40) ∧ (if N 256 l = w then (0 ≤ l ∧ l < 40) ∧ (0 ≤ l ∧ l < 40) ∧ Tr_ wd0 pg0 3 409 [.inr (.inr 6), .inl w, .inl 1, .inl (N 258 l), .inl (N 257 l)] N (ri_ fun v4 M4 => V 61 [rr 6, ii w, ii v4, ii l] [] M4) Qt else V 61 [rr 6, ii w, ii 1, ii l] [] N)) → V 9 [rr 6, ii w, ii 1, ii l] [] N := fun V Qr Qt hV hW g => b_407_9 (Tr_mono _) hV hW _ _ _ _ (by
      rw [if_pos (by omega), if_neg (by decide)]
      exact Ex_le (d := 1) (by decide) qy _ _ (ri_i g))
    by_cases c0 : y = 0
    · obtain ⟨v, M', N', r1, r2, r3, gx, gq⟩ := ih (l + 1) M N (by omega) (by omega) h hC hw e98 i0 i1
      refine ⟨v, M', N', r1, r2, r3, fun V Qr Qt hV hW g => px V Qr Qt hV hW ?_, fun V Qr Qt hV hW g => pq V Qr Qt hV hW ?_⟩
      · rw [if_pos c0, wl]; exact gx V Qr Qt hV hW g
      · rw [if_pos c0, wl]; exact gq V Qr Qt hV hW g
    -- the right side, from memories as they are then
    have right : ∀ (M1 N1 : mm_), X98 M M1 → Q189 N N1 → M1 0 98 = N1 6 189 → 0 ≤ M1 0 98 → M1 0 98 ≤ N 6 142 → ∃ v M' N', BV v ∧ X98 M1 M' ∧ Q189 N1 N' ∧ (∀ (V : vv_) (Qr : qr_) (Qt : qt_), Cl_ wd0 (Tr_ wd0 pg0 3) V Qr Qt m_86 → Wk_ V → Qr [.inl v] M' → V 79 [rr 0, ii w, ii l] [] M1) ∧ (∀ (V : vv_) (Qr : qr_) (Qt : qt_), Cl_ wd0 (Tr_ wd0 pg0 3) V Qr Qt m_407 → Wk_ V → Qr [.inl v] N' → V 61 [rr 6, ii w, ii 1, ii l] [] N1) := by
      intro M1 N1 fx fq f98 f0 f1
      have h1 := CHS_c h (X98_J fx) (Q189_J fq)
      have C1 := CHO_c hC fx fq.1
      have r76 : M1 0 76 = M 0 76 := fx.2 76 (by decide)
      have r77 : M1 0 77 = M 0 77 := fx.2 77 (by decide)
      have r142 : N1 6 142 = N 6 142 := fq.2 142 (by decide)
      obtain ⟨t1, t2, t3, _⟩ := h1.2.2.2.2.1 l l0 (by omega)
      have eq47 : M1 47 l = w ↔ N1 257 l = w := by
        rcases t2 with ⟨a1, a2⟩ | ⟨a1, a2, a3⟩
        · omega
        · omega
      by_cases c : M1 47 l = w
      · obtain ⟨ω, x88, hω⟩ := j_88 h1 t1
        obtain ⟨v, M2, N2, v1, gx2, gq2, v2, x89, q409⟩ := j_89 (κ := 2) (σ := M1 48 l) h1 (w := w) (by omega) f98 rfl (by omega) hω
        by_cases cv : v = 0
        · refine ⟨0, M2, N2, .inl rfl, gx2, gq2, fun V Qr Qt hV hW g => b_86_79 (Tr_mono _) hV hW _ _ _ ?_, fun V Qr Qt hV hW g => b_407_61 (Tr_mono _) hV hW _ _ _ _ ?_⟩
          · rw [if_pos c]
            refine ⟨by omega, by omega, by omega, by omega, Ex_le (d := 1) (by decide) x88 _ _ (ri_i (x89 _ _ (ri_i ?_)))⟩
            rw [if_pos cv]; exact ⟨.inl rfl, g⟩
          · rw [if_neg (by decide), if_pos (eq47.1 c), ← t3]
            refine ⟨by omega, by omega, by omega, q409 _ _ (ri_i ?_)⟩
            rw [cv]; exact q_407f hV hW g
        · have z := v2 (v1.resolve_left cv)
          have r76' : M2 0 76 = M1 0 76 := gx2.2 76 (by decide)
          obtain ⟨v', M', N', r1, r2, r3, gx, gq⟩ := ih (l + 1) M2 N2 (by omega) (by omega) (CHS_c h1 (X98_J gx2) (Q189_J gq2)) (CHO_c C1 gx2 gq2.1) (by rw [gx2.2 77 (by decide)]; omega) z.1 z.2.1 (by rw [gq2.2 142 (by decide)]; exact z.2.2)
          have e45 : M2 45 = M1 45 := gx2.1 45 (by decide)
          refine ⟨v', M', N', r1, X98_tr gx2 r2, Q189_tr gq2 r3, fun V Qr Qt hV hW g => b_86_79 (Tr_mono _) hV hW _ _ _ ?_, fun V Qr Qt hV hW g => b_407_61 (Tr_mono _) hV hW _ _ _ _ ?_⟩
          · rw [if_pos c, wl]
            refine ⟨by omega, by omega, by omega, by omega, Ex_le (d := 1) (by decide) x88 _ _ (ri_i (x89 _ _ (ri_i ?_)))⟩
            rw [if_neg cv]; exact gx V Qr Qt hV hW g
          · rw [if_neg (by decide), if_pos (eq47.1 c), ← t3, wl]
            refine ⟨by omega, by omega, by omega, q409 _ _ (ri_i ?_)⟩
            rw [v1.resolve_left cv]; exact gq V Qr Qt hV hW g
      · obtain ⟨v', M', N', r1, r2, r3, gx, gq⟩ := ih (l + 1) M1 N1 (by omega) (by omega) h1 C1 (by omega) f98 f0 (by omega)
        refine ⟨v', M', N', r1, r2, r3, fun V Qr Qt hV hW g => b_86_79 (Tr_mono _) hV hW _ _ _ ?_, fun V Qr Qt hV hW g => b_407_61 (Tr_mono _) hV hW _ _ _ _ ?_⟩
        · rw [if_neg c, wl]; exact ⟨by omega, gx V Qr Qt hV hW g⟩
        · rw [if_neg (by decide), if_neg (fun z => c (eq47.2 z)), wl]; exact ⟨by omega, gq V Qr Qt hV hW g⟩
    have eq46 : M 46 l = w ↔ N 256 l = w := by
      rcases s1 with ⟨a1, a2⟩ | ⟨a1, a2, a3⟩
      · omega
      · omega
    by_cases c : M 46 l = w
    · obtain ⟨ω, x88, hω⟩ := j_88 h s2
      obtain ⟨v, M2, N2, v1, gx2, gq2, v2, x89, q409⟩ := j_89 (κ := 1) (σ := M 48 l) h (w := w) (by omega) e98 rfl (by omega) hω
      by_cases cv : v = 0
      · refine ⟨0, M2, N2, .inl rfl, gx2, gq2, fun V Qr Qt hV hW g => px V Qr Qt hV hW ?_, fun V Qr Qt hV hW g => pq V Qr Qt hV hW ?_⟩
        · rw [if_neg c0, if_pos c]
          refine ⟨by omega, by omega, by omega, by omega, Ex_le (d := 1) (by decide) x88 _ _ (ri_i (x89 _ _ (ri_i ?_)))⟩
          rw [if_pos cv]; exact ⟨.inl rfl, g⟩
        · rw [if_neg c0, if_pos (eq46.1 c), ← s3]
          refine ⟨by omega, by omega, by omega, q409 _ _ (ri_i (b_407_61 (Tr_mono _) hV hW _ _ _ _ ?_))⟩
          rw [if_pos cv, cv, wl]; exact q_407f hV hW g
      · have z := v2 (v1.resolve_left cv)
        obtain ⟨v', M', N', r1, r2, r3, gx, gq⟩ := right M2 N2 gx2 gq2 z.1 z.2.1 z.2.2
        refine ⟨v', M', N', r1, X98_tr gx2 r2, Q189_tr gq2 r3, fun V Qr Qt hV hW g => px V Qr Qt hV hW ?_, fun V Qr Qt hV hW g => pq V Qr Qt hV hW ?_⟩
        · rw [if_neg c0, if_pos c]
          refine ⟨by omega, by omega, by omega, by omega, Ex_le (d := 1) (by decide) x88 _ _ (ri_i (x89 _ _ (ri_i ?_)))⟩
          rw [if_neg cv]; exact gx V Qr Qt hV hW g
        · rw [if_neg c0, if_pos (eq46.1 c), ← s3]
          refine ⟨by omega, by omega, by omega, q409 _ _ (ri_i ?_)⟩
          rw [v1.resolve_left cv]; exact gq V Qr Qt hV hW g
    · obtain ⟨v', M', N', r1, r2, r3, gx, gq⟩ := right M N X98_rf Q189_rf e98 i0 i1
      refine ⟨v', M', N', r1, r2, r3, fun V Qr Qt hV hW g => px V Qr Qt hV hW ?_, fun V Qr Qt hV hW g => pq V Qr Qt hV hW ?_⟩
      · rw [if_neg c0, if_neg c]; exact ⟨by omega, gx V Qr Qt hV hW g⟩
      · rw [if_neg c0, if_neg (fun z => c (eq46.2 z))]; exact ⟨by omega, gq V Qr Qt hV hW g⟩
theorem j_86 [Inhabited fz_] (h : CHS M N) (hC : CHO M N) (hw : 0 ≤ w ∧ w < M 0 77) : ∃ v M' N', BV v ∧ X98 M M' ∧ Q189 N N' ∧ Ex_ 4 86 [.inr (.inr 0), .inl w] M [.inl v] M' ∧ Ex_ 4 407 [.inr (.inr 6), .inl w] N [.inl v] N' := by
  have n142 := h.2.2.2.2.2.2.1.2.2.1
  obtain ⟨v, M', N', r1, r2, r3, gx, gq⟩ := j_86l hw.1 (M 0 76).toNat 0 (up_ M 0 98 0) (up_ N 6 189 0) (by rw [upo (by decide)]; have := h.2.1; omega) (by omega) (CHS_c h (X98_J X98_u) (Q189_J Q189_u)) (CHO_c hC X98_u Q189_u.1) (by rw [upo (by decide)]; exact hw.2) (by rw [up_at, up_at]) (by rw [up_at]; omega) (by rw [up_at, upo (by decide)]; omega)
  exact ⟨v, M', N', r1, X98_tr X98_u r2, Q189_tr Q189_u r3, fun Qr Qt g => t_86 fun V hV hW => b_86_0 (Tr_mono _) hV hW _ _ (gx V Qr Qt hV hW g), fun Qr Qt g => t_407 fun V hV hW => b_407_0 (Tr_mono _) hV hW _ _ (gq V Qr Qt hV hW g)⟩
end CJc
end T438_cj
section T439_cj
/-! charts: all choices (X 85 | Q 405, 406, 412) -/
section CJd
variable {M N M' N' M1 N1 M2 N2 : mm_} {a k f t x c w p i u v s l o m A W x1 x2 x3 x4 : Int}
theorem l_46 [Inhabited fz_] : ∀ (n : Nat) (k : Int) (M N : mm_), M 0 77 - k = n → 0 ≤ k → CHS M N → CHO M N → ∃ v M' N', BV v ∧ X98 M M' ∧ Q189 N N' ∧ (∀ (V : vv_) (Qr : qr_) (Qt : qt_), Cl_ wd0 (Tr_ wd0 pg0 4) V Qr Qt m_85 → Wk_ V → V 95 [rr 0, ii (w32 (x1 + v)), ii x2, ii x3, ii v, ii (M 0 78 - 1)] [] M' → V 46 [rr 0, ii x1, ii x2, ii x3, ii 1, ii k] [] M) ∧ (∀ (V : vv_) (Qr : qr_) (Qt : qt_), Cl_ wd0 (Tr_ wd0 pg0 4) V Qr Qt m_406 → Wk_ V → Qr [.inl v] N' → V 4 [rr 6, ii 1, ii k] [] N) := by
  intro n
  induction n with
  | zero =>
    intro k M N hk k0 h hC
    have n1 := h.1
    have n3 := h.2.2.1
    refine ⟨1, M, N, .inr rfl, X98_rf, Q189_rf, fun V Qr Qt hV hW g => b_85_46 (Tr_mono _) hV hW _ _ _ _ _ _ ?_, fun V Qr Qt hV hW g => b_406_4 (Tr_mono _) hV hW _ _ _ ?_⟩
    · rw [if_neg (by omega), if_neg (by decide), w32_id (x := M 0 78 - 1) (by omega) (by omega)]; exact g
    · rw [if_neg (by omega)]; exact ⟨.inr rfl, g⟩
  | succ n ih =>
    intro k M N hk k0 h hC
    have n1 := h.1
    have n3 := h.2.2.1
    have wk : w32 (k + 1) = k + 1 := w32_id (by omega) (by omega)
    obtain ⟨y, M1, N1, y1, y2, y3, xy, qy⟩ := j_86 h hC (w := k) (by omega)
    have px : ∀ (V : vv_) (Qr : qr_) (Qt : qt_), Cl_ wd0 (Tr_ wd0 pg0 4) V Qr Qt m_85 → Wk_ V → V 46 [rr 0, ii x1, ii x2, ii x3, ii y, ii (k + 1)] [] M1 → V 46 [rr 0, ii x1, ii x2, ii x3, ii 1, ii k] [] M := fun V Qr Qt hV hW g => b_85_46 (Tr_mono _) hV hW _ _ _ _ _ _ (by
      rw [if_pos (by omega), if_neg (by decide), wk]
      exact xy _ _ (ri_i g))
    have pq : ∀ (V : vv_) (Qr : qr_) (Qt : qt_), Cl_ wd0 (Tr_ wd0 pg0 4) V Qr Qt m_406 → Wk_ V → V 4 [rr 6, ii y, ii (k + 1)] [] N1 → V 4 [rr 6, ii 1, ii k] [] N := fun V Qr Qt hV hW g => b_406_4 (Tr_mono _) hV hW _ _ _ (by
      rw [if_pos (by omega), if_neg (by decide), wk]
      exact qy _ _ (ri_i g))
    rcases y1 with rfl | rfl
    · refine ⟨0, M1, N1, .inl rfl, y2, y3, fun V Qr Qt hV hW g => px V Qr Qt hV hW (b_85_46 (Tr_mono _) hV hW _ _ _ _ _ _ ?_), fun V Qr Qt hV hW g => pq V Qr Qt hV hW (b_406_4 (Tr_mono _) hV hW _ _ _ ?_)⟩
      · rw [y2.2 78 (by decide), w32_id (x := M 0 78 - 1) (by omega) (by omega)]
        split
        · rw [if_pos rfl, if_pos rfl]; exact g
        · rw [if_pos rfl]; exact g
      · split
        · rw [if_pos rfl]; exact ⟨.inl rfl, g⟩
        · exact ⟨.inl rfl, g⟩
    · obtain ⟨v, M', N', r1, r2, r3, gx, gq⟩ := ih (k + 1) M1 N1 (by rw [y2.2 77 (by decide)]; omega) (by omega) (CHS_c h (X98_J y2) (Q189_J y3)) (CHO_c hC y2 y3.1)
      rw [y2.2 78 (by decide)] at gx
      exact ⟨v, M', N', r1, X98_tr y2 r2, Q189_tr y3 r3, fun V Qr Qt hV hW g => px V Qr Qt hV hW (gx V Qr Qt hV hW g), fun V Qr Qt hV hW g => pq V Qr Qt hV hW (gq V Qr Qt hV hW g)⟩
/-- only the choices -/
def X54 (M M' : mm_) : Prop := ∀ r, r ≠ 54 → M' r = M r
def Q265 (N N' : mm_) : Prop := ∀ r, r ≠ 265 → N' r = N r
theorem X54_J [Inhabited fz_] (h : X54 M M') : XJ M M' := ⟨fun r hr => h r (by rintro rfl; exact hr (by decide)), fun i _ => by rw [h 0 (by decide)]⟩
theorem Q265_J [Inhabited fz_] (h : Q265 N N') : QJ N N' := ⟨fun r hr => h r (by rintro rfl; exact hr (by decide)), fun i _ => by rw [h 6 (by decide)]⟩
/-- the next choice -/
theorem l_95 [Inhabited fz_] : ∀ (n : Nat) (k : Int) (M N : mm_), k + 1 = n → k < M 0 78 → CHS M N → CHO M N → ∃ y M' N', BV y ∧ CHO M' N' ∧ X54 M M' ∧ Q265 N N' ∧ (∀ (V : vv_) (Qr : qr_) (Qt : qt_), Cl_ wd0 (Tr_ wd0 pg0 4) V Qr Qt m_85 → Wk_ V → V 29 [rr 0, ii x1, ii y, ii (w32 (x3 + 1)), none, none] [] M' → V 95 [rr 0, ii x1, ii x2, ii x3, ii x4, ii k] [] M) ∧ (∀ (V : vv_) (Qr : qr_) (Qt : qt_), Cl_ wd0 (Tr_ wd0 pg0 4) V Qr Qt m_412 → Wk_ V → Qr [.inl y] N' → V 7 [rr 6, ii k] [] N) := by
  intro n
  induction n with
  | zero =>
    intro k M N hk k1 h hC
    refine ⟨0, M, N, .inl rfl, hC, fun _ _ => rfl, fun _ _ => rfl, fun V Qr Qt hV hW g => b_85_95 (Tr_mono _) hV hW _ _ _ _ _ _ ?_, fun V Qr Qt hV hW g => b_412_7 (Tr_mono _) hV hW _ _ ?_⟩
    · rw [if_pos (by omega)]
      refine b_85_133 (Tr_mono _) hV hW _ _ _ _ _ _ ?_
      rw [if_pos (by omega), if_pos rfl]; exact g
    · rw [if_pos (by omega)]; exact ⟨.inl rfl, g⟩
  | succ n ih =>
    intro k M N hk k1 h hC
    have n3 := h.2.2.1
    have al := h.2.2.2.2.2.1 k (by omega) k1
    obtain ⟨c1, c2, c3⟩ := hC k (by omega) k1
    have w1 : w32 (M 51 k - 1) = M 51 k - 1 := w32_id (by omega) (by omega)
    have w2 : w32 (k + -1) = k - 1 := by rw [w32_id (by omega) (by omega)]; rfl
    have w3 : w32 (M 54 k + 1) = M 54 k + 1 := w32_id (by omega) (by omega)
    have k6 : 0 ≤ k ∧ k < 6 := by omega
    by_cases c : M 54 k = M 51 k - 1
    · have fx : X54 M (up_ M 54 k 0) := fun r hr => up_ne hr
      have fq : Q265 N (up_ (up_ N 265 k (M 54 k + 1)) 265 k 0) := fun r hr => by rw [up_ne hr, up_ne hr]
      have C1 : CHO (up_ M 54 k 0) (up_ (up_ N 265 k (M 54 k + 1)) 265 k 0) := by
        intro j j0 j1
        rw [up_ne (by decide)] at j1
        rw [up_ne (r' := 51) (by decide)]
        by_cases e : j = k
        · subst e; rw [up_at, up_at]; exact ⟨rfl, by omega, by omega⟩
        · rw [upo e, upo e, upo e]; exact hC j j0 j1
      obtain ⟨y, M', N', y1, y2, y3, y4, gx, gq⟩ := ih (k - 1) _ _ (by omega) (by rw [up_ne (by decide)]; omega) (CHS_c h (X54_J fx) (Q265_J fq)) C1
      refine ⟨y, M', N', y1, y2, fun r hr => by rw [y3 r hr, fx r hr], fun r hr => by rw [y4 r hr, fq r hr], fun V Qr Qt hV hW g => b_85_95 (Tr_mono _) hV hW _ _ _ _ _ _ ?_, fun V Qr Qt hV hW g => b_412_7 (Tr_mono _) hV hW _ _ ?_⟩
      · rw [if_neg (by omega), w1, if_pos c, w2]
        exact ⟨k6, k6, k6, gx V Qr Qt hV hW g⟩
      · rw [if_neg (by omega), ← c1, w3, up_at, if_neg (by omega), w2]
        exact ⟨k6, k6, k6, k6, k6, gq V Qr Qt hV hW g⟩
    · refine ⟨1, up_ M 54 k (M 54 k + 1), up_ N 265 k (M 54 k + 1), .inr rfl, ?_, fun r hr => up_ne hr, fun r hr => up_ne hr, fun V Qr Qt hV hW g => b_85_95 (Tr_mono _) hV hW _ _ _ _ _ _ ?_, fun V Qr Qt hV hW g => b_412_7 (Tr_mono _) hV hW _ _ ?_⟩
      · intro j j0 j1
        rw [up_ne (by decide)] at j1
        rw [up_ne (r' := 51) (by decide)]
        by_cases e : j = k
        · subst e; rw [up_at, up_at]; exact ⟨rfl, by omega, by omega⟩
        · rw [upo e, upo e]; exact hC j j0 j1
      · rw [if_neg (by omega), w1, if_neg c]
        refine ⟨k6, k6, b_85_133 (Tr_mono _) hV hW _ _ _ _ _ _ ?_⟩
        rw [if_neg (by omega), if_neg (by decide), w3]
        exact ⟨k6, k6, g⟩
      · rw [if_neg (by omega), ← c1, w3, up_at, if_pos (by omega)]
        exact ⟨k6, k6, k6, k6, .inr rfl, g⟩
/-- all of them -/
theorem l_29 [Inhabited fz_] : ∀ (n : Nat) (y many : Int) (M N : mm_), x3 = x3 → ∀ (lk : Int), 1000 - lk = n → 0 ≤ lk → BV y → 0 ≤ many → many ≤ lk → N 6 188 = many → CHS M N → CHO M N → ∃ r M' N', (0 ≤ r ∧ r ≤ 1000) ∧ XJ M M' ∧ QJ N N' ∧ N' 6 188 = r ∧ (∀ (V : vv_) (Qr : qr_) (Qt : qt_), Cl_ wd0 (Tr_ wd0 pg0 4) V Qr Qt m_85 → Wk_ V → Qr [.inl r] M' → V 29 [rr 0, ii many, ii y, ii lk, none, none] [] M) ∧ (∀ (V : vv_) (Qr : qr_) (Qt : qt_), Cl_ wd0 (Tr_ wd0 pg0 5) V Qr Qt m_405 → Wk_ V → Qr [] N' → V 40 [rr 6, ii lk, ii y] [] N) := by
  intro n
  induction n with
  | zero =>
    intro y many M N _ lk hl l0 hy m0 m1 e188 h hC
    refine ⟨many, M, N, by omega, XJ_rf, QJ_rf, e188, fun V Qr Qt hV hW g => b_85_29 (Tr_mono _) hV hW _ _ _ _ ?_, fun V Qr Qt hV hW g => b_405_40 (Tr_mono _) hV hW _ _ _ ?_⟩
    · rw [if_neg (by omega)]; exact g
    · split
      · exact g
      · rw [if_neg (by omega)]; exact g
  | succ n ih =>
    intro y many M N _ lk hl l0 hy m0 m1 e188 h hC
    rcases hy with rfl | rfl
    · refine ⟨many, M, N, by omega, XJ_rf, QJ_rf, e188, fun V Qr Qt hV hW g => b_85_29 (Tr_mono _) hV hW _ _ _ _ ?_, fun V Qr Qt hV hW g => b_405_40 (Tr_mono _) hV hW _ _ _ ?_⟩
      · rw [if_pos (by omega), if_pos rfl]; exact g
      · rw [if_pos rfl]; exact g
    · have n1 := h.1
      have n3 := h.2.2.1
      obtain ⟨v, M1, N1, v1, v2, v3, gx, gq⟩ := l_46 (x1 := many) (x2 := 1) (x3 := lk) (M 0 77).toNat 0 M N (by omega) (by omega) h hC
      have h1 := CHS_c h (X98_J v2) (Q189_J v3)
      have C1 := CHO_c hC v2 v3.1
      have wm : w32 (many + v) = many + v := w32_id (by rcases v1 with rfl | rfl <;> omega) (by rcases v1 with rfl | rfl <;> omega)
      have q406 : Ex_ 5 406 [.inr (.inr 6)] N [.inl v] N1 := fun Qr Qt g => t_406 fun V hV hW => b_406_0 (Tr_mono _) hV hW _ (gq V Qr Qt hV hW g)
      have fq2 : QJ N1 (up_ N1 6 188 (many + v)) := ⟨fun r hr => up_ne (by rintro rfl; exact hr (by decide)), fun i hi => upo (by rintro rfl; exact hi (by decide))⟩
      have h2 := CHS_c h1 XJ_rf fq2
      have C2 : CHO M1 (up_ N1 6 188 (many + v)) := by unfold CHO at *; rw [up_ne (by decide)]; exact C1
      obtain ⟨y, M2, N2, y1, y2, y3, y4, hx, hq⟩ := l_95 (x1 := many + v) (x2 := 1) (x3 := lk) (x4 := v) (M1 0 78).toNat (M1 0 78 - 1) M1 (up_ N1 6 188 (many + v)) (by rw [v2.2 78 (by decide)]; omega) (by omega) h2 C2
      have q412 : Ex_ 5 412 [.inr (.inr 6)] (up_ N1 6 188 (many + v)) [.inl y] N2 := fun Qr Qt g => t_412 fun V hV hW => b_412_0 (Tr_mono _) hV hW _ (by
        have e : (up_ N1 6 188 (many + v)) 6 172 = M1 0 78 := h2.2.2.1.1
        rw [e, w32_id (by rw [v2.2 78 (by decide)]; omega) (by rw [v2.2 78 (by decide)]; omega)]
        exact hq V Qr Qt hV hW g)
      obtain ⟨r, M', N', r1, r2, r3, r4, kx, kq⟩ := ih y (many + v) M2 N2 rfl (lk + 1) (by omega) (by omega) y1 (by rcases v1 with rfl | rfl <;> omega) (by rcases v1 with rfl | rfl <;> omega) (by rw [y4 6 (by decide), up_at]) (CHS_c h2 (X54_J y3) (Q265_J y4)) y2
      have wl : w32 (lk + 1) = lk + 1 := w32_id (by omega) (by omega)
      refine ⟨r, M', N', r1, XJ_tr (X98_J v2) (XJ_tr (X54_J y3) r2), QJ_tr (Q189_J v3) (QJ_tr fq2 (QJ_tr (Q265_J y4) r3)), r4, fun V Qr Qt hV hW g => b_85_29 (Tr_mono _) hV hW _ _ _ _ ?_, fun V Qr Qt hV hW g => b_405_40 (Tr_mono _) hV hW _ _ _ ?_⟩
      · rw [if_pos (by omega), if_neg (by decide)]
        refine gx V Qr Qt hV hW ?_
        rw [wm, ← v2.2 78 (by decide)]
        refine hx V Qr Qt hV hW ?_
        rw [wl]; exact kx V Qr Qt hV hW g
      · rw [if_neg (by decide), if_pos (by omega), e188, wl]
        refine q406 _ _ (ri_i ?_)
        rcases v1 with rfl | rfl
        · rw [if_pos rfl, wm]; exact q412 _ _ (ri_i (kq V Qr Qt hV hW g))
        · rw [if_neg (by decide), wm]; exact q412 _ _ (ri_i (kq V Qr Qt hV hW g))
/-- how many choices are kept -/
theorem j_85 [Inhabited fz_] (h : CHS M N) : ∃ r M' N', (0 ≤ r ∧ r ≤ 1000) ∧ XJ M M' ∧ ((∀ q, q ∉ [6, 265] → N' q = N q) ∧ ∀ i, i ∉ [187, 188, 189] → N' 6 i = N 6 i) ∧ N' 6 188 = r ∧ N' 6 187 = M 0 76 ∧ Ex_ 5 85 [.inr (.inr 0)] M [.inl r] M' ∧ Ex_ 6 405 [.inr (.inr 6)] N [] N' := by
  have n2 := h.2.1
  have n3 := h.2.2.1
  -- the choices are set to 0
  have key : ∀ (n : Nat) (k : Int) (M1 N1 : mm_), M 0 78 - k = n → 0 ≤ k → X54 M M1 → Q265 (up_ (up_ N 6 187 (M 0 76)) 6 188 0) N1 → (∀ j, 0 ≤ j → j < k → M1 54 j = 0 ∧ N1 265 j = 0) → ∃ M' N', X54 M M' ∧ Q265 (up_ (up_ N 6 187 (M 0 76)) 6 188 0) N' ∧ (∀ j, 0 ≤ j → j < M 0 78 → M' 54 j = 0 ∧ N' 265 j = 0) ∧ (∀ (V : vv_) (Qr : qr_) (Qt : qt_), Cl_ wd0 (Tr_ wd0 pg0 4) V Qr Qt m_85 → Wk_ V → V 29 [rr 0, ii 0, ii 1, ii 0, none, none] [] M' → V 2 [rr 0, ii k, none, none, none, none] [] M1) ∧ (∀ (V : vv_) (Qr : qr_) (Qt : qt_), Cl_ wd0 (Tr_ wd0 pg0 5) V Qr Qt m_405 → Wk_ V → V 40 [rr 6, ii 0, ii 1] [] N' → V 15 [rr 6, ii k, none] [] N1) := by
    intro n
    induction n with
    | zero =>
      intro k M1 N1 hk k0 fx fq hz
      refine ⟨M1, N1, fx, fq, fun j j0 j1 => hz j j0 (by omega), fun V Qr Qt hV hW g => b_85_2 (Tr_mono _) hV hW _ _ ?_, fun V Qr Qt hV hW g => b_405_15 (Tr_mono _) hV hW _ _ ?_⟩
      · rw [if_neg (by rw [fx 0 (by decide)]; omega)]; exact g
      · rw [if_neg (by rw [fq 6 (by decide), upo (by decide), upo (by decide)]; omega)]; exact g
    | succ n ih =>
      intro k M1 N1 hk k0 fx fq hz
      obtain ⟨M', N', r1, r2, r3, gx, gq⟩ := ih (k + 1) (up_ M1 54 k 0) (up_ N1 265 k 0) (by omega) (by omega) (fun r hr => by rw [up_ne hr]; exact fx r hr) (fun r hr => by rw [up_ne hr]; exact fq r hr) (fun j j0 j1 => by
        by_cases e : j = k
        · subst e; rw [up_at, up_at]; exact ⟨rfl, rfl⟩
        · rw [upo e, upo e]; exact hz j j0 (by omega))
      refine ⟨M', N', r1, r2, r3, fun V Qr Qt hV hW g => b_85_2 (Tr_mono _) hV hW _ _ ?_, fun V Qr Qt hV hW g => b_405_15 (Tr_mono _) hV hW _ _ ?_⟩
      · rw [if_pos (by rw [fx 0 (by decide)]; omega), w32_id (by omega) (by omega)]; exact ⟨by omega, gx V Qr Qt hV hW g⟩
      · rw [if_pos (by rw [fq 6 (by decide), upo (by decide), upo (by decide)]; omega), w32_id (by omega) (by omega)]; exact ⟨by omega, gq V Qr Qt hV hW g⟩
  obtain ⟨M1, N1, fx, fq, hz, gx, gq⟩ := key (M 0 78).toNat 0 M (up_ (up_ N 6 187 (M 0 76)) 6 188 0) (by omega) (by omega) (fun _ _ => rfl) (fun _ _ => rfl) (fun j j0 j1 => by omega)
  have fqq : (∀ q, q ∉ [6, 265] → N1 q = N q) ∧ ∀ i, i ∉ [187, 188] → N1 6 i = N 6 i := ⟨fun q hq => by
    simp only [List.mem_cons, List.not_mem_nil, or_false, not_or] at hq
    rw [fq q hq.2, up_ne hq.1, up_ne hq.1], fun i hi => by
    simp only [List.mem_cons, List.not_mem_nil, or_false, not_or] at hi
    rw [fq 6 (by decide), upo hi.2, upo hi.1]⟩
  have h1 : CHS M1 N1 := by
    have hx := X54_J fx
    unfold CHS LJ9 SDJ EVT lvL rwL at *
    rw [hx.2 77 (by decide), hx.2 76 (by decide), hx.2 78 (by decide), hx.2 35 (by decide), hx.2 36 (by decide), hx.1 45 (by decide), hx.1 46 (by decide), hx.1 47 (by decide), hx.1 48 (by decide), hx.1 49 (by decide), hx.1 50 (by decide), hx.1 51 (by decide), hx.1 52 (by decide), hx.1 53 (by decide), hx.1 23 (by decide), fqq.2 170 (by decide), fqq.2 171 (by decide), fqq.2 172 (by decide), fqq.2 142 (by decide), fqq.2 143 (by decide), fqq.1 255 (by decide), fqq.1 256 (by decide), fqq.1 257 (by decide), fqq.1 258 (by decide), fqq.1 259 (by decide), fqq.1 260 (by decide), fqq.1 261 (by decide), fqq.1 262 (by decide), fqq.1 240 (by decide)]
    exact h
  have C1 : CHO M1 N1 := fun k k0 k1 => by
    have k1' : k < M 0 78 := by rw [← fx 0 (by decide)]; exact k1
    have z := hz k k0 k1'
    rw [z.1, z.2, fx 51 (by decide)]
    exact ⟨rfl, by omega, by have := (h.2.2.2.2.2.1 k k0 k1').2.1; omega⟩
  obtain ⟨r, M', N', r1, r2, r3, r4, kx, kq⟩ := l_29 (x3 := 0) 1000 1 0 M1 N1 rfl 0 (by omega) (by omega) (.inr rfl) (by omega) (by omega) (by rw [fq 6 (by decide), up_at]) h1 C1
  refine ⟨r, M', N', r1, XJ_tr (X54_J fx) r2, ⟨fun q hq => by rw [r3.1 q hq, fqq.1 q hq], fun i hi => ?_⟩, r4, ?_, fun Qr Qt g => t_85 fun V hV hW => b_85_0 (Tr_mono _) hV hW _ (gx V Qr Qt hV hW (kx V Qr Qt hV hW g)), fun Qr Qt g => t_405 fun V hV hW => b_405_0 (Tr_mono _) hV hW _ ?_⟩
  · simp only [List.mem_cons, List.not_mem_nil, or_false, not_or] at hi
    rw [r3.2 i (by simp only [List.mem_cons, List.not_mem_nil, or_false, not_or]; exact hi.2), fqq.2 i (by simp only [List.mem_cons, List.not_mem_nil, or_false, not_or]; exact ⟨hi.1, hi.2.1⟩)]
  · rw [r3.2 187 (by decide), fq 6 (by decide), upo (by decide), up_at]
  · rw [n2.1]
    exact gq V Qr Qt hV hW (kq V Qr Qt hV hW g)
end CJd
end T439_cj
section T440_ch
/-! charts whole (X 72, 92 | Q 397, 413) -/
def BY (M : mm_) (r : Nat) : Prop := ∀ i, 0 ≤ i → i < 5000 → -128 ≤ M r i ∧ M r i ≤ 127
def TAP (M N : mm_) : Prop := (M 0 6 = N 6 3 ∧ 0 ≤ M 0 6 ∧ M 0 6 ≤ 5000) ∧ ∀ i, 0 ≤ i → i < M 0 6 → M 9 i = N 145 i
def xchL : List Nat := [0, 3, 44, 45, 46, 47, 48, 49, 50, 51, 52, 53, 54, 74, 75, 76, 77, 78]
def xchI : List Int := [6, 71, 75, 76, 77, 78, 79, 92, 93, 94, 95, 96, 97, 98]
def qchL : List Nat := [6, 146, 149, 150, 151, 254, 255, 256, 257, 258, 259, 260, 261, 262, 263, 264, 265, 266]
def qchI : List Int := [3, 4, 11, 12, 13, 14, 15, 16, 119, 170, 171, 172, 186, 187, 188, 189]
def XCH (M M' : mm_) : Prop := (∀ r, r ∉ xchL → M' r = M r) ∧ ∀ i, i ∉ xchI → M' 0 i = M 0 i
def QCH (N N' : mm_) : Prop := (∀ r, r ∉ qchL → N' r = N r) ∧ ∀ i, i ∉ qchI → N' 6 i = N 6 i
def CPR (M N : mm_) : Prop := M 0 71 = N 6 119 ∧ M 0 96 = N 6 187 ∧ M 0 97 = N 6 188
section CHb
variable {b : Int} {M N M' N' M1 N1 M2 N2 : mm_} {a k f t x c w p i u v s l o m A W x1 x2 : Int}
theorem XCH_rf [Inhabited fz_] : XCH M M := ⟨fun _ _ => rfl, fun _ _ => rfl⟩
theorem QCH_rf [Inhabited fz_] : QCH N N := ⟨fun _ _ => rfl, fun _ _ => rfl⟩
theorem XCH_tr [Inhabited fz_] (h : XCH M M1) (g : XCH M1 M2) : XCH M M2 := ⟨fun r hr => by rw [g.1 r hr, h.1 r hr], fun i hi => by rw [g.2 i hi, h.2 i hi]⟩
theorem QCH_tr [Inhabited fz_] (h : QCH N N1) (g : QCH N1 N2) : QCH N N2 := ⟨fun r hr => by rw [g.1 r hr, h.1 r hr], fun i hi => by rw [g.2 i hi, h.2 i hi]⟩
theorem XCH_0 [Inhabited fz_] (h : XCH M M1) (hi : i ∈ xchI) : XCH M (up_ M1 0 i v) := ⟨fun r hr => by rw [up_ne (by rintro rfl; exact hr (by decide))]; exact h.1 r hr, fun j hj => by rw [upo (by rintro rfl; exact hj hi)]; exact h.2 j hj⟩
theorem QCH_6 [Inhabited fz_] (h : QCH N N1) (hi : i ∈ qchI) : QCH N (up_ N1 6 i v) := ⟨fun r hr => by rw [up_ne (by rintro rfl; exact hr (by decide))]; exact h.1 r hr, fun j hj => by rw [upo (by rintro rfl; exact hj hi)]; exact h.2 j hj⟩
theorem XTd_ch [Inhabited fz_] (h : XTd M M') : XCH M M' := ⟨fun r hr => h.1 r fun z => hr (by
  unfold xdL9 at z; simp only [List.mem_cons, List.not_mem_nil, or_false] at z
  rcases z with rfl | rfl | rfl | rfl | rfl | rfl | rfl | rfl | rfl | rfl | rfl <;> decide), fun i hi => h.2 i fun z => hi (by
  unfold xdI9 at z; simp only [List.mem_cons, List.not_mem_nil, or_false] at z
  rcases z with rfl | rfl | rfl | rfl | rfl | rfl | rfl | rfl | rfl <;> decide)⟩
theorem QTd_ch [Inhabited fz_] (h : QTd N N') : QCH N N' := ⟨fun r hr => h.1 r fun z => hr (by
  unfold qdL9 at z; simp only [List.mem_cons, List.not_mem_nil, or_false] at z
  rcases z with rfl | rfl | rfl | rfl | rfl | rfl | rfl | rfl | rfl | rfl | rfl | rfl | rfl <;> decide), fun i hi => h.2 i fun z => hi (by
  unfold qdI9 at z; simp only [List.mem_cons, List.not_mem_nil, or_false] at z
  rcases z with rfl | rfl | rfl | rfl | rfl | rfl | rfl <;> decide)⟩
theorem XJ_ch [Inhabited fz_] (h : XJ M M') : XCH M M' := ⟨fun r hr => h.1 r fun z => hr (by
  simp only [List.mem_cons, List.not_mem_nil, or_false] at z
  rcases z with rfl | rfl <;> decide), fun i hi => h.2 i fun z => hi (by rw [z]; decide)⟩
/-- Q's start of a text -/
def chQ (N : mm_) : mm_ := up_ (up_ (up_ (up_ (up_ (up_ N 6 12 0) 6 15 0) 6 170 0) 6 171 0) 6 172 0) 6 186 0
theorem chQ_r [Inhabited fz_] {r : Nat} (h : r ≠ 6) : chQ N r = N r := by unfold chQ; rw [up_ne h, up_ne h, up_ne h, up_ne h, up_ne h, up_ne h]
theorem chQ_6 [Inhabited fz_] (h : i ∉ [12, 15, 170, 171, 172, 186]) : chQ N 6 i = N 6 i := by
  simp only [List.mem_cons, List.not_mem_nil, or_false, not_or] at h
  unfold chQ; rw [upo h.2.2.2.2.2, upo h.2.2.2.2.1, upo h.2.2.2.1, upo h.2.2.1, upo h.2.1, upo h.1]
theorem chQ_k [Inhabited fz_] : chQ N 6 12 = 0 ∧ chQ N 6 170 = 0 ∧ chQ N 6 171 = 0 ∧ chQ N 6 172 = 0 ∧ chQ N 6 186 = 0 := by
  unfold chQ
  refine ⟨?_, ?_, ?_, ?_, up_at⟩
  · rw [upo (by decide), upo (by decide), upo (by decide), upo (by decide), upo (by decide), up_at]
  · rw [upo (by decide), upo (by decide), upo (by decide), up_at]
  · rw [upo (by decide), upo (by decide), up_at]
  · rw [upo (by decide), up_at]
theorem chQ_ch [Inhabited fz_] (h : QCH N N1) : QCH N (chQ N1) := QCH_6 (QCH_6 (QCH_6 (QCH_6 (QCH_6 (QCH_6 h (by decide)) (by decide)) (by decide)) (by decide)) (by decide)) (by decide)
theorem q_398 [Inhabited fz_] (h : QSQ (chQ N) N') : Ex_ 6 398 [.inr (.inr 6)] N [] N' := fun Qr Qt g => t_398 fun V hV hW => b_398_0 (Tr_mono _) hV hW _ (h V Qr Qt hV hW g)
theorem CR_S [Inhabited fz_] (h : CR 1 M N a) (h0 : M 0 92 = 0) (hE : EVT M N) : CHS M N := by
  obtain ⟨_, ⟨c1, c2, c3, _⟩, n2, n3, _, n5, _⟩ := h
  have sd : ∀ u v, SDR M u v → SDJ M u v := fun u v z => by
    rcases z with z | z | z
    · exact .inl z
    · exact .inr z
    · exact absurd h0 z.2.2
  refine ⟨c1, c2, c3, fun k k0 k1 => (n2 k k0 k1).2.2.2, fun l l0 l1 => ?_, fun k k0 k1 => ?_, hE⟩
  · have := n3 l l0 l1
    exact ⟨sd _ _ this.1, sd _ _ this.2.1, this.2.2⟩
  · have := n5 k k0 k1
    exact ⟨this.1, this.2.1, this.2.2.1⟩
theorem CHS_96 [Inhabited fz_] (h : CHS M N) : CHS (up_ M 0 96 v) N := by
  unfold CHS LJ9 SDJ EVT lvL rwL at *
  rw [upo (j := 77) (by decide), upo (j := 76) (by decide), upo (j := 78) (by decide), upo (j := 35) (by decide), upo (j := 36) (by decide), up_ne (r' := 45) (by decide), up_ne (r' := 46) (by decide), up_ne (r' := 47) (by decide), up_ne (r' := 48) (by decide), up_ne (r' := 49) (by decide), up_ne (r' := 50) (by decide), up_ne (r' := 51) (by decide), up_ne (r' := 52) (by decide), up_ne (r' := 53) (by decide), up_ne (r' := 23) (by decide)]
  exact h
theorem j_92 [Inhabited fz_] (h : CPR M N) : SM2 1 92 [.inr (.inr 0), .inl x1] 1 413 [.inr (.inr 6), .inl x1] M N := by
  by_cases c0 : x1 = 0
  · exact ⟨M 0 96, fun Qr Qt g => t_92 fun V hV hW => b_92_0 (Tr_mono _) hV hW _ _ (by rw [if_pos c0]; exact g), fun Qr Qt g => t_413 fun V hV hW => b_413_0 (Tr_mono _) hV hW _ _ (by rw [if_pos c0, ← h.2.1]; exact g)⟩
  · by_cases c1 : x1 = 1
    · exact ⟨M 0 97, fun Qr Qt g => t_92 fun V hV hW => b_92_0 (Tr_mono _) hV hW _ _ (by rw [if_neg c0, if_pos c1]; exact g), fun Qr Qt g => t_413 fun V hV hW => b_413_0 (Tr_mono _) hV hW _ _ (by rw [if_neg c0, if_pos c1, ← h.2.2]; exact g)⟩
    · exact ⟨-1, fun Qr Qt g => t_92 fun V hV hW => b_92_0 (Tr_mono _) hV hW _ _ (by rw [if_neg c0, if_neg c1]; exact g), fun Qr Qt g => t_413 fun V hV hW => b_413_0 (Tr_mono _) hV hW _ _ (by rw [if_neg c0, if_neg c1]; exact g)⟩
/-- what is said of a chart -/
def CHPc (M N : mm_) (x1 v : Int) (M' : mm_) : Prop := ∃ N', Ex_ 7 397 [.inr (.inr 6), .inl x1] N [.inl v] N' ∧ XCH M M' ∧ QCH N N' ∧ CPR M' N' ∧ TAP M' N' ∧ BY M' 74 ∧ BY N' 146
theorem j_72 [Inhabited fz_] (hT : TAP M N) (hP : CPR M N) (hro : RO_ M) (hwd : Wd_ N) (b9 : BY M 9) (b145 : BY N 145) (b74 : BY M 74) (b146 : BY N 146) (hr : (M 0 4 = 0 ∧ N 6 126 = 0) ∨ ((M 0 4 = 1 ∧ N 6 126 = 1) ∧ NMQ M N ∧ EVT M N)) : Tr_ wd0 pg0 13 72 [.inr (.inr 0), .inl x1] M (ri_ fun v M' => CHPc M N x1 v M') (fun _ _ => False) := by
  haveI ig : Inhabited gh_ := ⟨(0, fun _ => 0, 0, 0)⟩
  obtain ⟨⟨t1, t2, t3⟩, t4⟩ := hT
  refine t_72 fun V hV hW => b_72_0 (Tr_mono _) hV hW _ _ ?_
  by_cases c0 : x1 < 0
  · rw [if_pos c0]
    exact ri_i ⟨N, fun Qr Qt g => t_397 fun V hV hW => b_397_0 (Tr_mono _) hV hW _ _ (by rw [if_pos c0]; exact g), XCH_rf, QCH_rf, hP, ⟨⟨t1, t2, t3⟩, t4⟩, b74, b146⟩
  rw [if_neg c0]
  by_cases c1 : x1 ≤ M 0 6
  case neg =>
    rw [if_neg c1]
    exact ri_i ⟨N, fun Qr Qt g => t_397 fun V hV hW => b_397_0 (Tr_mono _) hV hW _ _ (by rw [if_neg c0, if_neg (by omega)]; exact g), XCH_rf, QCH_rf, hP, ⟨⟨t1, t2, t3⟩, t4⟩, b74, b146⟩
  rw [if_pos c1]
  intro _
  -- Q keeps the text
  have q217 : Ex_ 6 217 [.inr (.inr 6), .inl x1] N [] (up_ (up_ (wr_ N 146 (cp_ (N 145) (N 146) x1)) 6 4 x1) 6 3 0) := Ev fun Qt => s_217 (d := 5) (by omega) (by omega) b145 rfl
  have f146 : (up_ (up_ (wr_ N 146 (cp_ (N 145) (N 146) x1)) 6 4 x1) 6 3 0) 146 = cp_ (N 145) (N 146) x1 := by rw [up_ne (by decide), up_ne (by decide), wr_same]
  have fr : ∀ r, r ∉ [6, 146] → (up_ (up_ (wr_ N 146 (cp_ (N 145) (N 146) x1)) 6 4 x1) 6 3 0) r = N r := fun r hr => by
    simp only [List.mem_cons, List.not_mem_nil, or_false, not_or] at hr
    rw [up_ne hr.1, up_ne hr.1, wr_ne hr.2]
  have f6 : ∀ i, i ∉ [3, 4] → (up_ (up_ (wr_ N 146 (cp_ (N 145) (N 146) x1)) 6 4 x1) 6 3 0) 6 i = N 6 i := fun i hi => by
    simp only [List.mem_cons, List.not_mem_nil, or_false, not_or] at hi
    rw [upo hi.1, upo hi.2, wr_ne (by decide)]
  have f4 : (up_ (up_ (wr_ N 146 (cp_ (N 145) (N 146) x1)) 6 4 x1) 6 3 0) 6 4 = x1 ∧ (up_ (up_ (wr_ N 146 (cp_ (N 145) (N 146) x1)) 6 4 x1) 6 3 0) 6 3 = 0 := ⟨by rw [upo (by decide), up_at], up_at⟩
  generalize (up_ (up_ (wr_ N 146 (cp_ (N 145) (N 146) x1)) 6 4 x1) 6 3 0) = N1 at *
  have b1 : BY N1 146 := fun i i0 i1 => by
    rw [f146]; unfold cp_; split
    · exact b145 i i0 i1
    · exact b146 i i0 i1
  have QF1 : QCH N N1 := ⟨fun r hr => fr r (fun z => hr (by simp only [List.mem_cons, List.not_mem_nil, or_false] at z; rcases z with rfl | rfl <;> decide)), fun i hi => f6 i (fun z => hi (by simp only [List.mem_cons, List.not_mem_nil, or_false] at z; rcases z with rfl | rfl <;> decide))⟩
  have pq : ∀ (V : vv_) (Qr : qr_) (Qt : qt_), Cl_ wd0 (Tr_ wd0 pg0 6) V Qr Qt m_397 → Wk_ V → (bl_ (N1 6 126) → (if N1 6 126 = 0 then Qr [.inl (-1)] N1 else bl_ 0 ∧ Tr_ wd0 pg0 6 219 [.inr (.inr 6)] (up_ (up_ N1 6 13 0) 6 16 0) (rv_ fun M2 => Tr_ wd0 pg0 6 398 [.inr (.inr 6)] M2 (rv_ fun M3 => (if M3 6 13 = 0 then bl_ 1 ∧ Tr_ wd0 pg0 6 398 [.inr (.inr 6)] (up_ M3 6 16 1) (rv_ fun M4 => bl_ 0 ∧ V 68 [rr 6, ii x1] [] (up_ M4 6 16 0)) Qt else V 68 [rr 6, ii x1] [] M3)) Qt) Qt)) → V 0 [rr 6, ii x1] [] N := fun V Qr Qt hV hW g => b_397_0 (Tr_mono _) hV hW _ _ (by
    rw [if_neg c0, if_pos (by omega)]
    exact q217 _ _ (rv_i g))
  have n126 : N1 6 126 = N 6 126 := f6 126 (by decide)
  rcases hr with ⟨r0, r1⟩ | ⟨⟨r0, r1⟩, hN, hE⟩
  · rw [if_pos r0]
    refine ri_i ⟨N1, fun Qr Qt g => t_397 fun V hV hW => pq V Qr Qt hV hW fun _ => ?_, XCH_0 XCH_rf (by decide), QF1, ⟨?_, ?_, ?_⟩, ⟨⟨?_, ?_⟩, fun i i0 i1 => ?_⟩, ?_, b1⟩
    · rw [if_pos (by rw [n126]; exact r1)]; exact g
    · rw [upo (by decide), f6 119 (by decide)]; exact hP.1
    · rw [upo (by decide), f6 187 (by decide)]; exact hP.2.1
    · rw [upo (by decide), f6 188 (by decide)]; exact hP.2.2
    · rw [up_at, f4.2]
    · rw [up_at]; omega
    · rw [up_at] at i1; omega
    · unfold BY; rw [up_ne (by decide)]; exact b74
  · rw [if_neg (by omega)]
    -- Q cuts it into tokens
    have e146 : (up_ (up_ N1 6 13 0) 6 16 0) 146 = cp_ (N 145) (N 146) x1 := by rw [up_ne (by decide), up_ne (by decide)]; exact f146
    have e4 : (up_ (up_ N1 6 13 0) 6 16 0) 6 4 = x1 := by rw [upo (by decide), upo (by decide)]; exact f4.1
    obtain ⟨N2, mq, ⟨g1, g2, g3⟩, h219⟩ := s_219e (M := up_ (up_ N1 6 13 0) 6 16 0) (by rw [e4]; omega) (by rw [e4]; omega) (by unfold Wd_; rw [up_ne (by decide), up_ne (by decide), fr 148 (by decide)]; exact hwd) (by rw [e146, ← f146]; exact b1)
    rw [e146, e4] at g3
    have q219 : Ex_ 6 219 [.inr (.inr 6)] (up_ (up_ N1 6 13 0) 6 16 0) [] N2 := Ev fun Qt => h219 1 _ Qt rfl
    have z13 : N2 6 13 = 0 := by rw [g2 13 (by decide), upo (by decide), up_at]
    have z16 : N2 6 16 = 0 := by rw [g2 16 (by decide), up_at]
    have zf : ∀ i, i ∉ [11, 13, 16] → N2 6 i = N1 6 i := fun i hi => by
      simp only [List.mem_cons, List.not_mem_nil, or_false, not_or] at hi
      rw [g2 i hi.1, upo hi.2.2, upo hi.2.1]
    have zr : ∀ r, r ∉ [6, 149, 150, 151] → N2 r = N1 r := fun r hr => by
      have h6 : r ≠ 6 := by rintro rfl; exact hr (by decide)
      rw [g1 r hr, up_ne h6, up_ne h6]
    have QF2 : QCH N N2 := QCH_tr QF1 ⟨fun r hr => zr r (fun z => hr (by simp only [List.mem_cons, List.not_mem_nil, or_false] at z; rcases z with rfl | rfl | rfl | rfl <;> decide)), fun i hi => zf i (fun z => hi (by simp only [List.mem_cons, List.not_mem_nil, or_false] at z; rcases z with rfl | rfl | rfl <;> decide))⟩
    have b2 : BY N2 146 := by unfold BY; rw [zr 146 (by decide)]; exact b1
    -- X reads the tokens
    have x9 : (up_ M 0 6 0) 9 = M 9 := up_ne (by decide)
    have x74 : (up_ M 0 6 0) 74 = M 74 := up_ne (by decide)
    refine s_191b (d := 5) (M := up_ M 0 6 0) (by omega) (by omega) (by unfold RO_; rw [up_ne (by decide), up_ne (by decide), up_ne (by decide), up_ne (by decide)]; exact hro) (by rw [x9]; exact b9) (by rw [x74]; exact b74) (fun M1 mx f1 e74 _ tx _ m1 _ m3 => ?_)
    rw [x9, x74] at e74
    have by74 : BY M1 74 := fun i i0 i1 => by
      rw [e74]; unfold cp_; split
      · exact b9 i i0 i1
      · exact b74 i i0 i1
    have ag : Ag_ (cp_ (N 145) (N 146) x1) (M1 74) x1 := fun i i0 i1 => by
      rw [e74]; unfold cp_; rw [if_pos ⟨i0, i1⟩, if_pos ⟨i0, i1⟩]; exact (t4 i i0 (by omega)).symm
    have tk : TksB M1 N2 := Tks_iB (by omega) (by omega) by74 ag tx m1 m3 g3
    have th := Tks_hB (by omega) (by omega) by74 ag tx m1 m3 g3
    show XSQ (up_ (up_ (up_ (up_ (up_ (up_ (up_ (up_ M1 0 75 0) 0 76 0) 0 77 0) 0 78 0) 0 79 0) 0 94 (-1)) 0 95 0) 0 92 0) _ _
    have y0 : ∀ r, r ≠ 0 → (up_ (up_ (up_ (up_ (up_ (up_ (up_ (up_ M1 0 75 0) 0 76 0) 0 77 0) 0 78 0) 0 79 0) 0 94 (-1)) 0 95 0) 0 92 0) r = M1 r := fun r hr => by rw [up_ne hr, up_ne hr, up_ne hr, up_ne hr, up_ne hr, up_ne hr, up_ne hr, up_ne hr]
    have y1 : ∀ i, i ∉ [75, 76, 77, 78, 79, 92, 94, 95] → (up_ (up_ (up_ (up_ (up_ (up_ (up_ (up_ M1 0 75 0) 0 76 0) 0 77 0) 0 78 0) 0 79 0) 0 94 (-1)) 0 95 0) 0 92 0) 0 i = M1 0 i := fun i hi => by
      simp only [List.mem_cons, List.not_mem_nil, or_false, not_or] at hi
      obtain ⟨h1, h2, h3, h4, h5, h6, h7, h8⟩ := hi
      rw [upo h6, upo h8, upo h7, upo h5, upo h4, upo h3, upo h2, upo h1]
    have yk : (up_ (up_ (up_ (up_ (up_ (up_ (up_ (up_ M1 0 75 0) 0 76 0) 0 77 0) 0 78 0) 0 79 0) 0 94 (-1)) 0 95 0) 0 92 0) 0 75 = 0 ∧ (up_ (up_ (up_ (up_ (up_ (up_ (up_ (up_ M1 0 75 0) 0 76 0) 0 77 0) 0 78 0) 0 79 0) 0 94 (-1)) 0 95 0) 0 92 0) 0 76 = 0 ∧ (up_ (up_ (up_ (up_ (up_ (up_ (up_ (up_ M1 0 75 0) 0 76 0) 0 77 0) 0 78 0) 0 79 0) 0 94 (-1)) 0 95 0) 0 92 0) 0 77 = 0 ∧ (up_ (up_ (up_ (up_ (up_ (up_ (up_ (up_ M1 0 75 0) 0 76 0) 0 77 0) 0 78 0) 0 79 0) 0 94 (-1)) 0 95 0) 0 92 0) 0 78 = 0 ∧ (up_ (up_ (up_ (up_ (up_ (up_ (up_ (up_ M1 0 75 0) 0 76 0) 0 77 0) 0 78 0) 0 79 0) 0 94 (-1)) 0 95 0) 0 92 0) 0 79 = 0 ∧ (up_ (up_ (up_ (up_ (up_ (up_ (up_ (up_ M1 0 75 0) 0 76 0) 0 77 0) 0 78 0) 0 79 0) 0 94 (-1)) 0 95 0) 0 92 0) 0 94 = -1 ∧ (up_ (up_ (up_ (up_ (up_ (up_ (up_ (up_ M1 0 75 0) 0 76 0) 0 77 0) 0 78 0) 0 79 0) 0 94 (-1)) 0 95 0) 0 92 0) 0 95 = 0 ∧ (up_ (up_ (up_ (up_ (up_ (up_ (up_ (up_ M1 0 75 0) 0 76 0) 0 77 0) 0 78 0) 0 79 0) 0 94 (-1)) 0 95 0) 0 92 0) 0 92 = 0 := by
      refine ⟨?_, ?_, ?_, ?_, ?_, ?_, ?_, up_at⟩
      · rw [upo (by decide), upo (by decide), upo (by decide), upo (by decide), upo (by decide), upo (by decide), upo (by decide), up_at]
      · rw [upo (by decide), upo (by decide), upo (by decide), upo (by decide), upo (by decide), upo (by decide), up_at]
      · rw [upo (by decide), upo (by decide), upo (by decide), upo (by decide), upo (by decide), up_at]
      · rw [upo (by decide), upo (by decide), upo (by decide), upo (by decide), up_at]
      · rw [upo (by decide), upo (by decide), upo (by decide), up_at]
      · rw [upo (by decide), upo (by decide), up_at]
      · rw [upo (by decide), up_at]
    generalize (up_ (up_ (up_ (up_ (up_ (up_ (up_ (up_ M1 0 75 0) 0 76 0) 0 77 0) 0 78 0) 0 79 0) 0 94 (-1)) 0 95 0) 0 92 0) = M2 at *
    have m0 : ∀ r, r ∉ [3, 74, 75, 76, 77, 78] → M1 r = (up_ M 0 6 0) r := f1
    have XF2 : XCH M M2 := ⟨fun r hr => by
      have h0 : r ≠ 0 := by rintro rfl; exact hr (by decide)
      rw [y0 r h0, m0 r (fun z => hr (by simp only [List.mem_cons, List.not_mem_nil, or_false] at z; rcases z with rfl | rfl | rfl | rfl | rfl | rfl <;> decide)), up_ne h0], fun i hi => by
      rw [y1 i (fun z => hi (by simp only [List.mem_cons, List.not_mem_nil, or_false] at z; rcases z with rfl | rfl | rfl | rfl | rfl | rfl | rfl | rfl <;> decide)), m0 0 (by decide), upo (by rintro rfl; exact hi (by decide))]⟩
    have by2 : BY M2 74 := by unfold BY; rw [y0 74 (by decide)]; exact by74
    have tk2 : ∀ N', (∀ r, r ∈ [149, 150, 151] → N' r = N2 r) → TksB M2 N' := fun N' hh => TksB_c tk (fun r hr => y0 r (by rintro rfl; exact absurd hr (by decide))) hh
    have sg2 : ∀ N', (∀ r, r ∈ [149, 150, 151, 152] → N' r = N2 r) → N' 6 17 = N2 6 17 → SGP M2 N' := fun N' hh h17 => by
      refine NMQ_S ?_ (tk2 N' (fun r hr => hh r (by simp only [List.mem_cons, List.not_mem_nil, or_false] at hr ⊢; rcases hr with rfl | rfl | rfl <;> decide))) (fun i hi hk => ?_) by2
      · unfold NMQ
        rw [XF2.1 4 (by decide), XF2.1 42 (by decide), XF2.1 43 (by decide), hh 152 (by decide), h17, zf 17 (by decide), f6 17 (by decide), zr 152 (by decide), fr 152 (by decide)]
        exact hN
      · rw [y0 75 (by decide)] at hk
        have := th i (gdB_c hi (y0 75 (by decide)).symm) hk
        rw [hh 151 (by decide), y0 74 (by decide), y0 76 (by decide), y0 77 (by decide)]
        exact this
    have hE2 : ∀ M' N', XTd M2 M' → QCH N N' → EVT M' N' := fun M' N' hx hq => by
      unfold EVT at *
      rw [hx.2 35 (by decide), hx.2 36 (by decide), hx.1 23 (by decide), XF2.2 35 (by decide), XF2.2 36 (by decide), XF2.1 23 (by decide), hq.2 142 (by decide), hq.2 143 (by decide), hq.1 240 (by decide)]
      exact hE
    have q1 : CR 0 M2 (chQ N2) 0 := CR_0 (tk2 _ (fun r hr => chQ_r (by rintro rfl; exact absurd hr (by decide)))) yk.1 ⟨yk.2.1, yk.2.2.1, yk.2.2.2.1, yk.2.2.2.2.1, yk.2.2.2.2.2.1, yk.2.2.2.2.2.2.1, yk.2.2.2.2.2.2.2⟩ ⟨chQ_k.1, by rw [chQ_6 (by decide)]; exact z13, by rw [chQ_6 (by decide)]; exact z16, chQ_k.2.1, chQ_k.2.2.1, chQ_k.2.2.2.1, chQ_k.2.2.2.2⟩ (.inl rfl)
    have s1 : SGP M2 (chQ N2) := sg2 _ (fun r hr => chQ_r (by rintro rfl; exact absurd hr (by decide))) (chQ_6 (by decide))
    have m06 : M2 0 6 = 0 := by rw [y1 6 (by decide), m0 0 (by decide), up_at]
    -- how it ends with a fault
    have tapE : ∀ M' N', M' 0 6 = 0 → N' 6 3 = 0 → TAP M' N' := fun M' N' e1 e2 => ⟨⟨by rw [e1, e2], by omega, by omega⟩, fun i i0 i1 => by omega⟩
    have n23 : N2 6 3 = 0 := by rw [zf 3 (by decide)]; exact f4.2
    refine ch_text q1 s1 yk.2.2.2.2.1 (fun M3 hx hall => ?_) (fun M3 hx ⟨N3, h3, hF, hq3⟩ => ?_)
    · -- both passes
      obtain ⟨N3, a3, h3, C3, hq3⟩ := hall 0 (chQ N2) q1 s1
      have QF3 : QCH N N3 := QCH_tr (chQ_ch QF2) (QTd_ch hq3)
      have z133 : N3 6 13 = 0 := C3.1.2.2.2.2 rfl
      have k149 : ∀ r, r ∈ [149, 150, 151, 152] → N3 r = N2 r := fun r hr => by
        rw [hq3.1 r (fun z => by simp only [List.mem_cons, List.not_mem_nil, or_false] at hr; rcases hr with rfl | rfl | rfl | rfl <;> exact absurd z (by decide)), chQ_r (by rintro rfl; exact absurd hr (by decide))]
      have kc : ∀ r, r ∈ [149, 150, 151, 152] → chQ (up_ N3 6 16 1) r = N2 r := fun r hr => by
        have h6 : r ≠ 6 := by rintro rfl; exact absurd hr (by decide)
        rw [chQ_r h6, up_ne h6]; exact k149 r hr
      have q2 : CR 1 M2 (chQ (up_ N3 6 16 1)) 0 := CR_0 (tk2 _ (fun r hr => kc r (by simp only [List.mem_cons, List.not_mem_nil, or_false] at hr ⊢; rcases hr with rfl | rfl | rfl <;> decide))) yk.1 ⟨yk.2.1, yk.2.2.1, yk.2.2.2.1, yk.2.2.2.2.1, yk.2.2.2.2.2.1, yk.2.2.2.2.2.2.1, yk.2.2.2.2.2.2.2⟩ ⟨chQ_k.1, by rw [chQ_6 (by decide), upo (by decide)]; exact z133, by rw [chQ_6 (by decide), up_at], chQ_k.2.1, chQ_k.2.2.1, chQ_k.2.2.2.1, chQ_k.2.2.2.2⟩ (.inr rfl)
      have s2 : SGP M2 (chQ (up_ N3 6 16 1)) := sg2 _ kc (by rw [chQ_6 (by decide), upo (by decide), hq3.2 17 (by decide), chQ_6 (by decide)])
      obtain ⟨N4, a4, h4, C4, hq4⟩ := hall 1 (chQ (up_ N3 6 16 1)) q2 s2
      have QF4 : QCH N N4 := QCH_tr (chQ_ch (QCH_6 QF3 (by decide))) (QTd_ch hq4)
      have XF3 : XCH M M3 := XCH_tr XF2 (XTd_ch hx)
      have nt := C4.2.2.2.2.2.2
      have nt2 := nt.2 rfl
      have m36 : M3 0 6 = 0 := by rw [hx.2 6 (by decide)]; exact m06
      have n43 : N4 6 3 = 0 := by rw [hq4.2 3 (by decide), chQ_6 (by decide), upo (by decide), hq3.2 3 (by decide), chQ_6 (by decide)]; exact n23
      have b3 : BY M3 74 := by unfold BY; rw [hx.1 74 (by decide)]; exact by2
      have b4 : BY N4 146 := by unfold BY; rw [hq4.1 146 (by decide), chQ_r (by decide), up_ne (by decide), hq3.1 146 (by decide), chQ_r (by decide)]; exact b2
      have pq2 : ∀ (V : vv_) (Qr : qr_) (Qt : qt_), Cl_ wd0 (Tr_ wd0 pg0 6) V Qr Qt m_397 → Wk_ V → V 68 [rr 6, ii x1] [] (up_ N4 6 16 0) → V 0 [rr 6, ii x1] [] N := fun V Qr Qt hV hW g => pq V Qr Qt hV hW fun _ => by
        rw [if_neg (by rw [n126]; omega)]
        refine ⟨.inl rfl, q219 _ _ (rv_i (q_398 h3 _ _ (rv_i ?_)))⟩
        rw [if_pos z133]
        exact ⟨.inr rfl, q_398 h4 _ _ (rv_i ⟨.inl rfl, g⟩)⟩
      by_cases c92 : M3 0 92 = 0
      · rw [if_pos c92]
        have C5 : CHS M3 (up_ N4 6 16 0) := by
          have := CR_S C4 c92 (hE2 M3 N4 hx QF4)
          unfold CHS LJ9 SDJ EVT lvL rwL at *
          rw [upo (j := 170) (by decide), upo (j := 171) (by decide), upo (j := 172) (by decide), upo (j := 142) (by decide), upo (j := 143) (by decide), up_ne (r' := 255) (by decide), up_ne (r' := 256) (by decide), up_ne (r' := 257) (by decide), up_ne (r' := 258) (by decide), up_ne (r' := 259) (by decide), up_ne (r' := 260) (by decide), up_ne (r' := 261) (by decide), up_ne (r' := 262) (by decide), up_ne (r' := 240) (by decide)]
          exact this
        obtain ⟨r, M', N', hr, fx, fq, e188, e187, x85, q405⟩ := j_85 (CHS_96 (v := M3 0 76) C5)
        rw [upo (by decide)] at e187
        have QF5 : QCH N N' := QCH_tr (QCH_6 QF4 (by decide : (16 : Int) ∈ qchI) (v := 0)) ⟨fun q hq => fq.1 q (fun z => hq (by simp only [List.mem_cons, List.not_mem_nil, or_false] at z; rcases z with rfl | rfl <;> decide)), fun i hi => fq.2 i (fun z => hi (by simp only [List.mem_cons, List.not_mem_nil, or_false] at z; rcases z with rfl | rfl | rfl <;> decide))⟩
        have XF5 : XCH M M' := XCH_tr (XCH_0 XF3 (by decide : (96 : Int) ∈ xchI) (v := M3 0 76)) (XJ_ch fx)
        have fin : ∀ y, (r ≤ 0 ∧ y = 0 ∨ ¬ r ≤ 0 ∧ y = 1) → CHPc M N x1 y (up_ M' 0 97 r) := fun y hy => by
          refine ⟨N', fun Qr Qt g => t_397 fun V hV hW => pq2 V Qr Qt hV hW (b_397_68 (Tr_mono _) hV hW _ _ ?_), XCH_0 XF5 (by decide), QF5, ⟨?_, ?_, ?_⟩, tapE _ _ ?_ ?_, ?_, ?_⟩
          · rw [if_pos (by rw [upo (by decide)]; omega)]
            refine q405 _ _ (rv_i ?_)
            rw [e188]
            rcases hy with ⟨h1, rfl⟩ | ⟨h1, rfl⟩
            · rw [if_pos h1]; exact g
            · rw [if_neg h1]; exact g
          · rw [upo (by decide), fx.2 71 (by decide), upo (by decide), hx.2 71 (by decide), y1 71 (by decide), m0 0 (by decide), upo (by decide), fq.2 119 (by decide), upo (by decide), hq4.2 119 (by decide), chQ_6 (by decide), upo (by decide), hq3.2 119 (by decide), chQ_6 (by decide), zf 119 (by decide), f6 119 (by decide)]; exact hP.1
          · rw [upo (by decide), fx.2 96 (by decide), up_at, e187]
          · rw [up_at, e188]
          · rw [upo (by decide), fx.2 6 (by decide), upo (by decide)]; exact m36
          · rw [fq.2 3 (by decide), upo (by decide)]; exact n43
          · unfold BY; rw [up_ne (by decide), fx.1 74 (by decide), up_ne (by decide)]; exact b3
          · unfold BY; rw [fq.1 146 (by decide), up_ne (by decide)]; exact b4
        refine Ex_le (d := 5) (by decide) x85 _ _ (ri_i ?_)
        by_cases cr : r ≤ 0
        · rw [if_pos cr]; exact ri_i (fin 0 (.inl ⟨cr, rfl⟩))
        · rw [if_neg cr]; exact ri_i (fin 1 (.inr ⟨cr, rfl⟩))
      · rw [if_neg c92]
        refine ri_i ⟨up_ (up_ N4 6 16 0) 6 119 (N4 6 14), fun Qr Qt g => t_397 fun V hV hW => pq2 V Qr Qt hV hW (b_397_68 (Tr_mono _) hV hW _ _ ?_), XCH_0 XF3 (by decide), QCH_6 (QCH_6 QF4 (by decide)) (by decide), ⟨?_, ?_, ?_⟩, tapE _ _ ?_ ?_, ?_, ?_⟩
        · rw [upo (by decide), upo (by decide), if_neg (by have := nt.1; omega), nt2.1]; exact g
        · rw [up_at, up_at]; exact (nt2.2 c92).symm
        · rw [upo (by decide), hx.2 96 (by decide), y1 96 (by decide), m0 0 (by decide), upo (by decide), upo (by decide), upo (by decide), hq4.2 187 (by decide), chQ_6 (by decide), upo (by decide), hq3.2 187 (by decide), chQ_6 (by decide), zf 187 (by decide), f6 187 (by decide)]; exact hP.2.1
        · rw [upo (by decide), hx.2 97 (by decide), y1 97 (by decide), m0 0 (by decide), upo (by decide), upo (by decide), upo (by decide), hq4.2 188 (by decide), chQ_6 (by decide), upo (by decide), hq3.2 188 (by decide), chQ_6 (by decide), zf 188 (by decide), f6 188 (by decide)]; exact hP.2.2
        · rw [upo (by decide)]; exact m36
        · rw [upo (by decide), upo (by decide)]; exact n43
        · unfold BY; rw [up_ne (by decide)]; exact b3
        · unfold BY; rw [up_ne (by decide), up_ne (by decide)]; exact b4
    · -- a fault of the first pass
      refine ⟨.inl rfl, b_72_119_7 (Tr_mono _) hV hW _ _ (ri_i ⟨up_ N3 6 119 (N3 6 14), fun Qr Qt g => t_397 fun V hV hW => pq V Qr Qt hV hW fun _ => ?_, XCH_0 (XCH_tr XF2 (XTd_ch hx)) (by decide), QCH_6 (QCH_tr (chQ_ch QF2) (QTd_ch hq3)) (by decide), ⟨?_, ?_, ?_⟩, tapE _ _ ?_ ?_, ?_, ?_⟩)⟩
      · rw [if_neg (by rw [n126]; omega)]
        refine ⟨.inl rfl, q219 _ _ (rv_i (q_398 h3 _ _ (rv_i ?_)))⟩
        have p13 := hF.1.1
        rw [if_neg (by omega)]
        refine b_397_68 (Tr_mono _) hV hW _ _ ?_
        rw [if_neg (by omega), hF.2.1]; exact g
      · rw [up_at, up_at]; exact hF.2.2.symm
      · rw [upo (by decide), hx.2 96 (by decide), y1 96 (by decide), m0 0 (by decide), upo (by decide), upo (by decide), hq3.2 187 (by decide), chQ_6 (by decide), zf 187 (by decide), f6 187 (by decide)]; exact hP.2.1
      · rw [upo (by decide), hx.2 97 (by decide), y1 97 (by decide), m0 0 (by decide), upo (by decide), upo (by decide), hq3.2 188 (by decide), chQ_6 (by decide), zf 188 (by decide), f6 188 (by decide)]; exact hP.2.2
      · rw [upo (by decide), hx.2 6 (by decide)]; exact m06
      · rw [upo (by decide), hq3.2 3 (by decide), chQ_6 (by decide)]; exact n23
      · unfold BY; rw [up_ne (by decide), hx.1 74 (by decide)]; exact by2
      · unfold BY; rw [up_ne (by decide), hq3.1 146 (by decide), chQ_r (by decide)]; exact b2
end CHb
end T440_ch
section T441_fd
/-! feed, place, warning (X 52, 53, 55, 56 | Q 214, 215, 319, 320) -/
/-- only the tape -/
def XTP (M M' : mm_) : Prop := (∀ r, r ∉ [0, 9] → M' r = M r) ∧ ∀ i, i ≠ 6 → M' 0 i = M 0 i
def QTP (N N' : mm_) : Prop := (∀ r, r ∉ [6, 145] → N' r = N r) ∧ ∀ i, i ≠ 3 → N' 6 i = N 6 i
def TPB (M N : mm_) : Prop := TAP M N ∧ BY M 9 ∧ BY N 145
section FDa
variable {M N M' N' M1 N1 M2 N2 : mm_} {a k f t x c w p i u v x1 x2 x3 x4 x5 : Int}
theorem ib_r [Inhabited fz_] : -128 ≤ ib_ x ∧ ib_ x ≤ 127 := by unfold ib_; omega
theorem XTP_tr [Inhabited fz_] (h : XTP M M1) (g : XTP M1 M2) : XTP M M2 := ⟨fun r hr => by rw [g.1 r hr, h.1 r hr], fun i hi => by rw [g.2 i hi, h.2 i hi]⟩
theorem QTP_tr [Inhabited fz_] (h : QTP N N1) (g : QTP N1 N2) : QTP N N2 := ⟨fun r hr => by rw [g.1 r hr, h.1 r hr], fun i hi => by rw [g.2 i hi, h.2 i hi]⟩
theorem XTP_rf [Inhabited fz_] : XTP M M := ⟨fun _ _ => rfl, fun _ _ => rfl⟩
theorem QTP_rf [Inhabited fz_] : QTP N N := ⟨fun _ _ => rfl, fun _ _ => rfl⟩
/-- a byte more -/
theorem tp_1 [Inhabited fz_] (h : TPB M N) (h5 : M 0 6 < 5000) (hv : -128 ≤ v ∧ v ≤ 127) : TPB (up_ (up_ M 9 (M 0 6) v) 0 6 (M 0 6 + 1)) (up_ (up_ N 145 (N 6 3) v) 6 3 (N 6 3 + 1)) ∧ XTP M (up_ (up_ M 9 (M 0 6) v) 0 6 (M 0 6 + 1)) ∧ QTP N (up_ (up_ N 145 (N 6 3) v) 6 3 (N 6 3 + 1)) := by
  obtain ⟨⟨⟨t1, t2, t3⟩, t4⟩, b1, b2⟩ := h
  refine ⟨⟨⟨⟨?_, ?_⟩, fun i i0 i1 => ?_⟩, fun i i0 i1 => ?_, fun i i0 i1 => ?_⟩, ⟨fun r hr => ?_, fun i hi => ?_⟩, fun r hr => ?_, fun i hi => ?_⟩
  · rw [up_at, up_at, t1]
  · rw [up_at]; omega
  · rw [up_at] at i1
    rw [up_ne (r := 0) (by decide), up_ne (r := 6) (by decide), ← t1]
    by_cases e : i = M 0 6
    · subst e; rw [up_at, up_at]
    · rw [upo e, upo e]; exact t4 i i0 (by omega)
  · rw [up_ne (by decide)]
    by_cases e : i = M 0 6
    · subst e; rw [up_at]; exact hv
    · rw [upo e]; exact b1 i i0 i1
  · rw [up_ne (by decide)]
    by_cases e : i = N 6 3
    · subst e; rw [up_at]; exact hv
    · rw [upo e]; exact b2 i i0 i1
  · simp only [List.mem_cons, List.not_mem_nil, or_false, not_or] at hr
    rw [up_ne hr.1, up_ne hr.2]
  · rw [upo hi, up_ne (by decide)]
  · simp only [List.mem_cons, List.not_mem_nil, or_false, not_or] at hr
    rw [up_ne hr.1, up_ne hr.2]
  · rw [upo hi, up_ne (by decide)]
theorem j_53 [Inhabited fz_] (h : TPB M N) (h5 : M 0 6 + 4 ≤ 5000) : ∃ M' N', Ex_ 1 53 [.inr (.inr 0), .inl x] M [] M' ∧ Ex_ 1 215 [.inr (.inr 6), .inl x] N [] N' ∧ TPB M' N' ∧ XTP M M' ∧ QTP N N' ∧ M' 0 6 = M 0 6 + 4 := by
  have one : ∀ (M N : mm_) (y z : Int), TPB M N → M 0 6 < 5000 → 0 ≤ y → z = w32 (y + -8) → ∃ M' N', TPB M' N' ∧ XTP M M' ∧ QTP N N' ∧ M' 0 6 = M 0 6 + 1 ∧ (∀ (V : vv_) (Qr : qr_) (Qt : qt_), Cl_ wd0 (Tr_ wd0 pg0 0) V Qr Qt m_53 → Wk_ V → V 3 [rr 0, ii x, ii z] [] M' → V 3 [rr 0, ii x, ii y] [] M) ∧ (∀ (V : vv_) (Qr : qr_) (Qt : qt_), Cl_ wd0 (Tr_ wd0 pg0 0) V Qr Qt m_215 → Wk_ V → V 3 [rr 6, ii x, ii z] [] N' → V 3 [rr 6, ii x, ii y] [] N) := by
    intro M N y z h h5 y0 hz
    have t := tp_1 h h5 (v := ib_ (sr_ x y)) ib_r
    have t1 := h.1.1
    refine ⟨_, _, t.1, t.2.1, t.2.2, up_at, fun V Qr Qt hV hW g => b_53_3 (Tr_mono _) hV hW _ _ _ ?_, fun V Qr Qt hV hW g => b_215_3 (Tr_mono _) hV hW _ _ _ ?_⟩
    · rw [if_neg (by omega), w32_id (x := M 0 6 + 1) (by omega) (by omega), ← hz]
      exact ⟨⟨by omega, ib_r⟩, g⟩
    · rw [if_neg (by omega), w32_id (x := N 6 3 + 1) (by omega) (by omega), ← hz]
      exact ⟨⟨by omega, ib_r⟩, g⟩
  obtain ⟨M1, N1, t1, f1, g1, e1, p1, q1⟩ := one M N 24 16 h (by omega) (by decide) (by decide)
  obtain ⟨M2, N2, t2, f2, g2, e2, p2, q2⟩ := one M1 N1 16 8 t1 (by omega) (by decide) (by decide)
  obtain ⟨M3, N3, t3, f3, g3, e3, p3, q3⟩ := one M2 N2 8 0 t2 (by omega) (by decide) (by decide)
  obtain ⟨M4, N4, t4, f4, g4, e4, p4, q4⟩ := one M3 N3 0 (-8) t3 (by omega) (by decide) (by decide)
  refine ⟨M4, N4, fun Qr Qt g => t_53 fun V hV hW => b_53_0 (Tr_mono _) hV hW _ _ (p1 V Qr Qt hV hW (p2 V Qr Qt hV hW (p3 V Qr Qt hV hW (p4 V Qr Qt hV hW (b_53_3 (Tr_mono _) hV hW _ _ _ ?_))))), fun Qr Qt g => t_215 fun V hV hW => b_215_0 (Tr_mono _) hV hW _ _ (q1 V Qr Qt hV hW (q2 V Qr Qt hV hW (q3 V Qr Qt hV hW (q4 V Qr Qt hV hW (b_215_3 (Tr_mono _) hV hW _ _ _ ?_))))), t4, XTP_tr f1 (XTP_tr f2 (XTP_tr f3 f4)), QTP_tr g1 (QTP_tr g2 (QTP_tr g3 g4)), by omega⟩
  · rw [if_pos (by decide)]; exact g
  · rw [if_pos (by decide)]; exact g
theorem j_52 [Inhabited fz_] (h : TPB M N) : ∃ v M' N', Ex_ 2 52 [.inr (.inr 0), .inl x1, .inl x2, .inl x3, .inl x4, .inl x5] M [.inl v] M' ∧ Ex_ 2 214 [.inr (.inr 6), .inl x1, .inl x2, .inl x3, .inl x4, .inl x5] N [.inl v] N' ∧ TPB M' N' ∧ XTP M M' ∧ QTP N N' := by
  have t := h.1.1
  have w : w32 (M 0 6 + 20) = M 0 6 + 20 := w32_id (by omega) (by omega)
  by_cases c : M 0 6 + 20 ≤ 5000
  · obtain ⟨M1, N1, p1, q1, t1, f1, g1, e1⟩ := j_53 (x := x1) h (by omega)
    obtain ⟨M2, N2, p2, q2, t2, f2, g2, e2⟩ := j_53 (x := x2) t1 (by omega)
    obtain ⟨M3, N3, p3, q3, t3, f3, g3, e3⟩ := j_53 (x := x3) t2 (by omega)
    obtain ⟨M4, N4, p4, q4, t4, f4, g4, e4⟩ := j_53 (x := x4) t3 (by omega)
    obtain ⟨M5, N5, p5, q5, t5, f5, g5, e5⟩ := j_53 (x := x5) t4 (by omega)
    refine ⟨1, M5, N5, fun Qr Qt g => t_52 fun V hV hW => b_52_0 (Tr_mono _) hV hW _ _ _ _ _ _ ?_, fun Qr Qt g => t_214 fun V hV hW => b_214_0 (Tr_mono _) hV hW _ _ _ _ _ _ ?_, t5, XTP_tr f1 (XTP_tr f2 (XTP_tr f3 (XTP_tr f4 f5))), QTP_tr g1 (QTP_tr g2 (QTP_tr g3 (QTP_tr g4 g5)))⟩
    · rw [w, if_pos c]
      exact p1 _ _ (rv_i (p2 _ _ (rv_i (p3 _ _ (rv_i (p4 _ _ (rv_i (p5 _ _ (rv_i ⟨.inr rfl, g⟩)))))))))
    · rw [if_pos (by omega)]
      exact q1 _ _ (rv_i (q2 _ _ (rv_i (q3 _ _ (rv_i (q4 _ _ (rv_i (q5 _ _ (rv_i ⟨.inr rfl, g⟩)))))))))
  · refine ⟨0, M, N, fun Qr Qt g => t_52 fun V hV hW => b_52_0 (Tr_mono _) hV hW _ _ _ _ _ _ ?_, fun Qr Qt g => t_214 fun V hV hW => b_214_0 (Tr_mono _) hV hW _ _ _ _ _ _ ?_, h, XTP_rf, QTP_rf⟩
    · rw [w, if_neg c]; exact ⟨.inl rfl, g⟩
    · rw [if_neg (by omega)]; exact ⟨.inl rfl, g⟩
theorem j_55 [Inhabited fz_] (h : CPR M N) : SM2 1 55 [.inr (.inr 0)] 1 319 [.inr (.inr 6)] M N := ⟨M 0 71, fun Qr Qt g => t_55 fun V hV hW => b_55_0 (Tr_mono _) hV hW _ g, fun Qr Qt g => t_319 fun V hV hW => b_319_0 (Tr_mono _) hV hW _ (by rw [← h.1]; exact g)⟩
/-- the warnings of what is loaded -/
def WNR (M N : mm_) : Prop := (M 0 3 = 0 ∧ N 6 120 = 0) ∨ (M 0 3 = 1 ∧ (M 4 36 = N 6 120 ∧ 0 ≤ N 6 120 ∧ N 6 120 ≤ 200) ∧ ∀ k, 0 ≤ k → k < N 6 120 → M 110 k = N 235 k ∧ M 111 k = N 236 k)
theorem j_56 [Inhabited fz_] (h : WNR M N) : SM2 1 56 [.inr (.inr 0), .inl x1, .inl x2] 1 320 [.inr (.inr 6), .inl x1, .inl x2] M N := by
  by_cases c0 : x1 < 0
  · refine ⟨-1, fun Qr Qt g => t_56 fun V hV hW => b_56_0 (Tr_mono _) hV hW _ _ _ fun _ => ?_, fun Qr Qt g => t_320 fun V hV hW => b_320_0 (Tr_mono _) hV hW _ _ _ ?_⟩
    · by_cases z : M 0 3 = 0
      · rw [if_pos z]; exact g
      · rw [if_neg z, if_pos c0]; exact g
    · rw [if_pos c0]; exact g
  · rcases h with ⟨h1, h2⟩ | ⟨h1, ⟨h2, h3, h4⟩, h5⟩
    · refine ⟨-1, fun Qr Qt g => t_56 fun V hV hW => b_56_0 (Tr_mono _) hV hW _ _ _ fun _ => ?_, fun Qr Qt g => t_320 fun V hV hW => b_320_0 (Tr_mono _) hV hW _ _ _ ?_⟩
      · rw [if_pos h1]; exact g
      · rw [if_neg c0, if_neg (by omega)]; exact g
    · by_cases c1 : x1 < M 4 36
      · have z := h5 x1 (by omega) (by omega)
        by_cases c2 : x2 = 0
        · refine ⟨M 110 x1, fun Qr Qt g => t_56 fun V hV hW => b_56_0 (Tr_mono _) hV hW _ _ _ fun _ => ?_, fun Qr Qt g => t_320 fun V hV hW => b_320_0 (Tr_mono _) hV hW _ _ _ ?_⟩
          · rw [if_neg (by omega), if_neg c0, if_pos c1, if_pos c2]; exact ⟨by omega, g⟩
          · rw [if_neg c0, if_pos (by omega), if_neg (by omega), if_pos (by omega), if_pos c2, ← z.1]; exact ⟨by omega, g⟩
        · by_cases c3 : x2 = 1
          · refine ⟨M 111 x1, fun Qr Qt g => t_56 fun V hV hW => b_56_0 (Tr_mono _) hV hW _ _ _ fun _ => ?_, fun Qr Qt g => t_320 fun V hV hW => b_320_0 (Tr_mono _) hV hW _ _ _ ?_⟩
            · rw [if_neg (by omega), if_neg c0, if_pos c1, if_neg c2, if_pos c3]; exact ⟨by omega, g⟩
            · rw [if_neg c0, if_pos (by omega), if_neg (by omega), if_pos (by omega), if_neg c2, ← z.2]; exact ⟨by omega, g⟩
          · refine ⟨-1, fun Qr Qt g => t_56 fun V hV hW => b_56_0 (Tr_mono _) hV hW _ _ _ fun _ => ?_, fun Qr Qt g => t_320 fun V hV hW => b_320_0 (Tr_mono _) hV hW _ _ _ ?_⟩
            · rw [if_neg (by omega), if_neg c0, if_pos c1, if_neg c2, if_neg c3]; exact g
            · rw [if_neg c0, if_pos (by omega)]
              by_cases c4 : x2 < 0
              · rw [if_pos c4]; exact g
              · rw [if_neg c4, if_neg (by omega)]; exact g
      · refine ⟨-1, fun Qr Qt g => t_56 fun V hV hW => b_56_0 (Tr_mono _) hV hW _ _ _ fun _ => ?_, fun Qr Qt g => t_320 fun V hV hW => b_320_0 (Tr_mono _) hV hW _ _ _ ?_⟩
        · rw [if_neg (by omega), if_neg c0, if_neg c1]; exact g
        · rw [if_neg c0, if_neg (by omega)]; exact g
end FDa
end T441_fd
section T442_pb
/-! the plan behind a clean parse: the tables of a run -/
def XTE (M M1 : mm_) : Prop := (∀ r : Nat, 112 ≤ r → r ≤ 142 → M1 r = M r) ∧ ∀ i : Int, 0 ≤ i → i ≤ 4 → M1 5 i = M 5 i
def QTE (N N1 : mm_) : Prop := (∀ r : Nat, 152 ≤ r ∧ r ≤ 234 → N1 r = N r) ∧ ∀ i : Int, i ∈ tfL → N1 6 i = N 6 i
section PBa
variable {M N M1 N1 : mm_} {T : Int}
theorem XTE_o [Inhabited fz_] (h : XTE M M1) : OXS 0 0 M M1 := by
  refine ⟨by rw [h.2 3 (by decide) (by decide), h.2 4 (by decide) (by decide)]; exact ⟨Int.le_refl _, Int.le_refl _⟩, fun i _ _ => by rw [h.1 142 (by decide) (by decide)], fun r i hr _ _ => ?_, fun i _ _ => by rw [h.1 137 (by decide) (by decide)], fun i _ => by rw [h.1 129 (by decide) (by decide)]⟩
  have hr' : 112 ≤ r ∧ r ≤ 142 := by revert hr; unfold st9L; simp only [List.mem_cons, List.not_mem_nil, or_false]; omega
  rw [h.1 r hr'.1 hr'.2]
theorem QTE_o [Inhabited fz_] (h : QTE N N1) : OQS 0 0 N N1 := by
  have l62 := h.2 62 (by decide)
  have l63 := h.2 63 (by decide)
  have l75 := h.2 75 (by decide)
  have l76 := h.2 76 (by decide)
  have l90 := h.2 90 (by decide)
  have l104 := h.2 104 (by decide)
  have e : ∀ r : Nat, 152 ≤ r → r ≤ 234 → N1 r = N r := fun r a b => h.1 r ⟨a, b⟩
  have lt : ∀ (L : List Nat), (∀ r ∈ L, 152 ≤ r ∧ r ≤ 234) → ∀ r : Nat, r ∈ L → N1 r = N r := fun L hL r hr => h.1 r (hL r hr)
  refine ⟨⟨lt ttL (by decide), fun i hi => h.2 i (by revert hi; unfold tfL; simp only [List.mem_cons, List.not_mem_nil, or_false]; omega)⟩, by rw [l62, l63, l75, l76, l90, l104]; omega, fun r i hr _ _ => by rw [lt sq9L (by decide) r hr], fun i _ _ => by rw [e 200 (by decide) (by decide), e 201 (by decide) (by decide)]; exact ⟨rfl, rfl⟩, fun i _ _ => by rw [e 202 (by decide) (by decide)], fun r i hr _ _ => by rw [lt opL (by decide) r hr], fun i _ _ => by rw [e 209 (by decide) (by decide)], fun r i hr _ _ => by rw [lt rgR (by decide) r hr], fun i _ _ => by rw [e 227 (by decide) (by decide), e 228 (by decide) (by decide)]; exact ⟨rfl, rfl⟩, fun r i hr _ _ => by rw [lt tqL (by decide) r hr], fun i _ => by rw [e 188 (by decide) (by decide), e 189 (by decide) (by decide)]; exact ⟨rfl, rfl⟩⟩
theorem PTY_T [Inhabited fz_] (h : PTY M N T) (hx : XTE M M1) (hq : QTE N N1) : PTY M1 N1 T := by
  haveI : Inhabited gh_ := ih_ 0 (fun _ => 0) 0 0
  have ox := XTE_o hx
  have oq := QTE_o hq
  have x := hx.1
  have e : ∀ r : Nat, 152 ≤ r → r ≤ 234 → N1 r = N r := fun r a b => hq.1 r ⟨a, b⟩
  unfold PTY PPC at h ⊢
  rw [x 120 (by decide) (by decide), x 121 (by decide) (by decide), x 122 (by decide) (by decide), x 123 (by decide) (by decide), x 124 (by decide) (by decide), x 125 (by decide) (by decide), x 126 (by decide) (by decide), x 127 (by decide) (by decide), x 128 (by decide) (by decide), x 129 (by decide) (by decide), x 130 (by decide) (by decide), x 131 (by decide) (by decide), x 132 (by decide) (by decide), e 168 (by decide) (by decide), e 169 (by decide) (by decide), e 170 (by decide) (by decide), e 171 (by decide) (by decide), e 172 (by decide) (by decide), e 173 (by decide) (by decide), e 174 (by decide) (by decide), e 175 (by decide) (by decide), e 176 (by decide) (by decide), e 182 (by decide) (by decide), e 183 (by decide) (by decide), e 184 (by decide) (by decide), e 188 (by decide) (by decide)]
  exact ⟨h.1, h.2.1, h.2.2.1, h.2.2.2.1, ATP_S h.2.2.2.2.1 ox oq, fun l l0 l1 => ATP_S (h.2.2.2.2.2 l l0 l1) ox oq⟩
theorem PST_T [Inhabited fz_] (h : PST M N) (hx : XTE M M1) (hq : QTE N N1) : PST M1 N1 := by
  haveI : Inhabited gh_ := ih_ 0 (fun _ => 0) 0 0
  have ox := XTE_o hx
  have oq := QTE_o hq
  have x := hx.1
  have e : ∀ r : Nat, 152 ≤ r → r ≤ 234 → N1 r = N r := fun r a b => hq.1 r ⟨a, b⟩
  have ns : ∀ k, nsK N1 k = nsK N k := fun k => by unfold nsK; rw [e 193 (by decide) (by decide), e 198 (by decide) (by decide), e 199 (by decide) (by decide)]
  have xs : ∀ n : Nat, xsf N1 n = xsf N n := fun n => by
    induction n with
    | zero => rfl
    | succ n ih => show xsf N1 n + nsK N1 n = xsf N n + nsK N n; rw [ih, ns]
  obtain ⟨h1, h2⟩ := h
  refine ⟨by rw [hq.2 62 (by decide), hq.2 63 (by decide), xs, hx.2 4 (by decide) (by decide)]; exact h1, fun k k0 k1 => ?_⟩
  rw [hq.2 62 (by decide)] at k1
  obtain ⟨g1, g2⟩ := h2 k k0 k1
  refine ⟨by rw [hq.2 63 (by decide), e 192 (by decide) (by decide), e 193 (by decide) (by decide), e 198 (by decide) (by decide), e 199 (by decide) (by decide)]; exact g1, fun j j0 j1 => ?_⟩
  rw [ns] at j1
  obtain ⟨g3, g4⟩ := g2 j j0 j1
  refine ⟨by rw [xs, x 133 (by decide) (by decide), x 134 (by decide) (by decide), x 123 (by decide) (by decide), x 135 (by decide) (by decide), x 136 (by decide) (by decide), e 192 (by decide) (by decide), e 193 (by decide) (by decide), e 194 (by decide) (by decide), e 198 (by decide) (by decide), e 200 (by decide) (by decide)]; exact g3, ?_⟩
  rw [xs, e 198 (by decide) (by decide)]
  obtain ⟨s1, s2, s3, s4⟩ := g4
  unfold SRO
  rw [e 193 (by decide) (by decide), e 192 (by decide) (by decide), e 197 (by decide) (by decide), e 196 (by decide) (by decide), e 195 (by decide) (by decide), x 141 (by decide) (by decide), x 139 (by decide) (by decide), x 140 (by decide) (by decide)]
  refine ⟨fun c => ATP_S (s1 c) ox oq, fun c => ?_, fun c => ⟨ASK_S (s3 c).1 ox oq, (s3 c).2⟩, fun c => ?_⟩
  · rcases s2 c with h | h
    · exact .inl h
    · exact .inr (ASK_S h ox oq)
  · have g := s4 c
    unfold RWI UQI at g ⊢
    rw [e 200 (by decide) (by decide), e 201 (by decide) (by decide), e 202 (by decide) (by decide), e 171 (by decide) (by decide), e 184 (by decide) (by decide), e 183 (by decide) (by decide), e 156 (by decide) (by decide), e 157 (by decide) (by decide), e 182 (by decide) (by decide), x 138 (by decide) (by decide), x 137 (by decide) (by decide), x 133 (by decide) (by decide), x 134 (by decide) (by decide), x 135 (by decide) (by decide), x 136 (by decide) (by decide)]
    exact g
theorem PLB_T [Inhabited fz_] (h : PLB M N) (hx : XTE M M1) (hq : QTE N N1) : PLB M1 N1 := by
  have x := hx.1
  have e : ∀ r : Nat, 152 ≤ r → r ≤ 234 → N1 r = N r := fun r a b => hq.1 r ⟨a, b⟩
  obtain ⟨h1, h2, h3, h4, h5, h6⟩ := h
  refine ⟨by rw [hx.2 0 (by decide) (by decide), hx.2 1 (by decide) (by decide), hx.2 2 (by decide) (by decide), hq.2 17 (by decide), hq.2 18 (by decide), hq.2 19 (by decide)]; exact h1, fun T T0 T1 => PTY_T (h2 T T0 (by rw [hq.2 19 (by decide)] at T1; exact T1)) hx hq, fun r r0 r1 => ?_, PST_T h4 hx hq, ?_, by rw [hx.2 3 (by decide) (by decide), hq.2 75 (by decide), hq.2 90 (by decide), hq.2 104 (by decide)]; exact h6⟩
  · have g := h3 r r0 (by rw [hq.2 18 (by decide)] at r1; exact r1)
    unfold RT2 tpl at g ⊢
    rw [x 114 (by decide) (by decide), x 115 (by decide) (by decide), x 116 (by decide) (by decide), x 117 (by decide) (by decide), x 118 (by decide) (by decide), x 119 (by decide) (by decide), e 158 (by decide) (by decide), e 159 (by decide) (by decide), e 160 (by decide) (by decide), e 161 (by decide) (by decide), e 162 (by decide) (by decide), e 163 (by decide) (by decide), e 164 (by decide) (by decide), e 166 (by decide) (by decide), e 154 (by decide) (by decide), hq.2 19 (by decide)]
    exact g
  · rw [hq.2 17 (by decide), e 156 (by decide) (by decide), e 157 (by decide) (by decide), x 112 (by decide) (by decide), x 113 (by decide) (by decide)]; exact h5
theorem QTE_t [Inhabited fz_] : QTE N (tbN N) := ⟨fun r hr => tbN_r hr.1 hr.2, fun i hi => tbN_6 hi⟩
end PBa
end T442_pb
section T443_pb
/-! the plan behind a clean parse -/
section PBb
variable {M N M1 N1 : mm_} {T : Int}
theorem PLA_B [Inhabited fz_] (h : PLA M N) : PLB M N := by
  obtain ⟨ig, F, a, ⟨S, e102⟩, G, R, n13, _, n170, _⟩ := h
  obtain ⟨⟨⟨tk, hE, m12⟩, ⟨sg, pr, rt, _, _⟩, ty, _, bd, hs⟩, ⟨_, _, _⟩, cnt⟩ := S
  have ga := hE.1
  have a1 : 0 ≤ a ∧ a ≤ 1200 := ⟨ga.1, ga.2.1⟩
  obtain ⟨⟨c75, c104, c53⟩, c76, c17, c90, _, c54, c62, c63⟩ := bd
  obtain ⟨⟨xs, sr⟩, hl⟩ := hs rfl
  obtain ⟨g1, g2⟩ := G
  obtain ⟨r1, r2, r3, r4⟩ := g1 n13
  have s9 := sg.1.1
  have t9 := pr.1.1
  have r9 := rt.1
  have ag : ∀ k, 0 ≤ k → k < N 6 62 → agT N k = N 199 k := fun k k0 k1 => by
    unfold agT
    by_cases c : k = N 6 62 - 1
    · rw [if_pos c, c, hl (by omega)]
    · rw [if_neg c]
  have xse : ∀ k, 0 ≤ k → k ≤ N 6 62 → xs k = xsf N k.toNat := fun k k0 k1 => by
    have := SRW_x sr hl k.toNat (by omega)
    rw [show ((k.toNat : Nat) : Int) = k by omega] at this; exact this
  refine ⟨⟨⟨s9.2.2.symm, by omega, by omega⟩, ⟨r9.2.2.symm, by omega, by omega⟩, ⟨t9.2.2.symm, by omega, by omega⟩⟩, fun T T0 T1 => ?_, fun r r0 r1 => ?_, ⟨⟨c62.1, ?_, by omega, by omega, by omega⟩, fun k k0 k1 => ?_⟩, fun s s0 s1 => ?_, by omega, by omega, by omega, by omega⟩
  · rw [t9.2.2] at T1
    obtain ⟨v1, v2, v3, v4, v5, v6⟩ := ty T T0 T1
    have cn : (N 168 T = M 120 T ∧ N 169 T = M 121 T) ∧ (0 ≤ M 120 T ∧ M 120 T ≤ 200) ∧ (0 ≤ M 121 T ∧ M 121 T ≤ 200) := cnt T T0 T1
    have p1 := pr.2.1 T T0 T1
    have p2 := pr.2.2 rfl T T0 T1
    have n1 := n170 T T0 T1
    obtain ⟨w1, w2, w3, w4⟩ := v1
    obtain ⟨⟨b1, b2, b3, b4, b5⟩, b6, _, _⟩ := v2
    obtain ⟨a1, a2⟩ := r2 T T0 T1
    refine ⟨⟨⟨cn.1.1.symm, by omega, by omega⟩, ⟨cn.1.2.symm, by omega, by omega⟩⟩, ⟨p2.1, p1.1, p1.2.1, n1, ⟨fun v v0 v1 => ?_, fun i k i0 i1 k1 => ?_⟩⟩, ⟨⟨v3.1.2.2.symm, by have := v3.1; omega, by have := v3.1; omega⟩, ⟨w1.2.2.symm, by omega, by omega⟩, ⟨b1.symm, by omega, by omega⟩, ⟨w2.2.2.symm, by omega, by omega⟩, ⟨v5.1.1.2.2.symm, by have := v5.1.1; omega, by have := v5.1.1; omega⟩⟩, fun k k0 k1 => ?_, a1.1, a1.2⟩
    · refine ⟨(p1.2.2 v v0 v1).2.2, ?_⟩
      have := b4 v v0 (by omega) (fun i i0 i1 => by rw [(w3 i i0 (by omega)).2.2.2.1]; exact (p1.2.2 i i0 (by omega)).2.2)
      rw [if_neg (by omega)] at this
      rw [← (w3 v v0 (by omega)).2.2.2.2.1]; exact this
    · have := b5 i k i0 i1 (by omega)
      rw [(w3 i i0 (by omega)).2.2.2.1, (w3 i i0 (by omega)).2.2.2.2.1, (w3 k (by omega) (by omega)).2.2.2.2.1] at this
      exact this
    · have x := w3 k k0 (by omega)
      have y := (b6 k k0 (by omega)).1
      rw [x.2.2.2.1, x.2.2.2.2.1, ← b1] at y
      have z := x.2.2.2.2.2.2.2
      rw [x.2.2.2.1] at z
      exact ⟨⟨x.2.2.1, x.2.2.2.1, x.2.2.2.2.1⟩, ⟨z, y.2.2⟩, y.1, y.2.1⟩
  · rw [r9.2.2] at r1
    exact ⟨R r r0 r1, g2 n13 r r0 r1⟩
  · rw [← xse (N 6 62) c62.1 (Int.le_refl _)]; exact sr.1.2.2
  · obtain ⟨q1, q2, q3, q4, q5⟩ := (sr.2 k k0 k1).2
    rw [ag k k0 k1] at q3 q4
    refine ⟨⟨q1, q2, q3, q4⟩, fun j j0 j1 => ⟨?_, r1 k k0 k1 j j0 j1⟩⟩
    have := q5 j j0 (by unfold nSt; rw [ag k k0 k1]; exact j1)
    rw [xse k k0 (by omega)] at this
    exact this
  · rw [s9.2.2] at s1
    obtain ⟨⟨x1, x2, x3⟩, y⟩ := sg.2 s s0 s1
    refine ⟨⟨by omega, by omega, x3.symm⟩, fun i i0 i1 => ?_⟩
    obtain ⟨y1, y2, y3⟩ := y i i0 (by omega)
    exact ⟨y3, y1, y2⟩
end PBb
end T443_pb
section T444_tb
/-! Q's tables read anew: what the run reads of them is the same -/
def TBE (N N' : mm_) : Prop := (N' 6 17 = N 6 17 ∧ N' 6 18 = N 6 18 ∧ N' 6 19 = N 6 19) ∧ (∀ s, 0 ≤ s → s < N 6 17 → N' 156 s = N 156 s ∧ ∀ i, 0 ≤ i → i < N 156 s → N' 157 (3 * s + i) = N 157 (3 * s + i))
  ∧ ∀ T, 0 ≤ T → T < N 6 19 → (N' 171 T = N 171 T ∧ N' 172 T = N 172 T ∧ N' 173 T = N 173 T ∧ N' 174 T = N 174 T) ∧ ∀ k, 0 ≤ k → k < N 171 T → N' 182 (8 * T + k) = N 182 (8 * T + k) ∧ N' 183 (8 * T + k) = N 183 (8 * T + k) ∧ N' 184 (8 * T + k) = N 184 (8 * T + k)
section TBa
variable {z : Int} {M N M' N' : mm_} {f g h9 : Int → Int} {sg k n B : Int}
theorem TBE_of [Inhabited fz_] (h : PLr M N) (h' : PLr M N') : TBE N N' := by
  have c : ∀ {A : mm_}, PLr M A → (swc M 5 0 = A 6 17 ∧ swc M 5 1 = A 6 18 ∧ swc M 5 2 = A 6 19) := fun {A} p => by
    have a := p.1
    rw [tbN_6 (i := 17) (by decide), tbN_6 (i := 18) (by decide), tbN_6 (i := 19) (by decide)] at a
    exact ⟨a.1.1, a.2.1.1, a.2.2.1⟩
  have s : ∀ {A : mm_}, PLr M A → ∀ s, 0 ≤ s → s < A 6 17 → swc M 112 s = A 156 s ∧ ∀ i, 0 ≤ i → i < A 156 s → A 157 (3 * s + i) = swc M 113 (3 * s + i) + 1 := fun {A} p s s0 s1 => by
    have a := p.2.2.2.2.1 s s0 (by rw [tbN_6 (by decide)]; exact s1)
    rw [tbN_r (q := 156) (by decide) (by decide), tbN_r (q := 157) (by decide) (by decide)] at a
    exact ⟨a.1.2.2, fun i i0 i1 => (a.2 i i0 i1).1⟩
  have t : ∀ {A : mm_}, PLr M A → ∀ T, 0 ≤ T → T < A 6 19 → (swc M 124 T = A 171 T ∧ swc M 125 T = A 172 T ∧ swc M 126 T = A 173 T ∧ swc M 123 T = A 174 T) ∧ ∀ k, 0 ≤ k → k < A 171 T → swc M 130 (8 * T + k) + 1 = A 182 (8 * T + k) ∧ swc M 131 (8 * T + k) = A 183 (8 * T + k) ∧ swc M 132 (8 * T + k) = A 184 (8 * T + k) := fun {A} p T T0 T1 => by
    obtain ⟨_, _, ⟨a1, a2, a3, a4, _⟩, a5, _⟩ := p.2.1 T T0 (by rw [tbN_6 (by decide)]; exact T1)
    rw [tbN_r (q := 171) (by decide) (by decide)] at a2 a5
    rw [tbN_r (q := 172) (by decide) (by decide)] at a3
    rw [tbN_r (q := 173) (by decide) (by decide)] at a4
    rw [tbN_r (q := 174) (by decide) (by decide)] at a1
    rw [tbN_r (q := 182) (by decide) (by decide), tbN_r (q := 183) (by decide) (by decide), tbN_r (q := 184) (by decide) (by decide)] at a5
    exact ⟨⟨a2.1, a3.1, a4.1, a1.1⟩, fun k k0 k1 => (a5 k k0 k1).1⟩
  have c1 := c h
  have c2 := c h'
  have e17 : N' 6 17 = N 6 17 := by omega
  have e19 : N' 6 19 = N 6 19 := by omega
  refine ⟨⟨e17, by omega, e19⟩, fun x x0 x1 => ?_, fun T T0 T1 => ?_⟩
  · obtain ⟨p1, p2⟩ := s h x x0 x1
    obtain ⟨q1, q2⟩ := s h' x x0 (by omega)
    refine ⟨by omega, fun i i0 i1 => ?_⟩
    have := p2 i i0 i1
    have := q2 i i0 (by omega)
    omega
  · obtain ⟨p1, p2⟩ := t h T T0 T1
    obtain ⟨q1, q2⟩ := t h' T T0 (by omega)
    refine ⟨by omega, fun i i0 i1 => ?_⟩
    have := p2 i i0 i1
    have := q2 i i0 (by omega)
    omega
theorem RU_T [Inhabited fz_] (h : RU z M N) (tb : TBE N N') (hx : ∀ r : Nat, r ∈ [10, 11, 12, 13, 14, 15, 16, 17, 18, 19, 20, 21, 22, 23, 24] → M' r = M r) (h0 : ∀ i : Int, i ∈ rfX → M' 0 i = M 0 i) (hq : ∀ r : Nat, r ∈ [239, 240, 241] → N' r = N r) (h6 : ∀ i : Int, i ∈ rfQ → i ≠ 18 → i ≠ 19 → N' 6 i = N 6 i) : RU z M' N' := by
  obtain ⟨⟨h1, h1', h1'', h1'''⟩, h2, h3, h4, h5⟩ := h
  have q239 := hq 239 (by decide)
  have x7 := h0 7 (by decide)
  have x8 := h0 8 (by decide)
  refine ⟨⟨by rw [x7, q239]; exact h1, by rw [x8, q239]; exact h1', fun k k0 k1 => ?_, fun k k0 k1 i i0 i1 => by rw [q239]; exact h1''' k (by rw [x7] at k0; exact k0) k1 i i0 i1⟩, RRt_c h2 (hx 21 (by decide)) (hx 22 (by decide)) q239 tb.1.2.1, RSC_c h3 (fun i hi => h0 i (by revert hi; simp only [rfX, List.mem_cons, List.not_mem_nil, or_false]; omega)) (fun i hi => h6 i (by revert hi; simp only [rfQ, List.mem_cons, List.not_mem_nil, or_false]; omega) (by revert hi; simp only [List.mem_cons, List.not_mem_nil, or_false]; omega) (by revert hi; simp only [List.mem_cons, List.not_mem_nil, or_false]; omega)), ROU_c h4 (fun i hi => h0 i (by revert hi; simp only [rfX, List.mem_cons, List.not_mem_nil, or_false]; omega)) (hx 24 (by decide)) (fun i hi => h6 i (by revert hi; simp only [rfQ, List.mem_cons, List.not_mem_nil, or_false]; omega) (by revert hi; simp only [List.mem_cons, List.not_mem_nil, or_false]; omega) (by revert hi; simp only [List.mem_cons, List.not_mem_nil, or_false]; omega)) (hq 241 (by decide)), REV_c h5 (fun i hi => h0 i (by revert hi; simp only [rfX, List.mem_cons, List.not_mem_nil, or_false]; omega)) (hx 23 (by decide)) (fun i hi => h6 i (by revert hi; simp only [rfQ, List.mem_cons, List.not_mem_nil, or_false]; omega) (by revert hi; simp only [List.mem_cons, List.not_mem_nil, or_false]; omega) (by revert hi; simp only [List.mem_cons, List.not_mem_nil, or_false]; omega)) (hq 240 (by decide))⟩
  have w := h1'' k k0 (by rw [x7] at k1; exact k1)
  have y := (tb.2.2 (M 11 k) w.2.1.2.1.1 w.2.1.2.1.2).1
  unfold IN at w ⊢
  rw [x8, hx 10 (by decide), hx 11 (by decide), hx 12 (by decide), hx 13 (by decide), hx 14 (by decide), hx 15 (by decide), hx 16 (by decide), hx 17 (by decide), hx 18 (by decide), hx 19 (by decide), hx 20 (by decide), q239, tb.1.2.2, y.2.1, y.2.2.1, y.2.2.2]
  exact w
theorem SGV_T [Inhabited fz_] (h : SGV N sg h9) (tb : TBE N N') : SGV N' sg h9 := by
  obtain ⟨a, b, c⟩ := h
  refine ⟨by rw [tb.1.1]; exact a, fun s2 v v0 v3 v1 e => ?_, c⟩
  have s : 0 ≤ sg ∧ sg < N 6 17 := by omega
  obtain ⟨p1, p2⟩ := tb.2.1 sg s.1 s.2
  rw [p1] at v1
  rw [p2 v v0 v1] at e
  exact b s2 v v0 v3 v1 e
theorem TIN_T [Inhabited fz_] (h : TIN N g) (tb : TBE N N') (hg : 0 ≤ g 1 ∧ g 1 < N 6 19) : TIN N' g := by
  obtain ⟨p1, p2⟩ := tb.2.2 (g 1) hg.1 hg.2
  refine ⟨fun u u0 u1 e i i0 i1 i2 i3 => ?_, fun q q0 q1 q2 => SGV_T (h.2 q q0 q1 q2) tb⟩
  rw [p1.1] at u1
  obtain ⟨w1, w2, w3⟩ := p2 u u0 u1
  rw [w1] at e
  rw [w2] at i1
  rw [w3] at i2 i3 ⊢
  exact h.1 u u0 u1 e i i0 i1 i2 i3
theorem TYR_T [Inhabited fz_] (h : TYR N f) (hv : ∀ k, 0 ≤ k → k < f 0 → 0 ≤ f (sB k + 1) ∧ f (sB k + 1) < N 6 19) (tb : TBE N N') : TYR N' f := by
  refine ⟨fun k k0 k1 k2 => TIN_T (h.1 k k0 k1 k2) tb (hv k k0 k2), fun r r0 r1 r2 q q0 q1 q2 => SGV_T (h.2.1 r r0 r1 (by rw [tb.1.2.1] at r2; exact r2) q q0 q1 q2) tb, h.2.2⟩
theorem TYA_T [Inhabited fz_] (h : RU z M N) (hA : TYA N) (tb : TBE N N') (e : N' 239 = N 239) : TYA N' := by
  obtain ⟨a1, a2, a3⟩ := hA
  unfold TYA
  rw [e]
  refine ⟨fun k k0 k1 k2 => TIN_T (a1 k k0 k1 k2) tb ?_, fun r r0 r1 r2 q q0 q1 q2 => SGV_T (a2 r r0 r1 (by rw [tb.1.2.1] at r2; exact r2) q q0 q1 q2) tb, fun j => by rw [e]; exact a3 j⟩
  have w := h.1.2.2.1 k k0 (by rw [← h.1.1.2.2]; exact k2)
  show 0 ≤ N 239 (sB k + 1) ∧ N 239 (sB k + 1) < N 6 19
  rw [← w.1.2.1]; exact w.2.1.2.1
theorem VR_T [Inhabited fz_] (h : VR N f) (tb : TBE N N') : VR N' f := by
  obtain ⟨h1, h2, h3, h4, h5⟩ := h
  refine ⟨h1, fun k k0 k1 => ?_, h3, by rw [tb.1.2.1]; exact h4, by rw [tb.1.2.1]; exact h5⟩
  have w := h2 k k0 k1
  have y := (tb.2.2 _ w.1.2.1.1 w.1.2.1.2).1
  unfold VSL at w ⊢
  rw [tb.1.2.2, y.2.1, y.2.2.1, y.2.2.2]
  exact w
theorem slsL_T [Inhabited fz_] (tb : TBE N N') : ∀ (n : Nat) (x : Int), (∀ k, x ≤ k → k < x + n → 0 ≤ f (sB k + 1) ∧ f (sB k + 1) < N 6 19) → slsL N' f x n = slsL N f x n
  | 0, _, _ => rfl
  | n + 1, x, hv => by
    have w := hv x (Int.le_refl _) (by omega)
    have y := (tb.2.2 _ w.1 w.2).1.2.1
    unfold slsL slL slT
    rw [y, slsL_T tb n (x + 1) (fun k k0 k1 => hv k (by omega) (by omega))]
theorem pkL_T [Inhabited fz_] (h : VR N f) (tb : TBE N N') : pkL N' f = pkL N f := by
  unfold pkL
  rw [tb.1.2.1, slsL_T tb _ _ (fun k k0 k1 => (h.2.1 k (by omega) (by have := h.1.1; omega)).1.2.1)]
theorem SFK_T [Inhabited fz_] (h : SFK M N B k) (tb : TBE N N') (hr : rwk N' k = rwk N k) (h253 : N' 253 k = N 253 k) : SFK M N' B k := by
  obtain ⟨a1, a2, a3, a4, a5⟩ := h
  unfold SFK
  rw [hr, pkL_T a1 tb, h253]
  exact ⟨VR_T a1 tb, TYR_T a2 (fun k k0 k1 => (a1.2.1 k k0 k1).1.2.1) tb, a3, a4, a5⟩
theorem SST_T [Inhabited fz_] (h : SST M N n B) (tb : TBE N N') (h163 : N' 6 163 = N 6 163) (hq : ∀ r : Nat, r ∈ [245, 247, 248, 249, 250, 251, 252, 253] → N' r = N r) : SST M N' n B := by
  obtain ⟨h1, h2, h3⟩ := h
  refine ⟨by rw [h163]; exact h1, h2, fun k k0 k1 => ?_⟩
  obtain ⟨w1, w2⟩ := h3 k k0 k1
  refine ⟨SFK_T w1 tb (by unfold rwk; rw [hq 245 (by decide)]) (by rw [hq 253 (by decide)]), ?_⟩
  unfold SEQ at w2 ⊢
  rw [hq 247 (by decide), hq 248 (by decide), hq 249 (by decide), hq 250 (by decide), hq 251 (by decide), hq 252 (by decide)]
  exact w2
end TBa
end T444_tb
section T445_ld
/-! load: X's names of signals (behind the change of plans) -/
theorem c_54_75 [Inhabited fz_] {D : ca_} {V : vv_} {Qr : qr_} {Qt : qt_} (hD : Mo_ D) (hV : Cl_ wd0 D V Qr Qt m_54) (hW : Wk_ V) (x1 : Int) (x2 : Int) (x4 : Int) (M : mm_) (h :
 (if x4 < M 4 0 then
  (0 ≤ x4 ∧ x4 < 20) ∧
   (0 ≤ M 56 x4 ∧ M 56 x4 < 1202) ∧
   (0 ≤ M 56 x4 ∧ M 56 x4 < 1202) ∧
   (0 ≤ x4 ∧ x4 < 20) ∧
   V 136 [rr 0, ii x1, ii x2, none, ii x4, ii (M 56 x4), ii 0] [] (up_ M 43 x4 (w32 ((M 72 (M 56 x4)) - (M 71 (M 56 x4)))))
 else
  bl_ 1 ∧ bl_ 0 ∧ Qr [.inl 0] (up_ (up_ M 0 3 1) 0 4 0))) : V 75 [rr 0, ii x1, ii x2, none, ii x4, none, none] [] M := bx_go hD hV hW [(75, [5, 6]), (136, [])] 31 h
theorem c_54_136 [Inhabited fz_] {D : ca_} {V : vv_} {Qr : qr_} {Qt : qt_} (hD : Mo_ D) (hV : Cl_ wd0 D V Qr Qt m_54) (hW : Wk_ V) (x1 : Int) (x2 : Int) (x4 : Int) (x5 : Int) (x6 : Int) (M : mm_) (h :
 (0 ≤ x4 ∧ x4 < 20) ∧
  (if x6 < M 43 x4 then
  (0 ≤ x5 ∧ x5 < 1202) ∧
   (0 ≤ w32 ((M 71 x5) + x6) ∧ w32 ((M 71 x5) + x6) < 5000) ∧ (-128 ≤ M 69 (w32 ((M 71 x5) + x6)) ∧ M 69 (w32 ((M 71 x5) + x6)) ≤ 127 →
   ((0 ≤ w32 ((w32 (10 * x4)) + x6) ∧ w32 ((w32 (10 * x4)) + x6) < 200) ∧ -128 ≤ M 69 (w32 ((M 71 x5) + x6)) ∧ M 69 (w32 ((M 71 x5) + x6)) ≤ 127) ∧
   V 136 [rr 0, ii x1, ii x2, none, ii x4, ii x5, ii (w32 (x6 + 1))] [] (up_ M 42 (w32 ((w32 (10 * x4)) + x6)) (M 69 (w32 ((M 71 x5) + x6)))))
 else
  V 75 [rr 0, ii x1, ii x2, none, ii (w32 (x4 + 1)), none, none] [] M)) : V 136 [rr 0, ii x1, ii x2, none, ii x4, ii x5, ii x6] [] M := bx_go hD hV hW [(75, [5, 6]), (136, [])] 30 h

def LDP (M : mm_) : Prop := (0 ≤ M 4 0 ∧ M 4 0 ≤ 20) ∧ (∀ s, 0 ≤ s → s < M 4 0 → (0 ≤ M 56 s ∧ M 56 s < 1202) ∧ (1 ≤ M 72 (M 56 s) - M 71 (M 56 s) ∧ M 72 (M 56 s) - M 71 (M 56 s) ≤ 10) ∧ 0 ≤ M 71 (M 56 s) ∧ M 72 (M 56 s) ≤ 5000) ∧ ∀ i, 0 ≤ i → i < 5000 → -128 ≤ M 69 i ∧ M 69 i ≤ 127
/-- the names of the first n signals are there -/
def LDN (M M' : mm_) (n : Int) : Prop := ∀ s, 0 ≤ s → s < n → M' 43 s = M 72 (M 56 s) - M 71 (M 56 s) ∧ ∀ j, 0 ≤ j → j < M 72 (M 56 s) - M 71 (M 56 s) → M' 42 (10 * s + j) = M 69 (M 71 (M 56 s) + j)
def LDF (M M' : mm_) : Prop := (∀ r : Nat, r ∉ [0, 42, 43] → M' r = M r) ∧ (∀ i : Int, i ≠ 3 → i ≠ 4 → M' 0 i = M 0 i) ∧ (M' 0 3 = 1 ∧ M' 0 4 = 0) ∧ LDN M M' (M 4 0)
section LDa
variable {D : ca_} {V : vv_} {Qr : qr_} {Qt : qt_} {M0 : mm_} {x1 x2 : Int}
theorem l_54b [Inhabited fz_] (hD : Mo_ D) (hV : Cl_ wd0 D V Qr Qt m_54) (hW : Wk_ V) (hP : LDP M0) {s : Int} (hs : 0 ≤ s ∧ s < M0 4 0) :
    ∀ (n : Nat) (j : Int) (M : mm_), M0 72 (M0 56 s) - M0 71 (M0 56 s) - j ≤ (n : Int) → 0 ≤ j → j ≤ M0 72 (M0 56 s) - M0 71 (M0 56 s) → (∀ r : Nat, r ≠ 42 → r ≠ 43 → M r = M0 r) → LDN M0 M s → M 43 s = M0 72 (M0 56 s) - M0 71 (M0 56 s) → (∀ k, 0 ≤ k → k < j → M 42 (10 * s + k) = M0 69 (M0 71 (M0 56 s) + k)) →
    (∀ M', (∀ r : Nat, r ≠ 42 → r ≠ 43 → M' r = M0 r) → LDN M0 M' (s + 1) → V 75 [rr 0, ii x1, ii x2, none, ii (s + 1), none, none] [] M') →
    V 136 [rr 0, ii x1, ii x2, none, ii s, ii (M0 56 s), ii j] [] M
  | n, j, M, hn, j0, j1, hr, hL, e43, hk, hK => by
    obtain ⟨p1, p2, p3⟩ := hP
    obtain ⟨b1, b2, b3⟩ := p2 s hs.1 hs.2
    refine c_54_136 hD hV hW _ _ _ _ _ _ ⟨by omega, ?_⟩
    rw [hr 71 (by decide) (by decide), hr 69 (by decide) (by decide), e43]
    by_cases c : j < M0 72 (M0 56 s) - M0 71 (M0 56 s)
    · obtain ⟨n, rfl⟩ : ∃ m, n = m + 1 := ⟨n - 1, by omega⟩
      rw [if_pos c, w32_id (x := M0 71 (M0 56 s) + j) (by omega) (by omega), w32_id (x := 10 * s) (by omega) (by omega), w32_id (x := 10 * s + j) (by omega) (by omega), w32_id (x := j + 1) (by omega) (by omega)]
      refine ⟨b1, by omega, fun hb => ⟨⟨by omega, hb⟩, l_54b hD hV hW ⟨p1, p2, p3⟩ hs n (j + 1) _ (by omega) (by omega) (by omega) (fun r h1 h2 => by rw [up_ne h1]; exact hr r h1 h2) (fun t t0 t1 => ?_) (by rw [up_ne (by decide)]; exact e43) (fun k k0 k1 => ?_) hK⟩⟩
      · obtain ⟨w1, w2⟩ := hL t t0 t1
        have := p2 t t0 (by omega)
        exact ⟨by rw [up_ne (by decide)]; exact w1, fun i i0 i1 => by rw [upo (by omega)]; exact w2 i i0 i1⟩
      · by_cases e : k = j
        · rw [e, up_at]
        · rw [upo (by omega)]; exact hk k k0 (by omega)
    · rw [if_neg c, w32_id (x := s + 1) (by omega) (by omega)]
      refine hK M hr (fun t t0 t1 => ?_)
      by_cases e : t = s
      · rw [e]; exact ⟨e43, fun i i0 i1 => hk i i0 (by omega)⟩
      · exact hL t t0 (by omega)
theorem l_54a [Inhabited fz_] (hD : Mo_ D) (hV : Cl_ wd0 D V Qr Qt m_54) (hW : Wk_ V) (hP : LDP M0) (hq : ∀ M', LDF M0 M' → Qr [.inl 0] M') :
    ∀ (n : Nat) (s : Int) (M : mm_), M0 4 0 - s ≤ (n : Int) → 0 ≤ s → s ≤ M0 4 0 → (∀ r : Nat, r ≠ 42 → r ≠ 43 → M r = M0 r) → LDN M0 M s → V 75 [rr 0, ii x1, ii x2, none, ii s, none, none] [] M
  | n, s, M, hn, s0, s1, hr, hL => by
    have p1 := hP.1
    refine c_54_75 hD hV hW _ _ _ _ ?_
    rw [hr 4 (by decide) (by decide), hr 56 (by decide) (by decide), hr 72 (by decide) (by decide), hr 71 (by decide) (by decide)]
    by_cases c : s < M0 4 0
    · obtain ⟨n, rfl⟩ : ∃ m, n = m + 1 := ⟨n - 1, by omega⟩
      obtain ⟨b1, b2, b3⟩ := hP.2.1 s s0 c
      rw [if_pos c, w32_id (x := M0 72 (M0 56 s) - M0 71 (M0 56 s)) (by omega) (by omega)]
      refine ⟨by omega, b1, b1, by omega, l_54b hD hV hW hP ⟨s0, c⟩ 10 0 _ (by omega) (by omega) (by omega) (fun r h1 h2 => by rw [up_ne h2]; exact hr r h1 h2) (fun t t0 t1 => ?_) up_at (fun k k0 k1 => by omega) (fun M' hr' hL' => l_54a hD hV hW hP hq n (s + 1) M' (by omega) (by omega) (by omega) hr' hL')⟩
      obtain ⟨w1, w2⟩ := hL t t0 t1
      exact ⟨by rw [upo (by omega)]; exact w1, fun i i0 i1 => by rw [up_ne (by decide)]; exact w2 i i0 i1⟩
    · rw [if_neg c]
      have e : s = M0 4 0 := by omega
      refine ⟨.inr rfl, .inl rfl, hq _ ⟨fun r h => ?_, fun i h3 h4 => ?_, ⟨by rw [upo (by decide), up_at], up_at⟩, fun t t0 t1 => ?_⟩⟩
      · have n0 : r ≠ 0 := fun e => h (by rw [e]; decide)
        rw [up_ne n0, up_ne n0]; exact hr r (fun e => h (by rw [e]; decide)) (fun e => h (by rw [e]; decide))
      · rw [upo h4, upo h3, hr 0 (by decide) (by decide)]
      · obtain ⟨w1, w2⟩ := hL t t0 (by omega)
        exact ⟨by rw [up_ne (by decide), up_ne (by decide)]; exact w1, fun i i0 i1 => by rw [up_ne (by decide), up_ne (by decide)]; exact w2 i i0 i1⟩
theorem x_54c [Inhabited fz_] (hD : Mo_ D) (hV : Cl_ wd0 D V Qr Qt m_54) (hW : Wk_ V) (hP : LDP M0) (hq : ∀ M', LDF M0 M' → Qr [.inl 0] M') : V 75 [rr 0, ii x1, ii x2, none, ii 0, none, none] [] M0 :=
  l_54a hD hV hW hP hq 20 0 M0 (by have := hP.1; omega) (by omega) hP.1.1 (fun _ _ _ => rfl) (fun t t0 t1 => by omega)
end LDa
end T445_ld
