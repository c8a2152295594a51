section T420_fv
/-! what was found: first, visit (X 48, 50 | Q 393, 396) -/
section FVa
variable {M N M' N' M1 : mm_} {f : Int → Int} {k x1 x2 x3 B a ty s n : Int}
theorem bv_eq [Inhabited fz_] {u v : Int} {P : Prop} (hu : BV u) (hv : BV v) (h1 : u = 1 ↔ P) (h2 : v = 1 ↔ P) : u = v := by
  rcases hu with a | a <;> rcases hv with b | b
  · omega
  · have := h1.2 (h2.1 b); omega
  · have := h2.2 (h1.1 a); omega
  · omega
/-- one state is asked -/
theorem fs_1 [Inhabited fz_] (hP : PLr M N) (hk : k < 200 ∧ SFK M N B k ∧ SEQ M N k) (k0 : 0 ≤ k) (k1 : k < M 0 62) (e62 : M 0 62 = N 6 163) (h1 : 0 ≤ x1 ∧ x1 ≤ 4) (h2 : x1 = 4 → 0 ≤ x2) : ∃ u, BV u ∧ (∀ (V : vv_) (Qr : qr_) (Qt : qt_), Cl_ wd0 (Tr_ wd0 pg0 1) V Qr Qt m_48 → Wk_ V → (u = 0 → V 41 [rr 0, ii x1, ii x2, ii x3, ii (k + 1), none] [] M) → (u = 1 → Qr [.inl k] M) → V 41 [rr 0, ii x1, ii x2, ii x3, ii k, none] [] M) ∧ (∀ (V : vv_) (Qr : qr_) (Qt : qt_), Cl_ wd0 (Tr_ wd0 pg0 2) V Qr Qt m_393 → Wk_ V → (u = 0 → V 55 [rr 6, ii x1, ii x2, ii x3, ii (k + 1), none] [] N) → (u = 1 → Qr [.inl k] N) → V 55 [rr 6, ii x1, ii x2, ii x3, ii k, none] [] N) ∧ (x1 = 4 → (u = 1 ↔ ∃ i, (0 ≤ i ∧ i < rwk N k 0) ∧ HOc (rwk N k) x2 x3 i)) := by
  obtain ⟨k2, ⟨a1, a2, a3, ⟨a4, _⟩, a5⟩, ⟨s1, s2, s3⟩, s4, s5, s6⟩ := hk
  have wk : w32 (k + 1) = k + 1 := w32_id (by omega) (by omega)
  have bit : ∀ (c : Prop) (_ : Decidable c), ∃ u : Int, BV u ∧ (u = 1 ↔ c) := fun c hc => by
    by_cases h : c
    · exact ⟨1, .inr rfl, ⟨fun _ => h, fun _ => rfl⟩⟩
    · exact ⟨0, .inl rfl, ⟨fun e => absurd e (by decide), fun e => absurd e h⟩⟩
  by_cases c4 : x1 = 4
  · obtain ⟨u, u1, u2, u3⟩ := x_49 (ty := x2) (s := x3) hP a1 (k := k) (by omega) a4
    obtain ⟨v, v1, v2, v3⟩ := q_395 (ty := x2) (s := x3) a1 (by omega) (by have := h2 c4; omega)
    have e := bv_eq u1 v1 u2 v2
    subst e
    refine ⟨u, u1, fun V Qr Qt hV hW g0 g1 => b_48_41 (Tr_mono _) hV hW _ _ _ _ _ ?_, fun V Qr Qt hV hW g0 g1 => b_393_55 (Tr_mono _) hV hW _ _ _ _ _ ?_, fun _ => u2⟩
    · rw [if_pos k1, if_pos c4]
      refine u3 _ _ (ri_i ?_)
      by_cases c : u = 0
      · rw [if_pos c, wk]; exact g0 c
      · rw [if_neg c]; exact g1 (u1.resolve_left c)
    · rw [if_pos (by omega), if_neg (by omega), if_neg (by omega), if_neg (by omega), if_neg (by omega)]
      refine v3 _ _ (ri_i ?_)
      by_cases c : u = 0
      · rw [if_pos c, wk]; exact g0 c
      · rw [if_neg c]; exact g1 (u1.resolve_left c)
  · by_cases c3 : x1 = 3
    · obtain ⟨u, u1, u2⟩ := bit (0 < M 37 k) inferInstance
      refine ⟨u, u1, fun V Qr Qt hV hW g0 g1 => b_48_41 (Tr_mono _) hV hW _ _ _ _ _ ?_, fun V Qr Qt hV hW g0 g1 => b_393_55 (Tr_mono _) hV hW _ _ _ _ _ ?_, fun e => absurd e c4⟩
      · rw [if_pos k1, if_neg c4, if_pos c3]
        refine ⟨by omega, ?_⟩
        by_cases c : M 37 k ≤ 0
        · rw [if_pos c, if_pos rfl, wk]; exact g0 (u1.resolve_right (fun e => by have := u2.1 e; omega))
        · rw [if_neg c, if_neg (by decide)]; exact g1 (u2.2 (by omega))
      · rw [if_pos (by omega), if_neg (by omega), if_neg (by omega), if_neg (by omega), if_pos c3, ← s6]
        refine ⟨by omega, ?_⟩
        by_cases c : M 37 k ≤ 0
        · rw [if_pos c, if_pos rfl, wk]; exact g0 (u1.resolve_right (fun e => by have := u2.1 e; omega))
        · rw [if_neg c, if_neg (by decide)]; exact g1 (u2.2 (by omega))
    · by_cases c2 : x1 = 2
      · obtain ⟨u, u1, u2⟩ := bit (0 < M 36 k) inferInstance
        refine ⟨u, u1, fun V Qr Qt hV hW g0 g1 => b_48_41 (Tr_mono _) hV hW _ _ _ _ _ ?_, fun V Qr Qt hV hW g0 g1 => b_393_55 (Tr_mono _) hV hW _ _ _ _ _ ?_, fun e => absurd e c4⟩
        · rw [if_pos k1, if_neg c4, if_neg c3, if_pos c2]
          refine ⟨by omega, ?_⟩
          by_cases c : M 36 k ≤ 0
          · rw [if_pos c, if_pos rfl, wk]; exact g0 (u1.resolve_right (fun e => by have := u2.1 e; omega))
          · rw [if_neg c, if_neg (by decide)]; exact g1 (u2.2 (by omega))
        · rw [if_pos (by omega), if_neg (by omega), if_neg (by omega), if_pos c2, ← s5]
          refine ⟨by omega, ?_⟩
          by_cases c : M 36 k ≤ 0
          · rw [if_pos c, if_pos rfl, wk]; exact g0 (u1.resolve_right (fun e => by have := u2.1 e; omega))
          · rw [if_neg c, if_neg (by decide)]; exact g1 (u2.2 (by omega))
      · by_cases c0 : x1 = 0
        · obtain ⟨u, u1, u2⟩ := bit (M 35 k = 0) inferInstance
          refine ⟨u, u1, fun V Qr Qt hV hW g0 g1 => b_48_41 (Tr_mono _) hV hW _ _ _ _ _ ?_, fun V Qr Qt hV hW g0 g1 => b_393_55 (Tr_mono _) hV hW _ _ _ _ _ ?_, fun e => absurd e c4⟩
          · rw [if_pos k1, if_neg c4, if_neg c3, if_neg c2]
            refine ⟨by omega, ?_⟩
            by_cases c : M 35 k = 0
            · rw [if_pos c, if_pos c0, if_neg (by decide)]; exact g1 (u2.2 c)
            · rw [if_neg c, if_pos rfl, wk]; exact g0 (u1.resolve_right (fun e => c (u2.1 e)))
          · rw [if_pos (by omega), if_pos c0, ← s4]
            refine ⟨by omega, ?_⟩
            by_cases c : M 35 k = 0
            · rw [if_pos c, if_neg (by decide)]; exact g1 (u2.2 c)
            · rw [if_neg c, if_pos rfl, wk]; exact g0 (u1.resolve_right (fun e => c (u2.1 e)))
        · have c1 : x1 = 1 := by omega
          obtain ⟨u, u1, u2, u3⟩ := x_49 (ty := -1) (s := 0) hP a1 (k := k) (by omega) a4
          obtain ⟨v, v1, v2, v3⟩ := q_394 (s := 0) a1 (by omega)
          have e := bv_eq u1 v1 u2 v2
          subst e
          by_cases c : M 35 k = 0
          · refine ⟨u, u1, fun V Qr Qt hV hW g0 g1 => b_48_41 (Tr_mono _) hV hW _ _ _ _ _ ?_, fun V Qr Qt hV hW g0 g1 => b_393_55 (Tr_mono _) hV hW _ _ _ _ _ ?_, fun e => absurd e c4⟩
            · rw [if_pos k1, if_neg c4, if_neg c3, if_neg c2, if_pos c, if_neg c0]
              refine ⟨by omega, u3 _ _ (ri_i ?_)⟩
              by_cases cu : u = 0
              · rw [if_pos cu, if_pos rfl, wk]; exact g0 cu
              · rw [if_neg cu, if_neg (by decide)]; exact g1 (u1.resolve_left cu)
            · rw [if_pos (by omega), if_neg c0, if_pos c1, ← s4, if_pos c]
              refine ⟨by omega, v3 _ _ (ri_i ?_)⟩
              by_cases cu : u = 0
              · rw [if_pos cu, if_pos rfl, wk]; exact g0 cu
              · rw [if_neg cu, if_neg (by decide)]; exact g1 (u1.resolve_left cu)
          · refine ⟨0, .inl rfl, fun V Qr Qt hV hW g0 g1 => b_48_41 (Tr_mono _) hV hW _ _ _ _ _ ?_, fun V Qr Qt hV hW g0 g1 => b_393_55 (Tr_mono _) hV hW _ _ _ _ _ ?_, fun e => absurd e c4⟩
            · rw [if_pos k1, if_neg c4, if_neg c3, if_neg c2, if_neg c, if_pos rfl, wk]
              exact ⟨by omega, g0 rfl⟩
            · rw [if_pos (by omega), if_neg c0, if_pos c1, ← s4, if_neg c, if_pos rfl, wk]
              exact ⟨by omega, g0 rfl⟩
theorem fs_l [Inhabited fz_] (hP : PLr M N) (ht : TSR M N B) (h1 : 0 ≤ x1 ∧ x1 ≤ 4) (h2 : x1 = 4 → 0 ≤ x2) : ∀ (j : Nat) (k : Int), k + j = M 0 62 → 0 ≤ k → ∃ v, (∀ (V : vv_) (Qr : qr_) (Qt : qt_), Cl_ wd0 (Tr_ wd0 pg0 1) V Qr Qt m_48 → Wk_ V → Qr [.inl v] M → V 41 [rr 0, ii x1, ii x2, ii x3, ii k, none] [] M) ∧ (∀ (V : vv_) (Qr : qr_) (Qt : qt_), Cl_ wd0 (Tr_ wd0 pg0 2) V Qr Qt m_393 → Wk_ V → Qr [.inl v] N → V 55 [rr 6, ii x1, ii x2, ii x3, ii k, none] [] N) ∧ (x1 = 4 → (∀ k i, 0 ≤ k → k < M 0 62 → 0 ≤ i → i < rwk N k 0 → ¬ HOc (rwk N k) x2 x3 i) → v = -1) := fun j => by
  obtain ⟨e62, hk⟩ := TSR_k ht
  induction j with
  | zero =>
    intro k hj k0
    refine ⟨-1, fun V Qr Qt hV hW g => b_48_41 (Tr_mono _) hV hW _ _ _ _ _ ?_, fun V Qr Qt hV hW g => b_393_55 (Tr_mono _) hV hW _ _ _ _ _ ?_, fun _ _ => rfl⟩
    · rw [if_neg (by omega)]; exact g
    · rw [if_neg (by omega)]; exact g
  | succ j ih =>
    intro k hj k0
    obtain ⟨u, u1, u2, u3, u4⟩ := fs_1 (x3 := x3) hP (hk k k0 (by omega)) k0 (by omega) e62 h1 h2
    rcases u1 with e | e
    · obtain ⟨v, v1, v2, v3⟩ := ih (k + 1) (by omega) (by omega)
      exact ⟨v, fun V Qr Qt hV hW g => u2 V Qr Qt hV hW (fun _ => v1 V Qr Qt hV hW g) (fun e1 => by omega), fun V Qr Qt hV hW g => u3 V Qr Qt hV hW (fun _ => v2 V Qr Qt hV hW g) (fun e1 => by omega), v3⟩
    · refine ⟨k, fun V Qr Qt hV hW g => u2 V Qr Qt hV hW (fun e1 => by omega) (fun _ => g), fun V Qr Qt hV hW g => u3 V Qr Qt hV hW (fun e1 => by omega) (fun _ => g), fun c4 hno => ?_⟩
      obtain ⟨i, hi, ho⟩ := (u4 c4).1 e
      exact absurd ho (hno k i k0 (by omega) hi.1 hi.2)
theorem j_48 [Inhabited fz_] (h : LKR M N) (hs : M 0 4 = 1 → TSR M N B) : SM2 2 48 [.inr (.inr 0), .inl x1, .inl x2, .inl x3] 3 393 [.inr (.inr 6), .inl x1, .inl x2, .inl x3] M N := by
  by_cases c0 : M 0 4 = 0
  · have c0' : N 6 126 = 0 := by rcases h with h | h; exact h.2; have := h.2.1; omega
    refine ⟨-1, fun Qr Qt g => t_48 fun V hV hW => b_48_0 (Tr_mono _) hV hW _ _ _ _ fun _ => ?_, fun Qr Qt g => t_393 fun V hV hW => b_393_0 (Tr_mono _) hV hW _ _ _ _ fun _ => ?_⟩
    · rw [if_pos c0]; exact g
    · rw [if_pos c0']; exact g
  obtain ⟨st, r1, r2⟩ := h.resolve_left (fun e => c0 e.1)
  have ht := hs r1
  have hP := st.2.1
  have p6 := hP.1.2.2
  rw [tbN_6 (by decide), swc_5] at p6
  have n62 : 0 ≤ M 0 62 := by rcases ht with a | ⟨n, a⟩; omega; have := a.1.1; have := a.2.1; omega
  by_cases c : x1 < 0 ∨ ¬ x1 ≤ 4 ∨ (x1 = 4 ∧ (x2 < 0 ∨ ¬ x2 < M 4 2))
  · refine ⟨-1, fun Qr Qt g => t_48 fun V hV hW => b_48_0 (Tr_mono _) hV hW _ _ _ _ fun _ => ?_, fun Qr Qt g => t_393 fun V hV hW => b_393_0 (Tr_mono _) hV hW _ _ _ _ fun _ => ?_⟩
    · rw [if_neg c0]
      by_cases d1 : x1 < 0
      · rw [if_pos d1]; exact g
      rw [if_neg d1]
      by_cases d2 : x1 ≤ 4
      · rw [if_pos d2, if_pos (by omega)]
        by_cases d3 : x2 < 0
        · rw [if_pos d3]; exact g
        · rw [if_neg d3, if_neg (by omega)]; exact g
      · rw [if_neg d2]; exact g
    · rw [if_neg (by omega)]
      by_cases d1 : x1 < 0
      · rw [if_pos d1]; exact g
      rw [if_neg d1]
      by_cases d2 : x1 ≤ 4
      · rw [if_pos d2, if_pos (by omega)]
        by_cases d3 : x2 < 0
        · rw [if_pos d3]; exact g
        · rw [if_neg d3, if_neg (by omega)]; exact g
      · rw [if_neg d2]; exact g
  · obtain ⟨v, v1, v2, v3⟩ := fs_l (x1 := x1) (x2 := x2) (x3 := x3) hP ht (by omega) (by omega) (M 0 62).toNat 0 (by omega) (by decide)
    have x48 : Ex_ 2 48 [.inr (.inr 0), .inl x1, .inl x2, .inl x3] M [.inl v] M := fun Qr Qt g => t_48 fun V hV hW => b_48_0 (Tr_mono _) hV hW _ _ _ _ fun _ => by
      rw [if_neg c0, if_neg (by omega), if_pos (by omega)]
      have := v1 V Qr Qt hV hW g
      by_cases d : x1 = 4
      · rw [if_pos d, if_neg (by omega), if_pos (by omega)]; exact this
      · rw [if_neg d]; exact this
    by_cases d : x1 = 4 ∧ (x3 < -1 ∨ ¬ x3 < N 174 x2)
    · have ev : v = -1 := v3 d.1 (fun k i k0 k1 i0 i1 ho => by
        obtain ⟨e62, hk⟩ := TSR_k ht
        obtain ⟨_, ⟨a1, _⟩, _⟩ := hk k k0 k1
        have vs := (a1.2.1 i i0 i1).1.2.2
        rcases ho with ⟨_, e1, e2⟩ | ⟨e, _⟩
        · rw [e1, e2] at vs; omega
        · omega)
      subst ev
      refine ⟨-1, x48, fun Qr Qt g => t_393 fun V hV hW => b_393_0 (Tr_mono _) hV hW _ _ _ _ fun _ => ?_⟩
      rw [if_neg (by omega), if_neg (by omega), if_pos (by omega), if_pos d.1, if_neg (by omega), if_pos (by omega)]
      by_cases d3 : x3 < -1
      · rw [if_pos d3]; exact g
      · rw [if_neg d3, if_neg (by omega)]; exact ⟨by omega, g⟩
    · refine ⟨v, x48, fun Qr Qt g => t_393 fun V hV hW => b_393_0 (Tr_mono _) hV hW _ _ _ _ fun _ => ?_⟩
      rw [if_neg (by omega), if_neg (by omega), if_pos (by omega)]
      have := v2 V Qr Qt hV hW g
      by_cases d4 : x1 = 4
      · rw [if_pos d4, if_neg (by omega), if_pos (by omega), if_neg (by omega), if_pos (by omega)]; exact ⟨by omega, this⟩
      · rw [if_neg d4]; exact this
/-- a state is visited -/
theorem RU_vis [Inhabited fz_] (h : RU 0 M N) (hv : VR N f) (hu : UF M M1) (h7 : M1 0 7 = f 0) (h8 : M1 0 8 = f 1) (hS : ∀ j, 0 ≤ j → j < f 0 → SLD M1 f j) (hR : ∀ j, 0 ≤ j → j < N 6 18 → ROD M1 f j) {Nw : mm_} (hr : ∀ r : Nat, r ≠ 6 → r ≠ 239 → Nw r = N r) (h6 : ∀ i : Int, i ≠ 130 → Nw 6 i = N 6 i) (hz : ∀ i, 0 ≤ i → i < 1104 → Nw 239 i = svF f (FSI (wr_ N 239 (ldF (N 239) f)) (fun c => 0 ≤ c)) (N 6 128) i) : RU 0 (up_ M1 0 11 0) Nw := by
  obtain ⟨h1, h2, h3, h4, h5⟩ := h
  obtain ⟨⟨f1, f1'⟩, f2, f3, f4, f5⟩ := hv
  have h18 := h2.1
  have n9 := h3.2.1
  generalize hA : wr_ N 239 (ldF (N 239) f) = A at hz
  have ea : ∀ i, 0 ≤ i → i < 1104 → A 239 i = f i := fun i i0 i1 => by rw [← hA, wr_same]; unfold ldF; rw [if_pos ⟨i0, i1⟩]
  have e18 : A 6 18 = N 6 18 := by rw [← hA, wr_ne (by decide)]
  have hro : ∀ r, 0 ≤ r → r < A 6 18 → 0 ≤ A 239 (sR r) ∧ A 239 (sR r) ≤ 6 := fun r r0 r1 => by
    have hR' : sR r = 674 + 43 * r := rfl
    rw [e18] at r1
    rw [ea _ (by omega) (by omega)]; exact (f4 r r0 r1).1
  have e0 := ea 0 (by decide) (by decide)
  have rz : ∀ j, RSI A (A 6 18) 0 j → 674 ≤ j ∧ (j - 674) % 43 ≠ 0 := fun j hj => RSI_z hro (by omega) (by omega) (by decide) hj
  have cz : ∀ j, CKI A (fun c => 0 ≤ c) (A 239 0) 0 j → 24 ≤ j ∧ (j - 2) % 56 < 25 ∧ 22 ≤ (j - 2) % 56 ∧ (j < sB (A 239 0) + 22 + 0) := fun j hj => CKI_z (by omega) (by decide) hj
  have hB0 : sB (A 239 0) = 2 + 56 * A 239 0 := rfl
  have out : ∀ j, 0 ≤ j → j < 1104 → ¬ FSI A (fun c => 0 ≤ c) j → Nw 239 j = f j := fun j j0 j1 hj => by rw [hz j j0 j1, svF_out hj]
  have g0 : Nw 239 0 = f 0 := out 0 (by decide) (by decide) (fun hj => by rcases hj with hj | hj; have := rz _ hj; omega; have := cz _ hj; omega)
  have g1 : Nw 239 1 = f 1 := out 1 (by decide) (by decide) (fun hj => by rcases hj with hj | hj; have := rz _ hj; omega; have := cz _ hj; omega)
  have s1 : ∀ k i, 0 ≤ k → k < 12 → 0 ≤ i → i < 56 → (i < 22 ∨ 25 ≤ i) → Nw 239 (sB k + i) = f (sB k + i) := fun k i k0 k1 i0 i1 hi => by
    have hB : sB k = 2 + 56 * k := rfl
    refine out _ (by omega) (by omega) (fun hj => ?_)
    rcases hj with hj | hj
    · have := rz _ hj; omega
    · have := cz _ hj; omega
  have zr : ∀ r : Nat, r ≠ 0 → up_ M1 0 11 0 r = M1 r := fun r c => up_ne c
  have z0 : ∀ i : Int, i ≠ 11 → up_ M1 0 11 0 0 i = M1 0 i := fun i c => upo c
  refine ⟨⟨?_, ?_, fun k k0 k1 => ?_, fun k k0 k1 i i0 i1 => ?_⟩, ⟨?_, fun r r0 r1 => ?_, fun r r0 r1 i i0 i1 => ?_⟩, RSC_c h3 (fun i hi => by rw [z0 i (fun c => by rw [c] at hi; revert hi; decide)]; exact hu.2 i (by revert hi; simp only [List.mem_cons, List.not_mem_nil, or_false]; omega)) (fun i hi => h6 i (fun c => by rw [c] at hi; revert hi; decide)), ROU_c h4 (fun i hi => by rw [z0 i (fun c => by rw [c] at hi; revert hi; decide)]; exact hu.2 i (by revert hi; simp only [List.mem_cons, List.not_mem_nil, or_false]; omega)) (by rw [zr 24 (by decide)]; exact hu.1 24 (by decide)) (fun i hi => h6 i (fun c => by rw [c] at hi; revert hi; decide)) (hr 241 (by decide) (by decide)), REV_c h5 (fun i hi => by rw [z0 i (fun c => by rw [c] at hi; revert hi; decide)]; exact hu.2 i (by revert hi; simp only [List.mem_cons, List.not_mem_nil, or_false]; omega)) (by rw [zr 23 (by decide)]; exact hu.1 23 (by decide)) (fun i hi => h6 i (fun c => by rw [c] at hi; revert hi; decide)) (hr 240 (by decide) (by decide))⟩
  · rw [z0 7 (by decide), h7, g0]; omega
  · rw [z0 8 (by decide), h8, g1]; exact ⟨rfl, f1'⟩
  · rw [z0 7 (by decide), h7] at k1
    obtain ⟨⟨d1, d2, d3, d4, d5, d6⟩, dc, dt, dq, dl⟩ := hS k k0 k1
    obtain ⟨v1, v2, v3, v4, v5⟩ := f2 k k0 k1
    have hB : sB k = 2 + 56 * k := rfl
    have s := fun i i0 i1 hi => s1 k i k0 (by omega) i0 i1 hi
    have w0 := s 0 (by decide) (by decide) (by decide)
    rw [Int.add_zero] at w0
    unfold IN
    rw [zr 10 (by decide), zr 11 (by decide), zr 12 (by decide), zr 13 (by decide), zr 14 (by decide), zr 15 (by decide), zr 16 (by decide), zr 17 (by decide), zr 18 (by decide), zr 19 (by decide), zr 20 (by decide), z0 8 (by decide), h8, h6 19 (by decide), hr 172 (by decide) (by decide), hr 173 (by decide) (by decide), hr 174 (by decide) (by decide), d1, d2, d3, d4, d5, d6, dq, w0, s 1 (by decide) (by decide) (by decide), s 2 (by decide) (by decide) (by decide), s 3 (by decide) (by decide) (by decide), s 4 (by decide) (by decide) (by decide), s 5 (by decide) (by decide) (by decide), s 25 (by decide) (by decide) (by decide)]
    refine ⟨⟨rfl, rfl, rfl, rfl, rfl, rfl⟩, v1, ⟨fun i i0 i1 => ?_, fun i i0 i1 i2 => ?_⟩, fun t t0 t1 => ?_, ⟨v4.1, v4.2, rfl⟩, fun i i0 i1 => ?_, fun i i0 i1 => ?_⟩
    · rw [dc i i0 i1, show sB k + 6 + i = sB k + (6 + i) by omega, s (6 + i) (by omega) (by omega) (by omega)]
    · rw [show sB k + 6 + i = sB k + (6 + i) by omega, s (6 + i) (by omega) (by omega) (by omega), show sB k + (6 + i) = sB k + 6 + i by omega]; exact v2 i i0 i1 i2
    · obtain ⟨t16, t17⟩ := dt t t0 t1
      rw [hu.2 9 (by decide)] at t17
      have nr : ¬ RSI A (A 6 18) 0 (sB k + 22 + t) := fun hj => by have := rz _ hj; omega
      rcases (v3 t t0 t1).1 with c | c
      · have ec : Nw 239 (sB k + 22 + t) = N 6 128 := by
          rw [hz _ (by omega) (by omega), svF_in (.inr (.inl ⟨k, t, ⟨k0, by omega⟩, ⟨t0, t1⟩, by show 0 ≤ A 239 (sB k + 22 + t); rw [ea _ (by omega) (by omega)]; omega, rfl⟩))]
        rw [c, if_pos (by decide)] at t16
        rw [t16, t17, ec]
        exact ⟨.inl ⟨rfl, by omega, .inl ⟨rfl, by omega⟩⟩, fun hh => by have := (v3 t t0 t1).2 hh; omega⟩
      · have ec : Nw 239 (sB k + 22 + t) = -1 := by
          rw [out _ (by omega) (by omega) (fun hj => ?_)]
          · exact c
          · rcases hj with hj | hj
            · exact nr hj
            · rcases hj with ⟨k', t', q1, q2, q3, q4⟩ | ⟨t', q1, _⟩
              · have q3' : 0 ≤ A 239 (sB k + 22 + t) := q3
                rw [ea _ (by omega) (by omega)] at q3'; omega
              · omega
        rw [c, if_neg (by decide)] at t16
        rw [t16, ec]
        exact ⟨.inr ⟨rfl, rfl⟩, fun _ => rfl⟩
    · rw [dl i i0 i1, show sB k + 26 + i = sB k + (26 + i) by omega, s (26 + i) (by omega) (by omega) (by omega)]
    · rw [show sB k + 26 + i = sB k + (26 + i) by omega, s (26 + i) (by omega) (by omega) (by omega), show sB k + (26 + i) = sB k + 26 + i by omega]; exact v5 i i0 i1
  · rw [z0 7 (by decide), h7] at k0
    have hB : sB k = 2 + 56 * k := rfl
    rw [out _ (by omega) (by omega) (fun hj => ?_)]
    · exact f3 k k0 k1 i i0 i1
    · rcases hj with hj | hj
      · have := rz _ hj; omega
      · have := cz _ hj; omega
  · rw [h6 18 (by decide)]; exact h18
  · rw [h6 18 (by decide)] at r1
    have hR' : sR r = 674 + 43 * r := rfl
    obtain ⟨o1, o2⟩ := hR r r0 r1
    obtain ⟨q1, q2, q3⟩ := f4 r r0 r1
    have nc : ∀ i, 0 ≤ i → ¬ CKI A (fun c => 0 ≤ c) (A 239 0) 0 (sR r + i) := fun i i0 hj => by have := cz _ hj; omega
    have other : ∀ i, 0 ≤ i → i < 43 → (∀ q, 0 ≤ q → q < f (sR r) → i ≠ 1 + 7 * q + 3) → Nw 239 (sR r + i) = f (sR r + i) := fun i i0 i1 hi => out _ (by omega) (by omega) (fun hj => by
      rcases hj with hj | hj
      · rcases hj with ⟨r', q', x1, x2, x3⟩ | ⟨q', x1, _⟩
        · have h' := hro r' x1.1 x1.2
          have er : r' = r := by unfold sR at x3; omega
          subst er
          rw [ea _ (by omega) (by omega)] at x2
          exact hi q' x2.1 x2.2 (by omega)
        · omega
      · exact nc i i0 hj)
    have e0' := other 0 (by decide) (by decide) (fun q a b => by omega)
    rw [Int.add_zero] at e0'
    unfold RO
    rw [zr 21 (by decide), zr 22 (by decide), e0', o1]
    refine ⟨⟨q1.1, q1.2, rfl⟩, fun q q0 q1' => ⟨fun j j0 j1 j3 => ?_, ?_, fun _ => ?_, fun z => absurd z (by decide)⟩, fun i i0 i1 => ?_⟩
    · rw [(o2 q q0 q1').1 j j0 j1 j3]
      have := other (1 + 7 * q + j) (by omega) (by omega) (fun q' a b => by omega)
      rw [show sR r + (1 + 7 * q + j) = sR r + 1 + 7 * q + j by omega] at this; exact this.symm
    · rw [(o2 q q0 q1').2, hu.2 9 (by decide)]; omega
    · rw [(o2 q q0 q1').2, hu.2 9 (by decide), hz _ (by omega) (by omega), svF_in (.inl (.inl ⟨r, q, ⟨r0, by omega⟩, ⟨q0, by rw [ea _ (by omega) (by omega)]; exact q1'⟩, rfl⟩))]; exact n9.1
    · have := other (1 + i) (by omega) (by omega) (fun q' a b => by omega)
      rw [show sR r + (1 + i) = sR r + 1 + i by omega] at this
      rw [this]; exact q3 i i0 i1
  · rw [h6 18 (by decide)] at r0
    have hR' : sR r = 674 + 43 * r := rfl
    rw [out _ (by omega) (by omega) (fun hj => ?_)]
    · exact f5 r r0 r1 i i0 i1
    · rcases hj with hj | hj
      · rcases hj with ⟨r', q', x1, x2, x3⟩ | ⟨q', x1, _⟩
        · have h' := hro r' x1.1 x1.2
          unfold sR at x3; omega
        · omega
      · have := cz _ hj; omega
theorem j_50 [Inhabited fz_] (h : RNS M N) (ht : TSR M N B) (hB : B + 40000 ≤ 2000000000) : ∃ v M' N', Ex_ 3 50 [.inr (.inr 0), .inl x1] M [.inl v] M' ∧ Ex_ 2 396 [.inr (.inr 6), .inl x1] N [.inl v] N' ∧ RNS M' N' ∧ ((∀ r : Nat, r ∉ xuL → M' r = M r) ∧ (∀ i : Int, i ∉ 11 :: 65 :: xfL → M' 0 i = M 0 i) ∧ (∀ r : Nat, r ∉ quL → N' r = N r) ∧ ∀ i : Int, i ∉ 130 :: qfL → N' 6 i = N 6 i) ∧ (M' 0 8 = M 0 8 ∨ M' 0 8 ≤ B + 40000) ∧ TSR M' N' B := by
  obtain ⟨st, r1, r2⟩ := h
  obtain ⟨e62, hk⟩ := TSR_k ht
  by_cases c : x1 < 0 ∨ ¬ x1 < M 0 62
  · refine ⟨0, M, N, fun Qr Qt g => t_50 fun V hV hW => b_50_0 (Tr_mono _) hV hW _ _ fun _ => ?_, fun Qr Qt g => t_396 fun V hV hW => b_396_0 (Tr_mono _) hV hW _ _ fun _ => ?_, ⟨st, r1, r2⟩, ⟨fun _ _ => rfl, fun _ _ => rfl, fun _ _ => rfl, fun _ _ => rfl⟩, .inl rfl, ht⟩
    · rw [if_neg (by omega)]
      by_cases c1 : x1 < 0
      · rw [if_pos c1]; exact g
      · rw [if_neg c1, if_neg (by omega)]; exact g
    · rw [if_neg (by omega)]
      by_cases c1 : x1 < 0
      · rw [if_pos c1]; exact g
      · rw [if_neg c1, if_neg (by omega)]; exact g
  · obtain ⟨k2, ⟨a1, a2, a3, ⟨a4, a4'⟩, a5⟩, sq⟩ := hk x1 (by omega) (by omega)
    obtain ⟨hR, hP, hA, hw⟩ := st
    obtain ⟨M1, x41, u, ⟨h7, h8⟩, d1, d2⟩ := x_41 hP a1 (k := x1) (by omega) a4
    have h18 := hR.2.1.1
    have q386 := q_386 (N := N) (k := x1) (by omega)
    have eld : ldF (N 239) (fun i => N 245 (1104 * x1 + i)) = ldF (N 239) (rwk N x1) := by
      funext i; unfold ldF rwk
      by_cases c : 0 ≤ i ∧ i < 1104
      · rw [if_pos c, if_pos c, if_pos c]
      · rw [if_neg c, if_neg c]
    rw [eld] at q386
    generalize hA1 : wr_ N 239 (ldF (N 239) (rwk N x1)) = A at q386
    have ea : ∀ i, 0 ≤ i → i < 1104 → A 239 i = rwk N x1 i := fun i i0 i1 => by rw [← hA1, wr_same]; unfold ldF; rw [if_pos ⟨i0, i1⟩]
    have ar : ∀ r : Nat, r ≠ 239 → A r = N r := fun r c => by rw [← hA1, wr_ne c]
    have hro : ∀ r, 0 ≤ r → r < A 6 18 → 0 ≤ A 239 (sR r) ∧ A 239 (sR r) ≤ 6 := fun r r0 r1 => by
      have hR' : sR r = 674 + 43 * r := rfl
      rw [ar 6 (by decide)] at r1
      rw [ea _ (by omega) (by omega)]; exact (a1.2.2.2.1 r r0 r1).1
    have n12 : 0 ≤ A 239 0 ∧ A 239 0 ≤ 12 := by rw [ea 0 (by decide) (by decide)]; exact a1.1.1
    have b18 : 0 ≤ A 6 18 ∧ A 6 18 ≤ 10 := by rw [ar 6 (by decide)]; exact h18
    have e128 : A 6 128 = N 6 128 := by rw [ar 6 (by decide)]
    generalize hNw : up_ (svM A (FSI A (fun c => 0 ≤ c)) (N 6 128)) 6 130 0 = Nw
    have wr : ∀ r : Nat, r ≠ 6 → r ≠ 239 → Nw r = N r := fun r c1 c2 => by rw [← hNw, up_ne c1, svM_r c2, ar r c2]
    have w6 : ∀ i : Int, i ≠ 130 → Nw 6 i = N 6 i := fun i c => by rw [← hNw, upo c, svM_r (by decide), ar 6 (by decide)]
    have w239 : Nw 239 = svF (A 239) (FSI A (fun c => 0 ≤ c)) (N 6 128) := by rw [← hNw, up_ne (by decide)]; unfold svM; rw [wr_same]
    have n9 := hR.2.2.1.2.1
    have ru : RU 0 (up_ M1 0 11 0) Nw := RU_vis hR a1 u h7 h8 d1 d2 wr w6 (fun i i0 i1 => by
      rw [hA1, w239]
      by_cases c : FSI A (fun c => 0 ≤ c) i
      · rw [svF_in c, svF_in c]
      · rw [svF_out c, svF_out c, ea i i0 i1])
    have tA : TYA A := by rw [← hA1]; exact TYA_un hA a2 a1.1.1
    have tW : TYA Nw := TYA_sv2 (P := fun c => 0 ≤ c) (v := N 6 128) b18 n12 hro tA ⟨fun r hr => by rw [wr r (fun c => by rw [c] at hr; revert hr; decide) (fun c => by rw [c] at hr; revert hr; decide), ar r (fun c => by rw [c] at hr; revert hr; decide)], by rw [w6 18 (by decide), ar 6 (by decide)], by rw [w6 17 (by decide), ar 6 (by decide)]⟩ w239 (by unfold R32; omega)
    have xr : ∀ r : Nat, r ∉ xuL → up_ M1 0 11 0 r = M r := fun r hr => by rw [up_ne (fun c => hr (by rw [c]; decide))]; exact u.1 r (fun c => hr (by revert c; simp only [xuL, List.mem_cons, List.not_mem_nil, or_false]; omega))
    have x0 : ∀ i : Int, i ∉ 11 :: 65 :: xfL → up_ M1 0 11 0 0 i = M 0 i := fun i hi => by rw [upo (fun c => hi (by rw [c]; decide))]; exact u.2 i (fun c => hi (by revert c; simp only [xfL, List.mem_cons, List.not_mem_nil, or_false]; omega))
    have q0 : ∀ r : Nat, r ∉ quL → Nw r = N r := fun r hr => wr r (fun c => hr (by rw [c]; decide)) (fun c => hr (by rw [c]; decide))
    have qf : ∀ i : Int, i ∉ 130 :: qfL → Nw 6 i = N 6 i := fun i hi => w6 i (fun c => hi (by rw [c]; decide))
    have Pw : PLr (up_ M1 0 11 0) Nw := by
      have e1 : swc (up_ M1 0 11 0) = swc M := by
        funext r
        unfold swc
        split
        · exact xr 4 (by decide)
        · split
          · rename_i c
            exact xr _ (fun e => by simp only [xuL, List.mem_cons, List.not_mem_nil, or_false] at e; omega)
          · rfl
      have e2 : tbN Nw = tbN N := by
        funext r
        unfold tbN
        split
        · funext i
          split
          · rename_i hi
            exact w6 i (fun e => by rw [e] at hi; revert hi; decide)
          · rfl
        · split
          · rename_i c c'
            exact wr r c (by omega)
          · rfl
      unfold PLr; rw [e1, e2]; exact hP
    have ts : TSR (up_ M1 0 11 0) Nw B := by
      rcases ht with ⟨t1, t2⟩ | ⟨n, S⟩
      · omega
      · exact .inr ⟨n, SST_c S (x0 62 (by decide)) (w6 163 (by decide)) (fun r hr k _ _ _ => by rw [xr r (fun c => by revert hr c; simp only [xuL, List.mem_cons, List.not_mem_nil, or_false]; omega)]) (fun r hr => wr r (fun c => by rw [c] at hr; revert hr; decide) (fun c => by rw [c] at hr; revert hr; decide)) (w6 18 (by decide)) ⟨w6 19 (by decide), w6 17 (by decide)⟩ (fun k k0 k1 => pkL_len (PKB_of hP) (S.2.2 k k0 k1).1.1)⟩
    refine ⟨1, up_ M1 0 11 0, Nw, fun Qr Qt g => t_50 fun V hV hW => b_50_0 (Tr_mono _) hV hW _ _ fun _ => ?_, fun Qr Qt g => t_396 fun V hV hW => b_396_0 (Tr_mono _) hV hW _ _ fun _ => ?_, ⟨⟨ru, Pw, tW, by rw [up_at, ← hNw, up_at]⟩, by rw [x0 4 (by decide)]; exact r1, by rw [w6 126 (by decide)]; exact r2⟩, ⟨xr, x0, q0, qf⟩, .inr ?_, ts⟩
    · rw [if_neg (by omega), if_neg (by omega), if_pos (by omega)]
      exact x41 _ _ (rv_i g)
    · rw [if_neg (by omega), if_neg (by omega), if_pos (by omega)]
      refine q386 _ _ (rv_i (q_396v hV hW n12 hro b18 e128 ?_))
      rw [hNw]; exact g
    · rw [upo (by decide), h8]; omega
end FVa
end T420_fv
section T421_tb
/-! X's tokens of a chart: the lemmas of role 2 turned to role 3 (written by mk421.py) -/
section TK
variable {d : Nat} {M : mm_} {K : Int → mm_ → Prop} {Kv : mm_ → Prop} {Qt : qt_}
theorem s_193b {x : Int} (h0 : 0 ≤ x) (hn : M 3 5 ≤ 5000) (h : K (by_ (M 74) (M 3 5) x) M) : Tr_ wd0 pg0 (d + 1) 193 [.inr (.inr 3), .inl x] M (ri_ K) Qt := t_193b fun V hV hW => b_193b_0 (Tr_mono d) hV hW x M (by
  unfold by_ at h
  split
  · rename_i h1
    rw [if_pos h1] at h
    exact ⟨by omega, fun h2 => ri_i (by rw [an255 h2.1 h2.2]; exact h)⟩
  · rename_i h1
    rw [if_neg h1] at h
    exact ri_i h)
end TK
section TK
variable {d : Nat} {K : Int → mm_ → Prop} {Kv : mm_ → Prop} {Qr : qr_} {Qt : qt_} {V : vv_}
theorem l_192b_21 (hV : Cl_ wd0 (Tr_ wd0 pg0 d) V Qr Qt m_192) (hW : Wk_ V) {x1 x2 : Int} : ∀ (k : Nat) (M : mm_), (M 3 5 - M 3 7).toNat ≤ k → 0 ≤ M 3 7 → M 3 5 ≤ 5000 → V 59 [rr 3, ii x1, ii x2] [] (up_ M 3 7 (cm_ (M 74) (M 3 5) (M 3 7))) → V 21 [rr 3, ii x1, ii x2] [] M := by
  intro k
  induction k with
  | zero =>
    intro M hk h0 h5 h
    refine b_192b_21 (Tr_mono d) hV hW x1 x2 M ?_
    rw [if_neg (by omega)]
    unfold cm_ at h
    rw [if_neg (by omega), up_id] at h
    exact h
  | succ k ih =>
    intro M hk h0 h5 h
    refine b_192b_21 (Tr_mono d) hV hW x1 x2 M ?_
    unfold cm_ at h
    split
    · refine ⟨by omega, fun _ => ?_⟩
      split
      · rename_i h1 h9 h2
        rw [if_neg (by omega), up_id] at h
        exact h
      · rename_i h1 h9 h2
        rw [if_pos ⟨h1, h2⟩] at h
        refine ih _ ?_ ?_ ?_ ?_ <;> simp only [ua_, if_true, if_false, reduceIte, Int.reduceEq, Nat.reduceEqDiff] <;> (try rw [w32_id (by omega) (by omega)])
        · omega
        · omega
        · omega
        · rw [up_up]; exact h
    · rename_i h1
      rw [if_neg (by omega), up_id] at h
      exact h
theorem l_192b_2 (hV : Cl_ wd0 (Tr_ wd0 pg0 (d + 1)) V Qr Qt m_192) (hW : Wk_ V) : ∀ (k : Nat) (M : mm_), (M 3 5 - M 3 7).toNat < k → 0 ≤ M 3 7 → M 3 7 ≤ M 3 5 → M 3 5 ≤ 5000 → (∀ i, 0 ≤ i → i < 5000 → -128 ≤ M 74 i ∧ M 74 i ≤ 127) → Qr [] (up_ M 3 7 (bk_ (M 74) (M 3 5) (M 3 7))) → V 2 [rr 3, ii 1, none] [] M := by
  intro k
  induction k with
  | zero => intro M hk; omega
  | succ k ih =>
    intro M hk h0 h7 h5 hb h
    have h2out : ∀ M', Qr [] M' → V 2 [rr 3, ii 0, none] [] M' := fun M' h' => b_192b_2 (Tr_mono _) hV hW 0 M' (by rw [if_pos rfl]; exact h')
    refine b_192b_2 (Tr_mono _) hV hW 1 M ?_
    rw [if_neg (by decide)]
    refine s_193b h0 h5 ?_
    unfold by_
    unfold bk_ at h
    by_cases ha : M 3 7 < M 3 5
    · have hb1 := hb (M 3 7) h0 (by omega)
      rw [if_pos ha]
      rw [if_pos ha] at h
      split
      · rename_i h9'
        have h9 : M 74 (M 3 7) = 35 := by omega
        rw [if_pos h9] at h
        have hc : cm_ (M 74) (M 3 5) (M 3 7) = cm_ (M 74) (M 3 5) (M 3 7 + 1) := by
          rw [cm_, if_pos ⟨ha, by omega⟩]
        have hg := cm_ge (M 74) (M 3 5) (M 3 7 + 1)
        have hl := cm_le (M 74) (M 3 5) (M 3 7 + 1) (by omega)
        refine l_192b_21 hV hW _ M (Nat.le_refl _) h0 h5 ?_
        rw [hc]
        refine b_192b_59 (Tr_mono _) hV hW _ _ _ ?_
        simp only [h9, Int.reduceMod, Int.reduceEq, if_false, if_true, reduceIte]
        refine b_192b_95 (Tr_mono _) hV hW _ _ _ ?_
        have hgo : V 2 [rr 3, ii 1, none] [] (up_ M 3 7 (cm_ (M 74) (M 3 5) (M 3 7 + 1))) := by
          refine ih _ ?_ ?_ ?_ ?_ ?_ ?_ <;> simp only [ua_, if_true, if_false, reduceIte, Int.reduceEq, Nat.reduceEqDiff]
          · omega
          · omega
          · omega
          · omega
          · exact hb
          · rw [up_up]; exact h
        simp only [Int.reduceEq, if_false, if_true, reduceIte, ite_self]
        exact hgo
      · rename_i h9'
        have h9 : ¬ M 74 (M 3 7) = 35 := by omega
        rw [if_neg h9] at h
        refine b_192b_59 (Tr_mono _) hV hW _ _ _ ?_
        have hgo : M 74 (M 3 7) = 9 ∨ M 74 (M 3 7) = 10 ∨ M 74 (M 3 7) = 13 ∨ M 74 (M 3 7) = 32 → V 95 [rr 3, ii 1, ii (M 74 (M 3 7) % 256)] [] M := by
          intro hx
          rw [if_pos hx] at h
          refine b_192b_95 (Tr_mono _) hV hW _ _ _ ?_
          rw [if_neg (by decide), if_pos ha, if_neg (by omega), w32_id (by omega) (by omega)]
          refine ih _ ?_ ?_ ?_ ?_ ?_ ?_ <;> simp only [ua_, if_true, if_false, reduceIte, Int.reduceEq, Nat.reduceEqDiff]
          · omega
          · omega
          · omega
          · omega
          · exact hb
          · rw [up_up]; exact h
        split
        · exact hgo (by omega)
        · split
          · exact hgo (by omega)
          · split
            · exact hgo (by omega)
            · split
              · exact hgo (by omega)
              · rw [if_neg (by omega), up_id] at h
                refine b_192b_95 (Tr_mono _) hV hW _ _ _ ?_
                rw [if_pos rfl]
                exact h2out _ h
    · rw [if_neg ha] at h ⊢
      rw [if_neg (by decide)]
      rw [up_id] at h
      refine b_192b_59 (Tr_mono _) hV hW _ _ _ ?_
      simp only [Int.reduceNeg, Int.reduceEq, if_false, reduceIte]
      refine b_192b_95 (Tr_mono _) hV hW _ _ _ ?_
      rw [if_pos rfl]
      exact h2out _ h
theorem s_192b {M : mm_} (h0 : 0 ≤ M 3 7) (h7 : M 3 7 ≤ M 3 5) (h5 : M 3 5 ≤ 5000) (hb : ∀ i, 0 ≤ i → i < 5000 → -128 ≤ M 74 i ∧ M 74 i ≤ 127) (h : Kv (up_ M 3 7 (bk_ (M 74) (M 3 5) (M 3 7)))) : Tr_ wd0 pg0 (d + 2) 192 [.inr (.inr 3)] M (rv_ Kv) Qt := t_192b fun V hV hW => b_192b_0 (Tr_mono _) hV hW M (l_192b_2 hV hW _ M (Nat.lt_succ_self _) h0 h7 h5 hb (rv_i h))
end TK
section TV
variable {d : Nat} {M : mm_} {K : Int → mm_ → Prop} {Kv : mm_ → Prop} {Qr : qr_} {Qt : qt_} {V : vv_}
theorem l_196b_5 (hV : Cl_ wd0 (Tr_ wd0 pg0 (d + 1)) V Qr Qt m_196) (hW : Wk_ V) {x1 : Int} (hx : 0 ≤ x1) : ∀ (k : Nat) (M : mm_), (M 3 5 - M 3 7).toNat ≤ k → x1 ≤ M 3 7 → M 3 7 ≤ M 3 5 → M 3 5 ≤ 5000 →
    (ne_ (M 74) (M 3 5) (M 3 7) - x1 ≤ 10 → V 80 [rr 3, ii x1, ii (ne_ (M 74) (M 3 5) (M 3 7) - x1), ii 0, ii 1, none, none, none] [] (up_ M 3 7 (ne_ (M 74) (M 3 5) (M 3 7)))) →
    (10 < ne_ (M 74) (M 3 5) (M 3 7) - x1 → Qr [.inl 103] (up_ M 3 7 (ne_ (M 74) (M 3 5) (M 3 7)))) → V 5 [rr 3, ii x1, none, none, none, none, none, none] [] M := by
  intro k
  induction k with
  | zero =>
    intro M hk h1 h2 h5 ha hb
    have hn : ne_ (M 74) (M 3 5) (M 3 7) = M 3 7 := by
      unfold ne_
      rw [dif_neg (fun h => by have := cd_by h; omega)]
    rw [hn, up_id] at ha hb
    have hby : by_ (M 74) (M 3 5) (M 3 7) = -1 := by unfold by_; rw [if_neg (by omega)]
    refine b_196b_5 (Tr_mono _) hV hW x1 M (s_193b (by omega) h5 (s_195 ?_))
    rw [hby, if_pos (by decide)]
    refine s_193b (by omega) h5 (s_197 ?_)
    rw [hby, if_pos (by decide)]
    refine s_193b (by omega) h5 ?_
    rw [hby, if_neg (by decide), w32_id (by omega) (by omega)]
    split
    · exact ha (by omega)
    · exact hb (by omega)
  | succ k ih =>
    intro M hk h1 h2 h5 ha hb
    have hgo : 0 < cd_ (by_ (M 74) (M 3 5) (M 3 7)) → V 5 [rr 3, ii x1, none, none, none, none, none, none] [] (up_ M 3 7 (w32 (M 3 7 + 1))) := by
      intro hc
      have hl := cd_by hc
      have hn : ne_ (M 74) (M 3 5) (M 3 7) = ne_ (M 74) (M 3 5) (M 3 7 + 1) := by rw [ne_, dif_pos hc]
      rw [hn] at ha hb
      rw [w32_id (by omega) (by omega)]
      refine ih _ ?_ ?_ ?_ ?_ ?_ ?_ <;> simp only [ua_, if_true, if_false, reduceIte, Int.reduceEq, Nat.reduceEqDiff, up_up]
      · omega
      · omega
      · omega
      · omega
      · exact ha
      · exact hb
    have hnp := @cd_pos (by_ (M 74) (M 3 5) (M 3 7))
    refine b_196b_5 (Tr_mono _) hV hW x1 M (s_193b (by omega) h5 (s_195 ?_))
    split
    · rename_i h6
      refine s_193b (by omega) h5 (s_197 ?_)
      split
      · rename_i h7
        refine s_193b (by omega) h5 ?_
        split
        · rename_i h8
          exact hgo (hnp.mpr (.inr (.inr h8)))
        · rename_i h8
          have hc : ¬ 0 < cd_ (by_ (M 74) (M 3 5) (M 3 7)) := fun h => by have := hnp.mp h; omega
          have hn : ne_ (M 74) (M 3 5) (M 3 7) = M 3 7 := by rw [ne_, dif_neg hc]
          rw [hn, up_id] at ha hb
          rw [w32_id (by omega) (by omega)]
          split
          · exact ha (by omega)
          · exact hb (by omega)
      · rename_i h7
        exact hgo (hnp.mpr (.inr (.inl (by revert h7; unfold dg_; split <;> simp))))
    · rename_i h6
      exact hgo (hnp.mpr (.inl (by revert h6; unfold sm_; split <;> simp)))
end TV
section TU
variable {d : Nat} {M : mm_} {K : Int → mm_ → Prop} {Kv : mm_ → Prop} {Qr : qr_} {Qt : qt_} {V : vv_}
theorem l_196b_120 (hr : RO_ M) (hV : Cl_ wd0 (Tr_ wd0 pg0 (d + 4)) V Qr Qt m_196) (hW : Wk_ V) {x1 n w k e : Int} (hx : 0 ≤ x1) (hn : x1 + n ≤ 5000) (hw : 0 ≤ w ∧ w < 48) (hk : 1 ≤ k) (he : e < 257) (hen : e - k = n) (h80 : V 80 [rr 3, ii x1, ii n, ii (w + 1), ii (e + 1), none, none, none] [] M ∨ ∀ j, 0 ≤ j → j < n → pAl (k + j) = M 74 (x1 + j)) (hq : (∀ j, 0 ≤ j → j < n → pAl (k + j) = M 74 (x1 + j)) → Qr [.inl w] M) :
    ∀ (c : Nat) (i : Int), (n - i).toNat ≤ c → 0 ≤ i → i ≤ n → (∀ j, 0 ≤ j → j < i → pAl (k + j) = M 74 (x1 + j)) → V 120 [rr 3, ii x1, ii n, ii w, ii k, ii e, ii 1, ii i] [] M := by
  intro c
  induction c with
  | zero =>
    intro i hc h0 hi hj
    have : i = n := by omega
    subst this
    refine b_196b_120 (Tr_mono _) hV hW x1 i w k e 1 i M ?_
    rw [if_neg (by omega), if_neg (by decide)]
    exact hq hj
  | succ c ih =>
    intro i hc h0 hi hj
    refine b_196b_120 (Tr_mono _) hV hW x1 n w k e 1 i M ?_
    by_cases h1 : i < n
    · rw [if_pos h1, if_neg (by decide), w32_id (x := k + i) (by omega) (by omega), w32_id (x := x1 + i) (by omega) (by omega)]
      refine s_425 hr (by omega) (by omega) (pAl_r (by omega) (by omega)) ⟨by omega, fun hb => ?_⟩
      rw [w32_id (x := i + 1) (by omega) (by omega)]
      split
      · rename_i h2
        refine ih _ (by omega) (by omega) (by omega) (fun j h3 h4 => ?_)
        by_cases h5 : j = i
        · subst h5; exact h2
        · exact hj j h3 (by omega)
      · rename_i h2
        refine b_196b_120 (Tr_mono _) hV hW x1 n w k e 0 (i + 1) M ?_
        simp only [if_true, reduceIte, ite_self]
        rw [w32_id (x := w + 1) (by omega) (by omega), w32_id (x := e + 1) (by omega) (by omega)]
        rcases h80 with h80 | h80
        · exact h80
        · exact absurd (h80 i h0 h1) h2
    · have : i = n := by omega
      subst this
      rw [if_neg (by omega), if_neg (by decide)]
      exact hq hj
theorem l_196b_80 (hr : RO_ M) (hV : Cl_ wd0 (Tr_ wd0 pg0 (d + 4)) V Qr Qt m_196) (hW : Wk_ V) {x1 n : Int} (hx : 0 ≤ x1) (h0 : 0 < n) (hn : x1 + n ≤ 5000) (hf : ∀ i, x1 ≤ i → i < x1 + n → 0 < cd_ (M 74 i % 256)) (hb : ∀ i, x1 ≤ i → i < x1 + n → -128 ≤ M 74 i ∧ M 74 i ≤ 127) :
    ∀ (c w : Nat), w + c = 48 → Qr [.inl (if pWi (hs_ (M 74) x1 n.toNat) c w < 48 then (pWi (hs_ (M 74) x1 n.toNat) c w : Int) else 100)] M → V 80 [rr 3, ii x1, ii n, ii (w : Int), ii (pWp w), none, none, none] [] M := by
  intro c
  induction c with
  | zero =>
    intro w hw h
    have hw : w = 48 := by omega
    subst hw
    refine b_196b_80 (Tr_mono _) hV hW x1 n _ _ M (s_420a hr ?_)
    have : pWp 48 = 257 := by decide
    rw [this, if_neg (by decide)]
    exact h
  | succ c ih =>
    intro w hw h
    have hw8 : w < 48 := by omega
    have hl := w_len hw8
    have hi := w_is hw8 (Int.le_of_lt h0) hf hb
    unfold pWi at h
    refine b_196b_80 (Tr_mono _) hV hW x1 n _ _ M (s_420a hr ?_)
    rw [if_pos (by omega)]
    refine s_422a hr (e := pWp (w + 1) - 1) (by omega) (by omega) (by omega) (w_no32 hw8) hl.2.2.2.1 ?_
    rw [w32_id (by omega) (by omega)]
    have hnext : pWh w ≠ hs_ (M 74) x1 n.toNat → V 80 [rr 3, ii x1, ii n, ii ((w : Int) + 1), ii (pWp (w + 1) - 1 + 1), none, none, none] [] M := by
      intro hne
      rw [if_neg hne] at h
      have := ih (w + 1) (by omega) h
      have h9 : pWp (w + 1) - 1 + 1 = pWp (w + 1) := by omega
      rw [h9]
      exact this
    split
    · rename_i h1
      refine l_196b_120 hr hV hW hx hn (by omega) (by omega) (by omega) h1 ?_ ?_ _ 0 (Nat.le_refl _) (by omega) (by omega) (fun j h3 h4 => by omega)
      · by_cases h2 : pWh w = hs_ (M 74) x1 n.toNat
        · exact .inr (hi.mp h2).2
        · exact .inl (hnext h2)
      · intro h2
        rw [if_pos (hi.mpr ⟨h1, h2⟩), if_pos hw8] at h
        exact h
    · rename_i h1
      have hne : pWh w ≠ hs_ (M 74) x1 n.toNat := fun h2 => h1 (hi.mp h2).1
      refine b_196b_120 (Tr_mono _) hV hW x1 n _ _ _ 0 0 M ?_
      simp only [if_true, reduceIte, ite_self]
      rw [w32_id (by omega) (by omega), w32_id (by omega) (by omega)]
      exact hnext hne
end TU
section TX
variable {d : Nat} {M : mm_} {K : Int → mm_ → Prop} {Kv : mm_ → Prop} {Qr : qr_} {Qt : qt_} {V : vv_}
theorem s_196b (hr : RO_ M) (h0 : 0 ≤ M 3 7) (h5 : M 3 5 ≤ 5000) (hb : ∀ i, 0 ≤ i → i < 5000 → -128 ≤ M 74 i ∧ M 74 i ≤ 127) (hc : 0 < cd_ (by_ (M 74) (M 3 5) (M 3 7))) (h : K (wk_ (M 74) (M 3 7) (ne_ (M 74) (M 3 5) (M 3 7))) (up_ M 3 7 (ne_ (M 74) (M 3 5) (M 3 7)))) : Tr_ wd0 pg0 (d + 5) 196 [.inr (.inr 3)] M (ri_ K) Qt := t_196b fun V hV hW => b_196b_0 (Tr_mono _) hV hW M (by
  have hl := cd_by hc
  have hg : M 3 7 + 1 ≤ ne_ (M 74) (M 3 5) (M 3 7) := by
    rw [ne_, dif_pos hc]; exact ne_ge _ _ _
  have hle := ne_le (M 74) (M 3 5) (M 3 7) (by omega)
  have hin := ne_in (M 74) (M 3 5) (M 3 7)
  unfold wk_ at h
  refine l_196b_5 hV hW h0 _ M (Nat.le_refl _) (by omega) (by omega) h5 (fun h10 => ?_) (fun h10 => ?_)
  · rw [if_pos h10] at h
    have hM : (up_ M 3 7 (ne_ (M 74) (M 3 5) (M 3 7))) 74 = M 74 := up_ne (by decide)
    have hw : pWp 0 = 1 := by decide
    have := l_196b_80 (RO_up hr (by decide)) hV hW (M := up_ M 3 7 (ne_ (M 74) (M 3 5) (M 3 7))) (x1 := M 3 7) (n := ne_ (M 74) (M 3 5) (M 3 7) - M 3 7) h0 (by omega) (by omega) (fun i h1 h2 => by rw [hM]; exact (hin i h1 (by omega)).1) (fun i h1 h2 => by rw [hM]; exact hb i (by omega) (by omega)) 48 0 rfl (by rw [hM]; exact ri_i h)
    rw [hw] at this
    exact this
  · rw [if_neg (by omega)] at h
    exact ri_i h)
end TX
section TN
variable {d : Nat} {M : mm_} {K : Int → mm_ → Prop} {Kv : mm_ → Prop} {Qr : qr_} {Qt : qt_} {V : vv_}
theorem l_198b (hV : Cl_ wd0 (Tr_ wd0 pg0 (d + 1)) V Qr Qt m_198) (hW : Wk_ V) {x1 : Int} (hx : 0 ≤ x1) : ∀ (k : Nat) (M : mm_), (M 3 5 - M 3 7).toNat < k → x1 ≤ M 3 7 → M 3 7 ≤ M 3 5 → M 3 5 ≤ 5000 → 0 ≤ M 3 6 → M 3 6 < 1202 →
    (∀ i, x1 ≤ i → i < M 3 7 → dg_ (M 74 i % 256) = 1) →
    Qr [.inl (uk_ (M 74) (M 3 5) x1 (ue_ (M 74) (M 3 5) (M 3 7)))] (up_ (up_ M 3 7 (ue_ (M 74) (M 3 5) (M 3 7))) 78 (M 3 6) (uv_ (M 74) x1 (ue_ (M 74) (M 3 5) (M 3 7) - x1).toNat)) → V 7 [rr 3, ii x1, ii (uv_ (M 74) x1 (M 3 7 - x1).toNat)] [] M := by
  intro k
  induction k with
  | zero => intro M hk; omega
  | succ k ih =>
    intro M hk h1 h2 h5 h6 h7 hd h
    refine b_198b_7 (Tr_mono _) hV hW x1 _ M (s_193b (by omega) h5 (s_197 ?_))
    rcases dg01 (by_ (M 74) (M 3 5) (M 3 7)) with h8 | h8
    · have hn : ue_ (M 74) (M 3 5) (M 3 7) = M 3 7 := by rw [ue_, dif_neg (by omega)]
      rw [hn, up_id] at h
      rw [if_pos h8]
      refine ⟨⟨h6, h7⟩, ?_⟩
      rw [w32_id (by omega) (by omega)]
      unfold uk_ at h
      have hcp := @cd_pos (by_ (M 74) (M 3 5) (M 3 7))
      have e5 : ∀ v, (up_ M 78 (M 3 6) v) 3 = M 3 := fun v => up_ne (by decide)
      have e9 : ∀ v, (up_ M 78 (M 3 6) v) 74 = M 74 := fun v => up_ne (by decide)
      split
      · rename_i h9
        rw [if_pos h9] at h
        refine s_193b (by omega) (by rw [e5]; exact h5) (s_195 ?_)
        rw [e5, e9]
        rcases sm01 (by_ (M 74) (M 3 5) (M 3 7)) with h10 | h10
        · rw [if_pos h10]
          refine s_193b (by omega) (by rw [e5]; exact h5) ?_
          rw [e5, e9]
          split
          · rename_i h11
            rw [if_pos (hcp.mpr (.inr (.inr h11)))] at h
            exact h
          · rename_i h11
            rw [if_neg (fun hc => by have := hcp.mp hc; omega)] at h
            exact h
        · rw [if_neg (by omega)]
          rw [if_pos (hcp.mpr (.inl h10))] at h
          exact h
      · rename_i h9
        rw [if_neg h9] at h
        exact h
    · have hl := dg_by h8
      have hn : ue_ (M 74) (M 3 5) (M 3 7) = ue_ (M 74) (M 3 5) (M 3 7 + 1) := by rw [ue_, dif_pos h8]
      rw [hn] at h
      rw [if_neg (by omega)]
      have h8' := h8
      unfold by_ at h8'
      rw [if_pos hl] at h8'
      have hdr : 48 ≤ M 74 (M 3 7) % 256 ∧ M 74 (M 3 7) % 256 ≤ 57 := by
        unfold dg_ at h8'
        split at h8'
        · assumption
        · omega
      have hm : (M 3 7 + 1 - x1).toNat = (M 3 7 - x1).toNat + 1 := by omega
      have hcast : (((M 3 7 - x1).toNat : Nat) : Int) = M 3 7 - x1 := by omega
      have hv := uv_r (f := M 74) (a := x1) (M 3 7 - x1).toNat (fun j hj => hd _ (by omega) (by omega))
      have hgo : V 7 [rr 3, ii x1, ii (uv_ (M 74) x1 (M 3 7 + 1 - x1).toNat)] [] (up_ M 3 7 (w32 (M 3 7 + 1))) := by
        rw [w32_id (by omega) (by omega)]
        have := ih (up_ M 3 7 (M 3 7 + 1))
        simp only [ua_, if_true, if_false, reduceIte, Int.reduceEq, Nat.reduceEqDiff, up_up] at this
        refine this (by omega) (by omega) (by omega) h5 h6 h7 (fun i h9 h10 => ?_) h
        by_cases h11 : i = M 3 7
        · rw [h11]; exact h8'
        · exact hd i h9 (by omega)
      rw [hm] at hgo
      unfold uv_ at hgo
      rw [w32_id (x := M 3 7 - x1) (by omega) (by omega)]
      split
      · rename_i h9
        rw [if_pos (by omega), hcast] at hgo
        refine s_193b (by omega) h5 ?_
        have hby : by_ (M 74) (M 3 5) (M 3 7) = M 74 (M 3 7) % 256 := by unfold by_; rw [if_pos hl]
        rw [hby]
        have hx1 : x1 + (M 3 7 - x1) = M 3 7 := by omega
        rw [hx1] at hgo
        have hp : (10 : Int) ^ (min (M 3 7 - x1).toNat 9) ≤ 100000000 := (by decide : ∀ m : Fin 9, (10 : Int) ^ m.val ≤ 100000000) ⟨min (M 3 7 - x1).toNat 9, by omega⟩
        have hw : w32 (w32 (w32 (10 * uv_ (M 74) x1 (M 3 7 - x1).toNat) + M 74 (M 3 7) % 256) - 48) = 10 * uv_ (M 74) x1 (M 3 7 - x1).toNat + (M 74 (M 3 7) % 256 - 48) := by
          unfold w32; omega
        rw [hw]
        exact hgo
      · rename_i h9
        rw [if_neg (by omega)] at hgo
        exact hgo
theorem s_198b (h0 : 0 ≤ M 3 7) (h2 : M 3 7 ≤ M 3 5) (h5 : M 3 5 ≤ 5000) (h6 : 0 ≤ M 3 6) (h7 : M 3 6 < 1202) (h : K (uk_ (M 74) (M 3 5) (M 3 7) (ue_ (M 74) (M 3 5) (M 3 7))) (up_ (up_ M 3 7 (ue_ (M 74) (M 3 5) (M 3 7))) 78 (M 3 6) (uv_ (M 74) (M 3 7) (ue_ (M 74) (M 3 5) (M 3 7) - M 3 7).toNat))) : Tr_ wd0 pg0 (d + 2) 198 [.inr (.inr 3)] M (ri_ K) Qt := t_198b fun V hV hW => b_198b_0 (Tr_mono _) hV hW M (by
  have := l_198b hV hW h0 _ M (Nat.lt_succ_self _) (Int.le_refl _) h2 h5 h6 h7 (fun i h8 h9 => by omega) (ri_i h)
  have h8 : (M 3 7 - M 3 7).toNat = 0 := by omega
  rw [h8] at this
  exact this)
end TN
def tkmB (M : mm_) : mm_ := if dg_ (by_ (M 74) (M 3 5) (M 3 7)) = 1 then up_ (up_ M 3 7 (tkk_ (M 74) (M 3 5) (M 3 7)).2) 78 (M 3 6) (uv_ (M 74) (M 3 7) (ue_ (M 74) (M 3 5) (M 3 7) - M 3 7).toNat) else up_ M 3 7 (tkk_ (M 74) (M 3 5) (M 3 7)).2
section TK5
variable {d : Nat} {M : mm_} {K : Int → mm_ → Prop} {Kv : mm_ → Prop} {Qr : qr_} {Qt : qt_} {V : vv_}
theorem l_194b_164 (hr : RO_ M) (hV : Cl_ wd0 (Tr_ wd0 pg0 (d + 5)) V Qr Qt m_194) (hW : Wk_ V) {c e : Int} (h0 : 0 ≤ c) (h1 : c ≤ 255) (h7 : 0 ≤ M 3 7) (h8 : M 3 7 ≤ 5001) (h : tw_ c e = -1 → Qr [.inl (if c ∈ sgL then 200 + c else 103)] M) (h2 : tw_ c e ≠ -1 → Qr [.inl (tw_ c e)] (up_ M 3 7 (M 3 7 + 1))) : V 164 [rr 3, ii c, ii e, ii (tw_ c e), none] [] M := by
  refine b_194b_164 (Tr_mono _) hV hW c e _ M ?_
  split
  · rename_i h3
    have hic : ic_ c = c := by unfold ic_; omega
    rw [hic]
    refine s_427 hr h0 h1 (fun v hv => ?_)
    have := h h3
    split
    · rename_i h4
      rw [if_neg (hv.mp h4)] at this
      exact this
    · rename_i h4
      rw [if_pos (Classical.byContradiction fun h5 => h4 (hv.mpr h5))] at this
      rw [w32_id (by omega) (by omega)]
      exact this
  · rename_i h3
    rw [w32_id (by omega) (by omega)]
    exact h2 h3
theorem l_194b_two (hV : Cl_ wd0 (Tr_ wd0 pg0 (d + 5)) V Qr Qt m_194) (hW : Wk_ V) {c e : Int} (h : V 164 [rr 3, ii c, ii e, ii (tw_ c e), none] [] M) : (if c = 58 then
         (if e = 61 then
          V 164 [rr 3, ii c, ii e, ii 110, none] [] M
         else
          (if c = 47 then
           (if e = 61 then
            V 164 [rr 3, ii c, ii e, ii 111, none] [] M
           else
            V 94 [rr 3, ii c, ii e, none, none] [] M)
          else
           V 94 [rr 3, ii c, ii e, none, none] [] M))
        else
         (if c = 47 then
          (if e = 61 then
           V 164 [rr 3, ii c, ii e, ii 111, none] [] M
          else
           V 94 [rr 3, ii c, ii e, none, none] [] M)
         else
          V 94 [rr 3, ii c, ii e, none, none] [] M)) := by
  unfold tw_ at h
  have h128 : ¬ (c = 58 ∧ e = 61) → ¬ (c = 47 ∧ e = 61) → ¬ (c = 60 ∧ e = 61) → ¬ (c = 62 ∧ e = 61) → V 128 [rr 3, ii c, ii e, none, none] [] M := by
    intro h1 h2 h3 h4
    rw [if_neg h1, if_neg h2, if_neg h3, if_neg h4] at h
    refine b_194b_128 (Tr_mono _) hV hW c e M ?_
    by_cases h5 : c = 45 <;> by_cases h6 : c = 46 <;> by_cases h7 : e = 62 <;> by_cases h8 : e = 46 <;> simp_all
  have h94 : ¬ (c = 58 ∧ e = 61) → ¬ (c = 47 ∧ e = 61) → V 94 [rr 3, ii c, ii e, none, none] [] M := by
    intro h1 h2
    rw [if_neg h1, if_neg h2] at h
    refine b_194b_94 (Tr_mono _) hV hW c e M ?_
    by_cases h5 : c = 60 <;> by_cases h6 : c = 62 <;> by_cases h7 : e = 61 <;> simp_all
  by_cases h5 : c = 58 <;> by_cases h6 : c = 47 <;> by_cases h7 : e = 61 <;> simp_all
theorem s_194b (hr : RO_ M) (h0 : 0 ≤ M 3 7) (h2 : M 3 7 ≤ M 3 5) (h5 : M 3 5 ≤ 5000) (h6 : 0 ≤ M 3 6) (h7 : M 3 6 < 1202) (hb : ∀ i, 0 ≤ i → i < 5000 → -128 ≤ M 74 i ∧ M 74 i ≤ 127) (h : K (tkk_ (M 74) (M 3 5) (M 3 7)).1 (tkmB M)) : Tr_ wd0 pg0 (d + 6) 194 [.inr (.inr 3)] M (ri_ K) Qt := t_194b fun V hV hW => b_194b_0 (Tr_mono _) hV hW M (s_193b h0 h5 (by
  unfold tkmB at h
  have ht : tkk_ (M 74) (M 3 5) (M 3 7) = tkk_ (M 74) (M 3 5) (M 3 7) := rfl
  conv at ht => rhs; unfold tkk_
  by_cases h1 : M 3 7 < M 3 5
  · have hby : by_ (M 74) (M 3 5) (M 3 7) = M 74 (M 3 7) % 256 := by unfold by_; rw [if_pos h1]
    rw [if_neg (show ¬ by_ (M 74) (M 3 5) (M 3 7) = -1 by omega)]
    rw [if_neg (by omega)] at ht
    refine s_195 ?_
    rcases sm01 (by_ (M 74) (M 3 5) (M 3 7)) with h8 | h8
    · rw [if_pos h8]
      rw [if_neg (by omega)] at ht
      refine s_197 ?_
      rcases dg01 (by_ (M 74) (M 3 5) (M 3 7)) with h9 | h9
      · rw [if_pos h9]
        rw [if_neg (by omega)] at ht
        rw [if_neg (by omega)] at h
        rw [w32_id (by omega) (by omega)]
        have e7 : ∀ v, (up_ M 3 7 v) 3 7 = v := fun v => up_at
        have e5 : ∀ v, (up_ M 3 7 v) 3 5 = M 3 5 := fun v => up_off (by decide)
        have e9 : ∀ v, (up_ M 3 7 v) 74 = M 74 := fun v => up_ne (by decide)
        refine s_193b (by omega) (by rw [e5]; exact h5) ?_
        rw [e5, e9]
        refine l_194b_two hV hW (l_194b_164 (RO_up hr (by decide)) hV hW (by omega) (by omega) (by rw [e7]; omega) (by rw [e7]; omega) (fun h10 => ?_) (fun h10 => ?_))
        · rw [if_pos h10] at ht
          rw [ht] at h
          exact ri_i h
        · rw [if_neg h10] at ht
          rw [ht] at h
          rw [e7, up_up]
          have : M 3 7 + 1 + 1 = M 3 7 + 2 := by omega
          rw [this]
          exact ri_i h
      · rw [if_neg (by omega)]
        rw [if_pos h9] at ht
        rw [if_pos h9, ht] at h
        exact s_198b h0 h2 h5 h6 h7 (ri_i h)
    · rw [if_neg (by omega)]
      have h9 : dg_ (by_ (M 74) (M 3 5) (M 3 7)) = 0 := by
        unfold sm_ at h8
        unfold dg_
        split at h8
        · rw [if_neg (by omega)]
        · omega
      rw [if_pos h8] at ht
      rw [if_neg (by omega), ht] at h
      exact s_196b hr h0 h5 hb (cd_pos.mpr (.inl h8)) (ri_i h)
  · have hby : by_ (M 74) (M 3 5) (M 3 7) = -1 := by unfold by_; rw [if_neg h1]
    rw [if_pos hby]
    rw [if_pos h1] at ht
    rw [ht, hby, if_neg (by decide), up_id] at h
    exact ri_i h))
end TK5
section AL
variable {d : Nat} {M : mm_} {K : Int → mm_ → Prop} {Kv : mm_ → Prop} {Qr : qr_} {Qt : qt_} {V : vv_}
theorem l_199b (hV : Cl_ wd0 (Tr_ wd0 pg0 d) V Qr Qt m_199) (hW : Wk_ V) {x y : Int} (hx : 0 ≤ x ∧ x < 1202) (hy : 0 ≤ y ∧ y < 1202) (h1 : 0 ≤ M 76 x) (h2 : M 76 x ≤ M 77 x) (h3 : M 77 x ≤ 5000) (h4 : 0 ≤ M 76 y) (h5 : M 76 y ≤ M 77 y) (h6 : M 77 y ≤ 5000) (he : M 77 x - M 76 x = M 77 y - M 76 y)
    (ht : (∀ j, 0 ≤ j → j < M 77 x - M 76 x → M 74 (M 76 x + j) = M 74 (M 76 y + j)) → Qr [.inl 1] M) (hf : (¬ ∀ j, 0 ≤ j → j < M 77 x - M 76 x → M 74 (M 76 x + j) = M 74 (M 76 y + j)) → Qr [.inl 0] M) :
    ∀ (c : Nat) (k : Int), (M 77 x - M 76 x - k).toNat ≤ c → 0 ≤ k → k ≤ M 77 x - M 76 x → (∀ j, 0 ≤ j → j < k → M 74 (M 76 x + j) = M 74 (M 76 y + j)) → V 38 [rr 3, ii x, ii y, ii 1, ii k] [] M := by
  intro c
  induction c with
  | zero =>
    intro k hc h0 hk hj
    refine b_199b_38 (Tr_mono _) hV hW x y 1 k M ⟨hx, hx, ?_⟩
    rw [w32_id (by omega) (by omega), if_neg (by omega)]
    exact ⟨.inr rfl, ht (fun j h7 h8 => hj j h7 (by omega))⟩
  | succ c ih =>
    intro k hc h0 hk hj
    refine b_199b_38 (Tr_mono _) hV hW x y 1 k M ⟨hx, hx, ?_⟩
    rw [w32_id (by omega) (by omega)]
    by_cases h7 : k < M 77 x - M 76 x
    · rw [if_pos h7, if_neg (by decide), w32_id (x := M 76 x + k) (by omega) (by omega), w32_id (x := M 76 y + k) (by omega) (by omega), w32_id (x := k + 1) (by omega) (by omega)]
      refine ⟨hx, by omega, fun _ => ⟨hy, by omega, fun _ => ?_⟩⟩
      by_cases h8 : M 74 (M 76 x + k) = M 74 (M 76 y + k)
      · rw [if_pos h8]
        refine ih _ (by omega) (by omega) (by omega) (fun j h9 h10 => ?_)
        by_cases h11 : j = k
        · rw [h11]; exact h8
        · exact hj j h9 (by omega)
      · rw [if_neg h8]
        refine b_199b_38 (Tr_mono _) hV hW x y 0 (k + 1) M ⟨hx, hx, ?_⟩
        have hq := hf (fun h9 => h8 (h9 k h0 h7))
        rw [if_pos rfl]
        split
        · exact ⟨.inl rfl, hq⟩
        · exact ⟨.inl rfl, hq⟩
    · rw [if_neg h7]
      exact ⟨.inr rfl, ht (fun j h8 h9 => hj j h8 (by omega))⟩
theorem s_199b {x y : Int} (hx : 0 ≤ x ∧ x < 1202) (hy : 0 ≤ y ∧ y < 1202) (h1 : 0 ≤ M 76 x) (h2 : M 76 x ≤ M 77 x) (h3 : M 77 x ≤ 5000) (h4 : 0 ≤ M 76 y) (h5 : M 76 y ≤ M 77 y) (h6 : M 77 y ≤ 5000)
    (ht : M 77 x - M 76 x = M 77 y - M 76 y → (∀ j, 0 ≤ j → j < M 77 x - M 76 x → M 74 (M 76 x + j) = M 74 (M 76 y + j)) → K 1 M) (hf : ¬ (M 77 x - M 76 x = M 77 y - M 76 y ∧ ∀ j, 0 ≤ j → j < M 77 x - M 76 x → M 74 (M 76 x + j) = M 74 (M 76 y + j)) → K 0 M) : Tr_ wd0 pg0 (d + 1) 199 [.inr (.inr 3), .inl x, .inl y] M (ri_ K) Qt := t_199b fun V hV hW => b_199b_0 (Tr_mono _) hV hW x y M (by
  refine ⟨hx, hx, hy, hy, ?_⟩
  rw [w32_id (by omega) (by omega), w32_id (by omega) (by omega)]
  by_cases he : M 77 x - M 76 x = M 77 y - M 76 y
  · rw [if_pos he]
    exact l_199b hV hW hx hy h1 h2 h3 h4 h5 h6 he (fun h => ri_i (ht he h)) (fun h => ri_i (hf (fun h9 => h h9.2))) _ 0 (Nat.le_refl _) (by omega) (by omega) (fun j h7 h8 => by omega)
  · rw [if_neg he]
    refine b_199b_38 (Tr_mono _) hV hW x y 0 0 M ⟨hx, hx, ?_⟩
    have hq : ri_ K [.inl 0] M := ri_i (hf (fun h9 => he h9.1))
    rw [if_pos rfl]
    split
    · exact ⟨.inl rfl, hq⟩
    · exact ⟨.inl rfl, hq⟩)
end AL
section RD
variable {d : Nat} {M : mm_} {K : Int → mm_ → Prop} {Kv : mm_ → Prop} {Qr : qr_} {Qt : qt_} {V : vv_}
theorem l_191b_2 (hV : Cl_ wd0 (Tr_ wd0 pg0 d) V Qr Qt m_191) (hW : Wk_ V) {n : Int} (hn : n ≤ 5000) (hb : ∀ i, 0 ≤ i → i < 5000 → -128 ≤ M 9 i ∧ M 9 i ≤ 127)
    (h : V 39 [rr 3, rr 9, ii n, ii 1] [] (up_ (up_ (up_ (wr_ M 74 (cp_ (M 9) (M 74) n)) 3 5 n) 3 6 0) 3 7 0)) : ∀ (c : Nat) (k : Int), (n - k).toNat ≤ c → 0 ≤ k → k ≤ n → V 2 [rr 3, rr 9, ii n, ii k] [] (wr_ M 74 (cp_ (M 9) (M 74) k)) := by
  intro c
  induction c with
  | zero =>
    intro k hc h0 hk
    have : k = n := by omega
    subst this
    refine b_191b_2 (Tr_mono _) hV hW k k _ ?_
    rw [if_neg (by omega)]
    exact h
  | succ c ih =>
    intro k hc h0 hk
    refine b_191b_2 (Tr_mono _) hV hW n k _ ?_
    by_cases h1 : k < n
    · rw [if_pos h1]
      have e9 : (wr_ M 74 (cp_ (M 9) (M 74) k)) 9 = M 9 := wr_ne (by decide)
      rw [e9]
      refine ⟨by omega, fun h2 => ⟨⟨by omega, h2⟩, ?_⟩⟩
      rw [up_wr, cp_su h0, w32_id (by omega) (by omega)]
      exact ih (k + 1) (by omega) (by omega) (by omega)
    · rw [if_neg h1]
      have : k = n := by omega
      subst this
      exact h
end RD
def TXB (M : mm_) (f : Int → Int) (n : Int) (m : Nat) : Prop := ∀ i : Nat, i < m → M 76 i = ps_ f n i ∧ M 75 i = kd_ f n i ∧ M 77 i = en9_ f n i ∧ (dg_ (by_ f n (ps_ f n i)) = 1 → M 78 i = uv_ f (ps_ f n i) (ue_ f n (ps_ f n i) - ps_ f n i).toNat)
section RD
variable {d : Nat} {K : Int → mm_ → Prop} {Kv : mm_ → Prop} {Qr : qr_} {Qt : qt_} {V : vv_}
theorem l_191b_39 (hV : Cl_ wd0 (Tr_ wd0 pg0 (d + 6)) V Qr Qt m_191) (hW : Wk_ V) {n : Int} {f : Int → Int} {M0 : mm_} (hn0 : 0 ≤ n) (hn : n ≤ 5000) (hb : ∀ i, 0 ≤ i → i < 5000 → -128 ≤ f i ∧ f i ≤ 127)
    (hq : ∀ M' (m : Nat), Fr_ [3, 75, 76, 77, 78] M0 M' → M' 3 5 = n → TXB M' f n m → (∀ j : Nat, j + 1 < m → kd_ f n j ≠ 102) → 1 ≤ m → m ≤ 1202 → (kd_ f n (m - 1) = 102 ∨ m = 1202) → Qr [] M') :
    ∀ (c m : Nat) (M : mm_), 1202 - m ≤ c → m ≤ 1201 → Fr_ [3, 75, 76, 77, 78] M0 M → M 3 6 = m → M 3 5 = n → M 74 = f → RO_ M → 0 ≤ M 3 7 → M 3 7 ≤ n → bk_ f n (M 3 7) = ps_ f n m → TXB M f n m → (∀ j : Nat, j < m → kd_ f n j ≠ 102) → V 39 [rr 3, rr 9, ii n, ii 1] [] M := by
  intro c
  induction c with
  | zero => intro m M h1 h2; omega
  | succ c ih =>
    intro m M hc hm hF h6 h5 h69 hr h7 h7n hps hT hk
    subst h69
    have hpr := ps_r (M 74) n hn0 m
    have hte := tk_end (f := M 74) hpr.2
    refine b_191b_39 (Tr_mono _) hV hW n 1 M ?_
    rw [if_neg (by decide)]
    refine s_192b h7 (by omega) (by omega) hb ?_
    rw [h5, hps]
    -- memory behind the blanks
    generalize hM1 : up_ M 3 7 (ps_ (M 74) n m) = M1
    have a26 : M1 3 6 = m := by rw [← hM1, up_off (by decide)]; exact h6
    have a25 : M1 3 5 = n := by rw [← hM1, up_off (by decide)]; exact h5
    have a27 : M1 3 7 = ps_ (M 74) n m := by rw [← hM1, up_at]
    have ane : ∀ r, r ≠ 3 → M1 r = M r := fun r h => by rw [← hM1, up_ne h]
    rw [a26, a27]
    refine ⟨by omega, ?_⟩
    generalize hM2 : up_ M1 76 (m : Int) (ps_ (M 74) n m) = M2
    have b2 : M2 3 = M1 3 := by rw [← hM2, up_ne (by decide)]
    have b71 : M2 76 m = ps_ (M 74) n m := by rw [← hM2, up_at]
    have b71' : ∀ i, i ≠ (m : Int) → M2 76 i = M 76 i := fun i h => by rw [← hM2, up_off h, ane 76 (by decide)]
    have bne : ∀ r, r ≠ 3 → r ≠ 76 → M2 r = M r := fun r h h' => by rw [← hM2, up_ne h', ane r h]
    have b69 : M2 74 = M 74 := bne 74 (by decide) (by decide)
    have hro : RO_ M2 := by
      rw [← hM2, ← hM1]; exact RO_up (RO_up hr (by decide)) (by decide)
    refine s_194b hro (by rw [b2, a27]; omega) (by rw [b2, a27, a25]; omega) (by rw [b2, a25]; exact hn) (by rw [b2, a26]; omega) (by rw [b2, a26]; omega) (by rw [b69]; exact hb) ?_
    rw [b69, b2, a25, a27]
    have hkd : (tkk_ (M 74) n (ps_ (M 74) n m)).1 = kd_ (M 74) n m := rfl
    rw [hkd]
    generalize hM3 : tkmB M2 = M3
    have c27 : M3 3 7 = en9_ (M 74) n m := by
      rw [← hM3]; unfold tkmB; split
      · rw [up_ne (by decide), up_at, b69, b2, a25, a27]; rfl
      · rw [up_at, b69, b2, a25, a27]; rfl
    have c2 : ∀ i, i ≠ 7 → M3 3 i = M1 3 i := by
      intro i h
      rw [← hM3]; unfold tkmB; split
      · rw [up_ne (by decide), up_off h, b2]
      · rw [up_off h, b2]
    have cne : ∀ r, r ≠ 3 → r ≠ 78 → M3 r = M2 r := by
      intro r h h'
      rw [← hM3]; unfold tkmB; split
      · rw [up_ne h', up_ne h]
      · rw [up_ne h]
    have c73 : dg_ (by_ (M 74) n (ps_ (M 74) n m)) = 1 → M3 78 m = uv_ (M 74) (ps_ (M 74) n m) (ue_ (M 74) n (ps_ (M 74) n m) - ps_ (M 74) n m).toNat := by
      intro h
      rw [← hM3]; unfold tkmB
      rw [if_pos (by rw [b69, b2, a25, a27]; exact h), b69, b2, a25, a26, a27, up_at]
    have c73' : ∀ i, i ≠ (m : Int) → M3 78 i = M 78 i := by
      intro i h
      rw [← hM3]; unfold tkmB; split
      · rw [b2, a26, up_off h, up_ne (by decide), bne 78 (by decide) (by decide)]
      · rw [up_ne (by decide), bne 78 (by decide) (by decide)]
    rw [c2 6 (by decide), a26]
    refine ⟨by omega, by omega, by omega, ?_⟩
    rw [up_at, c27, w32_id (by omega) (by omega)]
    generalize hM4 : up_ (up_ (up_ M3 75 (m : Int) (kd_ (M 74) n m)) 77 (m : Int) (en9_ (M 74) n m)) 3 6 ((m : Int) + 1) = M4
    have d26 : M4 3 6 = m + 1 := by rw [← hM4, up_at]
    have d25 : M4 3 5 = n := by rw [← hM4, up_off (by decide), up_ne (by decide), up_ne (by decide), c2 5 (by decide)]; exact a25
    have d27 : M4 3 7 = en9_ (M 74) n m := by rw [← hM4, up_off (by decide), up_ne (by decide), up_ne (by decide)]; exact c27
    have dne : ∀ r, r ∉ [3, 75, 76, 77, 78] → M4 r = M r := by
      intro r h
      simp only [List.mem_cons, List.not_mem_nil, or_false, not_or] at h
      rw [← hM4, up_ne h.1, up_ne h.2.2.2.1, up_ne h.2.1, cne r h.1 h.2.2.2.2, bne r h.1 h.2.2.1]
    have dF : Fr_ [3, 75, 76, 77, 78] M0 M4 := fun r h => by rw [dne r h]; exact hF r h
    have dT : TXB M4 (M 74) n (m + 1) := by
      intro i hi
      by_cases h : i = m
      · subst h
        refine ⟨?_, ?_, ?_, ?_⟩
        · rw [← hM4, up_ne (by decide), up_ne (by decide), up_ne (by decide), cne 76 (by decide) (by decide)]; exact b71
        · rw [← hM4, up_ne (by decide), up_ne (by decide), up_at]
        · rw [← hM4, up_ne (by decide), up_at]
        · intro h9
          rw [← hM4, up_ne (by decide), up_ne (by decide), up_ne (by decide)]; exact c73 h9
      · have hne : (i : Int) ≠ (m : Int) := by omega
        have := hT i (by omega)
        refine ⟨?_, ?_, ?_, ?_⟩
        · rw [← hM4, up_ne (by decide), up_ne (by decide), up_ne (by decide), cne 76 (by decide) (by decide), b71' _ hne]; exact this.1
        · rw [← hM4, up_ne (by decide), up_ne (by decide), up_off hne, cne 75 (by decide) (by decide), bne 75 (by decide) (by decide)]; exact this.2.1
        · rw [← hM4, up_ne (by decide), up_off hne, up_ne (by decide), cne 77 (by decide) (by decide), bne 77 (by decide) (by decide)]; exact this.2.2.1
        · intro h9
          rw [← hM4, up_ne (by decide), up_ne (by decide), up_ne (by decide), c73' _ hne]; exact this.2.2.2 h9
    have hout : (kd_ (M 74) n m = 102 ∨ m = 1201) → V 39 [rr 3, rr 9, ii n, ii 0] [] M4 := by
      intro h
      refine b_191b_39 (Tr_mono _) hV hW n 0 M4 ?_
      rw [if_pos rfl]
      refine hq M4 (m + 1) dF d25 dT (fun j hj => hk j (by omega)) (by omega) (by omega) ?_
      rcases h with h | h
      · exact .inl h
      · exact .inr (by omega)
    split
    · rename_i h
      exact hout (.inl h)
    · rename_i h
      split
      · rename_i h'
        refine ih (m + 1) M4 (by omega) (by omega) dF (by rw [d26]; omega) d25 (dne 74 (by decide)) ?_ ?_ ?_ ?_ dT ?_
        · unfold RO_
          rw [dne 1001 (by decide), dne 1002 (by decide), dne 1011 (by decide), dne 1012 (by decide)]
          exact hr
        · rw [d27]; unfold en9_; omega
        · rw [d27]; unfold en9_; omega
        · rw [d27]; rfl
        · intro j hj
          by_cases h9 : j = m
          · rw [h9]; exact h
          · exact hk j (by omega)
      · rename_i h'
        exact hout (.inr (by omega))
end RD
section RD
variable {d : Nat} {K : Int → mm_ → Prop} {Kv : mm_ → Prop} {Qr : qr_} {Qt : qt_} {V : vv_}
theorem s_191b {n : Int} {M : mm_} (hn0 : 0 ≤ n) (hn : n ≤ 5000) (hro : RO_ M) (hb : ∀ i, 0 ≤ i → i < 5000 → -128 ≤ M 9 i ∧ M 9 i ≤ 127) (hb2 : ∀ i, 0 ≤ i → i < 5000 → -128 ≤ M 74 i ∧ M 74 i ≤ 127)
    (hq : ∀ M' (m : Nat), Fr_ [3, 74, 75, 76, 77, 78] M M' → M' 74 = cp_ (M 9) (M 74) n → M' 3 5 = n → TXB M' (M' 74) n m → (∀ j : Nat, j + 1 < m → kd_ (M' 74) n j ≠ 102) → 1 ≤ m → m ≤ 1202 → (kd_ (M' 74) n (m - 1) = 102 ∨ m = 1202) → Kv M') :
    Tr_ wd0 pg0 (d + 7) 191 [.inr (.inr 3), .inr (.inr 9), .inl n] M (rv_ Kv) Qt := t_191b fun V hV hW => b_191b_0 (Tr_mono _) hV hW n M (by
  have h1 := l_191b_2 (M := M) hV hW (n := n) hn hb (by
    refine l_191b_39 (f := cp_ (M 9) (M 74) n) (M0 := wr_ M 74 (cp_ (M 9) (M 74) n)) hV hW hn0 hn ?_ ?_ 1202 0 _ (by omega) (by omega) ?_ ?_ ?_ ?_ ?_ ?_ ?_ ?_ ?_ ?_
    · intro i h0 h9
      unfold cp_
      split
      · exact hb i h0 h9
      · exact hb2 i h0 h9
    · intro M' m hF h5 hT hk h1 h2 h3
      have e69 : M' 74 = cp_ (M 9) (M 74) n := by rw [hF 74 (by decide), wr_same]
      refine rv_i (hq M' m (fun r h => ?_) e69 h5 (by rw [e69]; exact hT) (by rw [e69]; exact hk) h1 h2 (by rw [e69]; exact h3))
      simp only [List.mem_cons, List.not_mem_nil, or_false, not_or] at h
      rw [hF r (by simp only [List.mem_cons, List.not_mem_nil, or_false, not_or]; exact ⟨h.1, h.2.2⟩), wr_ne h.2.1]
    · exact Fr_up (Fr_up (Fr_up Fr_rf (by decide)) (by decide)) (by decide)
    · rw [up_off (by decide), up_at]; rfl
    · rw [up_off (by decide), up_off (by decide), up_at]
    · rw [up_ne (by decide), up_ne (by decide), up_ne (by decide), wr_same]
    · refine RO_up (RO_up (RO_up ?_ (by decide)) (by decide)) (by decide)
      unfold RO_
      rw [wr_ne (by decide), wr_ne (by decide), wr_ne (by decide), wr_ne (by decide)]
      exact hro
    · rw [up_at]; omega
    · rw [up_at]; omega
    · rw [up_at]; rfl
    · intro i hi; omega
    · intro j hj; omega) n.toNat 0 (by omega) (Int.le_refl _) hn0
  rw [cp_0, wr_id] at h1
  exact h1)
end RD
def gdB (M : mm_) (i : Int) : Prop := 0 ≤ i ∧ i ≤ 1200 ∧ ∀ j, 0 ≤ j → j < i → M 75 j ≠ 102 ∧ M 75 j ≠ 103
def lk9B (M : mm_) (x y : Int) : Prop := M 77 x - M 76 x = M 77 y - M 76 y ∧ ∀ j, 0 ≤ j → j < M 77 x - M 76 x → M 74 (M 76 x + j) = M 74 (M 76 y + j)
def TksB (Mx Mq : mm_) : Prop := ∀ i, gdB Mx i → KQ (Mx 75 i) (Mq 149 i) (Mq 151 i) ∧ Mx 76 i = Mq 150 i ∧ (Mx 75 i = 101 → Mq 151 i = Mx 78 i ∧ 0 ≤ Mx 78 i ∧ Mx 78 i < 1000000000) ∧ (0 ≤ Mx 76 i ∧ Mx 76 i ≤ Mx 77 i ∧ Mx 77 i ≤ 5000) ∧ (∀ j, gdB Mx j → j < i → Mx 76 j < Mx 76 i) ∧ (Mx 75 i = 100 → Mx 77 i - Mx 76 i ≤ 10 ∧ 0 < Mq 151 i) ∧ (∀ j, gdB Mx j → Mx 75 i = 100 → Mx 75 j = 100 → (lk9B Mx i j ↔ Mq 151 i = Mq 151 j))
section AG
variable {f g : Int → Int} {n : Int}
end AG
theorem Tks_iB {Mx Mq : mm_} {g : Int → Int} {n : Int} {m m' : Nat} (hn0 : 0 ≤ n) (hn : n ≤ 5000) (hb : ∀ i, 0 ≤ i → i < 5000 → -128 ≤ Mx 74 i ∧ Mx 74 i ≤ 127) (hag : Ag_ g (Mx 74) n) (hT : TXB Mx (Mx 74) n m) (hm1 : 1 ≤ m) (hm2 : kd_ (Mx 74) n (m - 1) = 102 ∨ m = 1202) (hQ : QT_ Mq g n m') : TksB Mx Mq := by
  have hps : ∀ i, ps_ g n i = ps_ (Mx 74) n i := ps_ag hag hn0
  have hX : ∀ i : Nat, (i : Int) ≤ 1200 → (∀ j : Int, 0 ≤ j → j < i → Mx 75 j ≠ 102 ∧ Mx 75 j ≠ 103) → i < m := by
    intro i hi hj
    refine Classical.byContradiction fun h => ?_
    rcases hm2 with h1 | h1
    · have h2 := (hT (m - 1) (by omega)).2.1
      have := (hj ((m - 1 : Nat) : Int) (by omega) (by omega)).1
      rw [h2, h1] at this
      exact this rfl
    · omega
  have hK : ∀ i : Nat, (i : Int) ≤ 1200 → (∀ j : Int, 0 ≤ j → j < i → Mx 75 j ≠ 102 ∧ Mx 75 j ≠ 103) → ∀ k : Nat, k < i → kd_ (Mx 74) n k ≠ 102 ∧ kd_ (Mx 74) n k ≠ 103 := by
    intro i hi hj k hk
    have h1 := hX i hi hj
    have h2 := (hT k (by omega)).2.1
    have := hj k (by omega) (by omega)
    rw [h2] at this
    exact this
  have hqq : ∀ i : Nat, (i : Int) ≤ 1200 → (∀ j : Int, 0 ≤ j → j < i → Mx 75 j ≠ 102 ∧ Mx 75 j ≠ 103) → i < m' := by
    intro i hi hj
    refine Classical.byContradiction fun h => ?_
    obtain ⟨h1, h2, h3, h4, h5⟩ := hQ
    have h6 := hK i hi hj (m' - 1) (by omega)
    rw [hps] at h5
    have h7 : ps_ (Mx 74) n (m' - 1) < n := Classical.byContradiction fun h8 => h6.1 (kd_102.mpr h8)
    rcases h5 with h5 | h5 | h5
    · exact h5 h7
    · have h8 := kq_at (f := Mx 74) h7
      rw [qo_ag hag (ps_r (Mx 74) n hn0 _).1 h7] at h5
      rw [h5] at h8
      unfold KQ at h8
      have : (tkk_ (Mx 74) n (ps_ (Mx 74) n (m' - 1))).1 = 103 := by omega
      exact h6.2 this
    · omega
  have hY : ∀ i : Nat, gdB Mx i → Mx 76 i = ps_ (Mx 74) n i ∧ Mx 75 i = kd_ (Mx 74) n i ∧ Mx 77 i = en9_ (Mx 74) n i ∧ (dg_ (by_ (Mx 74) n (ps_ (Mx 74) n i)) = 1 → Mx 78 i = uv_ (Mx 74) (ps_ (Mx 74) n i) (ue_ (Mx 74) n (ps_ (Mx 74) n i) - ps_ (Mx 74) n i).toNat) ∧ Mq 150 i = ps_ (Mx 74) n i ∧ KQ (kd_ (Mx 74) n i) (Mq 149 i) (Mq 151 i) ∧ (ps_ (Mx 74) n i < n → Mq 151 i = (qo_ (Mx 74) n (ps_ (Mx 74) n i)).2.1) ∧ (∀ k : Nat, k < i → kd_ (Mx 74) n k ≠ 102) := by
    intro i hi
    have h1 := hT i (hX i hi.2.1 hi.2.2)
    have h2 := hQ.1 i (hqq i hi.2.1 hi.2.2)
    rw [hps] at h2
    refine ⟨h1.1, h1.2.1, h1.2.2.1, h1.2.2.2, h2.1, ?_, ?_, fun k hk => (hK i hi.2.1 hi.2.2 k hk).1⟩
    · by_cases h3 : ps_ (Mx 74) n i < n
      · have h4 := h2.2.1 h3
        rw [qo_ag hag (ps_r (Mx 74) n hn0 _).1 h3] at h4
        rw [h4.1, h4.2]; exact kq_at h3
      · rw [(h2.2.2 h3).1]
        have : kd_ (Mx 74) n i = 102 := kd_102.mpr h3
        rw [this]; exact .inr (.inr (.inl ⟨rfl, rfl⟩))
    · intro h3
      have h4 := h2.2.1 h3
      rw [qo_ag hag (ps_r (Mx 74) n hn0 _).1 h3] at h4
      exact h4.2
  intro i hi
  obtain ⟨i', rfl⟩ := Int.eq_ofNat_of_zero_le hi.1
  have h := hY i' hi
  have hp := ps_r (Mx 74) n hn0 i'
  have ht := tk_end (f := Mx 74) hp.2
  refine ⟨by rw [h.2.1]; exact h.2.2.2.2.2.1, by rw [h.1, h.2.2.2.2.1], ?_, ?_, ?_, ?_, ?_⟩
  · intro h1
    rw [h.2.1] at h1
    have h2 := nu_at h1
    have h3 := h.2.2.2.1 h2.1
    have hr := uv_r (f := Mx 74) (a := ps_ (Mx 74) n i') (ue_ (Mx 74) n (ps_ (Mx 74) n i') - ps_ (Mx 74) n i').toNat (fun j hj => (ue_in (Mx 74) n (ps_ (Mx 74) n i') _ (by omega) (by omega)).1)
    rw [h.2.2.2.2.2.2.1 h2.2.1, h2.2.2, h3]
    refine ⟨rfl, hr.1, Int.lt_of_lt_of_le hr.2 ?_⟩
    have : (10 : Int) ^ min (ue_ (Mx 74) n (ps_ (Mx 74) n i') - ps_ (Mx 74) n i').toNat 9 ≤ 10 ^ 9 := by
      exact_mod_cast Nat.pow_le_pow_right (by omega) (Nat.min_le_right _ _)
    omega
  · rw [h.1, h.2.2.1]
    unfold en9_
    omega
  · intro j hj hji
    obtain ⟨j', rfl⟩ := Int.eq_ofNat_of_zero_le hj.1
    rw [h.1, (hY j' hj).1]
    exact ps_mono hn0 i' (by omega) h.2.2.2.2.2.2.2
  · intro h1
    rw [h.2.1] at h1
    have h2 := nm_at h1
    refine ⟨by rw [h.1, h.2.2.1]; unfold en9_; rw [h2.2.2.1]; omega, ?_⟩
    rw [h.2.2.2.2.2.2.1 h2.2.1, h2.2.2.2.2]
    have h3 : ps_ (Mx 74) n i' + 1 ≤ ne_ (Mx 74) n (ps_ (Mx 74) n i') := by
      rw [ne_, dif_pos (cd_w h2.1)]; exact ne_ge _ _ _
    obtain ⟨q, hq⟩ : ∃ q : Nat, (ne_ (Mx 74) n (ps_ (Mx 74) n i') - ps_ (Mx 74) n i').toNat = q + 1 := ⟨(ne_ (Mx 74) n (ps_ (Mx 74) n i') - ps_ (Mx 74) n i').toNat - 1, by omega⟩
    rw [hq]
    exact hs_pos fun j hj => (ne_in (Mx 74) n (ps_ (Mx 74) n i') _ (by omega) (by omega)).1
  · intro j hj h1 h2
    obtain ⟨j', rfl⟩ := Int.eq_ofNat_of_zero_le hj.1
    have h' := hY j' hj
    rw [h.2.1] at h1
    rw [h'.2.1] at h2
    have hi2 := nm_at h1
    have hj2 := nm_at h2
    have hp' := ps_r (Mx 74) n hn0 j'
    rw [h.2.2.2.2.2.2.1 hi2.2.1, hi2.2.2.2.2, h'.2.2.2.2.2.2.1 hj2.2.1, hj2.2.2.2.2]
    unfold lk9B
    rw [h.1, h.2.2.1, h'.1, h'.2.2.1]
    unfold en9_
    rw [hi2.2.2.1, hj2.2.2.1]
    have hge := ne_ge (Mx 74) n (ps_ (Mx 74) n i')
    have hge' := ne_ge (Mx 74) n (ps_ (Mx 74) n j')
    have hle := ne_le (Mx 74) n (ps_ (Mx 74) n i') (by omega)
    have hle' := ne_le (Mx 74) n (ps_ (Mx 74) n j') (by omega)
    constructor
    · rintro ⟨h3, h4⟩
      rw [h3]
      refine hs_eq _ fun k hk => ?_
      rw [h4 k (by omega) (by omega)]
    · intro h3
      have h4 := hs_inj (f := Mx 74) (g := Mx 74) _ _ (fun k hk => (ne_in (Mx 74) n (ps_ (Mx 74) n i') _ (by omega) (by omega)).1) (fun k hk => (ne_in (Mx 74) n (ps_ (Mx 74) n j') _ (by omega) (by omega)).1) h3
      refine ⟨by omega, fun k h5 h6 => ?_⟩
      have h7 := h4.2 k.toNat (by omega)
      have e : ((k.toNat : Nat) : Int) = k := by omega
      rw [e] at h7
      have b1 := hb (ps_ (Mx 74) n i' + k) (by omega) (by omega)
      have b2 := hb (ps_ (Mx 74) n j' + k) (by omega) (by omega)
      omega
end T421_tb
section T422_ch
/-! charts: small steps of both (X 73-76, 80 | Q 227-250) at a token -/
def CB (b : Int) (M N : mm_) (a : Int) : Prop := TksB M N ∧ gdB M a ∧ (M 0 75 = a ∧ N 6 12 = a) ∧ (N 6 16 = b ∧ (b = 0 ∨ b = 1)) ∧ (b = 0 → N 6 13 = 0)
/-- what goes wrong where a kind is wanted -/
def Bd (M : mm_) (a k f : Int) : Prop := (M 75 a ≠ k ∧ f = 1) ∨ (M 75 a = k ∧ a = 1200 ∧ f = 2)
def bdX (M : mm_) (f p : Int) : mm_ := up_ (up_ M 0 92 f) 0 93 p
/-- a call of X throws so -/
def Th (d n : Nat) (as : List pv_) (M M' : mm_) : Prop := ∀ (Qr : qr_) (Qt : qt_), Qt 7 M' → Tr_ wd0 pg0 d n as M Qr Qt
theorem Th_le [Inhabited fz_] {d d' n : Nat} {as : List pv_} {M M' : mm_} (h : d ≤ d') (g : Th d n as M M') : Th d' n as M M' := fun Qr Qt k => Tr_le h (g Qr Qt k)
theorem kc_s [Inhabited fz_] {k t v x : Int} (h : KQ k t v) (hx : 37 ≤ x ∧ x ≤ 93 ∨ 256 ≤ x ∧ x ≤ 261) : (t = 3 ∧ v = x) ↔ k = skk_ x := by
  unfold KQ at h; unfold skk_; split <;> omega
theorem kc_w [Inhabited fz_] {k t v x : Int} (h : KQ k t v) (hx : 0 ≤ x ∧ x < 48) : (t = 4 ∧ v = x) ↔ k = x := by
  unfold KQ at h; omega
theorem kc_n [Inhabited fz_] {k t v : Int} (h : KQ k t v) : t = 1 ↔ k = 100 := by unfold KQ at h; omega
theorem kc_u [Inhabited fz_] {k t v : Int} (h : KQ k t v) : t = 2 ↔ k = 101 := by unfold KQ at h; omega
section CHa
variable {b : Int} {M N M' N' : mm_} {a k f t x c w p : Int}
theorem TksB_c [Inhabited fz_] (h : TksB M N) (e : ∀ r, r ∈ [74, 75, 76, 77, 78] → M' r = M r) (g : ∀ r, r ∈ [149, 150, 151] → N' r = N r) : TksB M' N' := by
  unfold TksB gdB lk9B at *
  rw [e 74 (by decide), e 75 (by decide), e 76 (by decide), e 77 (by decide), e 78 (by decide), g 149 (by decide), g 150 (by decide), g 151 (by decide)]
  exact h
theorem gdB_c [Inhabited fz_] (h : gdB M a) (e : M' 75 = M 75) : gdB M' a := by
  unfold gdB at *; rw [e]; exact h
theorem CB_a [Inhabited fz_] (h : CB b M N a) : 0 ≤ a ∧ a ≤ 1200 := ⟨h.2.1.1, h.2.1.2.1⟩
theorem CB_k [Inhabited fz_] (h : CB b M N a) : KQ (M 75 a) (N 149 (N 6 12)) (N 151 (N 6 12)) ∧ N 150 (N 6 12) = M 76 a ∧ in9_ N := by
  have e := h.1 a h.2.1
  have := CB_a h
  unfold in9_
  rw [h.2.2.1.2]
  exact ⟨e.1, e.2.1.symm, by omega, by omega⟩
theorem CB_go [Inhabited fz_] (h : CB b M N a) : go_ N := by
  rcases h.2.2.2.1.2 with e | e
  · exact .inl (by rw [h.2.2.2.2 e]; omega)
  · exact .inr (by rw [h.2.2.2.1.1]; omega)
theorem CB_ok [Inhabited fz_] (h : CB b M N a) (e : b = 0) : ok_ N := ⟨h.2.2.2.2 e, by rw [h.2.2.2.1.1]; exact e⟩
theorem CB_nx [Inhabited fz_] (h : CB b M N a) (h1 : M 75 a ≠ 102) (h2 : M 75 a ≠ 103) (h3 : a < 1200) : CB b (up_ M 0 75 (a + 1)) (nx_ N) (a + 1) := by
  have ha := CB_a h
  refine ⟨TksB_c h.1 (fun r hr => up_ne (by rintro rfl; exact absurd hr (by decide))) (fun r hr => up_ne (by rintro rfl; exact absurd hr (by decide))), ⟨by omega, by omega, fun j j0 j1 => ?_⟩, ⟨up_at, ?_⟩, ⟨?_, h.2.2.2.1.2⟩, fun e => ?_⟩
  · rw [up_ne (by decide)]
    by_cases c : j = a
    · subst c; exact ⟨h1, h2⟩
    · exact h.2.1.2.2 j j0 (by omega)
  · unfold nx_; rw [up_at, h.2.2.1.2]
  · unfold nx_; rw [upo (by decide)]; exact h.2.2.2.1.1
  · unfold nx_; rw [upo (by decide)]; exact h.2.2.2.2 e
/-- the memories may change elsewhere -/
theorem CB_c [Inhabited fz_] (h : CB b M N a) (e : ∀ r, r ∈ [74, 75, 76, 77, 78] → M' r = M r) (g : ∀ r, r ∈ [149, 150, 151] → N' r = N r) (e1 : M' 0 75 = M 0 75) (g1 : N' 6 12 = N 6 12) (g2 : N' 6 16 = N 6 16) (g3 : b = 0 → N' 6 13 = N 6 13) : CB b M' N' a := ⟨TksB_c h.1 e g, gdB_c h.2.1 (e 75 (by decide)), ⟨by rw [e1]; exact h.2.2.1.1, by rw [g1]; exact h.2.2.1.2⟩, ⟨by rw [g2]; exact h.2.2.2.1.1, h.2.2.2.1.2⟩, fun z => by rw [g3 z]; exact h.2.2.2.2 z⟩
theorem sp_b [Inhabited fz_] (h : N 6 16 = 0) (hf : 0 < f) : sp_ (bf_ N f p) := bf_sp h hf
theorem in_b [Inhabited fz_] (h : in9_ N) : in9_ (bf_ N f p) := by unfold in9_; rw [bf_6 (by decide) (by decide)]; exact h
theorem Bd_f [Inhabited fz_] (h : Bd M a k f) : 0 < f := by rcases h with h | h <;> omega
/-! X -/
theorem x_74 [Inhabited fz_] (ha : 0 ≤ a ∧ a ≤ 1200) (e : M 0 75 = a) : ∃ v, BV v ∧ (v = 1 ↔ M 75 a = k) ∧ Ex_ 1 74 [.inr (.inr 0), .inl k] M [.inl v] M := by
  by_cases c : M 75 a = k
  · refine ⟨1, .inr rfl, ⟨fun _ => c, fun _ => rfl⟩, fun Qr Qt g => t_74 fun V hV hW => b_74_0 (Tr_mono _) hV hW _ _ ?_⟩
    rw [e]
    refine ⟨by omega, ?_⟩
    rw [if_pos c]
    exact ⟨.inr rfl, g⟩
  · refine ⟨0, .inl rfl, ⟨fun h => absurd h (by decide), fun h => absurd h c⟩, fun Qr Qt g => t_74 fun V hV hW => b_74_0 (Tr_mono _) hV hW _ _ ?_⟩
    rw [e]
    refine ⟨by omega, ?_⟩
    rw [if_neg c]
    exact ⟨.inl rfl, g⟩
theorem x_74t [Inhabited fz_] (ha : 0 ≤ a ∧ a ≤ 1200) (e : M 0 75 = a) (c : M 75 a = k) : Ex_ 1 74 [.inr (.inr 0), .inl k] M [.inl 1] M := by
  obtain ⟨v, v1, v2, v3⟩ := x_74 (k := k) ha e
  rw [v2.2 c] at v3; exact v3
theorem x_74f [Inhabited fz_] (ha : 0 ≤ a ∧ a ≤ 1200) (e : M 0 75 = a) (c : M 75 a ≠ k) : Ex_ 1 74 [.inr (.inr 0), .inl k] M [.inl 0] M := by
  obtain ⟨v, v1, v2, v3⟩ := x_74 (k := k) ha e
  have : v = 0 := v1.resolve_right (fun h => c (v2.1 h))
  rw [this] at v3; exact v3
theorem x_75c [Inhabited fz_] (ht : 0 ≤ t ∧ t ≤ 1200) : Ex_ 1 75 [.inr (.inr 0), .inl f, .inl t] M [.inr (.inr 7)] (bdX M f (M 76 t)) := fun Qr Qt g => t_75 fun V hV hW => b_75_0 (Tr_mono _) hV hW _ _ _ ⟨by omega, g⟩
theorem x_73 [Inhabited fz_] (ha : 0 ≤ a ∧ a ≤ 1200) (e : M 0 75 = a) (c : M 75 a = k) (h : a < 1200) : Ex_ 2 73 [.inr (.inr 0), .inl k] M [] (up_ M 0 75 (a + 1)) := fun Qr Qt g => t_73 fun V hV hW => b_73_0 (Tr_mono _) hV hW _ _ (x_74t ha e c _ _ (ri_i (by
  rw [if_neg (by decide), e, if_pos h, w32_id (by omega) (by omega)]
  exact g)))
theorem x_73b [Inhabited fz_] (ha : 0 ≤ a ∧ a ≤ 1200) (e : M 0 75 = a) (c : Bd M a k f) : Th 2 73 [.inr (.inr 0), .inl k] M (bdX M f (M 76 a)) := fun Qr Qt g => t_73 fun V hV hW => b_73_0 (Tr_mono _) hV hW _ _ (by
  rcases c with ⟨c, rfl⟩ | ⟨c, c2, rfl⟩
  · refine x_74f ha e c _ _ (ri_i ?_)
    rw [if_pos rfl, e]
    refine x_75c ha _ _ (rf_i ?_)
    rw [if_neg (by decide)]; exact g
  · refine x_74t ha e c _ _ (ri_i ?_)
    rw [if_neg (by decide), e, if_neg (by omega)]
    refine x_75c ha _ _ (rf_i ?_)
    rw [if_neg (by decide)]; exact g)
theorem x_76 [Inhabited fz_] (ha : 0 ≤ a ∧ a ≤ 1200) (e : M 0 75 = a) (hc : 0 ≤ c ∧ c < 200) (g : M 75 a = 200 + c) (h : a < 1200) : Ex_ 3 76 [.inr (.inr 0), .inl c] M [] (up_ M 0 75 (a + 1)) := fun Qr Qt z => t_76 fun V hV hW => b_76_0 (Tr_mono _) hV hW _ _ (by
  rw [w32_id (by omega) (by omega)]
  exact x_73 ha e g h _ _ (rv_i z))
theorem x_76b [Inhabited fz_] (ha : 0 ≤ a ∧ a ≤ 1200) (e : M 0 75 = a) (hc : 0 ≤ c ∧ c < 200) (g : Bd M a (200 + c) f) : Th 3 76 [.inr (.inr 0), .inl c] M (bdX M f (M 76 a)) := fun Qr Qt z => t_76 fun V hV hW => b_76_0 (Tr_mono _) hV hW _ _ (by
  rw [w32_id (by omega) (by omega)]
  exact x_73b ha e g _ _ z)
/-- a note of X -/
def ntX (M : mm_) (k t : Int) : mm_ := if M 0 92 = 0 ∨ M 76 t < M 0 93 ∨ M 76 t = M 0 93 ∧ k < M 0 92 then bdX M k (M 76 t) else M
theorem x_80 [Inhabited fz_] (ht : 0 ≤ t ∧ t ≤ 1200) : Ex_ 1 80 [.inr (.inr 0), .inl k, .inl t] M [] (ntX M k t) := fun Qr Qt g => t_80 fun V hV hW => b_80_0 (Tr_mono _) hV hW _ _ _ ⟨by omega, by
  unfold ntX at g
  by_cases c0 : M 0 92 = 0
  · rw [if_pos c0]; rw [if_pos (.inl c0)] at g; exact g
  · rw [if_neg c0]
    by_cases c1 : M 0 93 < M 76 t
    · rw [if_pos c1]; rw [if_neg (by omega)] at g; exact g
    · rw [if_neg c1]
      by_cases c2 : M 0 93 = M 76 t
      · rw [if_pos c2]
        by_cases c3 : M 0 92 ≤ k
        · rw [if_pos c3]; rw [if_neg (by omega)] at g; exact g
        · rw [if_neg c3]; rw [if_pos (by omega)] at g; exact g
      · rw [if_neg c2]; rw [if_pos (by omega)] at g; exact g⟩
/-! Q -/
theorem c_227 [Inhabited fz_] (h : CB b M N a) : Ex_ 1 227 [.inr (.inr 6)] N [.inl 0] N := fun Qr Qt g => Tr_m (q_227g (K := fun v M' => v = 0 ∧ M' = N) (Qt := Qt) (CB_go h) ⟨rfl, rfl⟩) (fun vs M' ⟨v, e, e1, e2⟩ => by rw [e, e1, e2]; exact g) (fun _ _ z => z)
theorem c_229 [Inhabited fz_] (h : CB b M N a) (hw : 0 ≤ w ∧ w < 48) : ∃ v, BV v ∧ (v = 1 ↔ M 75 a = w) ∧ Ex_ 1 229 [.inr (.inr 6), .inl w] N [.inl v] N := by
  obtain ⟨e1, e2, e3⟩ := CB_k h
  by_cases c : M 75 a = w
  · exact ⟨1, .inr rfl, ⟨fun _ => c, fun _ => rfl⟩, fun Qr Qt g => Tr_m (q_229t (K := fun v M' => v = 1 ∧ M' = N) (Qt := Qt) e3 ((kc_w e1 hw).2 c).1 ((kc_w e1 hw).2 c).2 ⟨rfl, rfl⟩) (fun vs M' ⟨v, e, e1, e2⟩ => by rw [e, e1, e2]; exact g) (fun _ _ z => z)⟩
  · exact ⟨0, .inl rfl, ⟨fun z => absurd z (by decide), fun z => absurd z c⟩, fun Qr Qt g => Tr_m (q_229f (K := fun v M' => v = 0 ∧ M' = N) (Qt := Qt) e3 (fun z => c ((kc_w e1 hw).1 z)) ⟨rfl, rfl⟩) (fun vs M' ⟨v, e, e1, e2⟩ => by rw [e, e1, e2]; exact g) (fun _ _ z => z)⟩
theorem c_229t [Inhabited fz_] (h : CB b M N a) (hw : 0 ≤ w ∧ w < 48) (c : M 75 a = w) : Ex_ 1 229 [.inr (.inr 6), .inl w] N [.inl 1] N := by
  obtain ⟨v, v1, v2, v3⟩ := c_229 h hw
  rw [v2.2 c] at v3; exact v3
theorem c_229f [Inhabited fz_] (h : CB b M N a) (hw : 0 ≤ w ∧ w < 48) (c : M 75 a ≠ w) : Ex_ 1 229 [.inr (.inr 6), .inl w] N [.inl 0] N := by
  obtain ⟨v, v1, v2, v3⟩ := c_229 h hw
  have : v = 0 := v1.resolve_right (fun h => c (v2.1 h))
  rw [this] at v3; exact v3
theorem Ei [Inhabited fz_] {d n : Nat} {as : List pv_} {v : Int} (h : ∀ Qt, Tr_ wd0 pg0 d n as N (ri_ fun u N1 => u = v ∧ N1 = N') Qt) : Ex_ d n as N [.inl v] N' := fun Qr Qt g => Tr_m (h Qt) (fun vs M' ⟨v, e, e1, e2⟩ => by rw [e, e1, e2]; exact g) (fun _ _ z => z)
theorem Ev [Inhabited fz_] {d n : Nat} {as : List pv_} (h : ∀ Qt, Tr_ wd0 pg0 d n as N (rv_ fun N1 => N1 = N') Qt) : Ex_ d n as N [] N' := fun Qr Qt g => Tr_m (h Qt) (fun vs M' ⟨e, e1⟩ => by rw [e, e1]; exact g) (fun _ _ z => z)
theorem c_228t [Inhabited fz_] (h : CB b M N a) (hw : 0 ≤ w ∧ w < 48) (c : M 75 a = w) (ha : a < 1200) : Ex_ 3 228 [.inr (.inr 6), .inl w] N [.inl 1] (nx_ N) := by
  obtain ⟨e1, e2, e3⟩ := CB_k h
  have := (kc_w e1 hw).2 c
  exact Ei fun Qt => q_228t (CB_go h) e3.1 (by rw [h.2.2.1.2]; exact ha) this.1 this.2 ⟨rfl, rfl⟩
theorem c_228f [Inhabited fz_] (h : CB b M N a) (hw : 0 ≤ w ∧ w < 48) (c : M 75 a ≠ w) : Ex_ 3 228 [.inr (.inr 6), .inl w] N [.inl 0] N := by
  obtain ⟨e1, e2, e3⟩ := CB_k h
  exact Ei fun Qt => q_228f (CB_go h) e3 (fun z => c ((kc_w e1 hw).1 z)) ⟨rfl, rfl⟩
theorem c_228b [Inhabited fz_] (h : CB b M N a) (hb : b = 0) (hw : 0 ≤ w ∧ w < 48) (c : M 75 a = w) (ha : a = 1200) : Ex_ 3 228 [.inr (.inr 6), .inl w] N [.inl 1] (bf_ N 2 (M 76 a)) := by
  obtain ⟨e1, e2, e3⟩ := CB_k h
  have := (kc_w e1 hw).2 c
  rw [← e2]
  exact Ei fun Qt => q_228r (CB_ok h hb) (by rw [h.2.2.1.2]; exact ha) this.1 this.2 ⟨rfl, rfl⟩
theorem c_244 [Inhabited fz_] (h : CB b M N a) (hx : 37 ≤ x ∧ x ≤ 93 ∨ 256 ≤ x ∧ x ≤ 261) (c : M 75 a = skk_ x) (ha : a < 1200) : Ex_ 3 244 [.inr (.inr 6), .inl x] N [] (nx_ N) := by
  obtain ⟨e1, e2, e3⟩ := CB_k h
  have := (kc_s e1 hx).2 c
  exact Ev fun Qt => q_244g (CB_go h) e3.1 (by rw [h.2.2.1.2]; exact ha) this.1 this.2 rfl
theorem c_244b [Inhabited fz_] (h : CB b M N a) (hb : b = 0) (hx : 37 ≤ x ∧ x ≤ 93 ∨ 256 ≤ x ∧ x ≤ 261) (c : Bd M a (skk_ x) f) : Ex_ 3 244 [.inr (.inr 6), .inl x] N [] (bf_ N f (M 76 a)) := by
  obtain ⟨e1, e2, e3⟩ := CB_k h
  rw [← e2]
  rcases c with ⟨c, rfl⟩ | ⟨c, c2, rfl⟩
  · exact Ev fun Qt => q_244w (CB_ok h hb) e3 (fun z => c ((kc_s e1 hx).1 z)) rfl
  · have := (kc_s e1 hx).2 c
    exact Ev fun Qt => q_244r (CB_ok h hb) (by rw [h.2.2.1.2]; exact c2) this.1 this.2 rfl
theorem c_250 [Inhabited fz_] (h : CB b M N a) (hw : 0 ≤ w ∧ w < 48) (c : M 75 a = w) (ha : a < 1200) : Ex_ 3 250 [.inr (.inr 6), .inl w] N [] (nx_ N) := by
  obtain ⟨e1, e2, e3⟩ := CB_k h
  have := (kc_w e1 hw).2 c
  exact Ev fun Qt => q_250g (CB_go h) e3.1 (by rw [h.2.2.1.2]; exact ha) this.1 this.2 rfl
theorem c_250b [Inhabited fz_] (h : CB b M N a) (hb : b = 0) (hw : 0 ≤ w ∧ w < 48) (c : Bd M a w f) : Ex_ 3 250 [.inr (.inr 6), .inl w] N [] (bf_ N f (M 76 a)) := by
  obtain ⟨e1, e2, e3⟩ := CB_k h
  rw [← e2]
  rcases c with ⟨c, rfl⟩ | ⟨c, c2, rfl⟩
  · exact Ev fun Qt => q_250w (CB_ok h hb) e3 (fun z => c ((kc_w e1 hw).1 z)) rfl
  · have := (kc_w e1 hw).2 c
    exact Ev fun Qt => q_250r (CB_ok h hb) (by rw [h.2.2.1.2]; exact c2) this.1 this.2 rfl
theorem c_233 [Inhabited fz_] (h : CB b M N a) (c : M 75 a = 100) (ha : a < 1200) : Ex_ 3 233 [.inr (.inr 6)] N [.inl a] (nx_ N) := by
  obtain ⟨e1, e2, e3⟩ := CB_k h
  exact Ei fun Qt => q_233g (CB_go h) e3.1 (by rw [h.2.2.1.2]; exact ha) ((kc_n e1).2 c) ⟨h.2.2.1.2, rfl⟩
theorem c_233b [Inhabited fz_] (h : CB b M N a) (hb : b = 0) (c : Bd M a 100 f) : Ex_ 3 233 [.inr (.inr 6)] N [.inl a] (bf_ N f (M 76 a)) := by
  obtain ⟨e1, e2, e3⟩ := CB_k h
  rw [← e2]
  rcases c with ⟨c, rfl⟩ | ⟨c, c2, rfl⟩
  · exact Ei fun Qt => q_233w (CB_ok h hb) e3 (fun z => c ((kc_n e1).1 z)) ⟨h.2.2.1.2, rfl⟩
  · exact Ei fun Qt => q_233r (CB_ok h hb) (by rw [h.2.2.1.2]; exact c2) ((kc_n e1).2 c) ⟨h.2.2.1.2, rfl⟩
theorem c_249 [Inhabited fz_] (h : CB b M N a) (c : M 75 a = 101) (ha : a < 1200) : Ex_ 3 249 [.inr (.inr 6)] N [.inl (M 78 a)] (nx_ N) := by
  obtain ⟨e1, e2, e3⟩ := CB_k h
  have e4 := (h.1 a h.2.1).2.2.1 c
  exact Ei fun Qt => q_249g (CB_go h) e3.1 (by rw [h.2.2.1.2]; exact ha) ((kc_u e1).2 c) ⟨by rw [h.2.2.1.2, e4.1]; exact w32_id (by omega) (by omega), rfl⟩
theorem c_249b [Inhabited fz_] (h : CB b M N a) (hb : b = 0) (c : Bd M a 101 f) : ∃ v, Ex_ 3 249 [.inr (.inr 6)] N [.inl v] (bf_ N f (M 76 a)) := by
  obtain ⟨e1, e2, e3⟩ := CB_k h
  rw [← e2]
  rcases c with ⟨c, rfl⟩ | ⟨c, c2, rfl⟩
  · exact ⟨_, Ei fun Qt => q_249w (CB_ok h hb) e3 (fun z => c ((kc_u e1).1 z)) ⟨rfl, rfl⟩⟩
  · exact ⟨_, Ei fun Qt => q_249r (CB_ok h hb) (by rw [h.2.2.1.2]; exact c2) ((kc_u e1).2 c) ⟨rfl, rfl⟩⟩
theorem c_230 [Inhabited fz_] (h : CB b M N a) (ha : a < 1200) : Ex_ 2 230 [.inr (.inr 6)] N [] (nx_ N) := Ev fun Qt => q_230g (CB_go h) (CB_k h).2.2.1 (by rw [h.2.2.1.2]; exact ha) rfl
theorem c_230b [Inhabited fz_] (h : CB b M N a) (hb : b = 0) (ha : a = 1200) : Ex_ 2 230 [.inr (.inr 6)] N [] (bf_ N 2 (M 76 a)) := by
  rw [← (CB_k h).2.1]
  exact Ev fun Qt => q_230r (CB_ok h hb) (by rw [h.2.2.1.2]; exact ha) rfl
theorem c_231 [Inhabited fz_] (h : CB b M N a) (hb : b = 0) : Ex_ 1 231 [.inr (.inr 6), .inl k, .inl p] N [] (bf_ N k p) := Ev fun Qt => q_231o (CB_ok h hb).1 rfl
theorem c_234 [Inhabited fz_] (h : CB b M N a) (hb : b = 0) : Ex_ 2 234 [.inr (.inr 6)] N [] (bf_ N 1 (M 76 a)) := by
  rw [← (CB_k h).2.1]
  exact Ev fun Qt => q_234o (CB_k h).2.2 (CB_ok h hb).1 rfl
theorem c_236 [Inhabited fz_] : Ex_ 1 236 [.inr (.inr 6), .inl k, .inl p] N [] (nt_ N k p) := Ev fun Qt => q_236 rfl
/-! Q stopped -/
theorem s_227 [Inhabited fz_] (h : sp_ N) : Ex_ 1 227 [.inr (.inr 6)] N [.inl 1] N := Ei fun Qt => q_227s h ⟨rfl, rfl⟩
theorem s_244 [Inhabited fz_] (h : sp_ N) : Ex_ 3 244 [.inr (.inr 6), .inl x] N [] N := Ev fun Qt => q_244s h rfl
theorem s_233 [Inhabited fz_] (h : sp_ N) : Ex_ 3 233 [.inr (.inr 6)] N [.inl (N 6 12)] N := Ei fun Qt => q_233s h ⟨rfl, rfl⟩
theorem s_249 [Inhabited fz_] (h : sp_ N) : Ex_ 3 249 [.inr (.inr 6)] N [.inl 0] N := Ei fun Qt => q_249s h ⟨rfl, rfl⟩
theorem s_228 [Inhabited fz_] (h : sp_ N) : Ex_ 3 228 [.inr (.inr 6), .inl x] N [.inl 0] N := Ei fun Qt => q_228s h ⟨rfl, rfl⟩
end CHa
end T422_ch
