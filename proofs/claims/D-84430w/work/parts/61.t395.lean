section T395_lk
/-! looks (X 61-69, 71 | Q 368-376, 379) -/
/-- both answer alike and change nothing -/
def SM2 (dx nx : Nat) (ax : List pv_) (dq nq : Nat) (aq : List pv_) (M N : mm_) : Prop := ∃ v, Ex_ dx nx ax M [.inl v] M ∧ Ex_ dq nq aq N [.inl v] N
def LKR [Inhabited fz_] (M N : mm_) : Prop := (M 0 4 = 0 ∧ N 6 126 = 0) ∨ RNS M N
section LOa
variable {z : Int} {M N M' N' M1 N1 M2 N2 : mm_} {s k r T p w n x1 x2 x3 x4 x5 y : Int}
theorem j_61 [Inhabited fz_] (h : LKR M N) : SM2 1 61 [.inr (.inr 0), .inl x1] 2 368 [.inr (.inr 6), .inl x1] M N := by
  rcases h with ⟨a, b⟩ | ⟨h, a, b⟩
  · refine ⟨-1, fun Qr Qt g => t_61 fun V hV hW => b_61_0 (Tr_mono _) hV hW _ _ fun _ => ?_, fun Qr Qt g => t_368 fun V hV hW => b_368_0 (Tr_mono _) hV hW _ _ fun _ => ?_⟩
    · rw [if_pos a]; exact g
    · rw [if_pos b]; exact g
  · have n12 := h.1.1.1
    by_cases c1 : x1 < 0
    · refine ⟨-1, fun Qr Qt g => t_61 fun V hV hW => b_61_0 (Tr_mono _) hV hW _ _ fun _ => ?_, fun Qr Qt g => t_368 fun V hV hW => b_368_0 (Tr_mono _) hV hW _ _ fun _ => ?_⟩
      · rw [if_neg (by (clear h b n12 c1 g hV hW; lia)), if_pos c1]; exact g
      · rw [if_neg (by (clear h a n12 c1 g hV hW; lia)), if_pos c1]; exact g
    · by_cases c2 : x1 < M 0 7
      · have hB : sB x1 = 2 + 56 * x1 := rfl
        have e := (h.1.1.2.2.1 x1 (by (clear h a b n12 c2 hB; lia)) c2).1.1
        refine ⟨M 10 x1, fun Qr Qt g => t_61 fun V hV hW => b_61_0 (Tr_mono _) hV hW _ _ fun _ => ?_, fun Qr Qt g => t_368 fun V hV hW => b_368_0 (Tr_mono _) hV hW _ _ fun _ => ?_⟩
        · rw [if_neg (by omega), if_neg c1, if_pos c2]; exact ⟨by (clear h a b hB e g hV hW; omega), g⟩
        · rw [if_neg (by omega), if_neg c1, if_pos (by omega)]
          refine ⟨by decide, q_323 (by omega) _ _ (ri_i ?_)⟩
          rw [← e]; exact ⟨by (clear h a b e g hV hW; lia), g⟩
      · refine ⟨-1, fun Qr Qt g => t_61 fun V hV hW => b_61_0 (Tr_mono _) hV hW _ _ fun _ => ?_, fun Qr Qt g => t_368 fun V hV hW => b_368_0 (Tr_mono _) hV hW _ _ fun _ => ?_⟩
        · rw [if_neg (by omega), if_neg c1, if_neg c2]; exact g
        · rw [if_neg (by omega), if_neg c1, if_neg (by (clear h a b c1 g hV hW; omega))]; exact ⟨by decide, g⟩
/-- whose pid is asked for -/
theorem j_370 [Inhabited fz_] (h : LKR M N) (p : Int) : ∃ v, (v = -1 ∨ (RNS M N ∧ (0 ≤ v ∧ v < M 0 7) ∧ M 10 v = p)) ∧ ((M 0 4 = 0 ∧ v = -1) ∨ (M 0 4 = 1 ∧ Ex_ 1 6 [.inr (.inr 0), .inl p] M [.inl v] M)) ∧ Ex_ 3 370 [.inr (.inr 6), .inl p] N [.inl v] N := by
  rcases h with ⟨a, b⟩ | ⟨h, a, b⟩
  · exact ⟨-1, .inl rfl, .inl ⟨a, rfl⟩, fun Qr Qt g => t_370 fun V hV hW => b_370_0 (Tr_mono _) hV hW _ _ fun _ => by rw [if_pos b]; exact g⟩
  · obtain ⟨v, hv, xs, qs⟩ := j_sl h.1 p
    refine ⟨v, ?_, .inr ⟨a, xs⟩, fun Qr Qt g => t_370 fun V hV hW => b_370_0 (Tr_mono _) hV hW _ _ fun _ => ?_⟩
    · rcases hv with e | ⟨e1, e2, _⟩
      · exact .inl e
      · exact .inr ⟨⟨h, a, b⟩, e1, e2⟩
    · rw [if_neg (by (clear h a hv xs qs g hV hW; omega))]
      by_cases c : p ≤ 0
      · rw [if_pos c]
        have : v = -1 := by rcases hv with e | e; exact e; (clear h a b xs qs g hV hW; lia)
        subst this; exact g
      · rw [if_neg c]; exact qs _ _ (ri_i g)
theorem j_62 [Inhabited fz_] (h : LKR M N) : ∃ v M' N', Ex_ 6 62 [.inr (.inr 0), .inl x1, .inl x2] M [.inl v] M' ∧ Ex_ 7 369 [.inr (.inr 6), .inl x1, .inl x2] N [.inl v] N' ∧ EGX M M' ∧ EGQ N N' := by
  obtain ⟨v, hv, hx, hq⟩ := j_370 h x1
  have gx : ∀ (w : Int) (M' : mm_), (∀ (V : vv_) (Qr : qr_) (Qt : qt_), Cl_ wd0 (Tr_ wd0 pg0 5) V Qr Qt m_62 → Wk_ V → Qr [.inl w] M' → V 17 [rr 0, ii x1, ii x2, ii v] [] M) → Ex_ 6 62 [.inr (.inr 0), .inl x1, .inl x2] M [.inl w] M' := fun w M' k Qr Qt g => t_62 fun V hV hW => b_62_0 (Tr_mono _) hV hW _ _ _ fun _ => by
    rcases hx with ⟨e, ev⟩ | ⟨e, ex⟩
    · rw [if_pos e]; subst ev; exact k V Qr Qt hV hW g
    · rw [if_neg (by (clear h hv hq k g hV hW ex; lia))]; exact Ex_le (d := 1) (by decide) ex _ _ (ri_i (k V Qr Qt hV hW g))
  rcases hv with e | ⟨⟨hs, r1, r2⟩, hv, hp⟩
  · subst e
    refine ⟨-1, M, N, gx _ _ fun V Qr Qt hV hW g => b_62_17 (Tr_mono _) hV hW _ _ _ _ ?_, fun Qr Qt g => t_369 fun V hV hW => b_369_0 (Tr_mono _) hV hW _ _ _ (Ex_le (d := 3) (by decide) hq _ _ (ri_i ?_)), EGX_rf, EGQ_rf⟩
    · rw [if_pos rfl]; exact g
    · rw [if_pos (by decide)]; exact g
  · have n12 := hs.1.1.1
    have hB : sB v = 2 + 56 * v := rfl
    have hi := hs.1.1.2.2.1 v hv.1 hv.2
    obtain ⟨⟨i1, i2, i3, i4, i5, i6⟩, _, _, _, ⟨_, _, i7⟩, _⟩ := hi
    have one : ∀ (u : Int), (∀ (V : vv_) (Qr : qr_), Qr [.inl u] M → (if x2 = 0 then (0 ≤ v ∧ v < 12) ∧ Qr [.inl (M 11 v)] M else (if x2 = 1 then (0 ≤ v ∧ v < 12) ∧ Qr [.inl (M 12 v)] M else (if x2 = 2 then (0 ≤ v ∧ v < 12) ∧ Qr [.inl (M 14 v)] M else (if x2 = 3 then (0 ≤ v ∧ v < 12) ∧ Qr [.inl (M 18 v)] M else (if x2 = 4 then (0 ≤ v ∧ v < 12) ∧ Qr [.inl (M 19 v)] M else (if x2 = 5 then (0 ≤ v ∧ v < 12) ∧ Qr [.inl (M 20 v)] M else Qr [.inl (-1)] M))))))) → x2 ≠ 6 → (∀ (Qr : qr_), Qr [.inl u] N → (if x2 = 0 then (0 ≤ sB v + 1 ∧ sB v + 1 < 1104) ∧ Qr [.inl (N 239 (sB v + 1))] N else (if x2 = 1 then (0 ≤ sB v + 2 ∧ sB v + 2 < 1104) ∧ Qr [.inl (N 239 (sB v + 2))] N else (if x2 = 2 then (0 ≤ sB v + 25 ∧ sB v + 25 < 1104) ∧ Qr [.inl (N 239 (sB v + 25))] N else (if x2 = 3 then (0 ≤ sB v + 3 ∧ sB v + 3 < 1104) ∧ Qr [.inl (N 239 (sB v + 3))] N else (if x2 = 4 then (0 ≤ sB v + 4 ∧ sB v + 4 < 1104) ∧ Qr [.inl (N 239 (sB v + 4))] N else (if x2 = 5 then (0 ≤ sB v + 5 ∧ sB v + 5 < 1104) ∧ Qr [.inl (N 239 (sB v + 5))] N else Qr [.inl (-1)] N))))))) → ∃ v M' N', Ex_ 6 62 [.inr (.inr 0), .inl x1, .inl x2] M [.inl v] M' ∧ Ex_ 7 369 [.inr (.inr 6), .inl x1, .inl x2] N [.inl v] N' ∧ EGX M M' ∧ EGQ N N' := fun u kx n6 kq => by
      refine ⟨u, M, N, gx _ _ fun V Qr Qt hV hW g => b_62_17 (Tr_mono _) hV hW _ _ _ _ ?_, fun Qr Qt g => t_369 fun V hV hW => b_369_0 (Tr_mono _) hV hW _ _ _ (Ex_le (d := 3) (by decide) hq _ _ (ri_i ?_)), EGX_rf, EGQ_rf⟩
      · rw [if_neg (by (clear h hx hq gx hs r1 r2 hp n12 hB i1 i2 i3 i4 i5 i6 i7 kx n6 kq hV hW g; omega)), if_neg (c := x2 = 6) n6]; exact kx V Qr g
      · rw [if_neg (by (clear h hx hq gx hs r1 r2 hp n12 hB i1 i2 i3 i4 i5 i6 i7 kx n6 kq g hV hW; omega))]
        refine Ex_le (d := 1) (by decide) (q_323 (by omega)) _ _ (ri_i ?_)
        rw [if_neg (c := x2 = 6) n6, w32_id (x := sB v + 1) (by (clear h hx hq gx hs r1 r2 hp n12 i1 i2 i3 i4 i5 i6 i7 kx n6 kq g hV hW; omega)) (by (clear h hx hq gx hs r1 r2 hp i1 i2 i3 i4 i5 i6 i7 kx n6 kq g hV hW; omega)), w32_id (x := sB v + 2) (by omega) (by omega), w32_id (x := sB v + 25) (by omega) (by (clear h hx hq gx hs r1 r2 hp i1 i2 i3 i4 i5 i6 i7 kx n6 kq g hV hW; omega)), w32_id (x := sB v + 3) (by (clear h hx hq gx hs r1 r2 hp n12 i1 i2 i3 i4 i5 i6 i7 kx n6 kq g hV hW; omega)) (by omega), w32_id (x := sB v + 4) (by omega) (by omega), w32_id (x := sB v + 5) (by omega) (by omega)]
        exact kq Qr g
    have hv12 : 0 ≤ v ∧ v < 12 := by (clear h hx hq gx hs r1 r2 hp hB i1 i2 i3 i4 i5 i6 i7 one; omega)
    by_cases c0 : x2 = 0
    · exact one (M 11 v) (fun V Qr g => by rw [if_pos c0]; exact ⟨hv12, g⟩) (by (clear h hx hq gx hs r1 r2 hv hp n12 hB i1 i2 i3 i4 i5 i6 i7 one hv12; omega)) (fun Qr g => by rw [if_pos c0, ← i2]; exact ⟨by (clear h hx hq gx hs r1 r2 hp n12 i1 i2 i3 i4 i5 i6 i7 one c0 g; omega), g⟩)
    by_cases c1 : x2 = 1
    · exact one (M 12 v) (fun V Qr g => by rw [if_neg c0, if_pos c1]; exact ⟨hv12, g⟩) (by (clear h hx hq gx hs r1 r2 hv hp n12 hB i1 i2 i3 i4 i5 i6 i7 one hv12 c0; omega)) (fun Qr g => by rw [if_neg c0, if_pos c1, ← i3]; exact ⟨by omega, g⟩)
    by_cases c2 : x2 = 2
    · exact one (M 14 v) (fun V Qr g => by rw [if_neg c0, if_neg c1, if_pos c2]; exact ⟨hv12, g⟩) (by (clear h hx hq gx hs r1 r2 hv hp n12 hB i1 i2 i3 i4 i5 i6 i7 one hv12 c0 c1; omega)) (fun Qr g => by rw [if_neg c0, if_neg c1, if_pos c2, i7]; exact ⟨by omega, g⟩)
    by_cases c3 : x2 = 3
    · exact one (M 18 v) (fun V Qr g => by rw [if_neg c0, if_neg c1, if_neg c2, if_pos c3]; exact ⟨hv12, g⟩) (by (clear h hx hq gx hs r1 r2 hv hp n12 hB i1 i2 i3 i4 i5 i6 i7 one hv12 c0 c1 c2; omega)) (fun Qr g => by rw [if_neg c0, if_neg c1, if_neg c2, if_pos c3, ← i4]; exact ⟨by omega, g⟩)
    by_cases c4 : x2 = 4
    · exact one (M 19 v) (fun V Qr g => by rw [if_neg c0, if_neg c1, if_neg c2, if_neg c3, if_pos c4]; exact ⟨hv12, g⟩) (by omega) (fun Qr g => by rw [if_neg c0, if_neg c1, if_neg c2, if_neg c3, if_pos c4, ← i5]; exact ⟨by omega, g⟩)
    by_cases c5 : x2 = 5
    · exact one (M 20 v) (fun V Qr g => by rw [if_neg c0, if_neg c1, if_neg c2, if_neg c3, if_neg c4, if_pos c5]; exact ⟨hv12, g⟩) (by omega) (fun Qr g => by rw [if_neg c0, if_neg c1, if_neg c2, if_neg c3, if_neg c4, if_pos c5, ← i6]; exact ⟨by omega, g⟩)
    by_cases c6 : x2 = 6
    · obtain ⟨w, M', N', xw, qw, ex, eq, _⟩ := j_12 (s := v) hs.1 hs.2.1 hs.2.2.1 hv
      refine ⟨w, M', N', gx _ _ fun V Qr Qt hV hW g => b_62_17 (Tr_mono _) hV hW _ _ _ _ ?_, fun Qr Qt g => t_369 fun V hV hW => b_369_0 (Tr_mono _) hV hW _ _ _ (Ex_le (d := 3) (by decide) hq _ _ (ri_i ?_)), ex, eq⟩
      · rw [if_neg (by omega), if_neg c0, if_neg c1, if_neg c2, if_neg c3, if_neg c4, if_neg c5, if_pos c6]; exact xw _ _ (ri_i g)
      · rw [if_neg (by omega)]
        refine Ex_le (d := 1) (by decide) (q_323 (by (clear h hx hq gx hs r1 r2 hp n12 hB i1 i2 i3 i4 i5 i6 i7 one c0 c1 c2 c3 c4 c5 c6 xw qw ex eq g hV hW; omega))) _ _ (ri_i ?_)
        rw [if_neg c0, if_neg c1, if_neg c2, if_neg c3, if_neg c4, if_neg c5, if_pos c6]; exact qw _ _ (ri_i g)
    · exact one (-1) (fun V Qr g => by rw [if_neg c0, if_neg c1, if_neg c2, if_neg c3, if_neg c4, if_neg c5]; exact g) c6 (fun Qr g => by rw [if_neg c0, if_neg c1, if_neg c2, if_neg c3, if_neg c4, if_neg c5]; exact g)
theorem PL_T [Inhabited fz_] (hP : PLr M N) (hT : 0 ≤ T ∧ T < N 6 19) : T < 6 ∧ (M 87 T = N 168 T ∧ M 88 T = N 169 T) ∧ (M 90 T = N 174 T ∧ (M 92 T = N 172 T ∧ 0 ≤ N 172 T ∧ N 172 T ≤ 16) ∧ (M 93 T = N 173 T ∧ 0 ≤ N 173 T ∧ N 173 T ≤ 3)) := by
  have p6 := hP.1.2.2
  rw [tbN_6 (by decide)] at p6
  obtain ⟨⟨⟨a1, _⟩, a2, _⟩, _, ⟨⟨b1, _⟩, _, b2, b3, _⟩, _⟩ := PT_of hP hT
  rw [tbN_r (q := 168) (by decide) (by decide), show swc M 120 = M 87 from swc_r (q := 87) (by decide) (by decide)] at a1
  rw [tbN_r (q := 169) (by decide) (by decide), show swc M 121 = M 88 from swc_r (q := 88) (by decide) (by decide)] at a2
  rw [tbN_r (q := 174) (by decide) (by decide), show swc M 123 = M 90 from swc_r (q := 90) (by decide) (by decide)] at b1
  rw [tbN_r (q := 172) (by decide) (by decide), show swc M 125 = M 92 from swc_r (q := 92) (by decide) (by decide)] at b2
  rw [tbN_r (q := 173) (by decide) (by decide), show swc M 126 = M 93 from swc_r (q := 93) (by decide) (by decide)] at b3
  exact ⟨by omega, ⟨a1, a2⟩, b1, b2, b3⟩
theorem j_63 [Inhabited fz_] (h : LKR M N) : SM2 3 63 [.inr (.inr 0), .inl x1, .inl x2] 4 371 [.inr (.inr 6), .inl x1, .inl x2] M N := by
  obtain ⟨v, hv, hx, hq⟩ := j_370 h x1
  have gx : ∀ (w : Int), (∀ (V : vv_) (Qr : qr_) (Qt : qt_), Cl_ wd0 (Tr_ wd0 pg0 2) V Qr Qt m_63 → Wk_ V → Qr [.inl w] M → V 17 [rr 0, ii x1, ii x2, ii v] [] M) → Ex_ 3 63 [.inr (.inr 0), .inl x1, .inl x2] M [.inl w] M := fun w k Qr Qt g => t_63 fun V hV hW => b_63_0 (Tr_mono _) hV hW _ _ _ fun _ => by
    rcases hx with ⟨e, ev⟩ | ⟨e, ex⟩
    · rw [if_pos e]; subst ev; exact k V Qr Qt hV hW g
    · rw [if_neg (by omega)]; exact Ex_le (d := 1) (by decide) ex _ _ (ri_i (k V Qr Qt hV hW g))
  rcases hv with e | ⟨⟨hs, r1, r2⟩, hv, hp⟩
  · subst e
    refine ⟨0, gx _ fun V Qr Qt hV hW g => b_63_17 (Tr_mono _) hV hW _ _ _ _ ?_, fun Qr Qt g => t_371 fun V hV hW => b_371_0 (Tr_mono _) hV hW _ _ _ (Ex_le (d := 3) (by decide) hq _ _ (ri_i ?_))⟩
    · rw [if_pos rfl]; exact g
    · rw [if_pos (by decide)]; exact g
  · have n12 := hs.1.1.1
    have hB : sB v = 2 + 56 * v := rfl
    have hi := hs.1.1.2.2.1 v hv.1 hv.2
    have pt := PL_T hs.2.1 hi.2.1.2.1
    have hT := hi.2.1.2.1
    have i2 := hi.1.2.1
    by_cases c1 : x2 < 0
    · refine ⟨0, gx _ fun V Qr Qt hV hW g => b_63_17 (Tr_mono _) hV hW _ _ _ _ ?_, fun Qr Qt g => t_371 fun V hV hW => b_371_0 (Tr_mono _) hV hW _ _ _ (Ex_le (d := 3) (by decide) hq _ _ (ri_i ?_))⟩
      · rw [if_neg (by omega), if_pos c1]; exact g
      · rw [if_neg (by (clear h hx hq gx hs r1 r2 hp n12 hB hi pt hT i2 c1 g hV hW; lia)), if_pos c1]; exact g
    · by_cases c2 : x2 < N 172 (M 11 v)
      · have e := hi.2.2.1.1 x2 (by (clear h hx hq gx hs r1 r2 hv hp n12 hB hi pt hT i2 c2; lia)) (by (clear h hx hq gx hs r1 r2 hv hp n12 hB hi hT i2 c1; omega))
        refine ⟨M 13 (16 * v + x2), gx _ fun V Qr Qt hV hW g => b_63_17 (Tr_mono _) hV hW _ _ _ _ ?_, fun Qr Qt g => t_371 fun V hV hW => b_371_0 (Tr_mono _) hV hW _ _ _ (Ex_le (d := 3) (by decide) hq _ _ (ri_i ?_))⟩
        · rw [if_neg (by omega), if_neg c1, if_pos (by omega), w32_id (x := 16 * v) (by omega) (by omega), w32_id (x := 16 * v + x2) (by (clear h hx hq gx hs r1 r2 hp n12 hB hi pt hT i2 c2 e hV hW g; omega)) (by (clear h hx hq gx hs r1 r2 hp hB hi hT i2 c1 e hV hW g; lia))]
          exact ⟨by omega, by omega, by omega, g⟩
        · rw [if_neg (by omega), if_neg c1]
          refine Ex_le (d := 1) (by decide) (q_323 (by (clear h hx hq gx hs r1 r2 hp hB hi pt hT i2 c1 c2 e g hV hW; omega))) _ _ (ri_i ?_)
          rw [w32_id (x := sB v + 1) (by omega) (by (clear h hx hq gx hs r1 r2 hp hi pt hT i2 c1 c2 e g hV hW; omega)), ← i2, if_pos c2]
          refine ⟨by omega, by omega, Ex_le (d := 1) (by decide) (q_323 (by omega)) _ _ (ri_i ?_)⟩
          rw [w32_id (x := sB v + 6) (by omega) (by omega), w32_id (x := sB v + 6 + x2) (by (clear h hx hq gx hs r1 r2 hp n12 hi pt hT i2 c2 e g hV hW; lia)) (by (clear h hx hq gx hs r1 r2 hp hi hT i2 c1 e g hV hW; omega)), ← e]
          exact ⟨by (clear h hx hq gx hs r1 r2 hp hi hT i2 e g hV hW; omega), g⟩
      · refine ⟨0, gx _ fun V Qr Qt hV hW g => b_63_17 (Tr_mono _) hV hW _ _ _ _ ?_, fun Qr Qt g => t_371 fun V hV hW => b_371_0 (Tr_mono _) hV hW _ _ _ (Ex_le (d := 3) (by decide) hq _ _ (ri_i ?_))⟩
        · rw [if_neg (by omega), if_neg c1, if_neg (by (clear h hx hq gx hs r1 r2 hv hp n12 hB hi hT i2 c1 hV hW g; omega))]
          exact ⟨by omega, by omega, g⟩
        · rw [if_neg (by omega), if_neg c1]
          refine Ex_le (d := 1) (by decide) (q_323 (by omega)) _ _ (ri_i ?_)
          rw [w32_id (x := sB v + 1) (by omega) (by omega), ← i2, if_neg c2]
          exact ⟨by omega, by omega, g⟩
theorem j_64 [Inhabited fz_] (h : LKR M N) : SM2 3 64 [.inr (.inr 0), .inl x1, .inl x2] 4 372 [.inr (.inr 6), .inl x1, .inl x2] M N := by
  obtain ⟨v, hv, hx, hq⟩ := j_370 h x1
  have gx : ∀ (w : Int), (∀ (V : vv_) (Qr : qr_) (Qt : qt_), Cl_ wd0 (Tr_ wd0 pg0 2) V Qr Qt m_64 → Wk_ V → Qr [.inl w] M → V 17 [rr 0, ii x1, ii x2, ii v] [] M) → Ex_ 3 64 [.inr (.inr 0), .inl x1, .inl x2] M [.inl w] M := fun w k Qr Qt g => t_64 fun V hV hW => b_64_0 (Tr_mono _) hV hW _ _ _ fun _ => by
    rcases hx with ⟨e, ev⟩ | ⟨e, ex⟩
    · rw [if_pos e]; subst ev; exact k V Qr Qt hV hW g
    · rw [if_neg (by omega)]; exact Ex_le (d := 1) (by decide) ex _ _ (ri_i (k V Qr Qt hV hW g))
  rcases hv with e | ⟨⟨hs, r1, r2⟩, hv, hp⟩
  · subst e
    refine ⟨-1, gx _ fun V Qr Qt hV hW g => b_64_17 (Tr_mono _) hV hW _ _ _ _ ?_, fun Qr Qt g => t_372 fun V hV hW => b_372_0 (Tr_mono _) hV hW _ _ _ (Ex_le (d := 3) (by decide) hq _ _ (ri_i ?_))⟩
    · rw [if_pos rfl]; exact g
    · rw [if_pos (by decide)]; exact g
  · have n12 := hs.1.1.1
    have hB : sB v = 2 + 56 * v := rfl
    have hi := hs.1.1.2.2.1 v hv.1 hv.2
    have pt := PL_T hs.2.1 hi.2.1.2.1
    have hT := hi.2.1.2.1
    have i2 := hi.1.2.1
    by_cases c1 : x2 < 0
    · refine ⟨-1, gx _ fun V Qr Qt hV hW g => b_64_17 (Tr_mono _) hV hW _ _ _ _ ?_, fun Qr Qt g => t_372 fun V hV hW => b_372_0 (Tr_mono _) hV hW _ _ _ (Ex_le (d := 3) (by decide) hq _ _ (ri_i ?_))⟩
      · rw [if_neg (by omega), if_pos c1]; exact g
      · rw [if_neg (by omega), if_pos c1]; exact g
    · have q2 : ∀ (Qr : qr_) (u : Int) (V : vv_) (Qt : qt_), Qr [.inl u] N → (x2 < N 173 (M 11 v) → u = N 239 (sB v + 22 + x2)) → (¬ x2 < N 173 (M 11 v) → u = -1) → Cl_ wd0 (Tr_ wd0 pg0 3) V Qr Qt m_372 → Wk_ V → V 0 [rr 6, ii x1, ii x2, none] [] N := fun Qr u V Qt g k1 k2 hV hW => b_372_0 (Tr_mono _) hV hW _ _ _ (Ex_le (d := 3) (by decide) hq _ _ (ri_i (by
        rw [if_neg (by omega), if_neg c1]
        refine Ex_le (d := 1) (by decide) (q_323 (by omega)) _ _ (ri_i ?_)
        rw [w32_id (x := sB v + 1) (by omega) (by omega), ← i2]
        refine ⟨by omega, by omega, ?_⟩
        by_cases c2 : x2 < N 173 (M 11 v)
        · rw [if_pos c2]
          refine Ex_le (d := 1) (by decide) (q_323 (by omega)) _ _ (ri_i ?_)
          rw [w32_id (x := sB v + 22) (by (clear h hx hq gx hs r1 r2 hp n12 hi pt hT i2 c1 g k1 k2 hV hW c2; lia)) (by (clear h hx hq gx hs r1 r2 hp hi pt hT i2 c1 g k1 k2 hV hW c2; lia)), w32_id (x := sB v + 22 + x2) (by (clear h hx hq gx hs r1 r2 hp n12 hi pt hT i2 g k1 k2 hV hW c2; lia)) (by (clear h hx hq gx hs r1 r2 hp hi hT i2 c1 g k1 k2 hV hW; lia)), ← k1 c2]
          exact ⟨by omega, g⟩
        · rw [if_neg c2, ← k2 c2]; exact g)))
      by_cases c3 : x2 < 3
      · have tm := hi.2.2.2.1 x2 (by (clear h hx hq gx hs r1 r2 hv hp n12 hB hi pt hT i2 q2; lia)) c3
        have w3 : w32 (w32 (3 * v) + x2) = 3 * v + x2 := by rw [w32_id (x := 3 * v) (by (clear h hx hq gx hs r1 r2 hp n12 hB hi pt hT i2 c1 q2 c3 tm; lia)) (by (clear h hx hq gx hs r1 r2 hp hB hi pt hT i2 c1 q2 c3 tm; lia)), w32_id (by (clear h hx hq gx hs r1 r2 hp n12 hB hi pt hT i2 q2 tm; lia)) (by (clear h hx hq gx hs r1 r2 hp hB hi pt hT i2 q2 tm; omega))]
        rcases tm.1 with ⟨d1, d2, d3⟩ | ⟨d1, d2⟩
        · have d4 : M 17 (3 * v + x2) = N 239 (sB v + 22 + x2) := by (clear h hx hq gx hs r1 r2 hv hp n12 hB hi pt hT i2 c1 q2 c3 tm w3 d1 d2; omega)
          refine ⟨M 17 (3 * v + x2), gx _ fun V Qr Qt hV hW g => b_64_17 (Tr_mono _) hV hW _ _ _ _ ?_, fun Qr Qt g => t_372 fun V hV hW => q2 Qr _ V Qt g (fun _ => d4) (fun c => by have := tm.2 (by (clear h hx hq gx hs r1 r2 hv hp n12 hB hi pt hT i2 c1 q2 c3 tm d1 d2 d3 d4 g hV hW; omega)); (clear h hx hq gx hs r1 r2 hv hp n12 hB hi pt hT i2 c1 q2 c3 tm w3 d2 d3 d4 g hV hW c; lia)) hV hW⟩
          rw [if_neg (by omega), if_neg c1, if_pos c3, w3]
          refine ⟨by (clear h hx hq gx hs r1 r2 hp hB hi pt hT i2 q2 tm d1 d2 d3 d4 hV hW g; lia), fun _ => ?_⟩
          rw [if_neg (by omega)]; exact ⟨by omega, g⟩
        · refine ⟨-1, gx _ fun V Qr Qt hV hW g => b_64_17 (Tr_mono _) hV hW _ _ _ _ ?_, fun Qr Qt g => t_372 fun V hV hW => q2 Qr _ V Qt g (fun _ => d2.symm) (fun c => rfl) hV hW⟩
          rw [if_neg (by omega), if_neg c1, if_pos c3, w3]
          refine ⟨by omega, fun _ => ?_⟩
          rw [if_pos d1]; exact g
      · refine ⟨-1, gx _ fun V Qr Qt hV hW g => b_64_17 (Tr_mono _) hV hW _ _ _ _ ?_, fun Qr Qt g => t_372 fun V hV hW => q2 Qr _ V Qt g (fun c => by (clear h hx hq gx hs r1 r2 hv hp n12 hB hi hT i2 c1 q2 g hV hW; omega)) (fun c => rfl) hV hW⟩
        rw [if_neg (by omega), if_neg c1, if_neg c3]; exact g
theorem j_65 [Inhabited fz_] (h : LKR M N) : SM2 3 65 [.inr (.inr 0), .inl x1, .inl x2, .inl x3] 4 373 [.inr (.inr 6), .inl x1, .inl x2, .inl x3] M N := by
  obtain ⟨v, hv, hx, hq⟩ := j_370 h x1
  have gx : ∀ (w : Int), (∀ (V : vv_) (Qr : qr_) (Qt : qt_), Cl_ wd0 (Tr_ wd0 pg0 2) V Qr Qt m_65 → Wk_ V → Qr [.inl w] M → V 18 [rr 0, ii x1, ii x2, ii x3, ii v] [] M) → Ex_ 3 65 [.inr (.inr 0), .inl x1, .inl x2, .inl x3] M [.inl w] M := fun w k Qr Qt g => t_65 fun V hV hW => b_65_0 (Tr_mono _) hV hW _ _ _ _ fun _ => by
    rcases hx with ⟨e, ev⟩ | ⟨e, ex⟩
    · rw [if_pos e]; subst ev; exact k V Qr Qt hV hW g
    · rw [if_neg (by omega)]; exact Ex_le (d := 1) (by decide) ex _ _ (ri_i (k V Qr Qt hV hW g))
  rcases hv with e | ⟨⟨hs, r1, r2⟩, hv, hp⟩
  · subst e
    refine ⟨-1, gx _ fun V Qr Qt hV hW g => b_65_18 (Tr_mono _) hV hW _ _ _ _ _ ?_, fun Qr Qt g => t_373 fun V hV hW => b_373_0 (Tr_mono _) hV hW _ _ _ _ (Ex_le (d := 3) (by decide) hq _ _ (ri_i ?_))⟩
    · rw [if_pos rfl]; exact g
    · rw [if_pos (by decide)]; exact g
  · have n12 := hs.1.1.1
    have hB : sB v = 2 + 56 * v := rfl
    have hi := hs.1.1.2.2.1 v hv.1 hv.2
    obtain ⟨⟨q0, q6, q25⟩, qe, _⟩ := hi.2.2.2.2
    have w25 : w32 (sB v + 25) = sB v + 25 := w32_id (by omega) (by omega)
    by_cases c1 : x2 < 0
    · refine ⟨-1, gx _ fun V Qr Qt hV hW g => b_65_18 (Tr_mono _) hV hW _ _ _ _ _ ?_, fun Qr Qt g => t_373 fun V hV hW => b_373_0 (Tr_mono _) hV hW _ _ _ _ (Ex_le (d := 3) (by decide) hq _ _ (ri_i ?_))⟩
      · rw [if_neg (by omega), if_pos c1]; exact g
      · rw [if_neg (by omega), if_pos c1]; exact g
    · by_cases c2 : x2 < M 14 v
      · by_cases c3 : x3 < 0
        · refine ⟨-1, gx _ fun V Qr Qt hV hW g => b_65_18 (Tr_mono _) hV hW _ _ _ _ _ ?_, fun Qr Qt g => t_373 fun V hV hW => b_373_0 (Tr_mono _) hV hW _ _ _ _ (Ex_le (d := 3) (by decide) hq _ _ (ri_i ?_))⟩
          · rw [if_neg (by omega), if_neg c1, if_pos c2, if_pos c3]; exact ⟨by omega, g⟩
          · rw [if_neg (by omega), if_neg c1]
            refine Ex_le (d := 1) (by decide) (q_323 (by omega)) _ _ (ri_i ?_)
            rw [w25, if_pos (by (clear h hx hq gx hs r1 r2 hv hp n12 hB hi q0 q6 qe w25 c1 c3 g hV hW; omega)), if_pos c3]; exact ⟨by omega, g⟩
        · by_cases c4 : x3 ≤ 4
          · have e := qe (5 * x2 + x3) (by (clear h hx hq gx hs r1 r2 hv hp n12 hB hi qe w25; omega)) (by (clear h hx hq gx hs r1 r2 hv hp n12 hB hi q0 q6 qe w25 c1; omega))
            refine ⟨M 15 (30 * v + (5 * x2 + x3)), gx _ fun V Qr Qt hV hW g => b_65_18 (Tr_mono _) hV hW _ _ _ _ _ ?_, fun Qr Qt g => t_373 fun V hV hW => b_373_0 (Tr_mono _) hV hW _ _ _ _ (Ex_le (d := 3) (by decide) hq _ _ (ri_i ?_))⟩
            · rw [if_neg (by omega), if_neg c1, if_pos c2, if_neg c3, if_pos c4]
              refine ⟨by omega, Ex_le (d := 1) (by decide) (x_9 (by omega) (by (clear h hx hq gx hs r1 r2 hv hp n12 hB hi qe w25 c3 c4 e hV hW g; omega))) _ _ (ri_i ?_)⟩
              rw [w32_id (x := 30 * v + 5 * x2 + x3) (by (clear h hx hq gx hs r1 r2 hp n12 hB hi qe w25 e hV hW g; omega)) (by (clear h hx hq gx hs r1 r2 hp hB hi qe w25 e hV hW g; omega)), show 30 * v + 5 * x2 + x3 = 30 * v + (5 * x2 + x3) by (clear h hx hq gx hs r1 r2 hv hp n12 hB hi q0 q6 q25 qe w25 c1 c2 c3 c4 e hV hW g; omega)]
              exact ⟨by omega, g⟩
            · rw [if_neg (by omega), if_neg c1]
              refine Ex_le (d := 1) (by decide) (q_323 (by omega)) _ _ (ri_i ?_)
              rw [w25, if_pos (by omega), if_neg c3, if_pos (by (clear h hx hq gx hs r1 r2 hv hp n12 hB hi q0 q6 q25 qe w25 c1 c2 e g hV hW; omega))]
              refine ⟨by omega, Ex_le (d := 1) (by decide) (q_323 (by omega)) _ _ (ri_i ?_)⟩
              rw [w25, w32_id (x := sB v + 25 + 1) (by (clear h hx hq gx hs r1 r2 hp n12 hi q0 q6 q25 qe w25 c1 c2 c3 c4 e g hV hW; omega)) (by omega), w32_id (x := 5 * x2) (by (clear h hx hq gx hs r1 r2 hv hp n12 hB hi q0 q6 q25 qe w25 c2 c3 c4 e g hV hW; omega)) (by (clear h hx hq gx hs r1 r2 hv hp n12 hB hi qe w25 c1 c3 c4 e g hV hW; omega)), w32_id (x := sB v + 25 + 1 + 5 * x2) (by (clear h hx hq gx hs r1 r2 hp n12 hi q0 q6 q25 qe w25 c2 c3 c4 e g hV hW; omega)) (by (clear h hx hq gx hs r1 r2 hp hi qe w25 c1 c3 c4 e g hV hW; lia)), w32_id (x := sB v + 25 + 1 + 5 * x2 + x3) (by omega) (by (clear h hx hq gx hs r1 r2 hp hi qe w25 e g hV hW; lia)), show sB v + 25 + 1 + 5 * x2 + x3 = sB v + 26 + (5 * x2 + x3) by (clear h hx hq gx hs r1 r2 hv hp n12 hB hi q0 q6 q25 qe w25 c1 c2 c3 c4 e g hV hW; omega), ← e]
              exact ⟨by omega, g⟩
          · refine ⟨-1, gx _ fun V Qr Qt hV hW g => b_65_18 (Tr_mono _) hV hW _ _ _ _ _ ?_, fun Qr Qt g => t_373 fun V hV hW => b_373_0 (Tr_mono _) hV hW _ _ _ _ (Ex_le (d := 3) (by decide) hq _ _ (ri_i ?_))⟩
            · rw [if_neg (by omega), if_neg c1, if_pos c2, if_neg c3, if_neg c4]; exact ⟨by omega, g⟩
            · rw [if_neg (by omega), if_neg c1]
              refine Ex_le (d := 1) (by decide) (q_323 (by omega)) _ _ (ri_i ?_)
              rw [w25, if_pos (by omega), if_neg c3, if_neg (by (clear h hx hq gx hs r1 r2 hv hp n12 hB hi q0 q6 q25 qe w25 c1 c2 c3 g hV hW; omega))]; exact ⟨by omega, g⟩
      · refine ⟨-1, gx _ fun V Qr Qt hV hW g => b_65_18 (Tr_mono _) hV hW _ _ _ _ _ ?_, fun Qr Qt g => t_373 fun V hV hW => b_373_0 (Tr_mono _) hV hW _ _ _ _ (Ex_le (d := 3) (by decide) hq _ _ (ri_i ?_))⟩
        · rw [if_neg (by omega), if_neg c1, if_neg c2]; exact ⟨by omega, g⟩
        · rw [if_neg (by omega), if_neg c1]
          refine Ex_le (d := 1) (by decide) (q_323 (by omega)) _ _ (ri_i ?_)
          rw [w25, if_neg (by (clear h hx hq gx hs r1 r2 hv hp n12 hB hi q0 q6 qe w25 c1 g hV hW; omega))]; exact ⟨by omega, g⟩
end LOa
end T395_lk
section T396_lk
/-! looks (X 66-71 | Q 374-379) -/
section LPa
variable {z : Int} {M N M' N' M1 N1 M2 N2 : mm_} {s k r T p w n x1 x2 x3 x4 x5 y : Int}
theorem j_66 [Inhabited fz_] (h : LKR M N) : SM2 2 66 [.inr (.inr 0), .inl x1, .inl x2, .inl x3] 2 374 [.inr (.inr 6), .inl x1, .inl x2, .inl x3] M N := by
  have no : ∀ (_ : (M 0 4 = 0 ∧ N 6 126 = 0) ∨ (RNS M N ∧ (x1 < 0 ∨ ¬ x1 < N 6 18 ∨ x2 < 0 ∨ ¬ x2 < M 21 x1 ∨ x3 < 0 ∨ ¬ x3 ≤ 6))), SM2 2 66 [.inr (.inr 0), .inl x1, .inl x2, .inl x3] 2 374 [.inr (.inr 6), .inl x1, .inl x2, .inl x3] M N := fun hc => by
    refine ⟨-1, fun Qr Qt g => t_66 fun V hV hW => b_66_0 (Tr_mono _) hV hW _ _ _ _ fun _ => ?_, fun Qr Qt g => t_374 fun V hV hW => b_374_0 (Tr_mono _) hV hW _ _ _ _ fun _ => ?_⟩
    · by_cases c : M 0 4 = 0
      · rw [if_pos c]; exact g
      · rw [if_neg c]
        obtain ⟨⟨hs, r1, r2⟩, hc⟩ := hc.resolve_left (fun e => c e.1)
        have p1 := (PLr_93 hs.2.1).1
        have h18 := hs.1.2.1.1
        by_cases c1 : x1 < 0
        · rw [if_pos c1]; exact g
        · rw [if_neg c1]
          by_cases c2 : x1 < N 6 18
          · rw [if_pos (by (clear h g hV hW c hc hs r1 r2 h18 c1; omega))]
            by_cases c3 : x2 < 0
            · rw [if_pos c3]; exact g
            · rw [if_neg c3]
              refine ⟨by (clear h g hV hW c hc hs r1 r2 p1 c3; omega), ?_⟩
              by_cases c4 : x2 < M 21 x1
              · rw [if_pos c4]
                by_cases c5 : x3 < 0
                · rw [if_pos c5]; exact g
                · rw [if_neg c5, if_neg (by omega)]; exact g
              · rw [if_neg c4]; exact g
          · rw [if_neg (by (clear h g hV hW c hc hs r1 r2 h18 c1; lia))]; exact g
    · by_cases c : N 6 126 = 0
      · rw [if_pos c]; exact g
      · rw [if_neg c]
        obtain ⟨⟨hs, r1, r2⟩, hc⟩ := hc.resolve_left (fun e => c e.2)
        have h18 := hs.1.2.1.1
        by_cases c1 : x1 < 0
        · rw [if_pos c1]; exact g
        · rw [if_neg c1]
          by_cases c2 : x1 < N 6 18
          · rw [if_pos c2]
            have ro := (hs.1.2.1.2.1 x1 (by omega) c2).1
            have hR : sR x1 = 674 + 43 * x1 := rfl
            by_cases c3 : x2 < 0
            · rw [if_pos c3]; exact g
            · rw [if_neg c3]
              refine q_327 (by (clear h g hV hW c hc hs r1 r2 ro hR c3; omega)) _ _ (ri_i ⟨by (clear h g hV hW c hc hs r1 r2 ro c3; omega), ?_⟩)
              by_cases c4 : x2 < M 21 x1
              · rw [if_pos (by omega)]
                by_cases c5 : x3 < 0
                · rw [if_pos c5]; exact g
                · rw [if_neg c5, if_neg (by omega)]; exact g
              · rw [if_neg (by (clear h g hV hW c hc hs r1 r2 h18 c1 c2 hR c3; omega))]; exact g
          · rw [if_neg c2]; exact g
  rcases h with h | h
  · exact no (.inl h)
  by_cases c : x1 < 0 ∨ ¬ x1 < N 6 18 ∨ x2 < 0 ∨ ¬ x2 < M 21 x1 ∨ x3 < 0 ∨ ¬ x3 ≤ 6
  · exact no (.inr ⟨h, c⟩)
  · obtain ⟨hs, r1, r2⟩ := h
    have p1 := (PLr_93 hs.2.1).1
    have h18 := hs.1.2.1.1
    obtain ⟨ro, rq, _⟩ := hs.1.2.1.2.1 x1 (by omega) (by omega)
    have hR : sR x1 = 674 + 43 * x1 := rfl
    obtain ⟨e1, e2, e3, _⟩ := rq x2 (by omega) (by omega)
    have e : M 22 (42 * x1 + 7 * x2 + x3) = N 239 (sR x1 + 1 + 7 * x2 + x3) := by
      by_cases c3 : x3 = 3
      · rw [c3]; exact e3 rfl
      · exact e1 x3 (by omega) (by omega) c3
    refine ⟨M 22 (42 * x1 + 7 * x2 + x3), fun Qr Qt g => t_66 fun V hV hW => b_66_0 (Tr_mono _) hV hW _ _ _ _ fun _ => ?_, fun Qr Qt g => t_374 fun V hV hW => b_374_0 (Tr_mono _) hV hW _ _ _ _ fun _ => ?_⟩
    · rw [if_neg (by omega), if_neg (by omega), if_pos (by (clear no hs r1 r2 h18 ro rq hR e1 e2 e3 e g hV hW; omega)), if_neg (by omega), if_pos (by omega), if_neg (by omega), if_pos (by (clear no hs r1 r2 p1 h18 ro rq hR e1 e2 e3 e g hV hW; omega))]
      refine ⟨by omega, x_2 (by omega) (by omega) _ _ (ri_i ?_)⟩
      rw [w32_id (x := 42 * x1 + 7 * x2 + x3) (by omega) (by (clear no hs r1 r2 rq hR e1 e2 e3 e g hV hW; omega))]
      exact ⟨by omega, g⟩
    · rw [if_neg (by omega), if_neg (by omega), if_pos (by omega), if_neg (by omega)]
      refine q_327 (by omega) _ _ (ri_i ⟨by (clear no hs r1 r2 ro rq e1 e2 e3 e g hV hW; omega), ?_⟩)
      rw [if_pos (by omega), if_neg (by omega), if_pos (by omega)]
      refine q_327 (by omega) _ _ (ri_i ?_)
      rw [w32_id (x := sR x1 + 1) (by (clear no hs r1 r2 p1 h18 ro rq e1 e2 e3 e g hV hW; omega)) (by omega), w32_id (x := 7 * x2) (by omega) (by omega), w32_id (x := sR x1 + 1 + 7 * x2) (by omega) (by (clear no hs r1 r2 rq e1 e2 e3 e g hV hW; omega)), w32_id (x := sR x1 + 1 + 7 * x2 + x3) (by omega) (by omega), ← e]
      exact ⟨by (clear no hs r1 r2 rq e1 e2 e3 e g hV hW; lia), g⟩
theorem j_67 [Inhabited fz_] (h : LKR M N) : SM2 1 67 [.inr (.inr 0), .inl x1, .inl x2] 1 375 [.inr (.inr 6), .inl x1, .inl x2] M N := by
  by_cases c0 : M 0 4 = 0
  · have c0' : N 6 126 = 0 := by rcases h with h | h; exact h.2; have := h.2.1; omega
    refine ⟨-1, fun Qr Qt g => t_67 fun V hV hW => b_67_0 (Tr_mono _) hV hW _ _ _ fun _ => ?_, fun Qr Qt g => t_375 fun V hV hW => b_375_0 (Tr_mono _) hV hW _ _ _ fun _ => ?_⟩
    · rw [if_pos c0]; exact g
    · rw [if_pos c0']; exact g
  obtain ⟨hs, r1, r2⟩ := h.resolve_left (fun e => c0 e.1)
  obtain ⟨⟨o1, ⟨o2, o3, o4⟩, o5, o6, o7⟩, o8⟩ := hs.1.2.2.2.1
  by_cases c : x1 < 0 ∨ ¬ x1 < M 0 34 ∨ x2 < 0 ∨ ¬ x2 ≤ 5
  · refine ⟨-1, fun Qr Qt g => t_67 fun V hV hW => b_67_0 (Tr_mono _) hV hW _ _ _ fun _ => ?_, fun Qr Qt g => t_375 fun V hV hW => b_375_0 (Tr_mono _) hV hW _ _ _ fun _ => ?_⟩
    · rw [if_neg c0]
      by_cases c1 : x1 < 0
      · rw [if_pos c1]; exact g
      · rw [if_neg c1]
        by_cases c2 : x1 < M 0 34
        · rw [if_pos c2]
          by_cases c3 : x2 < 0
          · rw [if_pos c3]; exact g
          · rw [if_neg c3, if_neg (by (clear h c0 hs r1 r2 o8 o1 o2 o3 o4 o6 o7 g hV hW; omega))]; exact g
        · rw [if_neg c2]; exact g
    · rw [if_neg (by omega)]
      by_cases c1 : x1 < 0
      · rw [if_pos c1]; exact g
      · rw [if_neg c1]
        by_cases c2 : x1 < M 0 34
        · rw [if_pos (by omega)]
          by_cases c3 : x2 < 0
          · rw [if_pos c3]; exact g
          · rw [if_neg c3, if_neg (by omega)]; exact g
        · rw [if_neg (by omega)]; exact g
  · have e1 : w32 (w32 (w32 (M 0 33 + 200) - M 0 34) + x1) = M 0 33 + 200 - M 0 34 + x1 := by
      rw [w32_id (x := M 0 33 + 200) (by omega) (by omega), w32_id (x := M 0 33 + 200 - M 0 34) (by (clear h c0 hs r1 r2 o8 o1 c; lia)) (by omega), w32_id (by omega) (by (clear h c0 hs r1 r2 o8 o1 o6 o7; omega))]
    have e2 : w32 (w32 (w32 (N 6 144 - N 6 145) + x1) + 200) = M 0 33 + 200 - M 0 34 + x1 := by
      rw [w32_id (x := N 6 144 - N 6 145) (by (clear h c0 hs r1 r2 o8 o1 c; lia)) (by (clear h c0 hs r1 r2 o8 o1 o6 o7; omega)), w32_id (x := N 6 144 - N 6 145 + x1) (by (clear h c0 hs r1 r2 o8 o1; omega)) (by (clear h c0 hs r1 r2 o8 o1 o6 o7; omega)), w32_id (by (clear h c0 hs r1 r2 o8 o1; lia)) (by (clear h c0 hs r1 r2 o8 o1 o6 o7; lia))]; (clear h c0 hs r1 r2 o8 o1 o3 o4 o6 o7 c e1; lia)
    have e3 : Int.tmod (M 0 33 + 200 - M 0 34 + x1) 200 = (M 0 33 + 200 - M 0 34 + x1) % 200 := Int.tmod_eq_emod_of_nonneg (by omega)
    generalize ht : (M 0 33 + 200 - M 0 34 + x1) % 200 = t at e3
    have w6 : w32 (w32 (6 * t) + x2) = 6 * t + x2 := by rw [w32_id (x := 6 * t) (by (clear h c0 hs r1 r2 o8 o1 o3 o4 o6 o7 c; omega)) (by (clear h c0 hs r1 r2 o8 o1 o3 o4 o6 o7 c; lia)), w32_id (by lia) (by (clear h c0 hs r1 r2 o8 o1 o3 o4 o6 o7; lia))]
    refine ⟨M 24 (6 * t + x2), fun Qr Qt g => t_67 fun V hV hW => b_67_0 (Tr_mono _) hV hW _ _ _ fun _ => ?_, fun Qr Qt g => t_375 fun V hV hW => b_375_0 (Tr_mono _) hV hW _ _ _ fun _ => ?_⟩
    · rw [if_neg c0, if_neg (by (clear h c0 hs r1 r2 o8 o1 o2 o3 o4 o5 o6 o7 e1 e2 ht e3 w6 g hV hW; omega)), if_pos (by (clear h c0 hs r1 r2 o8 o1 o2 o3 o4 o6 o7 e1 e2 ht e3 w6 g hV hW; omega)), if_neg (by (clear h c0 hs r1 r2 o8 o1 o2 o3 o4 o5 o6 o7 e1 e2 ht g hV hW; omega)), if_pos (by (clear h c0 hs r1 r2 o8 o1 o2 o3 o4 o5 o6 o7 e1 e2 ht g hV hW; omega)), e1, e3, w6]
      exact ⟨by decide, by (clear h c0 hs r1 r2 o8 o1 o3 o4 o6 o7 g hV hW; lia), g⟩
    · rw [if_neg (by (clear h c0 hs r1 o8 o1 o2 o3 o4 o5 o6 o7 c e1 e2 ht e3 w6 g hV hW; lia)), if_neg (by omega), if_pos (by (clear h c0 hs r1 r2 o8 o1 o2 o3 o4 o6 o7 e1 e2 ht e3 w6 g hV hW; omega)), if_neg (by omega), if_pos (by omega), e2, e3, w6, ← (o8 (6 * t + x2) (by lia) (by (clear h c0 hs r1 r2 o8 o1 o3 o4 o6 o7 g hV hW; lia))).1]
      exact ⟨by decide, by (clear h c0 hs r1 r2 o8 o1 o3 o4 o6 o7 g hV hW; omega), g⟩
theorem x_69 [Inhabited fz_] (h35 : 0 ≤ M 0 35 ∧ M 0 35 < 500) (h36 : 0 ≤ M 0 36 ∧ M 0 36 ≤ 500) (h1 : 0 ≤ x1 ∧ x1 < M 0 36) : Ex_ 1 69 [.inr (.inr 0), .inl x1] M [.inl (4 * ((M 0 35 + 500 - M 0 36 + x1) % 500))] M := fun Qr Qt g => t_69 fun V hV hW => b_69_0 (Tr_mono _) hV hW _ _ (by
  have e1 : w32 (w32 (w32 (M 0 35 + 500) - M 0 36) + x1) = M 0 35 + 500 - M 0 36 + x1 := by
    rw [w32_id (x := M 0 35 + 500) (by (clear h36 h1 g hV hW; omega)) (by (clear h36 h1 g hV hW; omega)), w32_id (x := M 0 35 + 500 - M 0 36) (by omega) (by omega), w32_id (by omega) (by omega)]
  have e3 : Int.tmod (M 0 35 + 500 - M 0 36 + x1) 500 = (M 0 35 + 500 - M 0 36 + x1) % 500 := Int.tmod_eq_emod_of_nonneg (by (clear g hV hW; lia))
  rw [e1, e3, w32_id (by (clear h35 h36 h1 g hV hW; lia)) (by omega)]
  exact ⟨by decide, g⟩)
theorem j_68 [Inhabited fz_] (h : LKR M N) : SM2 2 68 [.inr (.inr 0), .inl x1, .inl x2] 1 376 [.inr (.inr 6), .inl x1, .inl x2] M N := by
  by_cases c0 : M 0 4 = 0
  · have c0' : N 6 126 = 0 := by rcases h with h | h; exact h.2; have := h.2.1; omega
    refine ⟨-1, fun Qr Qt g => t_68 fun V hV hW => b_68_0 (Tr_mono _) hV hW _ _ _ fun _ => ?_, fun Qr Qt g => t_376 fun V hV hW => b_376_0 (Tr_mono _) hV hW _ _ _ fun _ => ?_⟩
    · rw [if_pos c0]; exact g
    · rw [if_pos c0']; exact g
  obtain ⟨hs, r1, r2⟩ := h.resolve_left (fun e => c0 e.1)
  obtain ⟨⟨o1, o2, o3, o4, o5⟩, o8⟩ := hs.1.2.2.2.2
  by_cases c : x1 < 0 ∨ ¬ x1 < M 0 36 ∨ x2 < 0 ∨ ¬ x2 ≤ 3
  · refine ⟨-1, fun Qr Qt g => t_68 fun V hV hW => b_68_0 (Tr_mono _) hV hW _ _ _ fun _ => ?_, fun Qr Qt g => t_376 fun V hV hW => b_376_0 (Tr_mono _) hV hW _ _ _ fun _ => ?_⟩
    · rw [if_neg c0]
      by_cases c1 : x1 < 0
      · rw [if_pos c1]; exact g
      · rw [if_neg c1]
        by_cases c2 : x1 < M 0 36
        · rw [if_pos c2]
          by_cases c3 : x2 < 0
          · rw [if_pos c3]; exact g
          · rw [if_neg c3, if_neg (by (clear h c0 hs r1 r2 o8 o1 o2 o3 o4 o5 g hV hW; omega))]; exact g
        · rw [if_neg c2]; exact g
    · rw [if_neg (by omega)]
      by_cases c1 : x1 < 0
      · rw [if_pos c1]; exact g
      · rw [if_neg c1]
        by_cases c2 : x1 < M 0 36
        · rw [if_pos (by omega)]
          by_cases c3 : x2 < 0
          · rw [if_pos c3]; exact g
          · rw [if_neg c3, if_neg (by omega)]; exact g
        · rw [if_neg (by (clear h c0 hs r1 r2 o8 o1 o3 o4 o5 c g hV hW c1; omega))]; exact g
  · have e3 : Int.tmod (N 6 143 + x1) 500 = (N 6 143 + x1) % 500 := Int.tmod_eq_emod_of_nonneg (by omega)
    have e4 : (M 0 35 + 500 - M 0 36 + x1) % 500 = (N 6 143 + x1) % 500 := by (clear h c0 hs r1 r2 o8 o3 o4 o5 c; lia)
    have x69 := x_69 (M := M) (x1 := x1) (by (clear h c0 hs r1 r2 o8 o3 o4 o5 c; lia)) (by (clear h c0 hs r1 r2 o8 o1 o4 o5 c e3 e4; omega)) (by omega)
    rw [e4] at x69
    generalize ht : (N 6 143 + x1) % 500 = t at *
    refine ⟨M 23 (4 * t + x2), fun Qr Qt g => t_68 fun V hV hW => b_68_0 (Tr_mono _) hV hW _ _ _ fun _ => ?_, fun Qr Qt g => t_376 fun V hV hW => b_376_0 (Tr_mono _) hV hW _ _ _ fun _ => ?_⟩
    · rw [if_neg c0, if_neg (by omega), if_pos (by omega), if_neg (by (clear h c0 hs r1 r2 o8 o1 o2 o3 o4 o5 ht e3 e4 x69 g hV hW; omega)), if_pos (by omega)]
      refine x69 _ _ (ri_i ?_)
      rw [w32_id (x := 4 * t + x2) (by (clear h c0 hs r1 r2 o8 o1 o2 o3 o4 o5 e4 x69 g hV hW; lia)) (by (clear h c0 hs r1 r2 o8 o1 o2 o3 o4 o5 e4 x69 g hV hW; omega))]
      exact ⟨by omega, g⟩
    · rw [if_neg (by omega), if_neg (by (clear h c0 hs r1 r2 o8 o1 o2 o3 o4 o5 ht e3 e4 x69 g hV hW; omega)), if_pos (by (clear h c0 hs r1 r2 o8 o1 o3 o4 o5 ht e3 e4 x69 g hV hW; omega)), if_neg (by omega), if_pos (by omega), w32_id (x := N 6 143 + x1) (by (clear h c0 hs r1 r2 o8 o1 o5 e4 x69 g hV hW; lia)) (by (clear h c0 hs r1 r2 o8 o1 o5 e4 x69 g hV hW; omega)), e3, w32_id (x := 4 * t) (by (clear h c0 hs r1 r2 o8 o1 o2 o3 o4 o5 c e4 x69 g hV hW; lia)) (by (clear h c0 hs r1 r2 o8 o1 o2 o3 o4 o5 c e4 x69 g hV hW; lia)), w32_id (x := 4 * t + x2) (by omega) (by (clear h c0 hs r1 r2 o8 o1 o2 o3 o4 o5 e4 x69 g hV hW; omega)), ← (o8 (4 * t + x2) (by (clear h c0 hs r1 r2 o8 o1 o2 o3 o4 o5 e4 x69 g hV hW; lia)) (by omega)).1]
      exact ⟨by decide, by omega, g⟩
/-- the plan that is there -/
def LDD (M N : mm_) : Prop := (M 0 3 = 0 ∧ N 6 6 = 0) ∨ ((M 0 3 = 1 ∧ N 6 6 = 1) ∧ PLr M N ∧ M 4 36 = N 6 120)
theorem j_71 [Inhabited fz_] (h : LDD M N) : SM2 1 71 [.inr (.inr 0), .inl x1, .inl x2] 1 379 [.inr (.inr 6), .inl x1, .inl x2] M N := by
  rcases h with ⟨a, b⟩ | ⟨⟨a, b⟩, hP, hw⟩
  · refine ⟨-1, fun Qr Qt g => t_71 fun V hV hW => b_71_0 (Tr_mono _) hV hW _ _ _ fun _ => ?_, fun Qr Qt g => t_379 fun V hV hW => b_379_0 (Tr_mono _) hV hW _ _ _ fun _ => ?_⟩
    · rw [if_pos a]; exact g
    · rw [if_pos b]; exact g
  · have p6 := hP.1.2.2
    rw [tbN_6 (by decide), swc_5] at p6
    by_cases c : x1 < 0 ∨ ¬ x1 < N 6 19
    · refine ⟨-1, fun Qr Qt g => t_71 fun V hV hW => b_71_0 (Tr_mono _) hV hW _ _ _ fun _ => ?_, fun Qr Qt g => t_379 fun V hV hW => b_379_0 (Tr_mono _) hV hW _ _ _ fun _ => ?_⟩
      · rw [if_neg (by (clear b hP hw p6 c g hV hW; lia))]
        by_cases c1 : x1 < 0
        · rw [if_pos c1]; exact g
        · rw [if_neg c1, if_neg (by (clear a b hP hw g hV hW; omega))]; exact g
      · rw [if_neg (by (clear a hP hw p6 c g hV hW; lia))]
        by_cases c1 : x1 < 0
        · rw [if_pos c1]; exact g
        · rw [if_neg c1, if_neg (by (clear a b hP hw p6 g hV hW; omega))]; exact g
    · obtain ⟨t6, ⟨a1, a2⟩, b1, b2, b3⟩ := PL_T hP (T := x1) (by (clear a b hP hw p6; omega))
      refine ⟨if x2 = 0 then M 90 x1 else if x2 = 1 then M 92 x1 else if x2 = 2 then M 93 x1 else if x2 = 3 then M 87 x1 else if x2 = 4 then M 88 x1 else -1, fun Qr Qt g => t_71 fun V hV hW => b_71_0 (Tr_mono _) hV hW _ _ _ fun _ => ?_, fun Qr Qt g => t_379 fun V hV hW => b_379_0 (Tr_mono _) hV hW _ _ _ fun _ => ?_⟩
      · rw [if_neg (by omega), if_neg (by omega), if_pos (by (clear a b hP hw t6 a1 a2 b1 b2 b3 g hV hW; omega))]
        by_cases c0 : x2 = 0
        · rw [if_pos c0] at g ⊢; exact ⟨by omega, g⟩
        rw [if_neg c0] at g ⊢
        by_cases c1 : x2 = 1
        · rw [if_pos c1] at g ⊢; exact ⟨by omega, g⟩
        rw [if_neg c1] at g ⊢
        by_cases c2 : x2 = 2
        · rw [if_pos c2] at g ⊢; exact ⟨by omega, g⟩
        rw [if_neg c2] at g ⊢
        by_cases c3 : x2 = 3
        · rw [if_pos c3] at g ⊢; exact ⟨by omega, g⟩
        rw [if_neg c3] at g ⊢
        by_cases c4 : x2 = 4
        · rw [if_pos c4] at g ⊢; exact ⟨by omega, g⟩
        rw [if_neg c4] at g ⊢; exact g
      · rw [if_neg (by omega), if_neg (by omega), if_pos (by omega), ← a1, ← a2, ← b1, ← b2.1, ← b3.1]
        by_cases c0 : x2 = 0
        · rw [if_pos c0] at g ⊢; exact ⟨by omega, g⟩
        rw [if_neg c0] at g ⊢
        by_cases c1 : x2 = 1
        · rw [if_pos c1] at g ⊢; exact ⟨by omega, g⟩
        rw [if_neg c1] at g ⊢
        by_cases c2 : x2 = 2
        · rw [if_pos c2] at g ⊢; exact ⟨by omega, g⟩
        rw [if_neg c2] at g ⊢
        by_cases c3 : x2 = 3
        · rw [if_pos c3] at g ⊢; exact ⟨by omega, g⟩
        rw [if_neg c3] at g ⊢
        by_cases c4 : x2 = 4
        · rw [if_pos c4] at g ⊢; exact ⟨by omega, g⟩
        rw [if_neg c4] at g ⊢; exact g
/-- counts of a search -/
def SCT (M N : mm_) : Prop := M 0 62 = N 6 163 ∧ (M 0 63 = N 6 169 ∧ BV (N 6 169)) ∧ M 0 64 = N 6 164
theorem q_378 [Inhabited fz_] (h : RNS M N) (hs : SCT M N) (h1 : 4 ≤ x1 ∧ x1 ≤ 18) (n14 : x1 ≠ 14) : Ex_ 1 378 [.inr (.inr 6), .inl x1] N [.inl (if x1 = 4 then M 0 9 else if x1 = 5 then M 0 7 else if x1 = 6 then M 0 26 else if x1 = 7 then M 0 27 else if x1 = 8 then M 0 28 else if x1 = 9 then M 0 29 else if x1 = 10 then M 0 30 else if x1 = 11 then M 0 31 else if x1 = 12 then M 0 32 else if x1 = 13 then M 0 36 else if x1 = 14 then M 0 64 else if x1 = 15 then M 0 10 else if x1 = 16 then M 0 62 else if x1 = 17 then M 0 63 else M 0 64)] N := fun Qr Qt g => t_378 fun V hV hW => b_378_0 (Tr_mono _) hV hW _ _ (by
  obtain ⟨⟨⟨u1, u2, u3, u4, u5⟩, _⟩, r1, r2⟩ := h
  obtain ⟨z1, ⟨z2, _⟩, ⟨z3, _⟩, ⟨y1, y2, y3, y4, y5, y6⟩, _⟩ := u3
  obtain ⟨s1, ⟨s2, s2'⟩, s3⟩ := hs
  have n7 := u1.1.2.2
  have o1 := u4.1.1
  have e1 := u5.1.2.1
  rw [z2, ← n7, y1, y2, y3, y4, y5, y6, o1, e1, s3, z3, s1, s2] at g
  by_cases c4 : x1 = 4
  · rw [if_pos c4] at g ⊢; exact g
  rw [if_neg c4] at g ⊢
  by_cases c5 : x1 = 5
  · rw [if_pos c5] at g ⊢; exact ⟨by decide, g⟩
  rw [if_neg c5] at g ⊢
  by_cases c6 : x1 = 6
  · rw [if_pos c6] at g ⊢; exact g
  rw [if_neg c6] at g ⊢
  by_cases c7 : x1 = 7
  · rw [if_pos c7] at g ⊢; exact g
  rw [if_neg c7] at g ⊢
  by_cases c8 : x1 = 8
  · rw [if_pos c8] at g ⊢; exact g
  rw [if_neg c8] at g ⊢
  by_cases c9 : x1 = 9
  · rw [if_pos c9] at g ⊢; exact g
  rw [if_neg c9] at g ⊢
  by_cases c10 : x1 = 10
  · rw [if_pos c10] at g ⊢; exact g
  rw [if_neg c10] at g ⊢
  by_cases c11 : x1 = 11
  · rw [if_pos c11] at g ⊢; exact g
  rw [if_neg c11] at g ⊢
  by_cases c12 : x1 = 12
  · rw [if_pos c12] at g ⊢; exact g
  rw [if_neg c12] at g ⊢
  by_cases c13 : x1 = 13
  · rw [if_pos c13] at g ⊢; exact g
  rw [if_neg c13] at g ⊢
  by_cases c14 : x1 = 14
  · exact absurd c14 n14
  rw [if_neg c14] at g ⊢
  by_cases c15 : x1 = 15
  · rw [if_pos c15] at g ⊢; exact g
  rw [if_neg c15] at g ⊢
  by_cases c16 : x1 = 16
  · rw [if_pos c16] at g ⊢; exact g
  rw [if_neg c16] at g ⊢
  by_cases c17 : x1 = 17
  · rw [if_pos c17] at g ⊢
    intro _
    rcases s2' with e | e
    · rw [if_pos e]; rw [e] at g; exact g
    · rw [if_neg (by (clear h1 n14 g hV hW u1 u2 u4 u5 r1 r2 z1 z2 z3 y1 y2 y3 y4 y5 y6 s1 s3 s2 n7 o1 e1 c4 c5 c6 c7 c8 c9 c10 c11 c12 c13 c14 c15 c16 c17; lia))]; rw [e] at g; exact g
  rw [if_neg c17] at g ⊢; exact g)
theorem j_70 [Inhabited fz_] (h : LKR M N) (hl : LDD M N) (hs : M 0 4 = 1 → SCT M N) (ht : M 0 6 = N 6 3) : SM2 1 70 [.inr (.inr 0), .inl x1] 2 377 [.inr (.inr 6), .inl x1] M N := by
  by_cases c4 : x1 < 4
  · by_cases cn : x1 < 0
    · refine ⟨-1, fun Qr Qt g => t_70 fun V hV hW => b_70_0 (Tr_mono _) hV hW _ _ ?_, fun Qr Qt g => t_377 fun V hV hW => b_377_0 (Tr_mono _) hV hW _ _ ?_⟩
      · rw [if_pos cn]; exact g
      · repeat rw [if_neg (by omega : ¬ x1 = _)]
        rw [if_pos cn]; exact g
    · rcases hl with ⟨a, b⟩ | ⟨⟨a, b⟩, hP, hw⟩
      · refine ⟨0, fun Qr Qt g => t_70 fun V hV hW => b_70_0 (Tr_mono _) hV hW _ _ ?_, fun Qr Qt g => t_377 fun V hV hW => b_377_0 (Tr_mono _) hV hW _ _ ?_⟩
        · rw [if_neg cn, if_pos (by (clear h hs ht a b g hV hW; omega)), if_neg (by omega), if_pos c4, if_pos a]; exact fun _ => g
        · by_cases c0 : x1 = 0
          · rw [if_pos c0, if_pos b]; exact fun _ => g
          by_cases c1 : x1 = 1
          · rw [if_neg c0, if_pos c1, if_pos b]; exact fun _ => g
          by_cases c2 : x1 = 2
          · rw [if_neg c0, if_neg c1, if_pos c2, if_pos b]; exact fun _ => g
          rw [if_neg c0, if_neg c1, if_neg c2, if_pos (by (clear h hs ht a b g hV hW; lia)), if_pos b]; exact fun _ => g
      · have p0 := hP.1
        rw [tbN_6 (by decide), tbN_6 (by decide), tbN_6 (by decide), swc_5] at p0
        refine ⟨if x1 = 0 then M 4 0 else if x1 = 1 then M 4 1 else if x1 = 2 then M 4 2 else M 4 36, fun Qr Qt g => t_70 fun V hV hW => b_70_0 (Tr_mono _) hV hW _ _ ?_, fun Qr Qt g => t_377 fun V hV hW => b_377_0 (Tr_mono _) hV hW _ _ ?_⟩
        · rw [if_neg cn, if_pos (by omega), if_neg (by omega), if_pos c4, if_neg (by omega)]
          intro _
          by_cases c0 : x1 = 0
          · rw [if_pos c0] at g ⊢; exact g
          rw [if_neg c0] at g ⊢
          by_cases c1 : x1 = 1
          · rw [if_pos c1] at g ⊢; exact g
          rw [if_neg c1] at g ⊢
          by_cases c2 : x1 = 2
          · rw [if_pos c2] at g ⊢; exact g
          rw [if_neg c2] at g ⊢; exact g
        · have nb : ¬ N 6 6 = 0 := by omega
          rw [← p0.1.1, ← p0.2.1.1, ← p0.2.2.1, ← hw]
          by_cases c0 : x1 = 0
          · rw [if_pos c0] at g ⊢; rw [if_neg nb]; exact fun _ => g
          rw [if_neg c0] at g ⊢
          by_cases c1 : x1 = 1
          · rw [if_pos c1] at g ⊢; rw [if_neg nb]; exact fun _ => g
          rw [if_neg c1] at g ⊢
          by_cases c2 : x1 = 2
          · rw [if_pos c2] at g ⊢; rw [if_neg nb]; exact fun _ => g
          rw [if_neg c2] at g ⊢
          rw [if_pos (by omega), if_neg nb]; exact fun _ => g
  · have e0 : ¬ x1 = 0 := by omega
    have e1 : ¬ x1 = 1 := by omega
    have e2 : ¬ x1 = 2 := by omega
    have e3 : ¬ x1 = 3 := by omega
    by_cases c14 : x1 = 14
    · refine ⟨M 0 6, fun Qr Qt g => t_70 fun V hV hW => b_70_0 (Tr_mono _) hV hW _ _ ?_, fun Qr Qt g => t_377 fun V hV hW => b_377_0 (Tr_mono _) hV hW _ _ ?_⟩
      · rw [if_neg (by (clear h hl hs ht c4 e0 e1 e2 e3 g hV hW; lia)), if_pos (by omega), if_pos c14]; exact g
      · rw [ht] at g
        repeat rw [if_neg (by omega : ¬ x1 = _)]
        rw [if_pos c14]; exact g
    · -- Q's cases are all alike
      have qa : ∀ (v : Int), (∀ (Qr : qr_) (Qt : qt_), Qr [.inl v] N → (if x1 < 0 then Qr [.inl (-1)] N else (if x1 ≤ 18 then (bl_ (N 6 126) → (if N 6 126 = 0 then Qr [.inl 0] N else Tr_ wd0 pg0 1 378 [.inr (.inr 6), .inl x1] N (ri_ fun v1 M1 => Qr [.inl v1] M1) Qt)) else Qr [.inl (-1)] N))) → Ex_ 2 377 [.inr (.inr 6), .inl x1] N [.inl v] N := fun v k Qr Qt g => t_377 fun V hV hW => b_377_0 (Tr_mono _) hV hW _ _ (by
        have kk := k Qr Qt g
        rw [if_neg e0, if_neg e1, if_neg e2, if_neg e3]
        by_cases c4 : x1 = 4
        · rw [if_pos c4]; exact kk
        rw [if_neg c4]
        by_cases c5 : x1 = 5
        · rw [if_pos c5]; exact kk
        rw [if_neg c5]
        by_cases c6 : x1 = 6
        · rw [if_pos c6]; exact kk
        rw [if_neg c6]
        by_cases c7 : x1 = 7
        · rw [if_pos c7]; exact kk
        rw [if_neg c7]
        by_cases c8 : x1 = 8
        · rw [if_pos c8]; exact kk
        rw [if_neg c8]
        by_cases c9 : x1 = 9
        · rw [if_pos c9]; exact kk
        rw [if_neg c9]
        by_cases c10 : x1 = 10
        · rw [if_pos c10]; exact kk
        rw [if_neg c10]
        by_cases c11 : x1 = 11
        · rw [if_pos c11]; exact kk
        rw [if_neg c11]
        by_cases c12 : x1 = 12
        · rw [if_pos c12]; exact kk
        rw [if_neg c12]
        by_cases c13 : x1 = 13
        · rw [if_pos c13]; exact kk
        rw [if_neg c13, if_neg c14]
        exact kk)
      by_cases c18 : x1 ≤ 18
      · rcases h with ⟨a, b⟩ | h
        · refine ⟨0, fun Qr Qt g => t_70 fun V hV hW => b_70_0 (Tr_mono _) hV hW _ _ ?_, qa 0 fun Qr Qt g => ?_⟩
          · rw [if_neg (by (clear hl hs ht e0 e1 e2 e3 c14 qa a b g hV hW; omega)), if_pos c18, if_neg c14, if_neg c4, if_pos a]; exact fun _ => g
          · rw [if_neg (by omega), if_pos c18, if_pos b]; exact fun _ => g
        · have q8 := q_378 h (hs h.2.1) (x1 := x1) (by omega) c14
          refine ⟨_, fun Qr Qt g => t_70 fun V hV hW => b_70_0 (Tr_mono _) hV hW _ _ ?_, qa _ fun Qr Qt (g : Qr [.inl _] N) => by
            have := h.2.2
            rw [if_neg (by omega), if_pos c18, if_neg (by omega)]
            exact fun _ => q8 _ _ (ri_i g)⟩
          · have := h.2.1
            rw [if_neg (by omega), if_pos c18, if_neg c14, if_neg c4, if_neg (by (clear hl hs ht c4 e0 e1 e2 e3 c14 qa c18 h q8 g hV hW; lia))]
            intro _
            by_cases c4 : x1 = 4
            · rw [if_pos c4] at g ⊢; exact g
            rw [if_neg c4] at g ⊢
            by_cases c5 : x1 = 5
            · rw [if_pos c5] at g ⊢; exact g
            rw [if_neg c5] at g ⊢
            by_cases c6 : x1 = 6
            · rw [if_pos c6] at g ⊢; exact g
            rw [if_neg c6] at g ⊢
            by_cases c7 : x1 = 7
            · rw [if_pos c7] at g ⊢; exact g
            rw [if_neg c7] at g ⊢
            by_cases c8 : x1 = 8
            · rw [if_pos c8] at g ⊢; exact g
            rw [if_neg c8] at g ⊢
            by_cases c9 : x1 = 9
            · rw [if_pos c9] at g ⊢; exact g
            rw [if_neg c9] at g ⊢
            by_cases c10 : x1 = 10
            · rw [if_pos c10] at g ⊢; exact g
            rw [if_neg c10] at g ⊢
            by_cases c11 : x1 = 11
            · rw [if_pos c11] at g ⊢; exact g
            rw [if_neg c11] at g ⊢
            by_cases c12 : x1 = 12
            · rw [if_pos c12] at g ⊢; exact g
            rw [if_neg c12] at g ⊢
            by_cases c13 : x1 = 13
            · rw [if_pos c13] at g ⊢; exact g
            rw [if_neg c13] at g ⊢
            rw [if_neg c14] at g ⊢
            by_cases c15 : x1 = 15
            · rw [if_pos c15] at g ⊢; exact g
            rw [if_neg c15] at g ⊢
            by_cases c16 : x1 = 16
            · rw [if_pos c16] at g ⊢; exact g
            rw [if_neg c16] at g ⊢
            by_cases c17 : x1 = 17
            · rw [if_pos c17] at g ⊢; exact g
            rw [if_neg c17] at g ⊢; exact g
      · refine ⟨-1, fun Qr Qt g => t_70 fun V hV hW => b_70_0 (Tr_mono _) hV hW _ _ ?_, qa (-1) fun Qr Qt g => ?_⟩
        · rw [if_neg (by omega), if_neg c18]; exact g
        · rw [if_neg (by omega), if_neg c18]; exact g
end LPa
end T396_lk
section T397_pk
/-! the search: states packed -/
def rgl (g : Int → Int) : Int → Nat → List Int
  | _, 0 => []
  | i, n + 1 => g i :: rgl g (i + 1) n
def onb (f : Int → Int) (b : Int) : Int := (if 0 ≤ f (b + 22) then 1 else 0) + (if 0 ≤ f (b + 22 + 1) then 2 else 0) + (if 0 ≤ f (b + 22 + 2) then 4 else 0)
/-- an instance, packed -/
def slT (N : mm_) (f : Int → Int) (b : Int) : List Int := rgl (fun c => f (b + 6 + c)) 0 (N 172 (f (b + 1))).toNat ++ (f (b + 25) :: rgl (fun q => f (b + 26 + q)) 0 (5 * f (b + 25)).toNat)
def slL (N : mm_) (f : Int → Int) (b : Int) : List Int := f b :: f (b + 1) :: f (b + 2) :: f (b + 3) :: f (b + 4) :: f (b + 5) :: onb f b :: slT N f b
def slsL (N : mm_) (f : Int → Int) : Int → Nat → List Int
  | _, 0 => []
  | x, n + 1 => slL N f (sB x) ++ slsL N f (x + 1) n
/-- a route's row, packed -/
def enL (f : Int → Int) (b : Int) : Int → Nat → List Int
  | _, 0 => []
  | q, n + 1 => f (b + 1 + 7 * q + 0) :: f (b + 1 + 7 * q + 1) :: f (b + 1 + 7 * q + 2) :: f (b + 1 + 7 * q + 4) :: f (b + 1 + 7 * q + 5) :: f (b + 1 + 7 * q + 6) :: enL f b (q + 1) n
def roL (f : Int → Int) (b : Int) : List Int := f b :: enL f b 0 (f b).toNat
def rosL (f : Int → Int) : Int → Nat → List Int
  | _, 0 => []
  | r, n + 1 => roL f (sR r) ++ rosL f (r + 1) n
def pkL (N : mm_) (f : Int → Int) : List Int := f 0 :: f 1 :: (slsL N f 0 (f 0).toNat ++ rosL f 0 (N 6 18).toNat)
/-- a row of a timeless run -/
def VSL (N : mm_) (f : Int → Int) (b : Int) : Prop := ((1 ≤ f b ∧ f b < f 1) ∧ (0 ≤ f (b + 1) ∧ f (b + 1) < N 6 19) ∧ (-1 ≤ f (b + 2) ∧ f (b + 2) < N 174 (f (b + 1))))
  ∧ (∀ i, N 172 (f (b + 1)) ≤ i → 0 ≤ i → i < 16 → f (b + 6 + i) = 0)
  ∧ (∀ t, 0 ≤ t → t < 3 → (f (b + 22 + t) = 0 ∨ f (b + 22 + t) = -1) ∧ (N 173 (f (b + 1)) ≤ t → f (b + 22 + t) = -1))
  ∧ ((0 ≤ f (b + 25) ∧ f (b + 25) ≤ 6) ∧ ∀ i, 5 * f (b + 25) ≤ i → i < 30 → f (b + 26 + i) = 0)
def VRO (f : Int → Int) (b : Int) : Prop := (0 ≤ f b ∧ f b ≤ 6) ∧ (∀ q, 0 ≤ q → q < f b → f (b + 1 + 7 * q + 3) = 0) ∧ ∀ i, 7 * f b ≤ i → i < 42 → f (b + 1 + i) = 0
def VR (N : mm_) (f : Int → Int) : Prop := ((0 ≤ f 0 ∧ f 0 ≤ 12) ∧ 1 ≤ f 1) ∧ (∀ k, 0 ≤ k → k < f 0 → VSL N f (sB k)) ∧ (∀ k, f 0 ≤ k → k < 12 → ∀ i, 0 ≤ i → i < 56 → f (sB k + i) = 0) ∧ (∀ r, 0 ≤ r → r < N 6 18 → VRO f (sR r)) ∧ ∀ r, N 6 18 ≤ r → r < 10 → ∀ i, 0 ≤ i → i < 43 → f (sR r + i) = 0
/-- the plan's bounds that packing needs -/
def PKB (N : mm_) : Prop := (0 ≤ N 6 18 ∧ N 6 18 ≤ 10) ∧ (0 ≤ N 6 19 ∧ N 6 19 ≤ 6) ∧ ∀ T, 0 ≤ T → T < N 6 19 → 0 ≤ N 172 T ∧ N 172 T ≤ 16
section PKa
variable {N : mm_} {f g : Int → Int} {i b x r : Int} {n m : Nat}
theorem rgl_len [Inhabited fz_] : ∀ (n : Nat) (i : Int), (rgl g i n).length = n
  | 0, _ => rfl
  | n + 1, i => by unfold rgl; rw [List.length_cons, rgl_len n]
theorem rgl_inj [Inhabited fz_] : ∀ (n : Nat) (i : Int), rgl f i n = rgl g i n → ∀ j, i ≤ j → j < i + n → f j = g j
  | 0, i, _, j, h0, h1 => by omega
  | n + 1, i, h, j, h0, h1 => by
    unfold rgl at h
    injection h with h1' h2'
    by_cases c : j = i
    · rw [c]; exact h1'
    · exact rgl_inj n (i + 1) h2' j (by (clear h1 h1' h2'; lia)) (by omega)
theorem rgl_cg [Inhabited fz_] : ∀ (n : Nat) (i : Int), (∀ j, i ≤ j → j < i + n → f j = g j) → rgl f i n = rgl g i n
  | 0, _, _ => rfl
  | n + 1, i, h => by unfold rgl; rw [h i (Int.le_refl _) (by (clear h; omega)), rgl_cg n (i + 1) (fun j a b => h j (by omega) (by omega))]
theorem onb_inj [Inhabited fz_] (hf : ∀ t, 0 ≤ t → t < 3 → f (b + 22 + t) = 0 ∨ f (b + 22 + t) = -1) (hg : ∀ t, 0 ≤ t → t < 3 → g (b + 22 + t) = 0 ∨ g (b + 22 + t) = -1) (h : onb f b = onb g b) : ∀ t, 0 ≤ t → t < 3 → f (b + 22 + t) = g (b + 22 + t) := by
  have f0 := hf 0 (by decide) (by decide)
  have f1 := hf 1 (by decide) (by decide)
  have f2 := hf 2 (by decide) (by decide)
  have g0 := hg 0 (by decide) (by decide)
  have g1 := hg 1 (by decide) (by decide)
  have g2 := hg 2 (by decide) (by decide)
  unfold onb at h
  rw [Int.add_zero] at f0 g0
  intro t t0 t1
  rcases (by (clear hf hg h f0 f1 f2 g0 g1 g2; lia) : t = 0 ∨ t = 1 ∨ t = 2) with e | e | e
  · subst e; rw [Int.add_zero]; split at h <;> split at h <;> split at h <;> split at h <;> split at h <;> split at h <;> omega
  · subst e; split at h <;> split at h <;> split at h <;> split at h <;> split at h <;> split at h <;> omega
  · subst e; split at h <;> split at h <;> split at h <;> split at h <;> split at h <;> split at h <;> omega
/-- an instance is told by its packing -/
theorem slL_inj [Inhabited fz_] {s t : List Int} (hf : VSL N f b) (hg : VSL N g b) (h : slL N f b ++ s = slL N g b ++ t) : (∀ i, 0 ≤ i → i < 56 → f (b + i) = g (b + i)) ∧ s = t := by
  unfold slL at h
  simp only [List.cons_append, List.cons.injEq] at h
  obtain ⟨a0, a1, a2, a3, a4, a5, a6, h⟩ := h
  unfold slT at h
  rw [← a1, List.append_assoc, List.append_assoc] at h
  obtain ⟨c1, h⟩ := List.append_inj h (by rw [rgl_len, rgl_len])
  simp only [List.cons_append, List.cons.injEq] at h
  obtain ⟨q1, h⟩ := h
  rw [← q1] at h
  obtain ⟨c2, h⟩ := List.append_inj h (by rw [rgl_len, rgl_len])
  refine ⟨fun i i0 i1 => ?_, h⟩
  have cc := rgl_inj _ _ c1
  have qq := rgl_inj _ _ c2
  have vf := hf.2.1
  have vg := hg.2.1
  rw [← a1] at vg
  have tf := hf.2.2.1
  have tg := hg.2.2.1
  have tt := onb_inj (fun t a b => (tf t a b).1) (fun t a b => (tg t a b).1) a6
  have uf := hf.2.2.2
  have ug := hg.2.2.2
  rw [← q1] at ug
  rcases (by (clear hf hg a0 a1 a2 a3 a4 a5 a6 c1 q1 c2 h cc qq vf vg tf tg tt uf ug; lia) : i = 0 ∨ i = 1 ∨ i = 2 ∨ i = 3 ∨ i = 4 ∨ i = 5 ∨ (6 ≤ i ∧ i < 22) ∨ (22 ≤ i ∧ i < 25) ∨ i = 25 ∨ (26 ≤ i ∧ i < 56)) with e | e | e | e | e | e | e | e | e | e
  · rw [e, Int.add_zero]; exact a0
  · rw [e]; exact a1
  · rw [e]; exact a2
  · rw [e]; exact a3
  · rw [e]; exact a4
  · rw [e]; exact a5
  · rw [show b + i = b + 6 + (i - 6) by (clear hf hg a0 a1 a2 a3 a4 a5 a6 c1 q1 c2 h i0 i1 cc qq vf vg tf tg tt uf ug e; omega)]
    by_cases c : i - 6 < N 172 (f (b + 1))
    · exact cc (i - 6) (by (clear hf hg a0 a1 a2 a3 a4 a5 a6 c1 q1 c2 h cc qq vf vg tf tg tt uf ug c; omega)) (by (clear hf hg a0 a1 a2 a3 a4 a5 a6 c1 q1 c2 h cc qq vf vg tf tg tt uf ug; omega))
    · rw [vf (i - 6) (by omega) (by omega) (by (clear hf hg a0 a1 a2 a3 a4 a5 a6 c1 q1 c2 h cc qq vf vg tf tg tt uf ug c; omega)), vg (i - 6) (by omega) (by omega) (by omega)]
  · rw [show b + i = b + 22 + (i - 22) by omega]; exact tt (i - 22) (by omega) (by (clear hf hg a0 a1 a2 a3 a4 a5 a6 c1 q1 c2 h cc qq vf vg tf tg tt uf ug; omega))
  · rw [e]; exact q1
  · rw [show b + i = b + 26 + (i - 26) by omega]
    by_cases c : i - 26 < 5 * f (b + 25)
    · exact qq (i - 26) (by (clear hf hg a0 a1 a2 a3 a4 a5 a6 c1 q1 c2 h cc qq vf vg tf tg tt uf ug c; omega)) (by (clear hf hg a0 a1 a2 a3 a4 a5 a6 c1 c2 h cc qq vf vg tf tg tt ug; omega))
    · rw [uf.2 (i - 26) (by (clear hf hg a0 a1 a2 a3 a4 a5 a6 c1 c2 h i0 i1 cc qq vf vg tf tg tt uf ug e; omega)) (by (clear hf hg a0 a1 a2 a3 a4 a5 a6 c1 q1 c2 h cc qq vf vg tf tg tt uf ug c; omega)), ug.2 (i - 26) (by (clear hf hg a0 a1 a2 a3 a4 a5 a6 c1 c2 h i0 i1 cc qq vf vg tf tg tt uf ug e; omega)) (by omega)]
theorem slsL_inj [Inhabited fz_] {s t : List Int} : ∀ (n : Nat) (x : Int), (∀ k, x ≤ k → k < x + n → VSL N f (sB k) ∧ VSL N g (sB k)) → slsL N f x n ++ s = slsL N g x n ++ t → (∀ k, x ≤ k → k < x + n → ∀ i, 0 ≤ i → i < 56 → f (sB k + i) = g (sB k + i)) ∧ s = t
  | 0, x, _, h => ⟨fun k a b => by omega, h⟩
  | n + 1, x, hv, h => by
    unfold slsL at h
    rw [List.append_assoc, List.append_assoc] at h
    obtain ⟨a, h⟩ := slL_inj (hv x (Int.le_refl _) (by omega)).1 (hv x (Int.le_refl _) (by omega)).2 h
    obtain ⟨b, h⟩ := slsL_inj n (x + 1) (fun k a b => hv k (by omega) (by omega)) h
    refine ⟨fun k k0 k1 => ?_, h⟩
    by_cases c : k = x
    · rw [c]; exact a
    · exact b k (by (clear hv a b h k1; lia)) (by omega)
theorem enL_inj [Inhabited fz_] {s t : List Int} : ∀ (n : Nat) (q : Int), enL f b q n ++ s = enL g b q n ++ t → (∀ j, q ≤ j → j < q + n → ∀ i, 0 ≤ i → i < 7 → i ≠ 3 → f (b + 1 + 7 * j + i) = g (b + 1 + 7 * j + i)) ∧ s = t
  | 0, q, h => ⟨fun k a b => by omega, h⟩
  | n + 1, q, h => by
    unfold enL at h
    simp only [List.cons_append, List.cons.injEq] at h
    obtain ⟨a0, a1, a2, a4, a5, a6, h⟩ := h
    obtain ⟨p, h⟩ := enL_inj n (q + 1) h
    refine ⟨fun j j0 j1 i i0 i1 i3 => ?_, h⟩
    by_cases c : j = q
    · rw [c]
      rcases (by (clear a0 a1 a2 a4 a5 a6 p h j0 j1 c; lia) : i = 0 ∨ i = 1 ∨ i = 2 ∨ i = 4 ∨ i = 5 ∨ i = 6) with e | e | e | e | e | e <;> (rw [e]; assumption)
    · exact p j (by (clear a0 a1 a2 a4 a5 a6 p h j1 i0 i1 i3; lia)) (by (clear a0 a1 a2 a4 a5 a6 p h j0 i0 i1 i3 c; omega)) i i0 i1 i3
theorem roL_inj [Inhabited fz_] {s t : List Int} (hf : VRO f b) (hg : VRO g b) (h : roL f b ++ s = roL g b ++ t) : (∀ i, 0 ≤ i → i < 43 → f (b + i) = g (b + i)) ∧ s = t := by
  unfold roL at h
  simp only [List.cons_append, List.cons.injEq] at h
  obtain ⟨a0, h⟩ := h
  rw [← a0] at h
  obtain ⟨p, h⟩ := enL_inj _ _ h
  refine ⟨fun i i0 i1 => ?_, h⟩
  obtain ⟨f1, f2, f3⟩ := hf
  obtain ⟨g1, g2, g3⟩ := hg
  rw [← a0] at g2 g3
  by_cases c : i = 0
  · rw [c, Int.add_zero]; exact a0
  · by_cases c2 : i - 1 < 7 * f b
    · have e : b + i = b + 1 + 7 * ((i - 1) / 7) + (i - 1) % 7 := by (clear a0 p h i0 i1 f1 f2 f3 g1 g2 g3 c c2; lia)
      rw [e]
      by_cases c3 : (i - 1) % 7 = 3
      · rw [c3, f2 _ (by (clear a0 p h f1 f2 f3 g1 g2 g3 c c2 e; omega)) (by omega), g2 _ (by omega) (by omega)]
      · exact p ((i - 1) / 7) (by (clear a0 p h f1 f2 f3 g1 g2 g3 c2 e; lia)) (by (clear p h f2 f3 g1 g2 g3 c e c3; lia)) _ (by (clear a0 p h i0 i1 f1 f2 f3 g1 g2 g3 c c2 e c3; omega)) (by (clear a0 p h i0 i1 f1 f2 f3 g1 g2 g3 c c2 e c3; omega)) c3
    · rw [show b + i = b + 1 + (i - 1) by omega, f3 _ (by (clear p h i0 i1 f1 f2 f3 g1 g2 g3 c; lia)) (by omega), g3 _ (by omega) (by omega)]
theorem rosL_inj [Inhabited fz_] : ∀ (n : Nat) (x : Int), (∀ k, x ≤ k → k < x + n → VRO f (sR k) ∧ VRO g (sR k)) → rosL f x n = rosL g x n → ∀ k, x ≤ k → k < x + n → ∀ i, 0 ≤ i → i < 43 → f (sR k + i) = g (sR k + i)
  | 0, x, _, h => fun k a b => by omega
  | n + 1, x, hv, h => by
    unfold rosL at h
    obtain ⟨a, h⟩ := roL_inj (hv x (Int.le_refl _) (by omega)).1 (hv x (Int.le_refl _) (by omega)).2 h
    have b := rosL_inj n (x + 1) (fun k a b => hv k (by omega) (by omega)) h
    intro k k0 k1
    by_cases c : k = x
    · rw [c]; exact a
    · exact b k (by omega) (by omega)
/-- a state is told by its packing -/
theorem pkL_inj [Inhabited fz_] (hN : 0 ≤ N 6 18 ∧ N 6 18 ≤ 10) (hf : VR N f) (hg : VR N g) (h : pkL N f = pkL N g) : ∀ i, 0 ≤ i → i < 1104 → f i = g i := by
  unfold pkL at h
  injection h with a0 h
  injection h with a1 h
  obtain ⟨⟨f1, f1'⟩, f2, f3, f4, f5⟩ := hf
  obtain ⟨⟨g1, g1'⟩, g2, g3, g4, g5⟩ := hg
  rw [← a0] at g1 g2 g3 h
  obtain ⟨b, h⟩ := slsL_inj _ _ (fun k k0 k1 => ⟨f2 k k0 (by (clear hN a1 h f1' f2 f3 f4 f5 g1 g1' g2 g3 g4 g5 k0; omega)), g2 k k0 (by omega)⟩) h
  have c := rosL_inj _ _ (fun k k0 k1 => ⟨f4 k k0 (by omega), g4 k k0 (by omega)⟩) h
  intro i i0 i1
  rcases (by omega : i = 0 ∨ i = 1 ∨ (2 ≤ i ∧ i < 674) ∨ (674 ≤ i ∧ i < 1104)) with e | e | e | e
  · rw [e]; exact a0
  · rw [e]; exact a1
  · have ei : i = sB ((i - 2) / 56) + (i - 2) % 56 := by unfold sB; (clear hN a0 a1 f1 f1' f2 f3 f4 f5 g1 g1' g2 g3 g4 g5 b h c i0 i1 e; omega)
    rw [ei]
    by_cases c1 : (i - 2) / 56 < f 0
    · exact b _ (by omega) (by (clear hN a1 f1' f2 f3 f4 f5 g1 g1' g2 g3 g4 g5 b h c ei; lia)) _ (by omega) (by omega)
    · rw [f3 _ (by omega) (by (clear hN a0 a1 f1 f1' f2 f3 f4 f5 g1 g1' g2 g3 g4 g5 b h c ei c1; omega)) _ (by omega) (by omega), g3 _ (by omega) (by omega) _ (by omega) (by omega)]
  · have ei : i = sR ((i - 674) / 43) + (i - 674) % 43 := by unfold sR; omega
    rw [ei]
    by_cases c1 : (i - 674) / 43 < N 6 18
    · exact c _ (by (clear hN a0 a1 f1 f1' f2 f3 f4 f5 g1 g1' g2 g3 g4 g5 b h c ei c1; omega)) (by omega) _ (by (clear hN a0 a1 f1 f1' f2 f3 f4 f5 g1 g1' g2 g3 g4 g5 b h c i0 i1 e ei c1; omega)) (by omega)
    · rw [f5 _ (by omega) (by omega) _ (by omega) (by omega), g5 _ (by omega) (by omega) _ (by omega) (by omega)]
/-- how long it is -/
theorem slL_len [Inhabited fz_] (hT : N 172 (f (b + 1)) ≤ 16) (hq : f (b + 25) ≤ 6) : (slL N f b).length ≤ 54 := by
  unfold slL slT
  simp only [List.length_cons, List.length_append, rgl_len]
  omega
theorem slsL_len [Inhabited fz_] : ∀ (n : Nat) (x : Int), (∀ k, x ≤ k → k < x + n → N 172 (f (sB k + 1)) ≤ 16 ∧ f (sB k + 25) ≤ 6) → (slsL N f x n).length ≤ 54 * n
  | 0, x, _ => by unfold slsL; exact Nat.le_refl _
  | n + 1, x, h => by
    unfold slsL
    rw [List.length_append]
    have a := slL_len (N := N) (f := f) (b := sB x) (h x (Int.le_refl _) (by omega)).1 (h x (Int.le_refl _) (by omega)).2
    have b := slsL_len n (x + 1) (fun k k0 k1 => h k (by omega) (by omega))
    omega
theorem enL_len [Inhabited fz_] : ∀ (n : Nat) (q : Int), (enL f b q n).length = 6 * n
  | 0, _ => rfl
  | n + 1, q => by unfold enL; simp only [List.length_cons, enL_len n]; lia
theorem rosL_len [Inhabited fz_] : ∀ (n : Nat) (x : Int), (∀ k, x ≤ k → k < x + n → f (sR k) ≤ 6) → (rosL f x n).length ≤ 37 * n
  | 0, x, _ => by unfold rosL; exact Nat.le_refl _
  | n + 1, x, h => by
    unfold rosL roL
    rw [List.length_append, List.length_cons, enL_len]
    have a := h x (Int.le_refl _) (by omega)
    have b := rosL_len n (x + 1) (fun k k0 k1 => h k (by omega) (by (clear h a k0; omega)))
    omega
theorem pkL_len [Inhabited fz_] (hN : PKB N) (hf : VR N f) : (pkL N f).length ≤ 1020 := by
  unfold pkL
  rw [List.length_cons, List.length_cons, List.length_append]
  obtain ⟨⟨f1, f1'⟩, f2, f3, f4, f5⟩ := hf
  have a := slsL_len (N := N) (f := f) (f 0).toNat 0 (fun k k0 k1 => by
    have v := f2 k k0 (by (clear hN f1' f2 f3 f4 f5 k0; omega))
    exact ⟨(hN.2.2 _ v.1.2.1.1 v.1.2.1.2).2, v.2.2.2.1.2⟩)
  have b := rosL_len (f := f) (N 6 18).toNat 0 (fun k k0 k1 => (f4 k k0 (by omega)).1.2)
  have := hN.1
  (clear hN f1' f2 f3 f4 f5; omega)
/-- only the row matters -/
theorem VSL_c [Inhabited fz_] (h : VSL N f b) (e1 : f 1 = g 1) (e : ∀ i, 0 ≤ i → i < 56 → f (b + i) = g (b + i)) : VSL N g b := by
  have e0 := e 0 (by decide) (by decide)
  rw [Int.add_zero] at e0
  unfold VSL at h ⊢
  rw [← e1, ← e0, ← e 1 (by decide) (by decide), ← e 2 (by decide) (by decide), ← e 25 (by decide) (by decide)]
  refine ⟨h.1, fun i i0 i1 i2 => ?_, fun t t0 t1 => ?_, h.2.2.2.1, fun i i0 i1 => ?_⟩
  · have := e (6 + i) (by omega) (by omega)
    rw [show b + (6 + i) = b + 6 + i by (clear h e1 e e0 i0 i1 i2 this; lia)] at this
    rw [← this]; exact h.2.1 i i0 i1 i2
  · have := e (22 + t) (by (clear h e1 e e0; lia)) (by omega)
    rw [show b + (22 + t) = b + 22 + t by (clear h e1 e e0 t0 t1 this; lia)] at this
    rw [← this]; exact h.2.2.1 t t0 t1
  · have := e (26 + i) (by have := h.2.2.2.1; (clear e1 e e0 i1 this; omega)) (by omega)
    rw [show b + (26 + i) = b + 26 + i by (clear h e1 e e0 i0 i1 this; lia)] at this
    rw [← this]; exact h.2.2.2.2 i i0 i1
theorem VRO_c [Inhabited fz_] (h : VRO f b) (e : ∀ i, 0 ≤ i → i < 43 → f (b + i) = g (b + i)) : VRO g b := by
  have e0 := e 0 (by decide) (by decide)
  rw [Int.add_zero] at e0
  unfold VRO at h ⊢
  rw [← e0]
  refine ⟨h.1, fun q q0 q1 => ?_, fun i i0 i1 => ?_⟩
  · have := e (1 + 7 * q + 3) (by omega) (by have := h.1; (clear e q0 this; omega))
    rw [show b + (1 + 7 * q + 3) = b + 1 + 7 * q + 3 by (clear h e e0 q0 q1 this; lia)] at this
    rw [← this]; exact h.2.1 q q0 q1
  · have := e (1 + i) (by have := h.1; (clear e i1 this; omega)) (by omega)
    rw [show b + (1 + i) = b + 1 + i by omega] at this
    rw [← this]; exact h.2.2 i i0 i1
theorem VR_c [Inhabited fz_] (hN : 0 ≤ N 6 18 ∧ N 6 18 ≤ 10) (h : VR N f) (e : ∀ i, 0 ≤ i → i < 1104 → f i = g i) : VR N g := by
  obtain ⟨h1, h2, h3, h4, h5⟩ := h
  have e0 := e 0 (by decide) (by decide)
  have e1 := e 1 (by decide) (by decide)
  refine ⟨by rw [← e0, ← e1]; exact h1, fun k k0 k1 => VSL_c (h2 k k0 (by rw [e0]; exact k1)) e1 (fun i i0 i1 => e _ (by unfold sB; (clear hN e h2 h3 h4 h5 e1; lia)) (by unfold sB; omega)), fun k k0 k1 i i0 i1 => ?_, fun r r0 r1 => VRO_c (h4 r r0 r1) (fun i i0 i1 => e _ (by unfold sR; (clear e h1 h2 h3 h4 h5 e0 e1; lia)) (by unfold sR; omega)), fun r r0 r1 i i0 i1 => ?_⟩
  · rw [← e _ (by unfold sB; (clear hN e h2 h3 h4 h5 e1; lia)) (by unfold sB; omega)]; exact h3 k (by rw [e0]; exact k0) k1 i i0 i1
  · rw [← e _ (by unfold sR; (clear e h1 h2 h3 h4 h5 e0 e1; lia)) (by unfold sR; omega)]; exact h5 r r0 r1 i i0 i1
theorem slL_cg [Inhabited fz_] (e : ∀ i, 0 ≤ i → i < 56 → f (b + i) = g (b + i)) (hT : N 172 (f (b + 1)) ≤ 16) (hq : f (b + 25) ≤ 6) : slL N f b = slL N g b := by
  have e0 := e 0 (by decide) (by decide)
  rw [Int.add_zero] at e0
  unfold slL slT onb
  rw [e0, e 1 (by decide) (by decide), e 2 (by decide) (by decide), e 3 (by decide) (by decide), e 4 (by decide) (by decide), e 5 (by decide) (by decide), e 25 (by decide) (by decide), e 22 (by decide) (by decide), show b + 22 + 1 = b + 23 by (clear e hT hq e0; lia), show b + 22 + 2 = b + 24 by (clear e hT hq e0; lia), e 23 (by decide) (by decide), e 24 (by decide) (by decide)]
  rw [e 1 (by decide) (by decide)] at hT
  rw [e 25 (by decide) (by decide)] at hq
  rw [rgl_cg (f := fun c => f (b + 6 + c)) (g := fun c => g (b + 6 + c)) _ _ (fun j j0 j1 => by
    have := e (6 + j) (by (clear e hT hq e0 j1; omega)) (by omega)
    rw [show b + (6 + j) = b + 6 + j by omega] at this; exact this), rgl_cg (f := fun q => f (b + 26 + q)) (g := fun q => g (b + 26 + q)) _ _ (fun j j0 j1 => by
    have := e (26 + j) (by omega) (by omega)
    rw [show b + (26 + j) = b + 26 + j by omega] at this; exact this)]
theorem slsL_cg [Inhabited fz_] : ∀ (n : Nat) (x : Int), (∀ k, x ≤ k → k < x + n → (∀ i, 0 ≤ i → i < 56 → f (sB k + i) = g (sB k + i)) ∧ N 172 (f (sB k + 1)) ≤ 16 ∧ f (sB k + 25) ≤ 6) → slsL N f x n = slsL N g x n
  | 0, _, _ => rfl
  | n + 1, x, h => by
    unfold slsL
    have a := h x (Int.le_refl _) (by omega)
    rw [slL_cg a.1 a.2.1 a.2.2, slsL_cg n (x + 1) (fun k k0 k1 => h k (by omega) (by omega))]
theorem enL_cg [Inhabited fz_] : ∀ (n : Nat) (q : Int), (∀ j, q ≤ j → j < q + n → ∀ i, 0 ≤ i → i < 7 → f (b + 1 + 7 * j + i) = g (b + 1 + 7 * j + i)) → enL f b q n = enL g b q n
  | 0, _, _ => rfl
  | n + 1, q, h => by
    unfold enL
    have a := h q (Int.le_refl _) (by omega)
    rw [a 0 (by decide) (by decide), a 1 (by decide) (by decide), a 2 (by decide) (by decide), a 4 (by decide) (by decide), a 5 (by decide) (by decide), a 6 (by decide) (by decide), enL_cg n (q + 1) (fun j j0 j1 => h j (by omega) (by omega))]
theorem rosL_cg [Inhabited fz_] : ∀ (n : Nat) (x : Int), (∀ k, x ≤ k → k < x + n → (∀ i, 0 ≤ i → i < 43 → f (sR k + i) = g (sR k + i)) ∧ f (sR k) ≤ 6) → rosL f x n = rosL g x n
  | 0, _, _ => rfl
  | n + 1, x, h => by
    unfold rosL roL
    obtain ⟨a, a6⟩ := h x (Int.le_refl _) (by omega)
    have a0 := a 0 (by decide) (by decide)
    rw [Int.add_zero] at a0
    rw [rosL_cg n (x + 1) (fun k k0 k1 => h k (by (clear h a a6 a0 k1; lia)) (by (clear h a a6 a0 k0; omega))), a0]
    rw [a0] at a6
    rw [enL_cg (f := f) (g := g) _ _ (fun j j0 j1 i i0 i1 => by
      have := a (1 + 7 * j + i) (by omega) (by (clear h a; lia))
      rw [show sR x + (1 + 7 * j + i) = sR x + 1 + 7 * j + i by (clear h a a6 a0 j0 j1 i0 i1 this; lia)] at this; exact this)]
theorem pkL_cg [Inhabited fz_] (hN : PKB N) (hf : VR N f) (e : ∀ i, 0 ≤ i → i < 1104 → f i = g i) : pkL N f = pkL N g := by
  obtain ⟨⟨f1, f1'⟩, f2, f3, f4, f5⟩ := hf
  have h18 := hN.1
  unfold pkL
  rw [← e 0 (by decide) (by decide), ← e 1 (by decide) (by decide), slsL_cg (f := f) (g := g) (f 0).toNat 0 (fun k k0 k1 => ⟨fun i i0 i1 => e _ (by unfold sB; omega) (by unfold sB; omega), by
    have v := f2 k k0 (by (clear hN e f1 f1' f2 f3 f4 f5 h18; omega))
    exact ⟨(hN.2.2 _ v.1.2.1.1 v.1.2.1.2).2, v.2.2.2.1.2⟩⟩), rosL_cg (f := f) (g := g) (N 6 18).toNat 0 (fun k k0 k1 => ⟨fun i i0 i1 => e _ (by unfold sR; (clear hN e f1 f1' f2 f3 f4 f5 h18 k1; lia)) (by unfold sR; (clear hN e f1 f1' f2 f3 f4 f5 k0; omega)), (f4 k k0 (by omega)).1.2⟩)]
end PKa
end T397_pk
section T398_pa
/-! the search: X packs (X 38, 39) -/
def lwf (f : Int → Int) (a : Int) (L : List Int) : Int → Int := fun i => if a ≤ i ∧ i < a + L.length then L.getD (i - a).toNat 0 else f i
def pkW (M : mm_) (a : Int) (L : List Int) : mm_ := up_ (wr_ M 27 (lwf (M 27) a L)) 0 65 (a + L.length)
def hsL (L : List Int) (v : Int) : Int := L.foldl (fun h a => w32 (w32 (31 * h) + a)) v
def hshL (L : List Int) : Int := xo_ (hsL L 17) (us_ (hsL L 17) 13)
def pakX (M : mm_) (k : Int) (L : List Int) : mm_ := up_ (up_ (pkW M (1100 * k) L) 28 k L.length) 29 k (hshL L)
section PXa
variable {M N : mm_} {a k x v on A : Int} {L : List Int}
theorem VR_of [Inhabited fz_] (h : RU 1 M N) : VR N (N 239) := by
  obtain ⟨⟨a1, a2, a3, a4⟩, ⟨b1, b2, b3⟩, _⟩ := h
  refine ⟨⟨by omega, by omega⟩, fun k k0 k1 => ?_, fun k k0 k1 => a4 k (by (clear a2 a3 a4 b1 b2 b3 k1; omega)) k1, fun r r0 r1 => ?_, b3⟩
  · obtain ⟨⟨i1, i2, i3, _⟩, c, d, e, ⟨q1, q2, q3⟩, _, q5⟩ := a3 k k0 (by omega)
    refine ⟨by rw [← i1, ← i2, ← i3, ← a2.1]; exact c, by rw [← i2]; exact d.2, fun t t0 t1 => ?_, by (clear a1 a2 a3 a4 b1 b2 b3 k0 k1 i1 i2 i3 c d e q5; omega), by rw [q3]; exact q5⟩
    have tm := e t t0 t1
    rw [← i2]
    rcases tm.1 with ⟨c1, c2, c3⟩ | ⟨c1, c2⟩
    · exact ⟨.inl (by omega), fun h => by have := tm.2 h; omega⟩
    · exact ⟨.inr c2, fun _ => c2⟩
  · obtain ⟨⟨c1, c2, c3⟩, d, e⟩ := b2 r r0 r1
    exact ⟨by omega, fun q q0 q1 => (d q q0 (by (clear a1 a2 a3 a4 b1 b2 b3 r0 r1 c1 c2 d e q0; lia))).2.2.2 rfl, by rw [c3]; exact e⟩
theorem pkW_r [Inhabited fz_] {r : Nat} (h : r ≠ 27) (h' : r ≠ 0) : pkW M a L r = M r := by unfold pkW; rw [up_ne h', wr_ne h]
theorem pkW_0 [Inhabited fz_] {i : Int} (h : i ≠ 65) : pkW M a L 0 i = M 0 i := by unfold pkW; rw [upo h, wr_ne (by decide)]
theorem pkW_65 [Inhabited fz_] : pkW M a L 0 65 = a + L.length := by unfold pkW; rw [up_at]
theorem lwf_s [Inhabited fz_] {f : Int → Int} : lwf f a (L ++ [v]) = su_ (lwf f a L) (a + L.length) v := by
  funext i
  unfold su_ lwf
  rw [List.length_append]
  by_cases c : i = a + L.length
  · rw [if_pos c, if_pos ⟨by omega, by simp only [List.length_cons, List.length_nil]; omega⟩]
    rw [show (i - a).toNat = L.length by lia]
    simp
  · rw [if_neg c]
    by_cases c2 : a ≤ i ∧ i < a + L.length
    · rw [if_pos c2, if_pos ⟨c2.1, by simp only [List.length_cons, List.length_nil]; omega⟩]
      rw [List.getD_eq_getElem?_getD, List.getD_eq_getElem?_getD, List.getElem?_append_left (by omega)]
    · rw [if_neg c2, if_neg (by simp only [List.length_cons, List.length_nil]; omega)]
theorem pkW_s [Inhabited fz_] : up_ (up_ (pkW M a L) 27 (a + L.length) v) 0 65 (a + L.length + 1) = pkW M a (L ++ [v]) := by
  unfold pkW
  rw [lwf_s]
  funext r
  by_cases c : r = 0
  · subst c
    funext i
    by_cases c2 : i = 65
    · subst c2; rw [up_at, up_at]; simp only [List.length_append, List.length_cons, List.length_nil]; omega
    · rw [upo c2, upo c2, up_ne (by decide), upo c2, wr_ne (by decide), wr_ne (by decide)]
  · rw [up_ne c, up_ne c]
    by_cases c2 : r = 27
    · subst c2
      rw [wr_same]
      funext i
      unfold su_
      by_cases c3 : i = a + L.length
      · rw [c3, up_at, if_pos rfl]
      · rw [upo c3, if_neg c3, up_ne (by decide), wr_same]
    · rw [up_ne c2, up_ne c, wr_ne c2, wr_ne c2]
theorem x_39 [Inhabited fz_] (h0 : 0 ≤ a) (h1 : a + L.length < 221100) : Ex_ 1 39 [.inr (.inr 0), .inl v] (pkW M a L) [] (pkW M a (L ++ [v])) := fun Qr Qt g => t_39 fun V hV hW => b_39_0 (Tr_mono _) hV hW _ _ (by
  rw [pkW_65, w32_id (x := a + L.length + 1) (by (clear h1 g hV hW; lia)) (by omega), pkW_s]
  exact ⟨by omega, g⟩)
/-- cells -/
theorem x_145c [Inhabited fz_] {V : vv_} {Qr : qr_} {Qt : qt_} (hV : Cl_ wd0 (Tr_ wd0 pg0 1) V Qr Qt m_38) (hW : Wk_ V) (hx : 0 ≤ x ∧ x < 12) (hT : 0 ≤ M 11 x ∧ M 11 x < 6) (hC : M 92 (M 11 x) ≤ 16) (hA : 0 ≤ A) :
    ∀ (n : Nat) (c : Int) (L : List Int), c + n = M 92 (M 11 x) → 0 ≤ c → A + L.length + n < 221100 → V 145 [rr 0, ii k, ii x, ii on, ii (M 92 (M 11 x))] [] (pkW M A (L ++ rgl (fun c => M 13 (16 * x + c)) c n)) → V 145 [rr 0, ii k, ii x, ii on, ii c] [] (pkW M A L) := fun n => by
  induction n with
  | zero =>
    intro c L hc c0 _ g
    unfold rgl at g
    rw [List.append_nil] at g
    rw [show c = M 92 (M 11 x) by omega]; exact g
  | succ n ih =>
    intro c L hc c0 hl g
    refine b_38_145 (Tr_mono _) hV hW _ _ _ _ _ ?_
    rw [pkW_r (r := 11) (by decide) (by decide), pkW_r (r := 92) (by decide) (by decide), pkW_r (r := 13) (by decide) (by decide), if_pos (by omega), w32_id (x := 16 * x) (by omega) (by omega), w32_id (x := 16 * x + c) (by omega) (by omega), w32_id (x := c + 1) (by omega) (by omega)]
    refine ⟨hx, hT, by omega, x_39 hA (by omega) _ _ (rv_i ?_)⟩
    refine ih (c + 1) _ (by omega) (by omega) (by rw [List.length_append, List.length_cons, List.length_nil]; omega) ?_
    unfold rgl at g
    rw [List.append_assoc]; exact g
/-- the queue -/
theorem x_199c [Inhabited fz_] {V : vv_} {Qr : qr_} {Qt : qt_} (hV : Cl_ wd0 (Tr_ wd0 pg0 1) V Qr Qt m_38) (hW : Wk_ V) (hx : 0 ≤ x ∧ x < 12) (hC : 0 ≤ M 14 x ∧ M 14 x ≤ 6) (hA : 0 ≤ A) :
    ∀ (n : Nat) (c : Int) (L : List Int), c + n = 5 * M 14 x → 0 ≤ c → A + L.length + n < 221100 → V 27 [rr 0, ii k, ii (x + 1), none, none] [] (pkW M A (L ++ rgl (fun c => M 15 (30 * x + c)) c n)) → V 199 [rr 0, ii k, ii x, ii on, ii c] [] (pkW M A L) := fun n => by
  induction n with
  | zero =>
    intro c L hc c0 _ g
    unfold rgl at g
    rw [List.append_nil] at g
    refine b_38_199 (Tr_mono _) hV hW _ _ _ _ _ ?_
    rw [pkW_r (r := 14) (by decide) (by decide), w32_id (x := 5 * M 14 x) (by omega) (by omega), if_neg (by omega), w32_id (x := x + 1) (by omega) (by omega)]
    exact ⟨hx, g⟩
  | succ n ih =>
    intro c L hc c0 hl g
    refine b_38_199 (Tr_mono _) hV hW _ _ _ _ _ ?_
    rw [pkW_r (r := 14) (by decide) (by decide), w32_id (x := 5 * M 14 x) (by omega) (by omega), if_pos (by omega)]
    refine ⟨hx, x_9 (a := 0) (by omega) (by decide) _ _ (ri_i ?_)⟩
    rw [show 30 * x + 5 * 0 + c = 30 * x + c by (clear hV hW hx hC hA ih hc c0 hl g; lia), w32_id (x := 30 * x + c) (by omega) (by omega), w32_id (x := c + 1) (by (clear hV hW hx hC hA ih hl g; omega)) (by omega), pkW_r (r := 15) (by decide) (by decide)]
    refine ⟨by omega, x_39 hA (by omega) _ _ (rv_i ?_)⟩
    refine ih (c + 1) _ (by (clear hV hW hx hC hA ih c0 hl g; lia)) (by omega) (by rw [List.length_append, List.length_cons, List.length_nil]; omega) ?_
    unfold rgl at g
    rw [List.append_assoc]; exact g
theorem on_b [Inhabited fz_] : ∀ (a b c : Bool), or_ (or_ (or_ 0 (if a then sl_ 1 0 else 0)) (if b then sl_ 1 1 else 0)) (if c then sl_ 1 2 else 0) = (if a then 1 else 0) + (if b then 2 else 0) + (if c then 4 else 0) := by decide +kernel
/-- an instance -/
theorem x_27p [Inhabited fz_] {V : vv_} {Qr : qr_} {Qt : qt_} (hV : Cl_ wd0 (Tr_ wd0 pg0 1) V Qr Qt m_38) (hW : Wk_ V) (h : RU 1 M N) (hP : PLr M N) (hx : 0 ≤ x ∧ x < M 0 7) (hA : 0 ≤ A) (hl : A + L.length + 54 < 221100) (g : V 27 [rr 0, ii k, ii (x + 1), none, none] [] (pkW M A (L ++ slL N (N 239) (sB x)))) : V 27 [rr 0, ii k, ii x, none, none] [] (pkW M A L) := by
  have n12 := h.1.1
  obtain ⟨⟨i1, i2, i3, i4, i5, i6⟩, ⟨c1, c2, c3⟩, ⟨d1, d2⟩, e, ⟨q1, q2, q3⟩, q4, q5⟩ := h.1.2.2.1 x hx.1 hx.2
  have pt := PL_T hP c2
  have x12 : 0 ≤ x ∧ x < 12 := by omega
  refine b_38_27 (Tr_mono _) hV hW _ _ _ ?_
  rw [pkW_0 (by decide), if_pos hx.2]
  have len : ∀ (K : List Int) (v : Int), (K ++ [v]).length = K.length + 1 := fun K v => by rw [List.length_append]; rfl
  refine ⟨x12, x_39 hA (by omega) _ _ (rv_i ⟨x12, x_39 hA (by rw [len]; omega) _ _ (rv_i ⟨x12, x_39 hA (by rw [len, len]; omega) _ _ (rv_i ⟨x12, x_39 hA (by rw [len, len, len]; omega) _ _ (rv_i ⟨x12, x_39 hA (by rw [len, len, len, len]; omega) _ _ (rv_i ⟨x12, x_39 hA (by rw [len, len, len, len, len]; omega) _ _ (rv_i ?_)⟩)⟩)⟩)⟩)⟩)⟩
  rw [pkW_r (r := 10) (by decide) (by decide), pkW_r (r := 11) (by decide) (by decide), pkW_r (r := 12) (by decide) (by decide), pkW_r (r := 18) (by decide) (by decide), pkW_r (r := 19) (by decide) (by decide), pkW_r (r := 20) (by decide) (by decide), i1, i2, i3, i4, i5, i6]
  generalize hK : L ++ [N 239 (sB x)] ++ [N 239 (sB x + 1)] ++ [N 239 (sB x + 2)] ++ [N 239 (sB x + 3)] ++ [N 239 (sB x + 4)] ++ [N 239 (sB x + 5)] = K
  have lK : K.length = L.length + 6 := by rw [← hK]; simp only [List.length_append, List.length_cons, List.length_nil]
  have tm : ∀ t, 0 ≤ t → t < 3 → M 16 (3 * x + t) = (if 0 ≤ N 239 (sB x + 22 + t) then 1 else 0) := fun t t0 t1 => by
    rcases (e t t0 t1).1 with ⟨u1, u2, u3⟩ | ⟨u1, u2⟩
    · rw [if_pos (by (clear hV hW h hP hx hA hl g n12 i1 i2 i3 i4 i5 i6 c1 c2 c3 d1 d2 e q1 q2 q3 q4 q5 pt x12 len hK lK t0 t1 u1 u2; omega))]; exact u1
    · rw [if_neg (by (clear hV hW h hP hx hA hl g n12 i1 i2 i3 i4 i5 i6 c1 c2 c3 d1 d2 e q1 q2 q3 q4 q5 pt x12 len hK lK t0 t1 u1; omega))]; exact u1
  have st : ∀ (o t : Int), 0 ≤ t → t < 3 → V 100 [rr 0, ii k, ii x, ii (or_ o (if 0 ≤ N 239 (sB x + 22 + t) then sl_ 1 t else 0)), ii (t + 1)] [] (pkW M A K) → V 100 [rr 0, ii k, ii x, ii o, ii t] [] (pkW M A K) := fun o t t0 t1 gg => by
    refine b_38_100 (Tr_mono _) hV hW _ _ _ _ _ ?_
    rw [if_pos t1, w32_id (x := 3 * x) (by omega) (by omega), w32_id (x := 3 * x + t) (by (clear hV hW h hP hA hl g n12 i1 i2 i3 i4 i5 i6 c1 c2 c3 d1 d2 e q1 q2 q3 q4 q5 pt len hK lK tm gg; lia)) (by (clear hV hW h hP hA hl g n12 i1 i2 i3 i4 i5 i6 c1 c2 c3 d1 d2 e q1 q2 q3 q4 q5 pt len hK lK tm gg; omega)), w32_id (x := t + 1) (by (clear hV hW h hP hx hA hl g n12 i1 i2 i3 i4 i5 i6 c1 c2 c3 d1 d2 e q1 q2 q3 q4 q5 pt x12 len hK lK tm gg; omega)) (by (clear hV hW h hP hx hA hl g n12 i1 i2 i3 i4 i5 i6 c1 c2 c3 d1 d2 e q1 q2 q3 q4 q5 pt x12 len hK lK tm gg; lia)), pkW_r (r := 16) (by decide) (by decide), tm t t0 t1]
    refine ⟨by (clear hV hW h hP hA hl g n12 i1 i2 i3 i4 i5 i6 c1 c2 c3 d1 d2 e q1 q2 q3 q4 q5 pt len hK lK tm gg; omega), fun _ => ?_⟩
    by_cases c : 0 ≤ N 239 (sB x + 22 + t)
    · rw [if_pos c] at gg; rw [if_pos c, if_neg (by decide)]; exact gg
    · rw [if_neg c] at gg; rw [if_neg c, if_pos rfl]; exact gg
  refine st 0 0 (by decide) (by decide) (st _ (0 + 1) (by decide) (by decide) (st _ (0 + 1 + 1) (by decide) (by decide) ?_))
  have eo : or_ (or_ (or_ 0 (if 0 ≤ N 239 (sB x + 22 + 0) then sl_ 1 0 else 0)) (if 0 ≤ N 239 (sB x + 22 + (0 + 1)) then sl_ 1 (0 + 1) else 0)) (if 0 ≤ N 239 (sB x + 22 + (0 + 1 + 1)) then sl_ 1 (0 + 1 + 1) else 0) = onb (N 239) (sB x) := by
    have := on_b (decide (0 ≤ N 239 (sB x + 22))) (decide (0 ≤ N 239 (sB x + 22 + 1))) (decide (0 ≤ N 239 (sB x + 22 + 2)))
    simp only [decide_eq_true_eq] at this
    unfold onb
    rw [Int.add_zero]
    exact this
  rw [eo]
  refine b_38_100 (Tr_mono _) hV hW _ _ _ _ _ ?_
  rw [if_neg (by decide)]
  refine x_39 hA (by omega) _ _ (rv_i ?_)
  have eT : M 92 (M 11 x) = N 172 (N 239 (sB x + 1)) := by rw [pt.2.2.2.1.1, ← i2]
  refine x_145c hV hW x12 ⟨c2.1, by omega⟩ (by (clear hV hW h hP hx hA hl g n12 i1 i2 i3 i4 i5 i6 c1 c2 c3 d1 d2 e q1 q2 q3 q4 q5 x12 len hK lK tm st eo; omega)) hA (M 92 (M 11 x)).toNat 0 _ (by (clear hV hW h hP hx hA hl g n12 i1 i2 i3 i4 i5 i6 c1 c2 c3 d1 d2 e q1 q2 q3 q4 q5 x12 len hK lK tm st eo; omega)) (by decide) (by rw [len, lK]; (clear hV hW h hP hx hA g n12 i1 i2 i3 i4 i5 i6 c1 c2 c3 d1 d2 e q1 q2 q3 q4 q5 x12 len hK tm st eo; lia)) ?_
  refine b_38_145 (Tr_mono _) hV hW _ _ _ _ _ ?_
  rw [pkW_r (r := 11) (by decide) (by decide), pkW_r (r := 92) (by decide) (by decide), pkW_r (r := 14) (by decide) (by decide), if_neg (by (clear hV hW h hP hx hA hl g n12 i1 i2 i3 i4 i5 i6 c1 c2 c3 d1 d2 e q1 q2 q3 q4 q5 pt x12 len hK lK tm st eo eT; lia))]
  have lC := rgl_len (g := fun c => M 13 (16 * x + c)) (M 92 (M 11 x)).toNat 0
  refine ⟨x12, ⟨c2.1, by omega⟩, x12, x_39 hA (by rw [List.length_append, len, lK, lC]; (clear hV hW h hP hx hA g n12 i1 i2 i3 i4 i5 i6 c1 c2 c3 d1 d2 e q1 q2 q3 q4 q5 x12 len hK tm st eo lC; lia)) _ _ (rv_i ?_)⟩
  refine x_199c hV hW x12 ⟨q1, q2⟩ hA (5 * M 14 x).toNat 0 _ (by (clear hV hW h hP hx hA hl g n12 i1 i2 i3 i4 i5 i6 c1 c2 c3 d1 d2 e q4 q5 pt x12 len hK lK tm st eo eT lC; omega)) (by decide) (by rw [len, List.length_append, len, lK, lC]; omega) ?_
  have ef : L ++ slL N (N 239) (sB x) = K ++ [onb (N 239) (sB x)] ++ rgl (fun c => M 13 (16 * x + c)) 0 (M 92 (M 11 x)).toNat ++ [M 14 x] ++ rgl (fun c => M 15 (30 * x + c)) 0 (5 * M 14 x).toNat := by
    rw [← hK]
    unfold slL slT
    rw [← eT, q3, rgl_cg (f := fun c => M 13 (16 * x + c)) (g := fun c => N 239 (sB x + 6 + c)) _ _ (fun j j0 j1 => d1 j j0 (by (clear hV hW h hP hx hA hl g n12 i1 i2 i3 i4 i5 i6 c1 c2 c3 d1 d2 e q1 q2 q3 q4 q5 x12 len hK lK tm st eo lC j0; lia))), rgl_cg (f := fun c => M 15 (30 * x + c)) (g := fun c => N 239 (sB x + 26 + c)) _ _ (fun j j0 j1 => q4 j j0 (by (clear hV hW h hP hx hA hl g n12 i1 i2 i3 i4 i5 i6 c1 c2 c3 d1 d2 e q1 q2 q4 q5 pt x12 len hK lK tm st eo eT lC; omega)))]
    simp only [List.append_assoc, List.cons_append, List.nil_append]
  rw [← ef]; exact g
/-- an entry of a route -/
theorem x_279p [Inhabited fz_] {V : vv_} {Qr : qr_} {Qt : qt_} {r q : Int} (hV : Cl_ wd0 (Tr_ wd0 pg0 1) V Qr Qt m_38) (hW : Wk_ V) (hr : 0 ≤ r ∧ r < 10) (hq : 0 ≤ q ∧ q < 6) (hA : 0 ≤ A) (hl : A + L.length + 6 < 221100) (g : V 266 [rr 0, ii k, ii r, ii (q + 1), none] [] (pkW M A (L ++ [M 22 (42 * r + 7 * q + 0)] ++ [M 22 (42 * r + 7 * q + 1)] ++ [M 22 (42 * r + 7 * q + 2)] ++ [M 22 (42 * r + 7 * q + 4)] ++ [M 22 (42 * r + 7 * q + 5)] ++ [M 22 (42 * r + 7 * q + 6)]))) : V 279 [rr 0, ii k, ii r, ii q, ii 0] [] (pkW M A L) := by
  have len : ∀ (K : List Int) (v : Int), (K ++ [v]).length = K.length + 1 := fun K v => by rw [List.length_append]; rfl
  have one : ∀ (j : Int) (K : List Int), 0 ≤ j → j < 7 → j ≠ 3 → A + K.length < 221100 → V 279 [rr 0, ii k, ii r, ii q, ii (j + 1)] [] (pkW M A (K ++ [M 22 (42 * r + 7 * q + j)])) → V 279 [rr 0, ii k, ii r, ii q, ii j] [] (pkW M A K) := fun j K j0 j1 j3 hK gg => by
    refine b_38_279 (Tr_mono _) hV hW _ _ _ _ _ ?_
    rw [if_pos j1, if_neg j3]
    refine x_2 (by omega) (by (clear hV hW hr hA hl g len j0 j1 j3 hK gg; omega)) _ _ (ri_i ?_)
    rw [w32_id (x := 42 * r + 7 * q + j) (by omega) (by (clear hV hW hA hl g len j3 hK gg; omega)), w32_id (x := j + 1) (by (clear hV hW hr hq hA hl g len j3 hK gg; omega)) (by omega), pkW_r (r := 22) (by decide) (by decide)]
    exact ⟨by omega, x_39 hA hK _ _ (rv_i gg)⟩
  refine one 0 _ (by decide) (by decide) (by decide) (by omega) (one (0 + 1) _ (by decide) (by decide) (by decide) (by rw [len]; omega) (one (0 + 1 + 1) _ (by decide) (by decide) (by decide) (by rw [len, len]; omega) ?_))
  refine b_38_279 (Tr_mono _) hV hW _ _ _ _ _ ?_
  rw [if_pos (by decide), if_pos (by decide), w32_id (x := (0 : Int) + 1 + 1 + 1 + 1) (by decide) (by decide)]
  refine one (0 + 1 + 1 + 1 + 1) _ (by decide) (by decide) (by decide) (by rw [len, len, len]; omega) (one (0 + 1 + 1 + 1 + 1 + 1) _ (by decide) (by decide) (by decide) (by rw [len, len, len, len]; omega) (one (0 + 1 + 1 + 1 + 1 + 1 + 1) _ (by decide) (by decide) (by decide) (by rw [len, len, len, len, len]; (clear hV hW hr hq hA g len one; omega)) ?_))
  refine b_38_279 (Tr_mono _) hV hW _ _ _ _ _ ?_
  rw [if_neg (by decide), w32_id (x := q + 1) (by omega) (by omega)]
  exact g
theorem x_266p [Inhabited fz_] {V : vv_} {Qr : qr_} {Qt : qt_} {r : Int} (hV : Cl_ wd0 (Tr_ wd0 pg0 1) V Qr Qt m_38) (hW : Wk_ V) (h : RU 1 M N) (hr : 0 ≤ r ∧ r < N 6 18) (hA : 0 ≤ A) : ∀ (n : Nat) (q : Int) (L : List Int), q + n = M 21 r → 0 ≤ q → A + L.length + 6 * n < 221100 → V 243 [rr 0, ii k, ii (r + 1), none, none] [] (pkW M A (L ++ enL (N 239) (sR r) q n)) → V 266 [rr 0, ii k, ii r, ii q, none] [] (pkW M A L) := fun n => by
  have h10 := h.2.1.1
  obtain ⟨⟨c1, c2, c3⟩, d, _⟩ := h.2.1.2.1 r hr.1 hr.2
  induction n with
  | zero =>
    intro q L hq q0 _ g
    unfold enL at g
    rw [List.append_nil] at g
    refine b_38_266 (Tr_mono _) hV hW _ _ _ _ ?_
    rw [pkW_r (r := 21) (by decide) (by decide), if_neg (by omega), w32_id (x := r + 1) (by omega) (by omega)]
    exact ⟨by omega, g⟩
  | succ n ih =>
    intro q L hq q0 hl g
    refine b_38_266 (Tr_mono _) hV hW _ _ _ _ ?_
    rw [pkW_r (r := 21) (by decide) (by decide), if_pos (by (clear hV hW h hr hA h10 c1 c2 d ih q0 hl g; omega))]
    refine ⟨by omega, x_279p hV hW (by omega) (by omega) hA (by omega) (ih (q + 1) _ (by (clear hV hW h hr hA h10 c1 c2 d ih q0 hl g; omega)) (by omega) (by simp only [List.length_append, List.length_cons, List.length_nil]; omega) ?_)⟩
    unfold enL at g
    have e := (d q q0 (by omega)).1
    rw [e 0 (by decide) (by decide) (by decide), e 1 (by decide) (by decide) (by decide), e 2 (by decide) (by decide) (by decide), e 4 (by decide) (by decide) (by decide), e 5 (by decide) (by decide) (by decide), e 6 (by decide) (by decide) (by decide)]
    simp only [List.append_assoc, List.cons_append, List.nil_append]
    exact g
theorem x_243p [Inhabited fz_] {V : vv_} {Qr : qr_} {Qt : qt_} (hV : Cl_ wd0 (Tr_ wd0 pg0 1) V Qr Qt m_38) (hW : Wk_ V) (h : RU 1 M N) (hP : PLr M N) (hA : 0 ≤ A) : ∀ (n : Nat) (r : Int) (L : List Int), r + n = N 6 18 → 0 ≤ r → A + L.length + 37 * n < 221100 → V 243 [rr 0, ii k, ii (N 6 18), none, none] [] (pkW M A (L ++ rosL (N 239) r n)) → V 243 [rr 0, ii k, ii r, none, none] [] (pkW M A L) := fun n => by
  have h10 := h.2.1.1
  have p1 := (PLr_93 hP).1
  induction n with
  | zero =>
    intro r L hr r0 _ g
    unfold rosL at g
    rw [List.append_nil] at g
    rw [show r = N 6 18 by (clear hV hW h hP hA h10 r0 g; lia)]; exact g
  | succ n ih =>
    intro r L hr r0 hl g
    obtain ⟨⟨c1, c2, c3⟩, _⟩ := h.2.1.2.1 r r0 (by (clear hV hW h hP hA h10 ih r0 hl g; omega))
    refine b_38_243 (Tr_mono _) hV hW _ _ _ ?_
    rw [pkW_r (r := 4) (by decide) (by decide), pkW_r (r := 21) (by decide) (by decide), if_pos (by omega)]
    refine ⟨by omega, x_39 hA (by omega) _ _ (rv_i (x_266p hV hW h ⟨r0, by omega⟩ hA (M 21 r).toNat 0 _ (by (clear hV hW h hP hA h10 p1 ih hr r0 hl g; omega)) (by decide) (by rw [List.length_append, List.length_cons, List.length_nil]; omega) (ih (r + 1) _ (by omega) (by omega) (by simp only [List.length_append, List.length_cons, List.length_nil, enL_len]; omega) ?_)))⟩
    unfold rosL roL at g
    rw [c3] at g
    simp only [List.append_assoc, List.cons_append, List.nil_append] at g ⊢
    exact g
theorem x_27q [Inhabited fz_] {V : vv_} {Qr : qr_} {Qt : qt_} (hV : Cl_ wd0 (Tr_ wd0 pg0 1) V Qr Qt m_38) (hW : Wk_ V) (h : RU 1 M N) (hP : PLr M N) (hA : 0 ≤ A) : ∀ (n : Nat) (x : Int) (L : List Int), x + n = M 0 7 → 0 ≤ x → A + L.length + 54 * n < 221100 → V 27 [rr 0, ii k, ii (M 0 7), none, none] [] (pkW M A (L ++ slsL N (N 239) x n)) → V 27 [rr 0, ii k, ii x, none, none] [] (pkW M A L) := fun n => by
  have n12 := h.1.1
  have vr := VR_of h
  induction n with
  | zero =>
    intro x L hx x0 _ g
    unfold slsL at g
    rw [List.append_nil] at g
    rw [show x = M 0 7 by omega]; exact g
  | succ n ih =>
    intro x L hx x0 hl g
    have v := vr.2.1 x x0 (by omega)
    have pt := PL_T hP v.1.2.1
    have ll := slL_len (N := N) (f := N 239) (b := sB x) (by omega) v.2.2.2.1.2
    refine x_27p hV hW h hP ⟨x0, by omega⟩ hA (by (clear hV hW h hP hA vr ih g v pt ll; lia)) (ih (x + 1) _ (by omega) (by omega) (by rw [List.length_append]; (clear hV hW h hP hA n12 vr ih hx x0 g v pt; omega)) ?_)
    unfold slsL at g
    rw [List.append_assoc]; exact g
theorem hsL_a [Inhabited fz_] {K : List Int} : hsL (K ++ [v]) a = w32 (w32 (31 * hsL K a) + v) := by unfold hsL; rw [List.foldl_append]; rfl
theorem x_352 [Inhabited fz_] {V : vv_} {Qr : qr_} {Qt : qt_} {B : mm_} (hV : Cl_ wd0 (Tr_ wd0 pg0 1) V Qr Qt m_38) (hW : Wk_ V) (hk : 0 ≤ k ∧ k < 201) (hA : 0 ≤ A) (hl : A + L.length ≤ 221100) (h65 : B 0 65 = A + L.length) (h27 : ∀ (K K' : List Int) (u : Int), L = K ++ u :: K' → B 27 (A + K.length) = u) (g : Qr [] (up_ B 29 k (hshL L))) : ∀ (K' K : List Int), L = K ++ K' → V 352 [rr 0, ii k, ii (hsL K 17), ii (A + K.length), none] [] B := fun K' => by
  induction K' with
  | nil =>
    intro K hK
    rw [List.append_nil] at hK
    refine b_38_352 (Tr_mono _) hV hW _ _ _ _ ?_
    rw [h65, hK, if_neg (by omega)]
    refine ⟨hk, ?_⟩
    unfold hshL at g
    rw [hK] at g; exact g
  | cons u K' ih =>
    intro K hK
    refine b_38_352 (Tr_mono _) hV hW _ _ _ _ ?_
    have hlen : L.length = K.length + (K'.length + 1) := by rw [hK, List.length_append, List.length_cons]
    rw [h65, if_pos (by omega), h27 K K' u hK, w32_id (x := A + K.length + 1) (by omega) (by (clear hV hW hk hA h27 g ih hK; omega))]
    have := ih (K ++ [u]) (by rw [hK, List.append_assoc]; rfl)
    rw [hsL_a, List.length_append, List.length_cons, List.length_nil] at this
    rw [show A + (K.length : Int) + 1 = A + ((K.length + (0 + 1) : Nat) : Int) by omega]
    exact ⟨by omega, this⟩
theorem lwf_at [Inhabited fz_] {f : Int → Int} {K K' : List Int} {u : Int} (h : L = K ++ u :: K') : lwf f a L (a + K.length) = u := by
  unfold lwf
  have hlen : L.length = K.length + (K'.length + 1) := by rw [h, List.length_append, List.length_cons]
  rw [if_pos (by omega), show (a + (K.length : Int) - a).toNat = K.length by omega, h]
  simp
/-- packing -/
theorem x_38 [Inhabited fz_] (h : RU 1 M N) (hP : PLr M N) (hk : 0 ≤ k ∧ k < 201) : Ex_ 2 38 [.inr (.inr 0), .inl k] M [] (pakX M k (pkL N (N 239))) := fun Qr Qt g => t_38 fun V hV hW => b_38_0 (Tr_mono _) hV hW _ _ (by
  have n12 := h.1.1
  have h10 := h.2.1.1
  have p1 := (PLr_93 hP).1
  have vr := VR_of h
  have e0 : up_ M 0 65 (w32 (1100 * k)) = pkW M (1100 * k) [] := by
    unfold pkW
    have el : lwf (M 27) (1100 * k) [] = M 27 := by funext i; unfold lwf; rw [if_neg (by simp only [List.length_nil]; omega)]
    rw [el, wr_id, w32_id (x := 1100 * k) (by (clear h hP g hV hW n12 h10 p1 vr el; omega)) (by (clear h hP g hV hW n12 h10 p1 vr el; omega))]
    simp
  rw [e0]
  have len : ∀ (K : List Int) (v : Int), (K ++ [v]).length = K.length + 1 := fun K v => by rw [List.length_append]; rfl
  refine x_39 (by (clear h hP g hV hW n12 h10 p1 vr e0 len; lia)) (by rw [List.length_nil]; omega) _ _ (rv_i (x_39 (by omega) (by rw [len, List.length_nil]; omega) _ _ (rv_i ?_)))
  rw [pkW_0 (by decide)]
  refine x_27q hV hW h hP (by omega) (M 0 7).toNat 0 _ (by (clear h hP hk g hV hW h10 p1 vr e0 len; lia)) (by decide) (by rw [len, len, List.length_nil]; (clear h hP g hV hW h10 p1 vr e0 len; lia)) ?_
  refine b_38_27 (Tr_mono _) hV hW _ _ _ ?_
  rw [pkW_0 (by decide), if_neg (by omega)]
  have ll := slsL_len (N := N) (f := N 239) (M 0 7).toNat 0 (fun j j0 j1 => by
    have v := vr.2.1 j j0 (by omega)
    have pt := PL_T hP v.1.2.1
    exact ⟨by (clear h hP hk g hV hW n12 h10 p1 vr e0 len j0 j1 v; omega), v.2.2.2.1.2⟩)
  refine x_243p hV hW h hP (by omega) (N 6 18).toNat 0 _ (by (clear h hP hk g hV hW n12 vr e0 len ll; lia)) (by decide) (by rw [List.length_append, len, len, List.length_nil]; (clear h hP g hV hW vr e0 len; lia)) ?_
  have eL : [] ++ [M 0 7] ++ [M 0 8] ++ slsL N (N 239) 0 (M 0 7).toNat ++ rosL (N 239) 0 (N 6 18).toNat = pkL N (N 239) := by
    unfold pkL
    rw [n12.2.2, ← h.1.2.1.1]
    simp only [List.append_assoc, List.cons_append, List.nil_append]
  rw [eL]
  have lr := rosL_len (f := N 239) (N 6 18).toNat 0 (fun j j0 j1 => (vr.2.2.2.1 j j0 (by (clear h hP hk g hV hW n12 h10 vr e0 len ll eL; omega))).1.2)
  have lp : (pkL N (N 239)).length ≤ 1020 := by
    rw [← eL]; simp only [List.length_append, List.length_cons, List.length_nil]; (clear h hP hk g hV hW vr e0 len eL; lia)
  generalize hL : pkL N (N 239) = K at *
  refine b_38_243 (Tr_mono _) hV hW _ _ _ ?_
  rw [pkW_r (r := 4) (by decide) (by decide), if_neg (by omega), pkW_65, w32_id (x := 1100 * k) (by omega) (by omega), show 1100 * k + (K.length : Int) - 1100 * k = K.length by (clear h hP hk hV hW n12 h10 p1 vr e0 len ll lr hL g eL lp; lia), w32_id (x := (K.length : Int)) (by (clear h hP hk hV hW n12 h10 p1 vr e0 len ll lr hL g eL; omega)) (by (clear h hP hk hV hW n12 h10 p1 vr e0 len ll lr hL g eL; omega))]
  refine ⟨hk, ?_⟩
  have := x_352 (B := up_ (pkW M (1100 * k) K) 28 k K.length) hV hW hk (A := 1100 * k) (L := K) (by omega) (by omega) (by rw [up_ne (by decide), pkW_65]) (fun K1 K2 u hu => by rw [up_ne (by decide)]; unfold pkW; rw [up_ne (by decide), wr_same]; exact lwf_at hu) g K [] rfl
  rw [List.length_nil] at this
  simp only [Int.natCast_zero, Int.add_zero] at this
  exact this)
end PXa
end T398_pa
section T399_un
/-! the search: X unpacks (X 41, 42) -/
def RDL (h : Int → Int) : Int → List Int → Prop
  | _, [] => True
  | a, v :: L => h a = v ∧ RDL h (a + 1) L
/-- what unpacking may change -/
def UF (M B : mm_) : Prop := (∀ r : Nat, r ∉ [0, 10, 11, 12, 13, 14, 15, 16, 17, 18, 19, 20, 21, 22] → B r = M r) ∧ ∀ i : Int, i ∉ [7, 8, 65] → B 0 i = M 0 i
/-- .. of one instance -/
def SLX (x : Int) (M B : mm_) : Prop := (∀ r : Nat, r ∉ [0, 10, 11, 12, 13, 14, 15, 16, 17, 18, 19, 20] → B r = M r) ∧ (∀ i : Int, i ≠ 65 → B 0 i = M 0 i) ∧ (∀ q : Nat, q ∈ [10, 11, 12, 14, 18, 19, 20] → ∀ i, i ≠ x → B q i = M q i) ∧ (∀ i, i < 16 * x ∨ 16 * x + 16 ≤ i → B 13 i = M 13 i) ∧ (∀ i, i < 30 * x ∨ 30 * x + 30 ≤ i → B 15 i = M 15 i) ∧ (∀ i, i < 3 * x ∨ 3 * x + 3 ≤ i → B 16 i = M 16 i ∧ B 17 i = M 17 i)
/-- an instance as it is packed -/
def SLD (B : mm_) (f : Int → Int) (k : Int) : Prop := (B 10 k = f (sB k) ∧ B 11 k = f (sB k + 1) ∧ B 12 k = f (sB k + 2) ∧ B 18 k = f (sB k + 3) ∧ B 19 k = f (sB k + 4) ∧ B 20 k = f (sB k + 5)) ∧ (∀ i, 0 ≤ i → i < 16 → B 13 (16 * k + i) = f (sB k + 6 + i)) ∧ (∀ t, 0 ≤ t → t < 3 → B 16 (3 * k + t) = (if 0 ≤ f (sB k + 22 + t) then 1 else 0) ∧ B 17 (3 * k + t) = B 0 9) ∧ B 14 k = f (sB k + 25) ∧ ∀ i, 0 ≤ i → i < 5 * f (sB k + 25) → B 15 (30 * k + i) = f (sB k + 26 + i)
section UNa
variable {M N B B' B1 : mm_} {f g h : Int → Int} {a k x v A b : Int} {L K : List Int}
theorem RDL_app [Inhabited fz_] : ∀ (K : List Int) (a : Int), RDL h a (K ++ L) → RDL h a K ∧ RDL h (a + K.length) L
  | [], a, hr => ⟨trivial, by rw [List.length_nil]; simpa using hr⟩
  | v :: K, a, hr => by
    obtain ⟨h1, h2⟩ := hr
    obtain ⟨h3, h4⟩ := RDL_app K (a + 1) h2
    refine ⟨⟨h1, h3⟩, ?_⟩
    rw [List.length_cons, show a + ((K.length + 1 : Nat) : Int) = a + 1 + K.length by omega]; exact h4
theorem RDL_rg [Inhabited fz_] : ∀ (n : Nat) (i a : Int), RDL h a (rgl g i n) → ∀ j, i ≤ j → j < i + n → h (a + (j - i)) = g j
  | 0, i, a, _, j, h0, h1 => by omega
  | n + 1, i, a, hr, j, h0, h1 => by
    obtain ⟨c1, c2⟩ := hr
    by_cases c : j = i
    · rw [c, Int.sub_self, Int.add_zero]; exact c1
    · have := RDL_rg n (i + 1) (a + 1) c2 j (by omega) (by omega)
      rw [show a + 1 + (j - (i + 1)) = a + (j - i) by omega] at this; exact this
theorem RDL_en [Inhabited fz_] : ∀ (n : Nat) (q a : Int), RDL h a (enL f b q n) → ∀ j, q ≤ j → j < q + n → h (a + 6 * (j - q)) = f (b + 1 + 7 * j + 0) ∧ h (a + 6 * (j - q) + 1) = f (b + 1 + 7 * j + 1) ∧ h (a + 6 * (j - q) + 2) = f (b + 1 + 7 * j + 2) ∧ h (a + 6 * (j - q) + 3) = f (b + 1 + 7 * j + 4) ∧ h (a + 6 * (j - q) + 4) = f (b + 1 + 7 * j + 5) ∧ h (a + 6 * (j - q) + 5) = f (b + 1 + 7 * j + 6)
  | 0, q, a, _, j, h0, h1 => by omega
  | n + 1, q, a, hr, j, h0, h1 => by
    obtain ⟨c1, c2, c3, c4, c5, c6, c7⟩ := hr
    by_cases c : j = q
    · subst c
      rw [Int.sub_self, show a + 6 * 0 = a by (clear h0 h1 c1 c2 c3 c4 c5 c6 c7; lia)]
      exact ⟨c1, c2, by rw [show a + 2 = a + 1 + 1 by omega]; exact c3, by rw [show a + 3 = a + 1 + 1 + 1 by omega]; exact c4, by rw [show a + 4 = a + 1 + 1 + 1 + 1 by omega]; exact c5, by rw [show a + 5 = a + 1 + 1 + 1 + 1 + 1 by (clear h0 h1 c1 c2 c3 c4 c5 c6 c7; lia)]; exact c6⟩
    · have := RDL_en n (q + 1) (a + 1 + 1 + 1 + 1 + 1 + 1) c7 j (by omega) (by omega)
      rw [show a + 1 + 1 + 1 + 1 + 1 + 1 + 6 * (j - (q + 1)) = a + 6 * (j - q) by (clear h0 h1 c1 c2 c3 c4 c5 c6 c7 c this; lia)] at this; exact this
theorem RDL_c [Inhabited fz_] : ∀ (L : List Int) (a : Int), RDL h a L → (∀ i, a ≤ i → i < a + L.length → g i = h i) → RDL g a L
  | [], _, _, _ => trivial
  | v :: L, a, hr, e => by
    rw [List.length_cons] at e
    exact ⟨by rw [e a (Int.le_refl _) (by omega)]; exact hr.1, RDL_c L (a + 1) hr.2 (fun i i0 i1 => e i (by omega) (by omega))⟩
theorem RDL_lw [Inhabited fz_] : ∀ (L K : List Int), RDL (lwf f a (K ++ L)) (a + K.length) L
  | [], _ => trivial
  | v :: L, K => by
    refine ⟨lwf_at rfl, ?_⟩
    have := RDL_lw L (K ++ [v])
    rw [List.append_assoc, List.length_append, List.length_cons, List.length_nil] at this
    rw [show a + (K.length : Int) + 1 = a + ((K.length + (0 + 1) : Nat) : Int) by omega]; exact this
/-- one list is told by what is read -/
theorem RDL_eq [Inhabited fz_] : ∀ (K L : List Int) (a c : Int), RDL h a K → RDL h c L → K.length = L.length → (∀ i : Int, 0 ≤ i → i < K.length → h (a + i) = h (c + i)) → K = L
  | [], [], _, _, _, _, _, _ => rfl
  | [], _ :: _, _, _, _, _, e, _ => by simp at e
  | _ :: _, [], _, _, _, _, e, _ => by simp at e
  | u :: K, v :: L, a, c, h1, h2, e, hi => by
    rw [List.length_cons] at hi
    have e0 := hi 0 (by decide) (by omega)
    rw [Int.add_zero, Int.add_zero, h1.1, h2.1] at e0
    rw [e0, RDL_eq K L (a + 1) (c + 1) h1.2 h2.2 (by simpa using e) (fun i i0 i1 => by have := hi (i + 1) (by (clear h1 h2 e hi e0 i1; lia)) (by omega); rw [show a + 1 + i = a + (i + 1) by omega, show c + 1 + i = c + (i + 1) by omega]; exact this)]
theorem RDL_ev [Inhabited fz_] : ∀ (L : List Int) (a c : Int), RDL h a L → RDL h c L → ∀ i : Int, 0 ≤ i → i < L.length → h (a + i) = h (c + i)
  | [], _, _, _, _, i, i0, i1 => by rw [List.length_nil] at i1; omega
  | v :: L, a, c, h1, h2, i, i0, i1 => by
    rw [List.length_cons] at i1
    by_cases e : i = 0
    · rw [e, Int.add_zero, Int.add_zero, h1.1, h2.1]
    · have := RDL_ev L (a + 1) (c + 1) h1.2 h2.2 (i - 1) (by omega) (by omega)
      rw [show a + 1 + (i - 1) = a + i by omega, show c + 1 + (i - 1) = c + i by omega] at this; exact this
theorem x_42 [Inhabited fz_] (h0 : 0 ≤ a ∧ a < 221100) (h65 : B 0 65 = a) : Ex_ 1 42 [.inr (.inr 0)] B [.inl (B 27 a)] (up_ B 0 65 (a + 1)) := fun Qr Qt g => t_42 fun V hV hW => b_42_0 (Tr_mono _) hV hW _ (by
  rw [h65, w32_id (x := a + 1) (by omega) (by omega), show a + 1 - 1 = a by omega, w32_id (x := a) (by omega) (by omega)]
  exact ⟨h0, g⟩)
theorem UF_rf [Inhabited fz_] : UF M M := ⟨fun _ _ => rfl, fun _ _ => rfl⟩
theorem UF_tr [Inhabited fz_] (h : UF M B1) (g : UF B1 B) : UF M B := ⟨fun r hr => (g.1 r hr).trans (h.1 r hr), fun i hi => (g.2 i hi).trans (h.2 i hi)⟩
theorem UF_up [Inhabited fz_] {q : Nat} {i v : Int} (h : q ∈ [10, 11, 12, 13, 14, 15, 16, 17, 18, 19, 20, 21, 22]) : UF M (up_ M q i v) := ⟨fun r hr => up_ne (fun e => hr (by rw [e]; exact List.mem_cons_of_mem _ h)), fun j _ => by rw [up_ne (fun e => by rw [← e] at h; revert h; decide)]⟩
theorem UF_0 [Inhabited fz_] {i v : Int} (h : i ∈ [7, 8, 65]) : UF M (up_ M 0 i v) := ⟨fun r hr => up_ne (fun e => hr (by rw [e]; decide)), fun j hj => upo (fun e => hj (by rw [e]; exact h))⟩
theorem SLX_u [Inhabited fz_] (h : SLX x M B) : UF M B := ⟨fun r hr => h.1 r (fun e => hr (by simp only [List.mem_cons, List.not_mem_nil, or_false] at e ⊢; (clear h hr; lia))), fun i hi => h.2.1 i (fun e => hi (by rw [e]; decide))⟩
theorem SLX_tr [Inhabited fz_] (h : SLX x M B1) (g : SLX x B1 B) : SLX x M B := ⟨fun r hr => (g.1 r hr).trans (h.1 r hr), fun i hi => (g.2.1 i hi).trans (h.2.1 i hi), fun q hq i hi => (g.2.2.1 q hq i hi).trans (h.2.2.1 q hq i hi), fun i hi => (g.2.2.2.1 i hi).trans (h.2.2.2.1 i hi), fun i hi => (g.2.2.2.2.1 i hi).trans (h.2.2.2.2.1 i hi), fun i hi => ⟨(g.2.2.2.2.2 i hi).1.trans (h.2.2.2.2.2 i hi).1, (g.2.2.2.2.2 i hi).2.trans (h.2.2.2.2.2 i hi).2⟩⟩
theorem on_t [Inhabited fz_] : ∀ (a b c : Bool), (an_ (sr_ ((if a then 1 else 0) + (if b then 2 else 0) + (if c then 4 else 0)) 0) 1 = 0 ↔ a = false) ∧ (an_ (sr_ ((if a then 1 else 0) + (if b then 2 else 0) + (if c then 4 else 0)) 1) 1 = 0 ↔ b = false) ∧ (an_ (sr_ ((if a then 1 else 0) + (if b then 2 else 0) + (if c then 4 else 0)) 2) 1 = 0 ↔ c = false) := by decide +kernel
theorem onb_t [Inhabited fz_] {t : Int} (h0 : 0 ≤ t) (h1 : t < 3) : an_ (sr_ (onb f b) t) 1 = 0 ↔ ¬ 0 ≤ f (b + 22 + t) := by
  have := on_t (decide (0 ≤ f (b + 22))) (decide (0 ≤ f (b + 22 + 1))) (decide (0 ≤ f (b + 22 + 2)))
  simp only [decide_eq_true_eq, decide_eq_false_iff_not] at this
  unfold onb
  rcases (by omega : t = 0 ∨ t = 1 ∨ t = 2) with e | e | e
  · subst e; rw [Int.add_zero]; exact this.1
  · subst e; exact this.2.1
  · subst e; exact this.2.2
/-- cells -/
theorem u_158 [Inhabited fz_] {k o C a0 : Int} (hx : 0 ≤ x ∧ x < 12) (hT : 0 ≤ B 11 x ∧ B 11 x < 6) (hC : B 92 (B 11 x) = C) (hC2 : 0 ≤ C ∧ C ≤ 16) (ha : 0 ≤ a0 ∧ a0 + 16 < 221100) (g : Int → Int) (hr : ∀ j, 0 ≤ j → j < C → B 27 (a0 + j) = g j) (hz : ∀ j, C ≤ j → j < 16 → g j = 0) : ∀ (n : Nat) (c : Int) (A : mm_), c + n = 16 → 0 ≤ c → (∀ r : Nat, r ≠ 0 → r ≠ 13 → A r = B r) → (A 0 65 = if c < C then a0 + c else a0 + C) →
    ∃ A', RC 1 m_41 158 [rr 0, ii k, ii x, ii o, ii c] A 158 [rr 0, ii k, ii x, ii o, ii 16] A' ∧ (∀ r : Nat, r ≠ 0 → r ≠ 13 → A' r = B r) ∧ (∀ i : Int, i ≠ 65 → A' 0 i = A 0 i) ∧ (∀ i, i < 16 * x + c ∨ 16 * x + 16 ≤ i → A' 13 i = A 13 i) ∧ (∀ j, c ≤ j → j < 16 → A' 13 (16 * x + j) = g j) ∧ A' 0 65 = a0 + C := fun n => by
  induction n with
  | zero =>
    intro c A hc c0 hA h65
    have e : c = 16 := by (clear hx hT hC hC2 ha hr hz c0 hA h65; lia)
    subst e
    exact ⟨A, RC_rf, hA, fun _ _ => rfl, fun _ _ => rfl, fun j j0 j1 => by omega, by rw [h65, if_neg (by (clear hx hT hC ha hr hz hA hc c0 h65; omega))]⟩
  | succ n ih =>
    intro c A hc c0 hA h65
    have w16 : w32 (w32 (16 * x) + c) = 16 * x + c := by rw [w32_id (x := 16 * x) (by omega) (by omega), w32_id (by omega) (by (clear hT hC hC2 ha hr hz ih hA h65; lia))]
    have wc : w32 (c + 1) = c + 1 := w32_id (by (clear hx hT hC hC2 ha hr hz ih hA h65; lia)) (by (clear hx hT hC hC2 ha hr hz ih hA h65; lia))
    by_cases cc : c < C
    · rw [if_pos cc] at h65
      have rd := hr c c0 cc
      generalize hA1 : up_ (up_ A 0 65 (a0 + c + 1)) 13 (16 * x + c) (g c) = A1
      have a13 : A1 13 (16 * x + c) = g c := by rw [← hA1, up_at]
      obtain ⟨A', r1, r2, r3, r4, r5, r6⟩ := ih (c + 1) A1 (by omega) (by (clear hx hT hC hC2 ha hr hz ih hA h65 cc rd hA1 a13; lia)) (fun r h1 h2 => by rw [← hA1, up_ne h2, up_ne h1]; exact hA r h1 h2) (by
        rw [← hA1, up_ne (by decide), up_at]
        by_cases c2 : c + 1 < C
        · rw [if_pos c2]; omega
        · rw [if_neg c2]; (clear hx hT hC hC2 ha hr hz ih c0 hA h65 rd hA1 a13; lia))
      refine ⟨A', RC_tr (fun V Qr Qt hV hW gg => b_41_158 (Tr_mono _) hV hW _ _ _ _ _ ?_) r1, r2, fun i hi => by rw [r3 i hi, ← hA1, up_ne (by decide), upo hi], fun i hi => by rw [r4 i (by omega), ← hA1, upo (by (clear hx hT hC hC2 ha hr hz ih hA h65 cc rd hA1 a13 r1 r2 r3 r4 r5 r6; lia)), up_ne (by decide)], fun j j0 j1 => ?_, r6⟩
      · rw [if_pos (by (clear hx hT hC hC2 ha hr hz ih hA h65 cc rd hA1 a13 r1 r2 r3 r4 r5 r6 hV hW gg; lia)), hA 11 (by decide) (by decide), hA 92 (by decide) (by decide), hC, if_pos cc, w16, wc]
        refine ⟨hx, hT, x_42 (by (clear hx hT hC hC2 hr hz ih hA cc rd hA1 a13 r1 r2 r3 r4 r5 r6 hV hW gg; lia)) h65 _ _ (ri_i ⟨by (clear hT hC hC2 ha hr hz ih hA h65 cc rd hA1 a13 r1 r2 r3 r4 r5 r6 hV hW gg; lia), ?_⟩)⟩
        rw [hA 27 (by decide) (by decide), rd, hA1]; exact gg
      · by_cases e : j = c
        · rw [e, r4 (16 * x + c) (by omega)]; exact a13
        · exact r5 j (by (clear hx hT hC hC2 ha hr hz ih c0 hA h65 cc rd hA1 a13 r1 r2 r3 r4 r5 r6 j1; lia)) j1
    · rw [if_neg cc] at h65
      generalize hA1 : up_ A 13 (16 * x + c) 0 = A1
      have a13 : A1 13 (16 * x + c) = g c := by rw [← hA1, up_at, hz c (by omega) (by (clear hx hT hC hC2 ha hr hz ih hA h65 cc hA1; lia))]
      obtain ⟨A', r1, r2, r3, r4, r5, r6⟩ := ih (c + 1) A1 (by omega) (by omega) (fun r h1 h2 => by rw [← hA1, up_ne h2]; exact hA r h1 h2) (by rw [← hA1, up_ne (by decide), if_neg (by (clear hx hT hC hC2 ha hr hz ih c0 hA hA1 a13; lia))]; exact h65)
      refine ⟨A', RC_tr (fun V Qr Qt hV hW gg => b_41_158 (Tr_mono _) hV hW _ _ _ _ _ ?_) r1, r2, fun i hi => by rw [r3 i hi, ← hA1, up_ne (by decide)], fun i hi => by rw [r4 i (by omega), ← hA1, upo (by omega)], fun j j0 j1 => ?_, r6⟩
      · rw [if_pos (by omega), hA 11 (by decide) (by decide), hA 92 (by decide) (by decide), hC, if_neg cc, w16, wc, hA1]
        exact ⟨hx, hT, by omega, gg⟩
      · by_cases e : j = c
        · rw [e, r4 (16 * x + c) (by (clear hx hT hC hC2 ha hr hz ih hc c0 hA h65 w16 wc cc hA1 a13 r1 r2 r3 r4 r5 r6 j0 j1 e; lia))]; exact a13
        · exact r5 j (by omega) j1
/-- the queue -/
theorem u_223 [Inhabited fz_] {k o C a0 : Int} (hx : 0 ≤ x ∧ x < 12) (hC : B 14 x = C) (hC2 : 0 ≤ C ∧ C ≤ 6) (ha : 0 ≤ a0 ∧ a0 + 30 < 221100) (g : Int → Int) (hr : ∀ j, 0 ≤ j → j < 5 * C → B 27 (a0 + j) = g j) : ∀ (n : Nat) (c : Int) (A : mm_), c + n = 5 * C → 0 ≤ c → (∀ r : Nat, r ≠ 0 → r ≠ 15 → A r = B r) → A 0 65 = a0 + c →
    ∃ A', RC 1 m_41 223 [rr 0, ii k, ii x, ii o, ii c] A 27 [rr 0, ii k, ii (x + 1), none, none] A' ∧ (∀ r : Nat, r ≠ 0 → r ≠ 15 → A' r = B r) ∧ (∀ i : Int, i ≠ 65 → A' 0 i = A 0 i) ∧ (∀ i, i < 30 * x + c ∨ 30 * x + 30 ≤ i → A' 15 i = A 15 i) ∧ (∀ j, c ≤ j → j < 5 * C → A' 15 (30 * x + j) = g j) ∧ A' 0 65 = a0 + 5 * C := fun n => by
  induction n with
  | zero =>
    intro c A hc c0 hA h65
    refine ⟨A, fun V Qr Qt hV hW gg => b_41_223 (Tr_mono _) hV hW _ _ _ _ _ ?_, hA, fun _ _ => rfl, fun _ _ => rfl, fun j j0 j1 => by (clear hx hC hC2 ha hr c0 hA h65; omega), by omega⟩
    rw [hA 14 (by decide) (by decide), hC, w32_id (x := 5 * C) (by (clear hx hC ha hr hc c0 hA h65 hV hW gg; lia)) (by (clear hx hC ha hr hc c0 hA h65 hV hW gg; omega)), if_neg (by (clear hx hC hC2 ha hr c0 hA h65 hV hW gg; omega)), w32_id (x := x + 1) (by omega) (by (clear hC hC2 ha hr hc c0 hA h65 hV hW gg; omega))]
    exact ⟨hx, gg⟩
  | succ n ih =>
    intro c A hc c0 hA h65
    have rd := hr c c0 (by omega)
    generalize hA1 : up_ (up_ A 0 65 (a0 + c + 1)) 15 (30 * x + c) (g c) = A1
    have a15 : A1 15 (30 * x + c) = g c := by rw [← hA1, up_at]
    obtain ⟨A', r1, r2, r3, r4, r5, r6⟩ := ih (c + 1) A1 (by (clear hx hC hC2 ha hr ih c0 hA h65 rd hA1 a15; lia)) (by (clear hx hC hC2 ha hr ih hA h65 rd hA1 a15; omega)) (fun r h1 h2 => by rw [← hA1, up_ne h2, up_ne h1]; exact hA r h1 h2) (by rw [← hA1, up_ne (by decide), up_at]; omega)
    refine ⟨A', RC_tr (fun V Qr Qt hV hW gg => b_41_223 (Tr_mono _) hV hW _ _ _ _ _ ?_) r1, r2, fun i hi => by rw [r3 i hi, ← hA1, up_ne (by decide), upo hi], fun i hi => by rw [r4 i (by (clear hx hC hC2 ha hr ih c0 hA rd hA1 a15 r1 r2 r3 r4 r5; lia)), ← hA1, upo (by (clear hx hC ha hr ih c0 hA rd hA1 a15 r1 r2 r3 r4 r5; lia)), up_ne (by decide)], fun j j0 j1 => ?_, r6⟩
    · rw [hA 14 (by decide) (by decide), hC, w32_id (x := 5 * C) (by (clear hx hC ha hr ih hc c0 hA h65 rd hA1 a15 r1 r2 r3 r4 r5 r6 hV hW gg; lia)) (by omega), if_pos (by (clear hx hC hC2 ha hr ih c0 hA rd hA1 a15 r1 r2 r3 r4 r5 hV hW gg; lia))]
      refine ⟨hx, x_9 (a := 0) hx (by decide) _ _ (ri_i (x_42 (by (clear hx hC hr ih hA rd hA1 a15 r1 r2 r3 r4 r5 hV hW gg; lia)) h65 _ _ (ri_i ?_)))⟩
      rw [show 30 * x + 5 * 0 + c = 30 * x + c by (clear hx hC hC2 ha hr ih hc c0 hA h65 rd hA1 a15 r1 r2 r3 r4 r5 r6 hV hW gg; lia), w32_id (x := 30 * x + c) (by (clear hC hC2 ha hr ih hA rd hA1 a15 r1 r2 r3 r4 r5 hV hW gg; lia)) (by (clear hC ha hr ih c0 hA rd hA1 a15 r1 r2 r3 r4 r5 hV hW gg; lia)), w32_id (x := c + 1) (by (clear hx hC hC2 ha hr ih hA rd hA1 a15 r1 r2 r3 r4 r5 hV hW gg; lia)) (by omega), hA 27 (by decide) (by decide), rd, hA1]
      exact ⟨by (clear hC ha hr ih hA rd hA1 a15 r1 r2 r3 r4 r5 hV hW gg; lia), gg⟩
    · by_cases e : j = c
      · rw [e, r4 (30 * x + c) (by omega)]; exact a15
      · exact r5 j (by (clear hx hC hC2 ha hr ih c0 hA rd hA1 a15 r1 r2 r3 r4 r5 j1; lia)) j1
end UNa
end T399_un
section T400_ul
/-! the search: X unpacks (X 41 | Q 386) -/
def stp (B : mm_) (q : Nat) (x v a : Int) : mm_ := up_ (up_ B 0 65 a) q x v
def s6X (B : mm_) (x a v1 v2 v3 v4 v5 v6 : Int) : mm_ := up_ (stp (stp (stp (stp (stp (stp B 10 x v1 (a + 1)) 11 x v2 (a + 2)) 12 x v3 (a + 3)) 18 x v4 (a + 4)) 19 x v5 (a + 5)) 20 x v6 (a + 6)) 0 65 (a + 7)
def s3X (B : mm_) (x s0 s1 s2 : Int) : mm_ := up_ (up_ (up_ (up_ (up_ (up_ B 16 (3 * x + 0) s0) 17 (3 * x + 0) (B 0 9)) 16 (3 * x + 1) s1) 17 (3 * x + 1) (B 0 9)) 16 (3 * x + 2) s2) 17 (3 * x + 2) (B 0 9)
section ULa
variable {M N B B' B1 : mm_} {f g h : Int → Int} {a k x v A b v1 v2 v3 v4 v5 v6 s0 s1 s2 : Int} {L K : List Int}
theorem stp_27 [Inhabited fz_] {q : Nat} (hq : q ≠ 27) : stp B q x v a 27 = B 27 := by unfold stp; rw [up_ne (fun e => hq e.symm), up_ne (by decide)]
theorem stp_65 [Inhabited fz_] {q : Nat} (hq : q ≠ 0) : stp B q x v a 0 65 = a := by unfold stp; rw [up_ne (fun e => hq e.symm), up_at]
theorem s6X_r [Inhabited fz_] {r : Nat} (h : r ∉ [0, 10, 11, 12, 18, 19, 20]) : s6X B x a v1 v2 v3 v4 v5 v6 r = B r := by
  have e : ∀ q : Nat, q ∈ [0, 10, 11, 12, 18, 19, 20] → r ≠ q := fun q hq e => h (by rw [e]; exact hq)
  unfold s6X stp
  rw [up_ne (e 0 (by decide)), up_ne (e 20 (by decide)), up_ne (e 0 (by decide)), up_ne (e 19 (by decide)), up_ne (e 0 (by decide)), up_ne (e 18 (by decide)), up_ne (e 0 (by decide)), up_ne (e 12 (by decide)), up_ne (e 0 (by decide)), up_ne (e 11 (by decide)), up_ne (e 0 (by decide)), up_ne (e 10 (by decide)), up_ne (e 0 (by decide))]
theorem s6X_0 [Inhabited fz_] {i : Int} (h : i ≠ 65) : s6X B x a v1 v2 v3 v4 v5 v6 0 i = B 0 i := by
  unfold s6X stp
  rw [upo h, up_ne (by decide), upo h, up_ne (by decide), upo h, up_ne (by decide), upo h, up_ne (by decide), upo h, up_ne (by decide), upo h, up_ne (by decide), upo h]
theorem s6X_65 [Inhabited fz_] : s6X B x a v1 v2 v3 v4 v5 v6 0 65 = a + 7 := by unfold s6X; rw [up_at]
theorem s6X_v [Inhabited fz_] : s6X B x a v1 v2 v3 v4 v5 v6 10 x = v1 ∧ s6X B x a v1 v2 v3 v4 v5 v6 11 x = v2 ∧ s6X B x a v1 v2 v3 v4 v5 v6 12 x = v3 ∧ s6X B x a v1 v2 v3 v4 v5 v6 18 x = v4 ∧ s6X B x a v1 v2 v3 v4 v5 v6 19 x = v5 ∧ s6X B x a v1 v2 v3 v4 v5 v6 20 x = v6 := by
  unfold s6X stp
  refine ⟨?_, ?_, ?_, ?_, ?_, ?_⟩
  · rw [up_ne (by decide), up_ne (by decide), up_ne (by decide), up_ne (by decide), up_ne (by decide), up_ne (by decide), up_ne (by decide), up_ne (by decide), up_ne (by decide), up_ne (by decide), up_ne (by decide), up_at]
  · rw [up_ne (by decide), up_ne (by decide), up_ne (by decide), up_ne (by decide), up_ne (by decide), up_ne (by decide), up_ne (by decide), up_ne (by decide), up_ne (by decide), up_at]
  · rw [up_ne (by decide), up_ne (by decide), up_ne (by decide), up_ne (by decide), up_ne (by decide), up_ne (by decide), up_ne (by decide), up_at]
  · rw [up_ne (by decide), up_ne (by decide), up_ne (by decide), up_ne (by decide), up_ne (by decide), up_at]
  · rw [up_ne (by decide), up_ne (by decide), up_ne (by decide), up_at]
  · rw [up_ne (by decide), up_at]
theorem up_o2 [Inhabited fz_] {D : mm_} {q' q : Nat} {i : Int} (hi : i ≠ x) : up_ D q' x v q i = D q i := by
  by_cases c : q = q'
  · subst c; exact upo hi
  · rw [up_ne c]
theorem s6X_o [Inhabited fz_] {q : Nat} {i : Int} (hq : q ≠ 0) (hi : i ≠ x) : s6X B x a v1 v2 v3 v4 v5 v6 q i = B q i := by
  unfold s6X stp
  rw [up_ne hq, up_o2 hi, up_ne hq, up_o2 hi, up_ne hq, up_o2 hi, up_ne hq, up_o2 hi, up_ne hq, up_o2 hi, up_ne hq, up_o2 hi, up_ne hq]
theorem s3X_r [Inhabited fz_] {r : Nat} (h : r ≠ 16) (h' : r ≠ 17) : s3X B x s0 s1 s2 r = B r := by unfold s3X; simp only [up_ne h, up_ne h']
theorem s3X_v [Inhabited fz_] : ∀ t, 0 ≤ t → t < 3 → s3X B x s0 s1 s2 16 (3 * x + t) = (if t = 0 then s0 else if t = 1 then s1 else s2) ∧ s3X B x s0 s1 s2 17 (3 * x + t) = B 0 9 := fun t t0 t1 => by
  rcases (by omega : t = 0 ∨ t = 1 ∨ t = 2) with e | e | e
  · subst e; unfold s3X
    refine ⟨?_, ?_⟩
    · rw [up_ne (by decide), upo (by omega), up_ne (by decide), upo (by omega), up_ne (by decide), up_at, if_pos rfl]
    · rw [upo (by omega), up_ne (by decide), upo (by omega), up_ne (by decide), up_at]
  · subst e; unfold s3X
    refine ⟨?_, ?_⟩
    · rw [up_ne (by decide), upo (by omega), up_ne (by decide), up_at, if_neg (by decide), if_pos rfl]
    · rw [upo (by omega), up_ne (by decide), up_at]
  · subst e; unfold s3X
    refine ⟨?_, ?_⟩
    · rw [up_ne (by decide), up_at, if_neg (by decide), if_neg (by decide)]
    · rw [up_at]
theorem s3X_o [Inhabited fz_] {i : Int} (h : i < 3 * x ∨ 3 * x + 3 ≤ i) : s3X B x s0 s1 s2 16 i = B 16 i ∧ s3X B x s0 s1 s2 17 i = B 17 i := by
  unfold s3X
  refine ⟨?_, ?_⟩
  · rw [up_ne (by decide), upo (by omega), up_ne (by decide), upo (by omega), up_ne (by decide), upo (by omega)]
  · rw [upo (by omega), up_ne (by decide), upo (by omega), up_ne (by decide), upo (by omega), up_ne (by decide)]
/-- an instance -/
theorem u_27 [Inhabited fz_] (hx : 0 ≤ x ∧ x < B 0 7) (hn : B 0 7 ≤ 12) (ha : 0 ≤ a ∧ a + 60 < 221100) (h65 : B 0 65 = a) (hv : VSL N f (sB x)) (hT : 0 ≤ f (sB x + 1) ∧ f (sB x + 1) < 6) (h92 : B 92 (f (sB x + 1)) = N 172 (f (sB x + 1))) (h16 : 0 ≤ N 172 (f (sB x + 1)) ∧ N 172 (f (sB x + 1)) ≤ 16) (hr : RDL (B 27) a (slL N f (sB x))) : ∃ B', RC 1 m_41 27 [rr 0, ii k, ii x, none, none] B 27 [rr 0, ii k, ii (x + 1), none, none] B' ∧ SLX x B B' ∧ SLD B' f x ∧ B' 0 65 = a + (slL N f (sB x)).length := by
  generalize hb : sB x = b at *
  have x12 : 0 ≤ x ∧ x < 12 := by omega
  unfold slL slT at hr
  obtain ⟨r0, r1, r2, r3, r4, r5, r6, hr⟩ := hr
  have a7 : a + 1 + 1 + 1 + 1 + 1 + 1 + 1 = a + 7 := by (clear hx hn ha h65 hb hv hT h92 h16 x12 r0 r1 r2 r3 r4 r5 r6 hr; lia)
  rw [a7] at hr
  obtain ⟨rc, rq⟩ := RDL_app _ _ hr
  rw [rgl_len] at rq
  obtain ⟨rq0, rq⟩ := rq
  generalize hC : N 172 (f (b + 1)) = C at *
  have eC : ((C.toNat : Nat) : Int) = C := by (clear hx hn ha h65 hb hv hT x12 r0 r1 r2 r3 r4 r5 r6 a7 hC hr rc rq0 rq; lia)
  rw [eC] at rq0 rq
  have fc := RDL_rg _ _ _ rc
  have fq := RDL_rg _ _ _ rq
  obtain ⟨_, hz, ht, ⟨hq, _⟩⟩ := hv
  rw [hC] at hz
  rw [show a + 1 + 1 = a + 2 by omega] at r2
  rw [show a + 1 + 1 + 1 = a + 3 by (clear hx hn ha h65 hb hT x12 r0 r1 r2 r3 r4 r5 r6 a7 hC h92 h16 hr rc rq0 rq eC fc fq hz ht hq; omega)] at r3
  rw [show a + 1 + 1 + 1 + 1 = a + 4 by omega] at r4
  rw [show a + 1 + 1 + 1 + 1 + 1 = a + 5 by (clear hx hn ha h65 hb hT x12 r0 r1 r2 r3 r4 r5 r6 a7 hC h92 h16 hr rc rq0 rq eC fc fq hz ht hq; omega)] at r5
  rw [show a + 1 + 1 + 1 + 1 + 1 + 1 = a + 6 by omega] at r6
  generalize hB1 : s6X B x a (f b) (f (b + 1)) (f (b + 2)) (f (b + 3)) (f (b + 4)) (f (b + 5)) = B1
  obtain ⟨e10, e11, e12, e18, e19, e20⟩ := s6X_v (B := B) (x := x) (a := a) (v1 := f b) (v2 := f (b + 1)) (v3 := f (b + 2)) (v4 := f (b + 3)) (v5 := f (b + 4)) (v6 := f (b + 5))
  rw [hB1] at e10 e11 e12 e18 e19 e20
  generalize hB2 : s3X B1 x (if 0 ≤ f (b + 22 + 0) then 1 else 0) (if 0 ≤ f (b + 22 + 1) then 1 else 0) (if 0 ≤ f (b + 22 + 2) then 1 else 0) = B2
  have b2r : ∀ r : Nat, r ≠ 16 → r ≠ 17 → B2 r = B1 r := fun r c1 c2 => by rw [← hB2]; exact s3X_r c1 c2
  have b1r : ∀ r : Nat, r ∉ [0, 10, 11, 12, 18, 19, 20] → B1 r = B r := fun r c => by rw [← hB1]; exact s6X_r c
  have b165 : B1 0 65 = a + 7 := by rw [← hB1]; exact s6X_65
  obtain ⟨B3, p1, p2, p3, p4, p5, p6⟩ := u_158 (x := x) (B := B2) (k := k) (o := onb f b) (C := C) (a0 := a + 7) x12 (by rw [b2r 11 (by decide) (by decide), e11]; exact hT) (by rw [b2r 92 (by decide) (by decide), b2r 11 (by decide) (by decide), e11, b1r 92 (by decide)]; exact h92) (by omega) (by (clear hx hn hb hT x12 r0 r1 r2 r3 r4 r5 r6 a7 hC h92 h16 hr rc rq0 rq eC fc fq hz ht hq hB1 e10 e11 e12 e18 e19 e20 hB2 b2r b1r; lia)) (fun j => f (b + 6 + j)) (fun j j0 j1 => by
    rw [b2r 27 (by decide) (by decide), b1r 27 (by decide)]
    have := fc j j0 (by (clear hx hn ha h65 hb hT x12 r0 r1 r2 r3 r4 r5 r6 a7 hC h16 hr rc rq0 rq fc fq hz ht hq hB1 e10 e11 e12 e18 e19 e20 hB2 b2r b1r b165 j0; omega))
    rw [Int.sub_zero] at this; exact this) (fun j j0 j1 => hz j j0 (by (clear hx hn ha h65 hb hT x12 r0 r1 r2 r3 r4 r5 r6 a7 hC hr rc rq0 rq fc fq hz ht hq hB1 e10 e11 e12 e18 e19 e20 hB2 b2r b1r b165 j1; omega)) j1) 16 0 B2 (by decide) (by decide) (fun _ _ _ => rfl) (by rw [b2r 0 (by decide) (by decide), b165]; split <;> (clear hx hn ha h65 hb hT x12 r0 r1 r2 r3 r4 r5 r6 a7 hC hr rc rq0 rq fc fq hz ht hq hB1 e10 e11 e12 e18 e19 e20 hB2 b2r b1r b165; omega))
  generalize hB4 : up_ (up_ B3 0 65 (a + 7 + C + 1)) 14 x (f (b + 25)) = B4
  have b4r : ∀ r : Nat, r ≠ 0 → r ≠ 14 → B4 r = B3 r := fun r c1 c2 => by rw [← hB4, up_ne c2, up_ne c1]
  have b27 : B3 27 = B 27 := by rw [p2 27 (by decide) (by decide), b2r 27 (by decide) (by decide), b1r 27 (by decide)]
  have e14 : B4 14 x = f (b + 25) := by rw [← hB4, up_at]
  obtain ⟨B5, q1, q2, q3, q4, q5, q6⟩ := u_223 (x := x) (B := B4) (k := k) (o := onb f b) (C := f (b + 25)) (a0 := a + 7 + C + 1) x12 e14 hq (by (clear hx hn hb hT x12 r0 r1 r2 r3 r4 r5 r6 a7 hC hr rc rq0 rq fc fq hz ht hq hB1 e10 e11 e12 e18 e19 e20 hB2 b2r b1r p1 p2 p3 p4 p5 hB4 b4r b27 e14; lia)) (fun j => f (b + 26 + j)) (fun j j0 j1 => by
    rw [b4r 27 (by decide) (by decide), b27]
    have := fq j j0 (by (clear hx hn ha h65 hb hT x12 r0 r1 r2 r3 r4 r5 r6 a7 hC h92 h16 hr rc rq0 rq eC fc fq hz ht hB1 e10 e11 e12 e18 e19 e20 hB2 b2r b1r b165 p1 p2 p3 p4 p5 p6 hB4 b4r b27; omega))
    rw [Int.sub_zero] at this; exact this) (5 * f (b + 25)).toNat 0 B4 (by (clear hx hn ha h65 hb hT x12 r0 r1 r2 r3 r4 r5 r6 a7 hC h92 h16 hr rc rq0 rq eC fc fq hz ht hB1 e10 e11 e12 e18 e19 e20 hB2 b2r b1r b165 p1 p2 p3 p4 p5 p6 hB4 b4r b27; omega)) (by decide) (fun _ _ _ => rfl) (by rw [← hB4, up_ne (by decide), up_at]; (clear hx hn ha h65 hb hT x12 r0 r1 r2 r3 r4 r5 r6 a7 hC h92 h16 hr rc rq0 rq eC fc fq hz ht hq hB1 e10 e11 e12 e18 e19 e20 hB2 b2r b1r b165 p1 p2 p3 p4 p5 p6 hB4 b4r b27 e14; omega))
  -- fields
  have f0 : ∀ i : Int, i ≠ 65 → B5 0 i = B 0 i := fun i hi => by rw [q3 i hi, ← hB4, up_ne (by decide), upo hi, p3 i hi, b2r 0 (by decide) (by decide), ← hB1]; exact s6X_0 hi
  -- roles of one place each
  have f1 : ∀ q : Nat, q ∈ [10, 11, 12, 18, 19, 20] → B5 q = B1 q := fun q hq => by
    have hm : q ≠ 0 ∧ q ≠ 13 ∧ q ≠ 14 ∧ q ≠ 15 ∧ q ≠ 16 ∧ q ≠ 17 := by simp only [List.mem_cons, List.not_mem_nil, or_false] at hq; (clear hx hn ha h65 hb hT x12 r0 r1 r2 r3 r4 r5 r6 a7 hC h92 h16 hr rc rq0 rq eC fc fq hz ht hB1 e10 e11 e12 e18 e19 e20 hB2 b2r b1r b165 p1 p2 p3 p4 p5 p6 hB4 b4r b27 e14 q1 q2 q3 q4 q5 q6 f0; omega)
    rw [q2 q hm.1 hm.2.2.2.1, b4r q hm.1 hm.2.2.1, p2 q hm.1 hm.2.1, b2r q hm.2.2.2.2.1 hm.2.2.2.2.2]
  have f14 : B5 14 = B4 14 := q2 14 (by decide) (by decide)
  have f13 : ∀ i, B5 13 i = B3 13 i := fun i => by rw [q2 13 (by decide) (by decide), b4r 13 (by decide) (by decide)]
  have f16 : ∀ q : Nat, q = 16 ∨ q = 17 → B5 q = B2 q := fun q hq => by
    have hm : q ≠ 0 ∧ q ≠ 13 ∧ q ≠ 14 ∧ q ≠ 15 := by (clear hx hn ha h65 hb hT x12 r0 r1 r2 r3 r4 r5 r6 a7 hC h92 h16 hr rc rq0 rq eC fc fq hz ht hB1 e10 e11 e12 e18 e19 e20 hB2 b2r b1r b165 p1 p2 p3 p4 p5 p6 hB4 b4r b27 e14 q1 q2 q3 q4 q5 q6 f0 f1 f14 f13; omega)
    rw [q2 q hm.1 hm.2.2.2, b4r q hm.1 hm.2.2.1, p2 q hm.1 hm.2.1]
  have f15 : B4 15 = B 15 := by rw [b4r 15 (by decide) (by decide), p2 15 (by decide) (by decide), b2r 15 (by decide) (by decide), b1r 15 (by decide)]
  have b19 : B1 0 9 = B 0 9 := by rw [← hB1]; exact s6X_0 (by decide)
  have tv := s3X_v (B := B1) (x := x) (s0 := if 0 ≤ f (b + 22 + 0) then 1 else 0) (s1 := if 0 ≤ f (b + 22 + 1) then 1 else 0) (s2 := if 0 ≤ f (b + 22 + 2) then 1 else 0)
  rw [hB2] at tv
  have c1 : RC 1 m_41 27 [rr 0, ii k, ii x, none, none] B 103 [rr 0, ii k, ii x, ii (onb f b), ii 0] B1 := fun V Qr Qt hV hW gg => b_41_27 (Tr_mono _) hV hW _ _ _ (by
    rw [if_pos hx.2]
    refine x_42 (by (clear hx hn hb hT x12 r0 r1 r2 r3 r4 r5 r6 a7 hC h92 h16 hr rc rq0 rq eC fc fq hz ht hq hB1 e10 e11 e12 e18 e19 e20 hB2 b2r b1r p1 p2 p3 p4 p5 p6 hB4 b4r b27 e14 q1 q2 q3 q4 q5 q6 f0 f1 f14 f13 f16 f15 b19 tv hV hW gg; omega)) h65 _ _ (ri_i ⟨x12, ?_⟩)
    rw [r0]
    have z1 : ∀ (D : mm_) (q : Nat) (v c : Int), up_ (up_ D 0 65 c) q x v = stp D q x v c := fun _ _ _ _ => rfl
    rw [z1]
    refine x_42 (a := a + 1) (by (clear hx hn hb hT x12 r0 r1 r2 r3 r4 r5 r6 a7 hC h92 h16 hr rc rq0 rq eC fc fq hz ht hq hB1 e10 e11 e12 e18 e19 e20 hB2 b2r b1r p1 p2 p3 p4 p5 p6 hB4 b4r b27 e14 q1 q2 q3 q4 q5 q6 f0 f1 f14 f13 f16 f15 b19 tv hV hW gg z1; omega)) (stp_65 (by decide)) _ _ (ri_i ⟨x12, ?_⟩)
    rw [stp_27 (by decide), r1, show a + 1 + 1 = a + 2 by (clear hx hn ha h65 hb hT x12 r0 r1 r2 r3 r4 r5 r6 a7 hC h92 h16 hr rc rq0 rq eC fc fq hz ht hq hB1 e10 e11 e12 e18 e19 e20 hB2 b2r b1r b165 p1 p2 p3 p4 p5 p6 hB4 b4r b27 e14 q1 q2 q3 q4 q5 q6 f0 f1 f14 f13 f16 f15 b19 tv hV hW gg z1; omega), z1]
    refine x_42 (a := a + 2) (by (clear hx hn hb hT x12 r0 r1 r2 r3 r4 r5 r6 a7 hC h92 h16 hr rc rq0 rq eC fc fq hz ht hq hB1 e10 e11 e12 e18 e19 e20 hB2 b2r b1r p1 p2 p3 p4 p5 p6 hB4 b4r b27 e14 q1 q2 q3 q4 q5 q6 f0 f1 f14 f13 f16 f15 b19 tv hV hW gg z1; omega)) (stp_65 (by decide)) _ _ (ri_i ⟨x12, ?_⟩)
    rw [stp_27 (by decide), stp_27 (by decide), r2, show a + 2 + 1 = a + 3 by omega, z1]
    refine x_42 (a := a + 3) (by (clear hx hn hb hT x12 r0 r1 r2 r3 r4 r5 r6 a7 hC h92 h16 hr rc rq0 rq eC fc fq hz ht hq hB1 e10 e11 e12 e18 e19 e20 hB2 b2r b1r p1 p2 p3 p4 p5 p6 hB4 b4r b27 e14 q1 q2 q3 q4 q5 q6 f0 f1 f14 f13 f16 f15 b19 tv hV hW gg z1; omega)) (stp_65 (by decide)) _ _ (ri_i ⟨x12, ?_⟩)
    rw [stp_27 (by decide), stp_27 (by decide), stp_27 (by decide), r3, show a + 3 + 1 = a + 4 by (clear hx hn ha h65 hb hT x12 r0 r1 r2 r3 r4 r5 r6 a7 hC h92 h16 hr rc rq0 rq eC fc fq hz ht hq hB1 e10 e11 e12 e18 e19 e20 hB2 b2r b1r b165 p1 p2 p3 p4 p5 p6 hB4 b4r b27 e14 q1 q2 q3 q4 q5 q6 f0 f1 f14 f13 f16 f15 b19 tv hV hW gg z1; omega), z1]
    refine x_42 (a := a + 4) (by (clear hx hn hb hT x12 r0 r1 r2 r3 r4 r5 r6 a7 hC h92 h16 hr rc rq0 rq eC fc fq hz ht hq hB1 e10 e11 e12 e18 e19 e20 hB2 b2r b1r p1 p2 p3 p4 p5 p6 hB4 b4r b27 e14 q1 q2 q3 q4 q5 q6 f0 f1 f14 f13 f16 f15 b19 tv hV hW gg z1; omega)) (stp_65 (by decide)) _ _ (ri_i ⟨x12, ?_⟩)
    rw [stp_27 (by decide), stp_27 (by decide), stp_27 (by decide), stp_27 (by decide), r4, show a + 4 + 1 = a + 5 by (clear hx hn ha h65 hb hT x12 r0 r1 r2 r3 r4 r5 r6 a7 hC h92 h16 hr rc rq0 rq eC fc fq hz ht hq hB1 e10 e11 e12 e18 e19 e20 hB2 b2r b1r b165 p1 p2 p3 p4 p5 p6 hB4 b4r b27 e14 q1 q2 q3 q4 q5 q6 f0 f1 f14 f13 f16 f15 b19 tv hV hW gg z1; omega), z1]
    refine x_42 (a := a + 5) (by (clear hx hn hb hT x12 r0 r1 r2 r3 r4 r5 r6 a7 hC h92 h16 hr rc rq0 rq eC fc fq hz ht hq hB1 e10 e11 e12 e18 e19 e20 hB2 b2r b1r p1 p2 p3 p4 p5 p6 hB4 b4r b27 e14 q1 q2 q3 q4 q5 q6 f0 f1 f14 f13 f16 f15 b19 tv hV hW gg z1; omega)) (stp_65 (by decide)) _ _ (ri_i ⟨x12, ?_⟩)
    rw [stp_27 (by decide), stp_27 (by decide), stp_27 (by decide), stp_27 (by decide), stp_27 (by decide), r5, show a + 5 + 1 = a + 6 by (clear hx hn ha h65 hb hT x12 r0 r1 r2 r3 r4 r5 r6 a7 hC h92 h16 hr rc rq0 rq eC fc fq hz ht hq hB1 e10 e11 e12 e18 e19 e20 hB2 b2r b1r b165 p1 p2 p3 p4 p5 p6 hB4 b4r b27 e14 q1 q2 q3 q4 q5 q6 f0 f1 f14 f13 f16 f15 b19 tv hV hW gg z1; omega), z1]
    refine x_42 (a := a + 6) (by (clear hx hn hb hT x12 r0 r1 r2 r3 r4 r5 r6 a7 hC h92 h16 hr rc rq0 rq eC fc fq hz ht hq hB1 e10 e11 e12 e18 e19 e20 hB2 b2r b1r p1 p2 p3 p4 p5 p6 hB4 b4r b27 e14 q1 q2 q3 q4 q5 q6 f0 f1 f14 f13 f16 f15 b19 tv hV hW gg z1; omega)) (stp_65 (by decide)) _ _ (ri_i ?_)
    rw [stp_27 (by decide), stp_27 (by decide), stp_27 (by decide), stp_27 (by decide), stp_27 (by decide), stp_27 (by decide), r6, show a + 6 + 1 = a + 7 by (clear hx hn ha h65 hb hT x12 r0 r1 r2 r3 r4 r5 r6 a7 hC h92 h16 hr rc rq0 rq eC fc fq hz ht hq hB1 e10 e11 e12 e18 e19 e20 hB2 b2r b1r b165 p1 p2 p3 p4 p5 p6 hB4 b4r b27 e14 q1 q2 q3 q4 q5 q6 f0 f1 f14 f13 f16 f15 b19 tv hV hW gg z1; omega)]
    exact (show V 103 [rr 0, ii k, ii x, ii (onb f b), ii 0] [] (s6X B x a (f b) (f (b + 1)) (f (b + 2)) (f (b + 3)) (f (b + 4)) (f (b + 5))) from by rw [hB1]; exact gg))
  have c2 : RC 1 m_41 103 [rr 0, ii k, ii x, ii (onb f b), ii 0] B1 158 [rr 0, ii k, ii x, ii (onb f b), ii 0] B2 := fun V Qr Qt hV hW gg => by
    exact (fun (st : ∀ (t : Int) (D : mm_), 0 ≤ t → t < 3 → V 103 [rr 0, ii k, ii x, ii (onb f b), ii (t + 1)] [] (up_ (up_ D 16 (3 * x + t) (if 0 ≤ f (b + 22 + t) then 1 else 0)) 17 (3 * x + t) (D 0 9)) → V 103 [rr 0, ii k, ii x, ii (onb f b), ii t] [] D) => by
      refine st 0 B1 (by decide) (by decide) (st (0 + 1) _ (by decide) (by decide) (st (0 + 1 + 1) _ (by decide) (by decide) ?_))
      refine b_41_103 (Tr_mono _) hV hW _ _ _ _ _ ?_
      rw [if_neg (by decide)]
      unfold s3X at hB2
      simp only [up_ne (show (0 : Nat) ≠ 17 by decide), up_ne (show (0 : Nat) ≠ 16 by decide)]
      show V 158 [rr 0, ii k, ii x, ii (onb f b), ii 0] [] (up_ (up_ (up_ (up_ (up_ (up_ B1 16 (3 * x + 0) (if 0 ≤ f (b + 22 + 0) then 1 else 0)) 17 (3 * x + 0) (B1 0 9)) 16 (3 * x + 1) (if 0 ≤ f (b + 22 + 1) then 1 else 0)) 17 (3 * x + 1) (B1 0 9)) 16 (3 * x + 2) (if 0 ≤ f (b + 22 + 2) then 1 else 0)) 17 (3 * x + 2) (B1 0 9))
      rw [hB2]; exact gg) (fun t D t0 t1 g2 => by
      refine b_41_103 (Tr_mono _) hV hW _ _ _ _ _ ?_
      rw [if_pos t1, w32_id (x := 3 * x) (by omega) (by (clear hn ha h65 hb hT r0 r1 r2 r3 r4 r5 r6 a7 hC h92 h16 hr rc rq0 rq eC fc fq hz ht hq hB1 e10 e11 e12 e18 e19 e20 hB2 b2r b1r b165 p1 p2 p3 p4 p5 p6 hB4 b4r b27 e14 q1 q2 q3 q4 q5 q6 f0 f1 f14 f13 f16 f15 b19 tv c1 hV hW gg t0 t1 g2; omega)), w32_id (x := 3 * x + t) (by (clear hn ha h65 hb hT r0 r1 r2 r3 r4 r5 r6 a7 hC h92 h16 hr rc rq0 rq eC fc fq hz ht hq hB1 e10 e11 e12 e18 e19 e20 hB2 b2r b1r b165 p1 p2 p3 p4 p5 p6 hB4 b4r b27 e14 q1 q2 q3 q4 q5 q6 f0 f1 f14 f13 f16 f15 b19 tv c1 hV hW gg g2; lia)) (by omega), w32_id (x := t + 1) (by (clear hx hn ha h65 hb hT x12 r0 r1 r2 r3 r4 r5 r6 a7 hC h92 h16 hr rc rq0 rq eC fc fq hz ht hq hB1 e10 e11 e12 e18 e19 e20 hB2 b2r b1r b165 p1 p2 p3 p4 p5 p6 hB4 b4r b27 e14 q1 q2 q3 q4 q5 q6 f0 f1 f14 f13 f16 f15 b19 tv c1 hV hW gg g2; omega)) (by (clear hx hn ha h65 hb hT x12 r0 r1 r2 r3 r4 r5 r6 a7 hC h92 h16 hr rc rq0 rq eC fc fq hz ht hq hB1 e10 e11 e12 e18 e19 e20 hB2 b2r b1r b165 p1 p2 p3 p4 p5 p6 hB4 b4r b27 e14 q1 q2 q3 q4 q5 q6 f0 f1 f14 f13 f16 f15 b19 tv c1 hV hW gg g2; omega))]
      by_cases c : 0 ≤ f (b + 22 + t)
      · rw [if_pos c] at g2
        rw [if_neg (fun e => (onb_t t0 t1).1 e c)]
        exact ⟨⟨by (clear ha h65 hb hT r0 r1 r2 r3 r4 r5 r6 a7 hC h92 h16 hr rc rq0 rq eC fc fq hz ht hq hB1 e10 e11 e12 e18 e19 e20 hB2 b2r b1r b165 p1 p2 p3 p4 p5 p6 hB4 b4r b27 e14 q1 q2 q3 q4 q5 q6 f0 f1 f14 f13 f16 f15 b19 tv c1 hV hW gg g2 c; omega), .inr rfl⟩, by omega, g2⟩
      · rw [if_neg c] at g2
        rw [if_pos ((onb_t t0 t1).2 c)]
        exact ⟨⟨by omega, .inl rfl⟩, by omega, g2⟩)
  have c3 : RC 1 m_41 158 [rr 0, ii k, ii x, ii (onb f b), ii 16] B3 223 [rr 0, ii k, ii x, ii (onb f b), ii 0] B4 := fun V Qr Qt hV hW gg => b_41_158 (Tr_mono _) hV hW _ _ _ _ _ (by
    rw [if_neg (by decide)]
    refine x_42 (by (clear hx hn hb hT x12 r0 r1 r2 r3 r4 r5 r6 a7 hC hr rc rq0 rq fc fq hz ht hq hB1 e10 e11 e12 e18 e19 e20 hB2 b2r b1r p1 p2 p3 p4 p5 hB4 b4r b27 q1 q2 q3 q4 q5 f0 f1 f14 f13 f16 f15 b19 tv c1 c2 hV hW gg; lia)) p6 _ _ (ri_i ⟨x12, ?_⟩)
    rw [b27, rq0, hB4]; exact gg)
  refine ⟨B5, RC_tr c1 (RC_tr c2 (RC_tr p1 (RC_tr c3 q1))), ⟨fun r hr => ?_, f0, fun q hq i hi => ?_, fun i hi => ?_, fun i hi => ?_, fun i hi => ?_⟩, ?_, ?_⟩
  · have e : ∀ q : Nat, q ∈ [0, 10, 11, 12, 13, 14, 15, 16, 17, 18, 19, 20] → r ≠ q := fun q hq e => hr (by rw [e]; exact hq)
    rw [q2 r (e 0 (by decide)) (e 15 (by decide)), b4r r (e 0 (by decide)) (e 14 (by decide)), p2 r (e 0 (by decide)) (e 13 (by decide)), b2r r (e 16 (by decide)) (e 17 (by decide)), b1r r (fun c => hr (by simp only [List.mem_cons, List.not_mem_nil, or_false] at c ⊢; (clear hx hn ha h65 hb hT x12 r0 r1 r2 r3 r4 r5 r6 a7 hC h92 h16 rc rq0 rq eC fc fq hz ht hq hB1 e10 e11 e12 e18 e19 e20 hB2 b2r b1r b165 p1 p2 p3 p4 p5 p6 hB4 b4r b27 e14 q1 q2 q3 q4 q5 q6 f0 f1 f14 f13 f16 f15 b19 tv c1 c2 c3 hr e; lia)))]
  · by_cases c : q = 14
    · subst c
      rw [f14, ← hB4, upo hi, up_ne (by decide), p2 14 (by decide) (by decide), b2r 14 (by decide) (by decide), b1r 14 (by decide)]
    · rw [f1 q (by simp only [List.mem_cons, List.not_mem_nil, or_false] at hq ⊢; (clear hx hn ha h65 hb hT x12 r0 r1 r2 r3 r4 r5 r6 a7 hC h92 h16 hr rc rq0 rq eC fc fq hz ht hB1 e10 e11 e12 e18 e19 e20 hB2 b2r b1r b165 p1 p2 p3 p4 p5 p6 hB4 b4r b27 e14 q1 q2 q3 q4 q5 q6 f0 f1 f14 f13 f16 f15 b19 tv c1 c2 c3 hi; lia)), ← hB1]
      exact s6X_o (by simp only [List.mem_cons, List.not_mem_nil, or_false] at hq; (clear hx hn ha h65 hb hT x12 r0 r1 r2 r3 r4 r5 r6 a7 hC h92 h16 hr rc rq0 rq eC fc fq hz ht hB1 e10 e11 e12 e18 e19 e20 hB2 b2r b1r b165 p1 p2 p3 p4 p5 p6 hB4 b4r b27 e14 q1 q2 q3 q4 q5 q6 f0 f1 f14 f13 f16 f15 b19 tv c1 c2 c3 hi c; omega)) hi
  · rw [f13, p4 i (by (clear hx hn ha h65 hb hT x12 r0 r1 r2 r3 r4 r5 r6 a7 hC h92 h16 hr rc rq0 rq eC fc fq hz ht hq hB1 e10 e11 e12 e18 e19 e20 hB2 b2r b1r b165 p1 p2 p3 p4 p5 p6 hB4 b4r b27 e14 q1 q2 q3 q4 q5 q6 f0 f1 f14 f13 f16 f15 b19 tv c1 c2 c3; omega)), b2r 13 (by decide) (by decide), b1r 13 (by decide)]
  · rw [q4 i (by (clear hx hn ha h65 hb hT x12 r0 r1 r2 r3 r4 r5 r6 a7 hC h92 h16 hr rc rq0 rq eC fc fq hz ht hq hB1 e10 e11 e12 e18 e19 e20 hB2 b2r b1r b165 p1 p2 p3 p4 p5 p6 hB4 b4r b27 e14 q1 q2 q3 q4 q5 q6 f0 f1 f14 f13 f16 f15 b19 tv c1 c2 c3; omega)), f15]
  · have o := s3X_o (B := B1) (x := x) (s0 := if 0 ≤ f (b + 22 + 0) then 1 else 0) (s1 := if 0 ≤ f (b + 22 + 1) then 1 else 0) (s2 := if 0 ≤ f (b + 22 + 2) then 1 else 0) hi
    rw [hB2] at o
    rw [f16 16 (.inl rfl), f16 17 (.inr rfl), o.1, o.2, b1r 16 (by decide), b1r 17 (by decide)]
    exact ⟨rfl, rfl⟩
  · unfold SLD
    rw [hb, f1 10 (by decide), f1 11 (by decide), f1 12 (by decide), f1 18 (by decide), f1 19 (by decide), f1 20 (by decide), f14, e14, f0 9 (by decide), f16 16 (.inl rfl), f16 17 (.inr rfl)]
    refine ⟨⟨e10, e11, e12, e18, e19, e20⟩, fun i i0 i1 => by rw [f13]; exact p5 i i0 i1, fun t t0 t1 => ?_, rfl, fun i i0 i1 => q5 i i0 i1⟩
    have := tv t t0 t1
    rw [this.1, this.2, b19]
    refine ⟨?_, rfl⟩
    rcases (by (clear hx hn ha h65 hb hT x12 r0 r1 r2 r3 r4 r5 r6 a7 hC h92 h16 hr rc rq0 rq eC fc fq hz ht hq hB1 e10 e11 e12 e18 e19 e20 hB2 b2r b1r b165 p1 p2 p3 p4 p5 p6 hB4 b4r b27 e14 q1 q2 q3 q4 q5 q6 f0 f1 f14 f13 f16 f15 b19 tv c1 c2 c3 this; lia) : t = 0 ∨ t = 1 ∨ t = 2) with e | e | e <;> (subst e; simp)
  · rw [q6]
    unfold slL slT
    simp only [List.length_cons, List.length_append, rgl_len, hC]
    (clear hx hn ha h65 hb hT x12 r0 r1 r2 r3 r4 r5 r6 a7 hC h16 hr rc rq0 rq fc fq hz ht hB1 e10 e11 e12 e18 e19 e20 hB2 b2r b1r b165 p1 p2 p3 p4 p5 p6 hB4 b4r b27 q1 q2 q3 q4 q5 q6 f0 f1 f14 f13 f16 f15 b19 tv c1 c2 c3; lia)
end ULa
end T400_ul
section T401_ur
/-! the search: X unpacks, whole (X 41); Q loads (386) -/
def ROD (B : mm_) (f : Int → Int) (r : Int) : Prop := B 21 r = f (sR r) ∧ ∀ q, 0 ≤ q → q < f (sR r) → (∀ j, 0 ≤ j → j < 7 → j ≠ 3 → B 22 (42 * r + 7 * q + j) = f (sR r + 1 + 7 * q + j)) ∧ B 22 (42 * r + 7 * q + 3) = B 0 9
section URa
variable {M N B B' B1 : mm_} {f g h : Int → Int} {a k x v A b r q : Int} {L K : List Int}
/-- an entry -/
theorem u_303 [Inhabited fz_] {a0 nw : Int} (hr : 0 ≤ r ∧ r < 10) (hq : 0 ≤ q ∧ q < 6) (ha : 0 ≤ a0 ∧ a0 + 6 < 221100) (h9 : B 0 9 = nw) (g : Int → Int) (hg : ∀ j, 0 ≤ j → j < 7 → j ≠ 3 → B 27 (a0 + (if j ≤ 3 then j else j - 1)) = g j) : ∀ (n : Nat) (j : Int) (A : mm_), j + n = 7 → 0 ≤ j → (∀ r : Nat, r ≠ 0 → r ≠ 22 → A r = B r) → (∀ i : Int, i ≠ 65 → A 0 i = B 0 i) → A 0 65 = a0 + (if j ≤ 3 then j else j - 1) →
    ∃ A', RC 1 m_41 303 [rr 0, ii k, ii r, ii q, ii j] A 290 [rr 0, ii k, ii r, ii (q + 1), none] A' ∧ (∀ r : Nat, r ≠ 0 → r ≠ 22 → A' r = B r) ∧ (∀ i : Int, i ≠ 65 → A' 0 i = B 0 i) ∧ (∀ i, i < 42 * r + 7 * q + j ∨ 42 * r + 7 * q + 7 ≤ i → A' 22 i = A 22 i) ∧ (∀ i, j ≤ i → i < 7 → A' 22 (42 * r + 7 * q + i) = if i = 3 then nw else g i) ∧ A' 0 65 = a0 + 6 := fun n => by
  induction n with
  | zero =>
    intro j A hj j0 hA h0 h65
    refine ⟨A, fun V Qr Qt hV hW gg => b_41_303 (Tr_mono _) hV hW _ _ _ _ _ ?_, hA, h0, fun _ _ => rfl, fun i i0 i1 => by omega, by rw [h65, if_neg (by omega)]; omega⟩
    rw [if_neg (by omega), w32_id (x := q + 1) (by omega) (by (clear hr ha h9 hg hj j0 hA h0 h65 hV hW gg; omega))]; exact gg
  | succ n ih =>
    intro j A hj j0 hA h0 h65
    have wj : w32 (j + 1) = j + 1 := w32_id (by omega) (by omega)
    have wi : w32 (42 * r + 7 * q + j) = 42 * r + 7 * q + j := w32_id (by (clear ha h9 hg ih hA h0 h65; lia)) (by omega)
    by_cases c : j = 3
    · generalize hA1 : up_ A 22 (42 * r + 7 * q + j) nw = A1
      have a22 : A1 22 (42 * r + 7 * q + j) = nw := by rw [← hA1, up_at]
      obtain ⟨A', r1, r2, r3, r4, r5, r6⟩ := ih (j + 1) A1 (by (clear hr hq ha h9 hg ih j0 hA h0 h65 wj wi c hA1 a22; omega)) (by (clear hr hq ha h9 hg ih j0 hA h0 h65 hA1 a22; lia)) (fun r h1 h2 => by rw [← hA1, up_ne h2]; exact hA r h1 h2) (fun i hi => by rw [← hA1, up_ne (by decide)]; exact h0 i hi) (by rw [← hA1, up_ne (by decide), h65, if_pos (by (clear hr hq ha h9 hg ih j0 hA h0 h65 hA1 a22; lia)), if_neg (by (clear hr hq ha h9 hg ih j0 hA h0 h65 hA1 a22; lia))]; omega)
      refine ⟨A', RC_tr (fun V Qr Qt hV hW gg => b_41_303 (Tr_mono _) hV hW _ _ _ _ _ ?_) r1, r2, r3, fun i hi => by rw [r4 i (by (clear hr hq ha h9 hg ih j0 hA h0 h65 hA1 a22 r1 r2 r3 r4 r5 r6; lia)), ← hA1, upo (by (clear hr hq ha h9 hg ih j0 hA h0 h65 hA1 a22 r1 r2 r3 r4 r5 r6; lia))], fun i i0 i1 => ?_, r6⟩
      · rw [if_pos (by (clear hr hq ha h9 hg ih j0 hA h0 h65 hA1 a22 r1 r2 r3 r4 r5 r6 hV hW gg; lia))]
        refine x_2 hr (by omega) _ _ (ri_i ?_)
        rw [if_pos c, wi, wj, h0 9 (by decide), h9, hA1]
        exact ⟨by (clear ha h9 hg ih j0 hA h0 h65 hA1 a22 r1 r2 r3 r4 r5 r6 hV hW gg; lia), gg⟩
      · by_cases e : i = j
        · rw [e, r4 _ (by (clear hr hq ha h9 hg ih hj j0 hA h0 h65 wj wi c hA1 a22 r1 r2 r3 r4 r5 r6 i0 i1 e; omega)), a22, if_pos c]
        · exact r5 i (by (clear hr hq ha h9 hg ih j0 hA h0 h65 hA1 a22 r1 r2 r3 r4 r5 r6; lia)) i1
    · have rd := hg j j0 (by (clear hr hq ha h9 hg ih hA h0 h65 c; lia)) c
      generalize hA1 : up_ (up_ A 0 65 (a0 + (if j ≤ 3 then j else j - 1) + 1)) 22 (42 * r + 7 * q + j) (g j) = A1
      have a22 : A1 22 (42 * r + 7 * q + j) = g j := by rw [← hA1, up_at]
      obtain ⟨A', r1, r2, r3, r4, r5, r6⟩ := ih (j + 1) A1 (by omega) (by (clear hr hq ha h9 hg ih hA h0 h65 c rd hA1 a22; lia)) (fun r h1 h2 => by rw [← hA1, up_ne h2, up_ne h1]; exact hA r h1 h2) (fun i hi => by rw [← hA1, up_ne (by decide), upo hi]; exact h0 i hi) (by
        rw [← hA1, up_ne (by decide), up_at]
        by_cases c2 : j ≤ 3
        · rw [if_pos c2, if_pos (by (clear hr hq ha h9 hg ih hA h0 h65 rd hA1 a22; lia))]; (clear hr hq ha h9 hg ih hj j0 hA h0 h65 wj wi c rd hA1 a22 c2; lia)
        · rw [if_neg c2, if_neg (by (clear hr hq ha h9 hg ih hA h0 h65 c rd hA1 a22; lia))]; (clear hr hq ha h9 hg ih hj j0 hA h0 h65 wj wi c rd hA1 a22 c2; lia))
      refine ⟨A', RC_tr (fun V Qr Qt hV hW gg => b_41_303 (Tr_mono _) hV hW _ _ _ _ _ ?_) r1, r2, r3, fun i hi => by rw [r4 i (by (clear hr hq ha h9 hg ih j0 hA h0 h65 c rd hA1 a22 r1 r2 r3 r4 r5 r6; omega)), ← hA1, upo (by omega), up_ne (by decide)], fun i i0 i1 => ?_, r6⟩
      · rw [if_pos (by (clear hr hq ha h9 hg ih hA h0 h65 c rd hA1 a22 r1 r2 r3 r4 r5 r6 hV hW gg; lia))]
        refine x_2 hr (by (clear hr ha h9 hg ih hj j0 hA h0 h65 wj wi c rd hA1 a22 r1 r2 r3 r4 r5 r6 hV hW gg; omega)) _ _ (ri_i ?_)
        rw [if_neg c]
        refine x_42 (by split <;> (clear hr hq h9 hg ih hA h0 c rd hA1 a22 r1 r2 r3 r4 r5 hV hW gg; lia)) h65 _ _ (ri_i ?_)
        rw [wi, wj, hA 27 (by decide) (by decide), rd, hA1]
        exact ⟨by omega, gg⟩
      · by_cases e : i = j
        · rw [e, r4 _ (by (clear hr hq ha h9 hg ih hj j0 hA h0 h65 wj wi c rd hA1 a22 r1 r2 r3 r4 r5 r6 i0 i1 e; lia)), a22, if_neg c]
        · exact r5 i (by (clear hr hq ha h9 hg ih j0 hA h0 h65 c rd hA1 a22 r1 r2 r3 r4 r5 r6 i1; lia)) i1
/-- the entries of a route -/
theorem u_290 [Inhabited fz_] {a0 C nw : Int} (hr : 0 ≤ r ∧ r < 10) (hC : B 21 r = C) (hC2 : 0 ≤ C ∧ C ≤ 6) (ha : 0 ≤ a0 ∧ a0 + 40 < 221100) (h9 : B 0 9 = nw) (hg : ∀ q, 0 ≤ q → q < C → ∀ j, 0 ≤ j → j < 7 → j ≠ 3 → B 27 (a0 + 6 * q + (if j ≤ 3 then j else j - 1)) = f (b + 1 + 7 * q + j)) : ∀ (n : Nat) (q : Int) (A : mm_), q + n = C → 0 ≤ q → (∀ r : Nat, r ≠ 0 → r ≠ 22 → A r = B r) → (∀ i : Int, i ≠ 65 → A 0 i = B 0 i) → A 0 65 = a0 + 6 * q →
    ∃ A', RC 1 m_41 290 [rr 0, ii k, ii r, ii q, none] A 267 [rr 0, ii k, ii (r + 1), none, none] A' ∧ (∀ r : Nat, r ≠ 0 → r ≠ 22 → A' r = B r) ∧ (∀ i : Int, i ≠ 65 → A' 0 i = B 0 i) ∧ (∀ i, i < 42 * r + 7 * q ∨ 42 * r + 42 ≤ i → A' 22 i = A 22 i) ∧ (∀ p, q ≤ p → p < C → ∀ i, 0 ≤ i → i < 7 → A' 22 (42 * r + 7 * p + i) = if i = 3 then nw else f (b + 1 + 7 * p + i)) ∧ A' 0 65 = a0 + 6 * C := fun n => by
  induction n with
  | zero =>
    intro q A hq q0 hA h0 h65
    refine ⟨A, fun V Qr Qt hV hW gg => b_41_290 (Tr_mono _) hV hW _ _ _ _ ?_, hA, h0, fun _ _ => rfl, fun p p0 p1 => by (clear hr hC hC2 ha h9 hg q0 hA h0 h65; omega), by rw [h65]; (clear hr hC hC2 ha h9 hg q0 hA h0 h65; lia)⟩
    rw [hA 21 (by decide) (by decide), hC, if_neg (by (clear hr hC hC2 ha h9 hg q0 hA h0 h65 hV hW gg; lia)), w32_id (x := r + 1) (by omega) (by omega)]; exact ⟨hr, gg⟩
  | succ n ih =>
    intro q A hq q0 hA h0 h65
    obtain ⟨A1, s1, s2, s3, s4, s5, s6⟩ := u_303 (k := k) (r := r) (q := q) (B := A) (a0 := a0 + 6 * q) (nw := nw) hr (by (clear hr hC ha h9 hg ih hA h0 h65; omega)) (by (clear hr hC h9 hg ih hA h0; lia)) (by rw [h0 9 (by decide)]; exact h9) (fun j => f (b + 1 + 7 * q + j)) (fun j j0 j1 j3 => by rw [hA 27 (by decide) (by decide)]; exact hg q q0 (by (clear hr hC hC2 ha h9 hg ih q0 hA h0 h65 j0 j1 j3; omega)) j j0 j1 j3) 7 0 A (by decide) (by decide) (fun _ _ _ => rfl) (fun _ _ => rfl) (by rw [if_pos (by decide), h65]; (clear hr hC hC2 ha h9 hg ih hq q0 hA h0 h65; lia))
    obtain ⟨A', r1, r2, r3, r4, r5, r6⟩ := ih (q + 1) A1 (by (clear hr hC hC2 ha h9 hg ih q0 hA h0 h65 s1 s2 s3 s4 s5 s6; lia)) (by omega) (fun r h1 h2 => by rw [s2 r h1 h2]; exact hA r h1 h2) (fun i hi => by rw [s3 i hi]; exact h0 i hi) (by rw [s6]; (clear hr hC hC2 ha h9 hg ih hq q0 hA h0 h65 s1 s2 s3 s4 s5 s6; lia))
    refine ⟨A', RC_tr (RC_tr (fun V Qr Qt hV hW gg => b_41_290 (Tr_mono _) hV hW _ _ _ _ ?_) s1) r1, r2, r3, fun i hi => by rw [r4 i (by (clear hr hC hC2 ha h9 hg ih hq q0 hA h0 h65 s1 s2 s3 s4 s5 s6 r1 r2 r3 r4 r5 r6; omega)), s4 i (by omega)], fun p p0 p1 i i0 i1 => ?_, r6⟩
    · rw [hA 21 (by decide) (by decide), hC, if_pos (by (clear hr hC hC2 ha h9 hg ih q0 hA h0 h65 s1 s2 s3 s4 s5 s6 r1 r2 r3 r4 r5 r6 hV hW gg; omega))]; exact ⟨hr, gg⟩
    · by_cases e : p = q
      · rw [e, r4 _ (by (clear hr hC hC2 ha h9 hg ih hq q0 hA h0 h65 s1 s2 s3 s4 s5 s6 r1 r2 r3 r4 r5 r6 p0 p1 e; lia))]; exact s5 i i0 i1
      · exact r5 p (by (clear hr hC hC2 ha h9 hg ih hq q0 hA h0 h65 s1 s2 s3 s4 s5 s6 r1 r2 r3 r4 r5 r6 p1 i0 i1; omega)) p1 i i0 i1
/-- all routes -/
theorem u_267 [Inhabited fz_] (hN : 0 ≤ N 6 18 ∧ N 6 18 ≤ 10) (hv : ∀ r, 0 ≤ r → r < N 6 18 → VRO f (sR r)) : ∀ (n : Nat) (r a : Int) (B : mm_), B 4 1 = N 6 18 → r + n = N 6 18 → 0 ≤ r → 0 ≤ a → a + 40 * n + 10 < 221100 → B 0 65 = a → RDL (B 27) a (rosL f r n) → (∀ j, 0 ≤ j → j < r → ROD B f j) →
    ∃ B', (∀ (V : vv_) (Qr : qr_) (Qt : qt_), Cl_ wd0 (Tr_ wd0 pg0 1) V Qr Qt m_41 → Wk_ V → Qr [] B' → V 267 [rr 0, ii k, ii r, none, none] [] B) ∧ (∀ q : Nat, q ≠ 0 → q ≠ 21 → q ≠ 22 → B' q = B q) ∧ (∀ i : Int, i ≠ 65 → B' 0 i = B 0 i) ∧ ∀ j, 0 ≤ j → j < N 6 18 → ROD B' f j := fun n => by
  induction n with
  | zero =>
    intro r a B h4 hr r0 a0 a1 h65 hd hR
    refine ⟨B, fun V Qr Qt hV hW gg => b_41_267 (Tr_mono _) hV hW _ _ _ ?_, fun _ _ _ _ => rfl, fun _ _ => rfl, fun j j0 j1 => hR j j0 (by omega)⟩
    rw [if_neg (by omega)]; exact gg
  | succ n ih =>
    intro r a B h4 hr r0 a0 a1 h65 hd hR
    obtain ⟨vc, _, _⟩ := hv r r0 (by (clear hN hv ih r0 a0 a1 h65 hd hR; omega))
    unfold rosL at hd
    obtain ⟨hd1, hd2⟩ := RDL_app _ _ hd
    unfold roL at hd1 hd2
    rw [List.length_cons, enL_len] at hd2
    obtain ⟨c0, hd1⟩ := hd1
    have en := RDL_en _ _ _ hd1
    generalize hB1 : up_ (up_ B 0 65 (a + 1)) 21 r (f (sR r)) = B1
    have e21 : B1 21 r = f (sR r) := by rw [← hB1, up_at]
    have b1r : ∀ q : Nat, q ≠ 0 → q ≠ 21 → B1 q = B q := fun q h1 h2 => by rw [← hB1, up_ne h2, up_ne h1]
    have b10 : ∀ i : Int, i ≠ 65 → B1 0 i = B 0 i := fun i hi => by rw [← hB1, up_ne (by decide), upo hi]
    have b165 : B1 0 65 = a + 1 := by rw [← hB1, up_ne (by decide), up_at]
    obtain ⟨B2, s1, s2, s3, s4, s5, s6⟩ := u_290 (k := k) (r := r) (B := B1) (f := f) (b := sR r) (a0 := a + 1) (C := f (sR r)) (nw := B 0 9) (by omega) e21 vc (by omega) (b10 9 (by decide)) (fun q q0 q1 j j0 j1 j3 => by
      rw [b1r 27 (by decide) (by decide)]
      obtain ⟨d0, d1, d2, d3, d4, d5⟩ := en q q0 (by (clear hN hv ih h4 hr r0 a0 a1 h65 hR hd hd2 hd1 en hB1 b1r b10 b165 j0 j1 j3; omega))
      rw [Int.sub_zero] at d0 d1 d2 d3 d4 d5
      rcases (by (clear hN hv ih h4 hr r0 a0 a1 h65 hR vc hd hd2 c0 hd1 en hB1 e21 b1r b10 b165 q0 q1 d0 d1 d2 d3 d4 d5; lia) : j = 0 ∨ j = 1 ∨ j = 2 ∨ j = 4 ∨ j = 5 ∨ j = 6) with e | e | e | e | e | e
      · subst e; rw [if_pos (by decide), Int.add_zero]; exact d0
      · subst e; rw [if_pos (by decide)]; exact d1
      · subst e; rw [if_pos (by decide)]; exact d2
      · subst e; rw [if_neg (by decide)]; exact d3
      · subst e; rw [if_neg (by decide)]; exact d4
      · subst e; rw [if_neg (by decide)]; exact d5) (f (sR r)).toNat 0 B1 (by (clear hN hv ih h4 hr r0 a0 a1 h65 hR hd hd2 hd1 en hB1 b1r b10 b165; omega)) (by decide) (fun _ _ _ => rfl) (fun _ _ => rfl) (by rw [b165]; omega)
    have g9 : B2 0 9 = B 0 9 := by rw [s3 9 (by decide), b10 9 (by decide)]
    obtain ⟨B', r1, r2, r3, r4⟩ := ih (r + 1) (a + 1 + 6 * f (sR r)) B2 (by rw [s2 4 (by decide) (by decide), b1r 4 (by decide) (by decide)]; exact h4) (by omega) (by omega) (by (clear hv ih hR hd hd2 hd1 en hB1 b1r b10 s1 s2 s3 s4 s5 g9; lia)) (by omega) s6 (by
        rw [s2 27 (by decide) (by decide), b1r 27 (by decide) (by decide)]
        rw [show a + 1 + 6 * f (sR r) = a + ((6 * (f (sR r)).toNat + 1 : Nat) : Int) by omega]; exact hd2) (fun j j0 j1 => by
        by_cases e : j = r
        · subst e
          refine ⟨by rw [s2 21 (by decide) (by decide)]; exact e21, fun q q0 q1 => ⟨fun i i0 i1 i3 => ?_, ?_⟩⟩
          · have := s5 q q0 q1 i i0 i1
            rw [if_neg i3] at this; exact this
          · have := s5 q q0 q1 3 (by decide) (by decide)
            rw [if_pos rfl] at this; rw [this, g9]
        · obtain ⟨o1, o2⟩ := hR j j0 (by (clear hN hv ih h4 hr r0 a0 a1 h65 hR vc hd hd2 c0 hd1 en hB1 e21 b1r b10 b165 s1 s2 s3 s4 s5 s6 g9 j0; omega))
          have vj := (hv j j0 (by omega)).1
          refine ⟨by rw [s2 21 (by decide) (by decide), ← hB1, upo e, up_ne (by decide)]; exact o1, fun q q0 q1 => ⟨fun i i0 i1 i3 => ?_, ?_⟩⟩
          · rw [s4 _ (by (clear hN hv ih h4 hr r0 a0 a1 h65 hR vc hd hd2 c0 hd1 en hB1 e21 b1r b10 b165 s1 s2 s3 s4 s5 s6 g9 j0 o1 o2; omega)), b1r 22 (by decide) (by decide)]; exact (o2 q q0 q1).1 i i0 i1 i3
          · rw [s4 _ (by (clear hN hv ih h4 hr r0 a0 a1 h65 hR vc hd hd2 c0 hd1 en hB1 e21 b1r b10 b165 s1 s2 s3 s4 s5 s6 g9 j0 o1 o2; omega)), b1r 22 (by decide) (by decide), g9]; exact (o2 q q0 q1).2)
    refine ⟨B', fun V Qr Qt hV hW gg => b_41_267 (Tr_mono _) hV hW _ _ _ ?_, fun q h1 h2 h3 => by rw [r2 q h1 h2 h3, s2 q h1 h3, b1r q h1 h2], fun i hi => by rw [r3 i hi, s3 i hi, b10 i hi], r4⟩
    rw [if_pos (by omega)]
    refine x_42 (by (clear hv ih hR vc hd hd2 hd1 en hB1 b1r b10 s1 s2 s3 s4 s5 g9 r1 r2 r3 r4 hV hW gg; lia)) h65 _ _ (ri_i ⟨by (clear hv ih a0 a1 h65 hR vc hd hd2 c0 hd1 en hB1 e21 b1r b10 b165 s1 s2 s3 s4 s5 s6 g9 r1 r2 r3 r4 hV hW gg; omega), ?_⟩)
    rw [c0, hB1]
    exact s1 V Qr Qt hV hW (r1 V Qr Qt hV hW gg)
/-- instances -/
theorem SLD_c [Inhabited fz_] (h : SLX x B B') (hk : k ≠ x) (hq : f (sB k + 25) ≤ 6) (hd : SLD B f k) : SLD B' f k := by
  obtain ⟨c1, c2, c3, c4, c5, c6⟩ := h
  obtain ⟨d1, d2, d3, d4, d5⟩ := hd
  unfold SLD
  rw [c3 10 (by decide) k hk, c3 11 (by decide) k hk, c3 12 (by decide) k hk, c3 18 (by decide) k hk, c3 19 (by decide) k hk, c3 20 (by decide) k hk, c3 14 (by decide) k hk, c2 9 (by decide)]
  exact ⟨d1, fun i i0 i1 => by rw [c4 _ (by (clear hq c1 c2 c3 c4 c5 c6 d1 d2 d3 d4 d5; lia))]; exact d2 i i0 i1, fun t t0 t1 => by rw [(c6 _ (by (clear hq c1 c2 c3 c4 c5 c6 d1 d2 d3 d4 d5; omega))).1, (c6 _ (by omega)).2]; exact d3 t t0 t1, d4, fun i i0 i1 => by rw [c5 _ (by (clear c1 c2 c3 c4 c5 c6 d1 d2 d3 d5; lia))]; exact d5 i i0 i1⟩
theorem u_sl [Inhabited fz_] (hN : PKB N) (hf : f 0 ≤ 12) (hv : ∀ k, 0 ≤ k → k < f 0 → VSL N f (sB k)) : ∀ (n : Nat) (x a : Int) (B : mm_), B 0 7 = f 0 → (∀ T, 0 ≤ T → T < N 6 19 → B 92 T = N 172 T) → x + n = f 0 → 0 ≤ x → 0 ≤ a → a + 60 * n + 60 < 221100 → B 0 65 = a → RDL (B 27) a (slsL N f x n) → (∀ j, 0 ≤ j → j < x → SLD B f j) →
    ∃ B', RC 1 m_41 27 [rr 0, ii k, ii x, none, none] B 27 [rr 0, ii k, ii (f 0), none, none] B' ∧ (∀ q : Nat, q ∉ [0, 10, 11, 12, 13, 14, 15, 16, 17, 18, 19, 20] → B' q = B q) ∧ (∀ i : Int, i ≠ 65 → B' 0 i = B 0 i) ∧ (∀ j, 0 ≤ j → j < f 0 → SLD B' f j) ∧ B' 0 65 = a + (slsL N f x n).length := fun n => by
  induction n with
  | zero =>
    intro x a B h7 h92 hx x0 a0 a1 h65 hd hS
    refine ⟨B, ?_, fun _ _ => rfl, fun _ _ => rfl, fun j j0 j1 => hS j j0 (by (clear hN hf hv h92 x0 a0 a1 h65 hd hS j0; omega)), by unfold slsL; rw [h65, List.length_nil]; simp⟩
    rw [show x = f 0 by (clear hN hf hv h92 x0 a0 a1 h65 hd hS; lia)]; exact RC_rf
  | succ n ih =>
    intro x a B h7 h92 hx x0 a0 a1 h65 hd hS
    have vx := hv x x0 (by omega)
    have hT := vx.1.2.1
    have pT := hN.2.2 _ hT.1 hT.2
    have h6 := hN.2.1
    unfold slsL at hd
    obtain ⟨hd1, hd2⟩ := RDL_app _ _ hd
    obtain ⟨B1, p1, p2, p3, p4⟩ := u_27 (k := k) (N := N) (f := f) (x := x) (a := a) (B := B) (by omega) (by (clear hN hv ih h92 x0 a0 a1 h65 hS vx hT pT h6 hd hd1 hd2; lia)) (by omega) h65 vx (by omega) (h92 _ hT.1 hT.2) pT hd1
    have ll := slL_len (N := N) (f := f) (b := sB x) pT.2 vx.2.2.2.1.2
    obtain ⟨B', r1, r2, r3, r4, r5⟩ := ih (x + 1) (a + (slL N f (sB x)).length) B1 (by rw [p2.2.1 7 (by decide)]; exact h7) (fun T T0 T1 => by rw [p2.1 92 (by decide)]; exact h92 T T0 T1) (by (clear hN hf hv ih h92 x0 a0 a1 h65 hS vx hT pT h6 hd hd1 hd2 p1 p2 p3 p4 ll; lia)) (by omega) (by (clear hN hv ih h92 hS vx hT pT h6 hd hd1 hd2 p1 p2 p3; lia)) (by (clear hN hf hv ih h7 h92 hx x0 a0 hS vx hT pT h6 hd hd1 hd2 p1 p2 p3; lia)) p4 (by rw [p2.1 27 (by decide)]; exact hd2) (fun j j0 j1 => by
      by_cases e : j = x
      · rw [e]; exact p3
      · exact SLD_c p2 e (hv j j0 (by omega)).2.2.2.1.2 (hS j j0 (by omega)))
    refine ⟨B', RC_tr p1 r1, fun q hq => by rw [r2 q hq, p2.1 q hq], fun i hi => by rw [r3 i hi, p2.2.1 i hi], r4, ?_⟩
    rw [r5]
    show _ = a + ((slL N f (sB x) ++ slsL N f (x + 1) n).length : Int)
    rw [List.length_append]; (clear hN hf hv ih h7 h92 hx x0 a0 a1 h65 hS vx hT pT h6 hd hd1 hd2 p1 p2 p3 p4 ll r1 r2 r3 r4 r5; lia)
theorem x_41 [Inhabited fz_] (hP : PLr M N) (hv : VR N f) (hk : 0 ≤ k ∧ k < 200) (hr : RDL (M 27) (1100 * k) (pkL N f)) : ∃ M', Ex_ 2 41 [.inr (.inr 0), .inl k] M [] M' ∧ UF M M' ∧ (M' 0 7 = f 0 ∧ M' 0 8 = f 1) ∧ (∀ j, 0 ≤ j → j < f 0 → SLD M' f j) ∧ ∀ j, 0 ≤ j → j < N 6 18 → ROD M' f j := by
  obtain ⟨p1, p2, _⟩ := PLr_93 hP
  have p18 := hP.1.2.1
  have p19 := hP.1.2.2
  rw [tbN_6 (by decide)] at p18 p19
  have hN : PKB N := ⟨p18.2, p19.2, fun T T0 T1 => (PL_T hP ⟨T0, T1⟩).2.2.2.1.2⟩
  obtain ⟨⟨f1, f1'⟩, f2, f3, f4, f5⟩ := id hv
  have lp := pkL_len hN hv
  unfold pkL at hr lp
  rw [List.length_cons, List.length_cons, List.length_append] at lp
  obtain ⟨r0, r1, hr⟩ := hr
  obtain ⟨hr1, hr2⟩ := RDL_app _ _ hr
  generalize hB1 : up_ (up_ (up_ (up_ M 0 65 (1100 * k + 1)) 0 7 (f 0)) 0 65 (1100 * k + 1 + 1)) 0 8 (f 1) = B1
  have b1r : ∀ q : Nat, q ≠ 0 → B1 q = M q := fun q h => by rw [← hB1, up_ne h, up_ne h, up_ne h, up_ne h]
  have b10 : ∀ i : Int, i ∉ [7, 8, 65] → B1 0 i = M 0 i := fun i h => by
    simp only [List.mem_cons, List.not_mem_nil, or_false, not_or] at h
    rw [← hB1, upo h.2.1, upo h.2.2, upo h.1, upo h.2.2]
  have b17 : B1 0 7 = f 0 := by rw [← hB1, upo (by decide), upo (by decide), up_at]
  have b18 : B1 0 8 = f 1 := by rw [← hB1, up_at]
  have b165 : B1 0 65 = 1100 * k + 1 + 1 := by rw [← hB1, upo (by decide), up_at]
  obtain ⟨B2, s1, s2, s3, s4, s5⟩ := u_sl (k := k) hN f1.2 f2 (f 0).toNat 0 (1100 * k + 1 + 1) B1 b17 (fun T T0 T1 => by rw [b1r 92 (by decide)]; exact (PL_T hP ⟨T0, T1⟩).2.2.2.1.1) (by (clear hP hv hk p1 p2 p18 p19 hN f1' f2 f3 f4 f5 lp r1 hr hr1 hr2 hB1 b1r b10 b18 b165; omega)) (by decide) (by omega) (by (clear hP hv p1 p2 p18 p19 hN f1' f2 f3 f4 f5 lp r1 hr hr1 hr2 hB1 b1r b10 b18 b165; lia)) b165 (by rw [b1r 27 (by decide)]; exact hr1) (fun j j0 j1 => by (clear hP hv hk p1 p2 p18 p19 hN f1 f1' f2 f3 f4 f5 lp r0 r1 hr hr1 hr2 hB1 b1r b10 b17 b18 b165; omega))
  obtain ⟨B3, u1, u2, u3, u4⟩ := u_267 (k := k) (N := N) (f := f) p18.2 f4 (N 6 18).toNat 0 (1100 * k + 1 + 1 + (slsL N f 0 (f 0).toNat).length) B2 (by rw [s2 4 (by decide), b1r 4 (by decide)]; exact p1) (by (clear hP hv hk p1 p2 p19 hN f1 f1' f2 f3 f4 f5 lp r0 r1 hr hr1 hr2 hB1 b1r b10 b17 b18 b165 s1 s2 s3 s4 s5; omega)) (by decide) (by (clear hP hv p1 p2 p18 p19 hN f1 f1' f2 f3 f4 f5 r0 r1 hr hr1 hr2 hB1 b1r b10 b17 b18 b165 s1 s2 s3 s4; omega)) (by (clear hP hv p1 p2 p19 hN f1 f1' f2 f3 f4 f5 r0 r1 hr hr1 hr2 hB1 b1r b10 b17 b18 b165 s1 s2 s3 s4; omega)) s5 (by rw [s2 27 (by decide), b1r 27 (by decide)]; exact hr2) (fun j j0 j1 => by omega)
  refine ⟨B3, fun Qr Qt g => t_41 fun V hV hW => b_41_0 (Tr_mono _) hV hW _ _ ?_, ⟨fun q hq => ?_, fun i hi => ?_⟩, ⟨by rw [u3 7 (by decide), s3 7 (by decide)]; exact b17, by rw [u3 8 (by decide), s3 8 (by decide)]; exact b18⟩, fun j j0 j1 => ?_, u4⟩
  · rw [w32_id (x := 1100 * k) (by omega) (by (clear hP hv p1 p2 p18 p19 hN f1 f1' f2 f3 f4 f5 lp r0 r1 hr hr1 hr2 hB1 b1r b10 b17 b18 b165 s1 s2 s3 s4 s5 u1 u2 u3 u4 g hV hW; omega))]
    refine x_42 (by omega) up_at _ _ (ri_i ?_)
    rw [up_ne (by decide), r0]
    have e65 : up_ (up_ M 0 65 (1100 * k)) 0 65 (1100 * k + 1) = up_ M 0 65 (1100 * k + 1) := by
      funext r
      by_cases c : r = 0
      · subst c; funext i
        by_cases c2 : i = 65
        · rw [c2, up_at, up_at]
        · rw [upo c2, upo c2, upo c2]
      · rw [up_ne c, up_ne c, up_ne c]
    rw [e65]
    refine x_42 (a := 1100 * k + 1) (by omega) (by rw [upo (by decide), up_at]) _ _ (ri_i ?_)
    rw [up_ne (by decide), up_ne (by decide), r1, hB1]
    refine s1 V Qr Qt hV hW (b_41_27 (Tr_mono _) hV hW _ _ _ ?_)
    rw [s3 7 (by decide), b17, if_neg (by omega)]
    exact u1 V Qr Qt hV hW g
  · have e : ∀ p : Nat, p ∈ [0, 10, 11, 12, 13, 14, 15, 16, 17, 18, 19, 20, 21, 22] → q ≠ p := fun p hp e => hq (by rw [e]; exact hp)
    rw [u2 q (e 0 (by decide)) (e 21 (by decide)) (e 22 (by decide)), s2 q (fun c => hq (by simp only [List.mem_cons, List.not_mem_nil, or_false] at c ⊢; (clear hP hv hk p1 p2 p18 p19 hN f1 f1' f2 f3 f4 f5 lp r0 r1 hr hr1 hr2 hB1 b1r b10 b17 b18 b165 s1 s2 s3 s4 s5 u1 u2 u3 u4 hq e; lia))), b1r q (e 0 (by decide))]
  · have i65 : i ≠ 65 := fun e => hi (by rw [e]; decide)
    rw [u3 i i65, s3 i i65, b10 i hi]
  · obtain ⟨d1, d2, d3, d4, d5⟩ := s4 j j0 j1
    unfold SLD
    rw [u2 10 (by decide) (by decide) (by decide), u2 11 (by decide) (by decide) (by decide), u2 12 (by decide) (by decide) (by decide), u2 13 (by decide) (by decide) (by decide), u2 14 (by decide) (by decide) (by decide), u2 15 (by decide) (by decide) (by decide), u2 16 (by decide) (by decide) (by decide), u2 17 (by decide) (by decide) (by decide), u2 18 (by decide) (by decide) (by decide), u2 19 (by decide) (by decide) (by decide), u2 20 (by decide) (by decide) (by decide), u3 9 (by decide)]
    exact ⟨d1, d2, d3, d4, d5⟩
/-- Q loads -/
def ldF (f g : Int → Int) : Int → Int := fun i => if 0 ≤ i ∧ i < 1104 then g i else f i
theorem q_386 [Inhabited fz_] (hk : 0 ≤ k ∧ k < 200) : Ex_ 1 386 [.inr (.inr 6), .inl k] N [] (wr_ N 239 (ldF (N 239) (fun i => N 245 (1104 * k + i)))) := fun Qr Qt g => t_386 fun V hV hW => b_386_0 (Tr_mono _) hV hW _ _ (by
  have l : ∀ (n : Nat) (i : Int), i + n = 1104 → 0 ≤ i → V 2 [rr 6, ii k, ii i] [] (wr_ N 239 (fun j => if 0 ≤ j ∧ j < i then N 245 (1104 * k + j) else N 239 j)) := fun n => by
    induction n with
    | zero =>
      intro i hi i0
      refine b_386_2 (Tr_mono _) hV hW _ _ _ ?_
      rw [if_neg (by omega), show i = 1104 by omega]; exact g
    | succ n ih =>
      intro i hi i0
      refine b_386_2 (Tr_mono _) hV hW _ _ _ ?_
      rw [if_pos (by (clear hk g hV hW ih; lia)), w32_id (x := 1104 * k) (by (clear g hV hW ih hi i0; lia)) (by omega), w32_id (x := 1104 * k + i) (by omega) (by omega), w32_id (x := i + 1) (by omega) (by omega), wr_ne (by decide), up_wr]
      refine ⟨by omega, by (clear hk g hV hW ih; omega), ?_⟩
      have := ih (i + 1) (by omega) (by omega)
      have e : su_ (fun j => if 0 ≤ j ∧ j < i then N 245 (1104 * k + j) else N 239 j) i (N 245 (1104 * k + i)) = fun j => if 0 ≤ j ∧ j < i + 1 then N 245 (1104 * k + j) else N 239 j := by
        funext j
        unfold su_
        by_cases c : j = i
        · rw [if_pos c, if_pos (by omega), c]
        · rw [if_neg c]
          show (if 0 ≤ j ∧ j < i then N 245 (1104 * k + j) else N 239 j) = _
          by_cases c2 : 0 ≤ j ∧ j < i
          · rw [if_pos c2, if_pos (by omega)]
          · rw [if_neg c2, if_neg (by (clear hk g hV hW ih i0 this; omega))]
      rw [e]; exact this
  have := l 1104 0 (by decide) (by decide)
  rw [show (fun j => if 0 ≤ j ∧ j < 0 then N 245 (1104 * k + j) else N 239 j) = N 239 by funext j; rw [if_neg (by omega)], wr_id] at this
  exact this)
end URa
end T401_ur
