section T386_s2
/-! the run: a step: a signal is taken (X 22 | Q 345) -/
section S2x
variable {z : Int} {M N M' N' M1 M2 N1 : mm_} {s : Int}
theorem st_2 [Inhabited fz_] (h : RU z M N) (hP : PLr M N) (hA : TYA N) (hs : 0 ≤ s ∧ s < M 0 7) (h8 : M 0 8 + 200 ≤ 2000000000) (gx : EGX M M2) (gq : EGQ N N1) (x12 : Ex_ 5 12 [.inr (.inr 0), .inl s] M1 [.inl 2] M2) (hf : WF2 M N M2 N1 s) : ∃ M' N', Ex_ 9 22 [.inr (.inr 0), .inl s] M1 [] M' ∧ Ex_ 9 345 [.inr (.inr 6), .inl s, .inl 2] N1 [] N' ∧ RU z M' N' ∧ TYA N' ∧ (XRF M M' ∧ QRF N N') ∧ M' 0 8 ≤ M 0 8 + 200 := by
  obtain ⟨it, k, j, hi, ⟨e41, e152⟩, hrow, ⟨e151, e153⟩, ck, cT, hsig⟩ := hf
  have n12 := h.1.1
  have hB : sB s = 2 + 56 * s := rfl
  have ru2 := RU_eg h gx gq
  have tA2 := TYA_eg hA gq
  have hP2 : PLr M2 N1 := PLr_c hP (XRF_eg gx) (QRF_eg gq)
  have m7 : M2 0 7 = M 0 7 := gx.2 7 (by decide)
  have m14 : M2 14 = M 14 := gx.1 14 (by decide) (by decide)
  have m15 : M2 15 = M 15 := gx.1 15 (by decide) (by decide)
  have m11 : M2 11 = M 11 := gx.1 11 (by decide) (by decide)
  have qN : ∀ r : Nat, r ≠ 6 → r ≠ 243 → N1 r = N r := gq.1
  have hs2 : 0 ≤ s ∧ s < M2 0 7 := by rw [m7]; exact hs
  have hi2 : 0 ≤ it ∧ it < M2 14 s := by rw [m14]; exact hi
  have hin := ru2.1.2.2.1 s hs2.1 hs2.2
  have qb := hin.2.2.2.2.1
  have qv := hin.2.2.2.2.2.1
  have q0 := qv (5 * it) (by (clear h hP hA hs h8 gx gq x12 hrow e151 e153 ck cT hsig n12 hB ru2 tA2 hP2 m7 m14 m15 m11 qN hs2 hi2 hin qb qv; lia)) (by (clear h hP hA hs h8 gx gq x12 hi hrow e151 e153 ck cT hsig n12 hB ru2 tA2 hP2 m7 m14 m15 m11 qN hs2 hin qv; lia))
  have q1 := qv (5 * it + 1) (by (clear h hP hA hs h8 gx gq x12 hrow e151 e153 ck cT hsig n12 hB ru2 tA2 hP2 m7 m14 m15 m11 qN hs2 hi2 hin qb qv q0; lia)) (by (clear h hP hA hs h8 gx gq x12 hi hrow e151 e153 ck cT hsig n12 hB ru2 tA2 hP2 m7 m14 m15 m11 qN hs2 hin qv q0; lia))
  rw [show 30 * s + (5 * it + 1) = 30 * s + 5 * it + 1 by (clear h hP hA hs h8 gx gq x12 hi e41 e152 hrow e151 e153 ck cT hsig n12 hB ru2 tA2 hP2 m7 m14 m15 m11 qN hs2 hi2 hin qb qv q0 q1; lia), show sB s + 26 + (5 * it + 1) = sB s + 26 + 5 * it + 1 by (clear h hP hA hs h8 gx gq x12 hi e41 e152 hrow e151 e153 ck cT hsig n12 hB ru2 tA2 hP2 m7 m14 m15 m11 qN hs2 hi2 hin qb qv q0 q1; lia)] at q1
  have ep : N1 239 (sB s) = M2 10 s := hin.1.1.symm
  rw [← m15] at hsig
  obtain ⟨⟨f1, f2, f3, f4⟩, sro⟩ := row_f hP hrow
  have rb := row_b hP hrow
  have pb := ps_b hP
  have k62 := hrow.1
  have kb := pb.2.2 k k62.1 k62.2
  have hj := hrow.2.1
  rw [nsK_e, if_pos (by omega)] at hj
  have at_ := sro.1 (by rw [tbN_r (q := 193) (by decide) (by decide)]; omega)
  rw [tbN_r (q := 192) (by decide) (by decide), tbN_r (q := 197) (by decide) (by decide), show swc M 141 = M 108 from swc_r (q := 108) (by decide) (by decide), cT] at at_
  have rwi := sro.2.2.2 (by rw [tbN_r (q := 193) (by decide) (by decide)]; omega)
  unfold RWI at rwi
  rw [tbN_r (q := 192) (by decide) (by decide), tbN_r (q := 200) (by decide) (by decide), tbN_r (q := 201) (by decide) (by decide), tbN_r (q := 202) (by decide) (by decide), tbN_r (q := 171) (by decide) (by decide), tbN_r (q := 184) (by decide) (by decide), tbN_r (q := 183) (by decide) (by decide), tbN_r (q := 156) (by decide) (by decide), tbN_r (q := 157) (by decide) (by decide), tbN_r (q := 182) (by decide) (by decide), show swc M 138 = M 105 from swc_r (q := 105) (by decide) (by decide), show swc M 137 = M 104 from swc_r (q := 104) (by decide) (by decide), cT] at rwi
  obtain ⟨_, w2, w3, w4, w5⟩ := rwi
  generalize hii : N 198 k + j = i at *
  generalize hrr : M2 0 42 = r at *
  have i0 : 0 ≤ i ∧ i < 1200 := by (clear h hP hA hs h8 gx gq x12 hi e41 e152 e151 ck cT n12 hB ru2 tA2 hP2 m7 m14 m15 m11 qN hs2 hi2 hin qb qv q0 q1 ep pb k62 hsig w2 w3 hrr hrow f1 f2 f3 rb at_ sro f4 w4 w5; omega)
  generalize hsn : M2 15 (30 * s + 5 * it + 1) = sn at q1
  have rsn : R32 sn := by rw [q1]; exact tA2.2.2 _
  have ruT : RU z (tkX9 M2 s it) N1 := RU_25 ru2 (fun r hr => tk_r hr)
  have t0 : tkX9 M2 s it 0 = M2 0 := tk_r (by decide)
  have ru3 := RU_18 (v := sn) (k := s) ruT (by rw [t0]; exact hs2)
  have tA3 : TYA (up_ N1 239 (sB s + 3) sn) := TYA_239 tA2 (by (clear h hP hA h8 gx gq x12 hi e41 e152 e151 ck cT hB ru2 tA2 hP2 m14 m15 m11 qN hs2 hi2 hin qb qv q0 ep pb k62 kb hj hii e153 hsig w2 w3 hrr hrow f1 f2 f3 rb at_ sro f4 w4 w5 i0 hsn q1 rsn ruT t0 ru3; omega)) 3 sn (by decide) (by have := ru2.1.1; (clear h hP hA h8 gx gq x12 hi e41 e152 e151 ck cT hB ru2 tA2 hP2 m14 m15 m11 qN hs2 hi2 hin qb qv q0 ep pb k62 kb hj hii e153 hsig w2 w3 hrr hrow f1 f2 f3 rb at_ sro f4 w4 w5 i0 hsn q1 rsn ruT t0 ru3; omega)) rsn
  have fA : XRF M2 (up_ (tkX9 M2 s it) 18 s sn) := XRF_tr XRF_tk (XRF_up (by decide) (fun e => absurd e (by decide)))
  have fB : QRF N1 (up_ N1 239 (sB s + 3) sn) := QRF_up (by decide) (fun e => absurd e (by decide))
  have uA : ∀ q : Nat, q ≠ 18 → q ≠ 25 → up_ (tkX9 M2 s it) 18 s sn q = M2 q := fun q h1 h2 => by rw [up_ne h1, tk_r h2]
  have uB : ∀ q : Nat, q ≠ 239 → up_ N1 239 (sB s + 3) sn q = N1 q := fun q h1 => up_ne h1
  have a25 : ∀ v, 0 ≤ v → v < 3 → up_ (tkX9 M2 s it) 18 s sn 25 v = M2 15 (30 * s + 5 * it + 2 + v) := fun v v0 v1 => by
    have three : v = 0 ∨ v = 1 ∨ v = 2 := by (clear h hP hA hs h8 gx gq x12 hi e41 e152 e151 ck cT n12 hB ru2 tA2 hP2 m7 m14 m15 m11 qN hs2 hi2 hin qb qv q0 ep pb k62 kb hj hii e153 hsig w2 w3 hrr hrow f1 f2 f3 rb at_ sro f4 w4 w5 i0 hsn q1 rsn ruT t0 ru3 tA3 fA fB uA uB; lia)
    rw [up_ne (by decide)]
    unfold tkX9
    rcases three with e | e | e <;> subst e
    · rw [upo (by decide), upo (by decide), up_at, Int.add_zero]
    · rw [upo (by decide), up_at, show 30 * s + 5 * it + 2 + 1 = 30 * s + 5 * it + 3 by (clear h hP hA hs h8 gx gq x12 hi e41 e152 e151 ck cT n12 hB ru2 tA2 hP2 m7 m14 m15 m11 qN hs2 hi2 hin qb qv q0 ep pb k62 kb hj hii e153 hsig w2 w3 hrr hrow f1 f2 f3 rb at_ sro f4 w4 w5 i0 hsn q1 rsn ruT t0 ru3 tA3 fA fB uA uB v0 v1; lia)]
    · rw [up_at, show 30 * s + 5 * it + 2 + 2 = 30 * s + 5 * it + 4 by (clear h hP hA hs h8 gx gq x12 hi e41 e152 e151 ck cT n12 hB ru2 tA2 hP2 m7 m14 m15 m11 qN hs2 hi2 hin qb qv q0 ep pb k62 kb hj hii e153 hsig w2 w3 hrr hrow f1 f2 f3 rb at_ sro f4 w4 w5 i0 hsn q1 rsn ruT t0 ru3 tA3 fA fB uA uB v0 v1; lia)]
  have vq : ∀ v, 0 ≤ v → v < 3 → M2 15 (30 * s + 5 * it + 2 + v) = N1 239 (sB s + 28 + 5 * it + v) := fun v v0 v1 => by
    have := qv (5 * it + 2 + v) (by (clear h hP hA hs h8 gx gq x12 e151 ck cT n12 hB ru2 tA2 hP2 m7 m14 m15 m11 qN hs2 hi2 hin qb qv q0 ep pb k62 kb hj hii e153 hsig w2 w3 hrr hrow f1 f2 f3 rb at_ sro f4 w4 w5 i0 hsn q1 rsn ruT t0 ru3 tA3 fA fB uA uB a25; lia)) (by (clear h hP hA hs h8 gx gq x12 hi e151 ck cT n12 hB ru2 tA2 hP2 m7 m14 m15 m11 qN hs2 hin qv q0 ep pb k62 kb hj hii e153 hsig w2 w3 hrr hrow f1 f2 f3 rb at_ sro f4 w4 w5 i0 hsn q1 rsn ruT t0 ru3 tA3 fA fB uA uB a25; lia))
    rw [show 30 * s + (5 * it + 2 + v) = 30 * s + 5 * it + 2 + v by (clear h hP hA hs h8 gx gq x12 hi e41 e152 e151 ck cT n12 hB ru2 tA2 hP2 m7 m14 m15 m11 qN hs2 hi2 hin qb qv q0 ep pb k62 kb hj hii e153 hsig w2 w3 hrr hrow f1 f2 f3 rb at_ sro f4 w4 w5 i0 hsn q1 rsn ruT t0 ru3 tA3 fA fB uA uB a25 v0 v1 this; lia), show sB s + 26 + (5 * it + 2 + v) = sB s + 28 + 5 * it + v by (clear h hP hA hs h8 gx gq x12 hi e41 e152 e151 ck cT n12 hB ru2 tA2 hP2 m7 m14 m15 m11 qN hs2 hi2 hin qb qv q0 ep pb k62 kb hj hii e153 hsig w2 w3 hrr hrow f1 f2 f3 rb at_ sro f4 w4 w5 i0 hsn q1 rsn ruT t0 ru3 tA3 fA fB uA uB a25 v0 v1 this; lia)] at this; exact this
  have sgv := (tA2.1 s hs.1 (by (clear h hP hA h8 gx gq x12 hi e41 e152 e151 ck cT hB ru2 tA2 hP2 m14 m15 m11 qN hs2 hi2 hin qb qv q0 ep pb k62 kb hj hii e153 hsig w2 w3 hrr hrow f1 f2 f3 rb at_ sro f4 w4 w5 i0 hsn q1 rsn ruT t0 ru3 tA3 fA fB uA uB a25 vq; omega)) (by have := ru2.1.1; omega)).2 it hi.1 (by (clear h hP hA hs h8 gx gq x12 hi e151 ck cT n12 hB ru2 tA2 hP2 m7 m14 m15 m11 qN hs2 hin qv q0 ep pb k62 kb hj hii e153 hsig w2 w3 hrr hrow f1 f2 f3 rb at_ sro f4 w4 w5 i0 hsn q1 rsn ruT t0 ru3 tA3 fA fB uA uB a25 vq; lia)) (show it < N1 239 (sB s + 25) by (clear h hP hA hs h8 gx gq x12 hi e151 ck cT n12 hB ru2 tA2 hP2 m7 m14 m15 m11 qN hs2 hin qv q0 ep pb k62 kb hj hii e153 hsig w2 w3 hrr hrow f1 f2 f3 rb at_ sro f4 w4 w5 i0 hsn q1 rsn ruT t0 ru3 tA3 fA fB uA uB a25 vq; omega))
  have hval : ∀ v, 0 ≤ v → v < N 201 i → up_ (tkX9 M2 s it) 18 s sn 25 v = up_ N1 239 (sB s + 3) sn 239 (sB s + 28 + 5 * it + v) ∧ R32 (up_ (tkX9 M2 s it) 18 s sn 25 v) ∧ up_ (tkX9 M2 s it) 18 s sn 104 (3 * r + v) = up_ N1 239 (sB s + 3) sn 202 (3 * i + v) ∧ ∃ u, (0 ≤ u ∧ u < up_ N1 239 (sB s + 3) sn 171 (M 11 s)) ∧ up_ N1 239 (sB s + 3) sn 202 (3 * i + v) = up_ N1 239 (sB s + 3) sn 184 (8 * M 11 s + u) ∧ up_ N1 239 (sB s + 3) sn 183 (8 * M 11 s + u) = 0 ∧ (up_ N1 239 (sB s + 3) sn 182 (8 * M 11 s + u) = 2 → BV (up_ (tkX9 M2 s it) 18 s sn 25 v)) := fun v v0 v1 => by
    obtain ⟨g1, u, g2, g3, g4, g5, g6, g7⟩ := w5 v v0 v1
    rw [a25 v v0 (by (clear h hP hA hs h8 gx gq x12 hi e41 e152 e151 ck cT n12 hB ru2 tA2 hP2 m7 m14 m15 m11 qN hs2 hi2 hin qb qv q0 ep pb k62 kb hj hii e153 hsig w2 hrr hrow f1 f2 f3 rb at_ sro f4 w5 i0 hsn q1 rsn ruT t0 ru3 tA3 fA fB uA uB a25 vq sgv v0 g1 g2 g3 g4 g5 g6 g7; omega)), vq v v0 (by omega), upo (by (clear h hP hA hs h8 gx gq x12 e151 ck cT n12 hB ru2 tA2 hP2 m7 m14 m15 m11 qN hs2 hi2 hin qb qv q0 ep pb k62 kb hj hii e153 hsig w2 hrr hrow f1 f2 f3 rb at_ sro f4 w5 i0 hsn q1 rsn ruT t0 ru3 tA3 fA fB uA uB a25 vq sgv g1 g2 g3 g4 g5 g6 g7; lia)), uA 104 (by decide) (by decide), gx.1 104 (by decide) (by decide), uB 202 (by decide), uB 171 (by decide), uB 184 (by decide), uB 183 (by decide), uB 182 (by decide), qN 202 (by decide) (by decide), qN 171 (by decide) (by decide), qN 184 (by decide) (by decide), qN 183 (by decide) (by decide), qN 182 (by decide) (by decide)]
    refine ⟨rfl, tA2.2.2 _, g1, u, g2, g3, g4, fun e2 => ?_⟩
    have esg : N1 239 (sB s + (26 + 5 * it)) = N 200 i := by
      rw [show sB s + (26 + 5 * it) = sB s + 26 + 5 * it by (clear h hP hA hs h8 gx gq x12 hi e41 e152 e151 ck cT n12 hB ru2 tA2 hP2 m7 m14 m15 m11 qN hs2 hi2 hin qb qv q0 ep pb k62 kb hj hii e153 hsig w2 w3 hrr hrow f1 f2 f3 rb at_ sro f4 w4 w5 i0 hsn q1 rsn ruT t0 ru3 tA3 fA fB uA uB a25 vq sgv v0 v1 g1 g2 g3 g4 g5 g6 g7 e2; lia), ← q0]
      rcases hsig with e | e
      · exact e.symm
      · (clear h hP hA hs h8 gx gq x12 hi e41 e152 e151 ck cT n12 hB ru2 tA2 hP2 m7 m14 m15 m11 qN hs2 hi2 hin qb qv q0 ep pb k62 kb hj hii e153 w2 w3 hrr hrow f1 f2 f3 rb at_ sro f4 w4 w5 i0 hsn q1 rsn ruT t0 ru3 tA3 fA fB uA uB a25 vq sgv v0 v1 g1 g2 g3 g4 g6 g7 e2; omega)
    have sg2 := sgv.2.1
    dsimp only at sg2
    rw [esg, qN 156 (by decide) (by decide), qN 157 (by decide) (by decide)] at sg2
    have := sg2 g5 v v0 (by omega) g6 (by rw [g7]; exact e2)
    rw [show sB s + (28 + 5 * it + v) = sB s + 28 + 5 * it + v by (clear h hP hA hs h8 gx gq x12 hi e41 e152 e151 ck cT n12 hB ru2 tA2 hP2 m7 m14 m15 m11 qN hs2 hi2 hin qb qv q0 ep pb k62 kb hj hii e153 hsig w2 w3 hrr hrow f1 f2 f3 rb at_ sro f4 w4 w5 i0 hsn q1 rsn ruT t0 ru3 tA3 fA fB uA uB a25 vq sgv v0 v1 g1 g2 g3 g4 g5 g6 g7 e2 esg sg2 this; lia)] at this; exact this
  obtain ⟨A', B', xl, ql, ruA, hPA, tAA, kA, kB, kq⟩ := l_233 (z := z) (y2 := 2) (me := M2 10 s) (y4 := 30 * s + 5 * it) (sg := M2 15 (30 * s + 5 * it)) (sn := sn) (x4 := M2 10 s) (x9 := k) (it := it) (n := N 201 i) (T := M 11 s) (r := r) (i := i) (s := s) (by omega) (by (clear h hP hA hs h8 gx gq x12 e151 ck cT n12 hB ru2 tA2 hP2 m7 m14 m15 m11 qN hs2 hin qv q0 ep pb k62 kb hj hii e153 hsig w2 w3 hrr hrow f1 f2 f3 rb at_ sro f4 w4 w5 i0 hsn q1 rsn ruT t0 ru3 tA3 fA fB uA uB a25 vq sgv hval; lia)) w3 (by omega) i0 (by rw [uA 105 (by decide) (by decide), gx.1 105 (by decide) (by decide)]; exact w4) (by rw [uB 201 (by decide), qN 201 (by decide) (by decide)]) (by rw [uA 11 (by decide) (by decide), m11]) (by rw [uA 0 (by decide) (by decide)]; exact hs2.2) hval (N 201 i).toNat 0 _ _ (by (clear h hP hA hs h8 gx gq x12 hi e41 e152 e151 ck cT n12 hB ru2 tA2 hP2 m7 m14 m15 m11 qN hs2 hi2 hin qb qv q0 ep pb k62 kb hj hii e153 hsig w2 hrr hrow f1 f2 f3 rb at_ sro f4 w5 i0 hsn q1 rsn ruT t0 ru3 tA3 fA fB uA uB a25 vq sgv hval; lia)) (by decide) ru3 (PLr_c hP2 fA fB) tA3 (fun _ _ => rfl) (fun _ _ => rfl) (fun _ _ => rfl)
  have kA0 : A' 0 = M2 0 := by rw [kA 0 (by decide), uA 0 (by decide) (by decide)]
  have kA14 : A' 14 = M2 14 := by rw [kA 14 (by decide), uA 14 (by decide) (by decide)]
  have ruR := RU_rm (it := it) ruA (by rw [kA0]; exact hs2) (by rw [kA14]; exact hi2)
  have tAR := TYA_rm (it := it) ruA tAA (by rw [kA0]; exact hs2) (by rw [kA14]; exact hi2)
  have b5 := RU_b5 (RU_rm (it := it) ru3 (by rw [uA 0 (by decide) (by decide)]; exact hs2) (by rw [uA 14 (by decide) (by decide)]; exact hi2))
  have b3 := RU_b324 ruR
  have ruE := RU_ev (k := 2) (a := M2 10 s) (s := M2 15 (30 * s + 5 * it)) (b := sn) ruR
  have e0 : rmX A' s it 0 = M2 0 := by unfold rmX; rw [up_ne (by decide), wr_ne (by decide), kA0]
  have e11 : evX (rmX A' s it) 2 (M2 10 s) (M2 15 (30 * s + 5 * it)) sn 11 = M 11 := by
    rw [EvX_ev.1 11 (by decide) (by decide)]; unfold rmX; rw [up_ne (by decide), wr_ne (by decide), kA 11 (by decide), uA 11 (by decide) (by decide), m11]
  have fA' : XRF (up_ (tkX9 M2 s it) 18 s sn) A' := ⟨fun r hr => kA r (fun e => hr (by rw [e]; decide)), fun i _ => by rw [kA 0 (by decide)]⟩
  have fB' : QRF (up_ N1 239 (sB s + 3) sn) B' := ⟨fun r hr => kB r (fun e => hr (by rw [e]; decide)), fun i _ => by rw [kB 6 (by decide)]⟩
  have fX : XRF M (evX (rmX A' s it) 2 (M2 10 s) (M2 15 (30 * s + 5 * it)) sn) := XRF_tr (XRF_eg gx) (XRF_tr fA (XRF_tr fA' (XRF_tr XRF_rm XRF_ev)))
  have fQ : QRF N (evQ (rmQ B' s it) 2 (M2 10 s) (M2 15 (30 * s + 5 * it)) sn) := QRF_tr (QRF_eg gq) (QRF_tr fB (QRF_tr fB' (QRF_tr QRF_rm QRF_ev)))
  have e08 : evX (rmX A' s it) 2 (M2 10 s) (M2 15 (30 * s + 5 * it)) sn 0 8 = M 0 8 := by rw [EvX_ev.2 8 (by decide) (by decide), e0]; exact gx.2 8 (by decide)
  obtain ⟨M', N', x1, y1, ru, ty, fr, b8⟩ := j_23 (k := N 197 k) (c := M 108 r) ruE (PLr_c hP fX fQ) (TYA_ev tAR) (s := s) (by rw [EvX_ev.2 7 (by decide) (by decide), e0]; exact hs2) (by rw [e08]; exact h8) (by rw [swc_e fX, tbN_e fQ, e11]; exact at_)
  rw [e08] at b8
  refine ⟨M', N', fun Qr Qt g => t_22 fun V hV hW => b_22_0 (Tr_mono _) hV hW _ _ (Ex_le (d := 5) (by decide) x12 _ _ (ri_i ⟨by (clear h hP hA h8 gx gq x12 hi e41 e152 e151 ck cT hB ru2 tA2 hP2 m14 m15 m11 qN hs2 hi2 hin qb qv q0 ep pb k62 kb hj hii e153 hsig w2 w3 hrr hrow f1 f2 f3 rb at_ sro f4 w4 w5 i0 hsn q1 rsn ruT t0 ru3 tA3 fA fB uA uB a25 vq sgv hval xl ql ruA hPA tAA kA kB kq kA0 kA14 ruR tAR b5 b3 ruE e0 e11 fA' fB' fX fQ e08 x1 y1 ru ty fr b8 g hV hW; lia), ?_⟩)), fun Qr Qt g => t_345 fun V hV hW => b_345_0 (Tr_mono _) hV hW _ _ _ (Ex_le (d := 1) (by decide) (q_323 (by (clear h hP hA h8 gx gq x12 hi e41 e152 e151 ck cT hB ru2 tA2 hP2 m14 m15 m11 qN hs2 hi2 hin qb qv q0 ep pb k62 kb hj hii e153 hsig w2 w3 hrr hrow f1 f2 f3 rb at_ sro f4 w4 w5 i0 hsn q1 rsn ruT t0 ru3 tA3 fA fB uA uB a25 vq sgv hval xl ql ruA hPA tAA kA kB kq kA0 kA14 ruR tAR b5 b3 ruE e0 e11 fA' fB' fX fQ e08 x1 y1 ru ty fr b8 g hV hW; omega))) _ _ (ri_i ⟨by (clear h hP hA h8 gx gq x12 hi e41 e152 e151 ck cT ru2 tA2 hP2 m14 m15 m11 qN hs2 hi2 hin qb qv q0 ep pb k62 kb hj hii e153 hsig w2 w3 hrr hrow f1 f2 f3 rb at_ sro f4 w4 w5 i0 hsn q1 rsn ruT t0 ru3 tA3 fA fB uA uB a25 vq sgv hval xl ql ruA hPA tAA kA kB kq kA0 kA14 ruR tAR b5 b3 ruE e0 e11 fA' fB' fX fQ e08 x1 y1 ru ty fr b8 g hV hW; lia), ?_⟩)), ru, ty, ⟨XRF_tr fX fr.1, QRF_tr fQ fr.2⟩, b8⟩
  · rw [if_neg (by decide), if_neg (by decide), e41]
    refine Ex_le (d := 1) (by decide) (x_9 (by omega) (by (clear h hP hA hs h8 gx gq x12 e151 ck cT n12 hB ru2 tA2 hP2 m7 m14 m15 m11 qN hs2 hin qv q0 ep pb k62 kb hj hii e153 hsig w2 w3 hrr hrow f1 f2 f3 rb at_ sro f4 w4 w5 i0 hsn q1 rsn ruT t0 ru3 tA3 fA fB uA uB a25 vq sgv hval xl ql ruA hPA tAA kA kB kq kA0 kA14 ruR tAR b5 b3 ruE e0 e11 fA' fB' fX fQ e08 x1 y1 ru ty fr b8 g hV hW; lia))) _ _ (ri_i ⟨by (clear h hP hA h8 gx gq x12 e151 ck cT hB ru2 tA2 hP2 m14 m15 m11 qN hs2 hin qv q0 ep pb k62 kb hj hii e153 hsig w2 w3 hrr hrow f1 f2 f3 rb at_ sro f4 w4 w5 i0 hsn q1 rsn ruT t0 ru3 tA3 fA fB uA uB a25 vq sgv hval xl ql ruA hPA tAA kA kB kq kA0 kA14 ruR tAR b5 b3 ruE e0 e11 fA' fB' fX fQ e08 x1 y1 ru ty fr b8 g hV hW; lia), ?_⟩)
    rw [w32_id (x := 30 * s + 5 * it + 1) (by (clear h hP hA h8 gx gq x12 e151 ck cT n12 hB ru2 tA2 hP2 m7 m14 m15 m11 qN hs2 hi2 hin qb qv q0 ep pb k62 kb hj hii e153 hsig w2 w3 hrr hrow f1 f2 f3 rb at_ sro f4 w4 w5 i0 hsn q1 rsn ruT t0 ru3 tA3 fA fB uA uB a25 vq sgv hval xl ql ruA hPA tAA kA kB kq kA0 kA14 ruR tAR b5 b3 ruE e0 e11 fA' fB' fX fQ e08 x1 y1 ru ty fr b8 g hV hW; lia)) (by (clear h hP hA h8 gx gq x12 e151 ck cT hB ru2 tA2 hP2 m14 m15 m11 qN hs2 hin qv q0 ep pb k62 kb hj hii e153 hsig w2 w3 hrr hrow f1 f2 f3 rb at_ sro f4 w4 w5 i0 hsn q1 rsn ruT t0 ru3 tA3 fA fB uA uB a25 vq sgv hval xl ql ruA hPA tAA kA kB kq kA0 kA14 ruR tAR b5 b3 ruE e0 e11 fA' fB' fX fQ e08 x1 y1 ru ty fr b8 g hV hW; lia)), hsn, hrr]
    refine ⟨by (clear h hP hA h8 gx gq x12 e151 ck cT hB ru2 tA2 hP2 m14 m15 m11 qN hs2 hin qv q0 ep pb k62 kb hj hii e153 hsig w2 w3 hrr hrow f1 f2 f3 rb at_ sro f4 w4 w5 i0 hsn q1 rsn ruT t0 ru3 tA3 fA fB uA uB a25 vq sgv hval xl ql ruA hPA tAA kA kB kq kA0 kA14 ruR tAR b5 b3 ruE e0 e11 fA' fB' fX fQ e08 x1 y1 ru ty fr b8 g hV hW; lia), x_117t ru2 hs2 hi2 V Qr Qt hV hW (b_22_160 (Tr_mono _) hV hW _ _ _ _ _ _ _ _ _ ⟨by omega, ?_⟩)⟩
    have e14 : rmX (tkX9 M2 s it) s it 14 s = M2 14 s - 1 := by unfold rmX; rw [up_at, tk_r (by decide)]
    rw [e14]
    refine Ex_le (d := 1) (by decide) (x_9 (by (clear h hP hA h8 gx gq x12 hi e41 e152 e151 ck cT hB ru2 tA2 hP2 m14 m15 m11 qN hs2 hi2 hin qb qv q0 ep pb k62 kb hj hii e153 hsig w2 w3 hrr hrow f1 f2 f3 rb at_ sro f4 w4 w5 i0 hsn q1 rsn ruT t0 ru3 tA3 fA fB uA uB a25 vq sgv hval xl ql ruA hPA tAA kA kB kq kA0 kA14 ruR tAR b5 b3 ruE e0 e11 fA' fB' fX fQ e08 x1 y1 ru ty fr b8 g hV hW e14; lia)) (by (clear h hP hA hs h8 gx gq x12 e151 ck cT n12 hB ru2 tA2 hP2 m7 m14 m15 m11 qN hs2 hin qv q0 ep pb k62 kb hj hii e153 hsig w2 w3 hrr hrow f1 f2 f3 rb at_ sro f4 w4 w5 i0 hsn q1 rsn ruT t0 ru3 tA3 fA fB uA uB a25 vq sgv hval xl ql ruA hPA tAA kA kB kq kA0 kA14 ruR tAR b5 b3 ruE e0 e11 fA' fB' fX fQ e08 x1 y1 ru ty fr b8 g hV hW; lia))) _ _ (ri_i ?_)
    rw [if_neg (by (clear h hP hA hs h8 gx gq x12 hi e41 e152 e151 ck cT n12 hB ru2 tA2 hP2 m7 m14 m15 m11 qN hs2 hi2 hin qb qv q0 ep pb k62 kb hj hii e153 hsig w2 w3 hrr hrow f1 f2 f3 rb at_ sro f4 w4 w5 i0 hsn q1 rsn ruT t0 ru3 tA3 fA fB uA uB a25 vq sgv hval xl ql ruA hPA tAA kA kB kq kA0 kA14 ruR tAR b5 b3 ruE e0 e11 fA' fB' fX fQ e08 x1 y1 ru ty fr b8 g hV hW e14; lia)), if_neg (by decide), rm_18]
    refine ⟨by omega, Ex_le (d := 1) (by decide) (x_5 b5.1 b5.2.1 b5.2.2) _ _ (rv_i (xl V Qr Qt hV hW (b_22_233 (Tr_mono _) hV hW _ _ _ _ _ _ _ _ _ ⟨by (clear h hP hA hs h8 gx gq x12 hi e41 e152 e151 ck cT n12 hB ru2 tA2 hP2 m7 m14 m15 m11 qN hs2 hi2 hin qb qv q0 ep k62 kb hj hii e153 hsig w2 w3 hrr hrow f1 f2 f3 at_ sro f4 w4 w5 i0 hsn q1 rsn ruT t0 ru3 tA3 fA fB uA uB a25 vq sgv hval xl ql ruA hPA tAA kA kB kq kA0 kA14 ruR tAR b5 b3 ruE e0 e11 fA' fB' fX fQ e08 x1 y1 ru ty fr b8 g hV hW e14; omega), ?_⟩)))⟩
    have ev : ∀ q : Nat, q ≠ 0 → q ≠ 23 → q ≠ 13 → q ≠ 14 → q ≠ 15 → q ≠ 18 → q ≠ 25 → q ≠ 26 → evX (rmX A' s it) 2 (M2 10 s) (M2 15 (30 * s + 5 * it)) sn q = M q := fun q h1 h2 h3 h4 h5 h6 h7 h9 => by
      rw [EvX_ev.1 q h1 h2]; unfold rmX; rw [up_ne h4, wr_ne h5, kA q h3, uA q h6 h7]; exact gx.1 q h1 h9
    rw [ev 105 (by decide) (by decide) (by decide) (by decide) (by decide) (by decide) (by decide) (by decide), ev 108 (by decide) (by decide) (by decide) (by decide) (by decide) (by decide) (by decide) (by decide), w4, if_neg (by (clear h hP hA hs h8 gx gq x12 hi e41 e152 e151 ck cT n12 hB ru2 tA2 hP2 m7 m14 m15 m11 qN hs2 hi2 hin qb qv q0 ep pb k62 kb hj hii e153 hsig w2 w3 hrr hrow f1 f2 f3 rb at_ sro f4 w4 w5 i0 hsn q1 rsn ruT t0 ru3 tA3 fA fB uA uB a25 vq sgv hval xl ql ruA hPA tAA kA kB kq kA0 kA14 ruR tAR b5 b3 ruE e0 e11 fA' fB' fX fQ e08 x1 y1 ru ty fr b8 g hV hW e14 ev; lia))]
    exact ⟨by (clear h hP hA hs h8 gx gq x12 hi e41 e152 e151 ck cT n12 hB ru2 tA2 hP2 m7 m14 m15 m11 qN hs2 hi2 hin qb qv q0 ep k62 kb hj hii e153 hsig w2 w3 hrr hrow f1 f2 f3 at_ sro f4 w4 w5 i0 hsn q1 rsn ruT t0 ru3 tA3 fA fB uA uB a25 vq sgv hval xl ql ruA hPA tAA kA kB kq kA0 kA14 ruR tAR b5 b3 ruE e0 e11 fA' fB' fX fQ e08 x1 y1 ru ty fr b8 g hV hW e14 ev; omega), x1 _ _ (rv_i g)⟩
  · rw [if_neg (by decide), if_neg (by decide), if_pos rfl, e152, e151, e153, w32_id (x := sB s + 25) (by (clear h hP hA h8 gx gq x12 hi e41 e152 e151 ck cT n12 ru2 tA2 hP2 m7 m14 m15 m11 qN hs2 hi2 hin qb qv q0 ep pb k62 kb hj hii e153 hsig w2 w3 hrr hrow f1 f2 f3 rb at_ sro f4 w4 w5 i0 hsn q1 rsn ruT t0 ru3 tA3 fA fB uA uB a25 vq sgv hval xl ql ruA hPA tAA kA kB kq kA0 kA14 ruR tAR b5 b3 ruE e0 e11 fA' fB' fX fQ e08 x1 y1 ru ty fr b8 g hV hW; omega)) (by (clear h hP hA h8 gx gq x12 hi e41 e152 e151 ck cT ru2 tA2 hP2 m14 m15 m11 qN hs2 hi2 hin qb qv q0 ep pb k62 kb hj hii e153 hsig w2 w3 hrr hrow f1 f2 f3 rb at_ sro f4 w4 w5 i0 hsn q1 rsn ruT t0 ru3 tA3 fA fB uA uB a25 vq sgv hval xl ql ruA hPA tAA kA kB kq kA0 kA14 ruR tAR b5 b3 ruE e0 e11 fA' fB' fX fQ e08 x1 y1 ru ty fr b8 g hV hW; omega)), w32_id (x := sB s + 25 + 1) (by (clear h hP hA h8 gx gq x12 hi e41 e152 e151 ck cT n12 ru2 tA2 hP2 m7 m14 m15 m11 qN hs2 hi2 hin qb qv q0 ep pb k62 kb hj hii e153 hsig w2 w3 hrr hrow f1 f2 f3 rb at_ sro f4 w4 w5 i0 hsn q1 rsn ruT t0 ru3 tA3 fA fB uA uB a25 vq sgv hval xl ql ruA hPA tAA kA kB kq kA0 kA14 ruR tAR b5 b3 ruE e0 e11 fA' fB' fX fQ e08 x1 y1 ru ty fr b8 g hV hW; omega)) (by (clear h hP hA h8 gx gq x12 hi e41 e152 e151 ck cT ru2 tA2 hP2 m14 m15 m11 qN hs2 hi2 hin qb qv q0 ep pb k62 kb hj hii e153 hsig w2 w3 hrr hrow f1 f2 f3 rb at_ sro f4 w4 w5 i0 hsn q1 rsn ruT t0 ru3 tA3 fA fB uA uB a25 vq sgv hval xl ql ruA hPA tAA kA kB kq kA0 kA14 ruR tAR b5 b3 ruE e0 e11 fA' fB' fX fQ e08 x1 y1 ru ty fr b8 g hV hW; lia)), w32_id (x := 5 * it) (by omega) (by (clear h hP hA hs h8 gx gq x12 hi e151 ck cT n12 hB ru2 tA2 hP2 m7 m14 m15 m11 qN hs2 hin qv q0 ep pb k62 kb hj hii e153 hsig w2 w3 hrr hrow f1 f2 f3 rb at_ sro f4 w4 w5 i0 hsn q1 rsn ruT t0 ru3 tA3 fA fB uA uB a25 vq sgv hval xl ql ruA hPA tAA kA kB kq kA0 kA14 ruR tAR b5 b3 ruE e0 e11 fA' fB' fX fQ e08 x1 y1 ru ty fr b8 g hV hW; omega)), w32_id (x := sB s + 25 + 1 + 5 * it) (by (clear h hP hA h8 gx gq x12 e151 ck cT n12 ru2 tA2 hP2 m7 m14 m15 m11 qN hs2 hi2 hin qb qv q0 ep pb k62 kb hj hii e153 hsig w2 w3 hrr hrow f1 f2 f3 rb at_ sro f4 w4 w5 i0 hsn q1 rsn ruT t0 ru3 tA3 fA fB uA uB a25 vq sgv hval xl ql ruA hPA tAA kA kB kq kA0 kA14 ruR tAR b5 b3 ruE e0 e11 fA' fB' fX fQ e08 x1 y1 ru ty fr b8 g hV hW; lia)) (by (clear h hP hA h8 gx gq x12 e151 ck cT ru2 tA2 hP2 m14 m15 m11 qN hs2 hin qv q0 ep pb k62 kb hj hii e153 hsig w2 w3 hrr hrow f1 f2 f3 rb at_ sro f4 w4 w5 i0 hsn q1 rsn ruT t0 ru3 tA3 fA fB uA uB a25 vq sgv hval xl ql ruA hPA tAA kA kB kq kA0 kA14 ruR tAR b5 b3 ruE e0 e11 fA' fB' fX fQ e08 x1 y1 ru ty fr b8 g hV hW; lia)), w32_id (x := sB s + 25 + 1 + 5 * it + 1) (by (clear h hP hA h8 gx gq x12 e151 ck cT n12 ru2 tA2 hP2 m7 m14 m15 m11 qN hs2 hi2 hin qb qv q0 ep pb k62 kb hj hii e153 hsig w2 w3 hrr hrow f1 f2 f3 rb at_ sro f4 w4 w5 i0 hsn q1 rsn ruT t0 ru3 tA3 fA fB uA uB a25 vq sgv hval xl ql ruA hPA tAA kA kB kq kA0 kA14 ruR tAR b5 b3 ruE e0 e11 fA' fB' fX fQ e08 x1 y1 ru ty fr b8 g hV hW; lia)) (by (clear h hP hA h8 gx gq x12 e151 ck cT ru2 tA2 hP2 m14 m15 m11 qN hs2 hin qv q0 ep pb k62 kb hj hii e153 hsig w2 w3 hrr hrow f1 f2 f3 rb at_ sro f4 w4 w5 i0 hsn q1 rsn ruT t0 ru3 tA3 fA fB uA uB a25 vq sgv hval xl ql ruA hPA tAA kA kB kq kA0 kA14 ruR tAR b5 b3 ruE e0 e11 fA' fB' fX fQ e08 x1 y1 ru ty fr b8 g hV hW; lia)), w32_id (x := sB s + 3) (by (clear h hP hA h8 gx gq x12 hi e41 e152 e151 ck cT n12 ru2 tA2 hP2 m7 m14 m15 m11 qN hs2 hi2 hin qb qv q0 ep pb k62 kb hj hii e153 hsig w2 w3 hrr hrow f1 f2 f3 rb at_ sro f4 w4 w5 i0 hsn q1 rsn ruT t0 ru3 tA3 fA fB uA uB a25 vq sgv hval xl ql ruA hPA tAA kA kB kq kA0 kA14 ruR tAR b5 b3 ruE e0 e11 fA' fB' fX fQ e08 x1 y1 ru ty fr b8 g hV hW; lia)) (by (clear h hP hA h8 gx gq x12 hi e41 e152 e151 ck cT ru2 tA2 hP2 m14 m15 m11 qN hs2 hi2 hin qb qv q0 ep pb k62 kb hj hii e153 hsig w2 w3 hrr hrow f1 f2 f3 rb at_ sro f4 w4 w5 i0 hsn q1 rsn ruT t0 ru3 tA3 fA fB uA uB a25 vq sgv hval xl ql ruA hPA tAA kA kB kq kA0 kA14 ruR tAR b5 b3 ruE e0 e11 fA' fB' fX fQ e08 x1 y1 ru ty fr b8 g hV hW; lia)), show sB s + 25 + 1 + 5 * it = sB s + 26 + 5 * it by (clear h hP hA hs h8 gx gq x12 hi e41 e152 e151 ck cT n12 hB ru2 tA2 hP2 m7 m14 m15 m11 qN hs2 hi2 hin qb qv q0 ep pb k62 kb hj hii e153 hsig w2 w3 hrr hrow f1 f2 f3 rb at_ sro f4 w4 w5 i0 hsn q1 rsn ruT t0 ru3 tA3 fA fB uA uB a25 vq sgv hval xl ql ruA hPA tAA kA kB kq kA0 kA14 ruR tAR b5 b3 ruE e0 e11 fA' fB' fX fQ e08 x1 y1 ru ty fr b8 g hV hW; lia), ← q0, ← q1, ep]
    refine ⟨by (clear h hP hA h8 gx gq x12 e151 ck cT ru2 tA2 hP2 m14 m15 m11 qN hs2 hin qv q0 ep pb k62 kb hj hii e153 hsig w2 w3 hrr hrow f1 f2 f3 rb at_ sro f4 w4 w5 i0 hsn q1 rsn ruT t0 ru3 tA3 fA fB uA uB a25 vq sgv hval xl ql ruA hPA tAA kA kB kq kA0 kA14 ruR tAR b5 b3 ruE e0 e11 fA' fB' fX fQ e08 x1 y1 ru ty fr b8 g hV hW; lia), by omega, by (clear h hP hA h8 gx gq x12 hi e41 e152 e151 ck cT ru2 tA2 hP2 m14 m15 m11 qN hs2 hi2 hin qb qv q0 ep pb k62 kb hj hii e153 hsig w2 w3 hrr hrow f1 f2 f3 rb at_ sro f4 w4 w5 i0 hsn q1 rsn ruT t0 ru3 tA3 fA fB uA uB a25 vq sgv hval xl ql ruA hPA tAA kA kB kq kA0 kA14 ruR tAR b5 b3 ruE e0 e11 fA' fB' fX fQ e08 x1 y1 ru ty fr b8 g hV hW; omega), ql V Qr Qt hV hW (b_345_136 (Tr_mono _) hV hW _ _ _ _ _ _ _ _ _ _ _ ⟨by (clear h hP hA hs h8 gx gq x12 hi e41 e152 e151 ck cT n12 hB ru2 tA2 hP2 m7 m14 m15 m11 qN hs2 hi2 hin qb qv q0 ep pb k62 kb hj hii hsig w2 w3 hrr hrow f1 f2 f3 rb at_ sro f4 w4 w5 hsn q1 rsn ruT t0 ru3 tA3 fA fB uA uB a25 vq sgv hval xl ql ruA hPA tAA kA kB kq kA0 kA14 ruR tAR b5 b3 ruE e0 e11 fA' fB' fX fQ e08 x1 y1 ru ty fr b8 g hV hW; omega), ?_⟩)⟩
    rw [kB 201 (by decide), uB 201 (by decide), qN 201 (by decide) (by decide), if_neg (by omega)]
    refine b_345_188 (Tr_mono _) hV hW _ _ _ _ _ _ _ _ _ _ ?_
    have e6 : B' 6 152 = it := by rw [kB 6 (by decide), uB 6 (by decide)]; exact e152
    rw [e6]
    have q53 := q_353 (N := B') (g := B' 239) (k := s) (i := it) (by omega) (by (clear h hP hA hs h8 gx gq x12 e151 ck cT n12 hB ru2 tA2 hP2 m7 m14 m15 m11 qN hs2 hin qv q0 ep pb k62 kb hj hii e153 hsig w2 w3 hrr hrow f1 f2 f3 rb at_ sro f4 w4 w5 i0 hsn q1 rsn ruT t0 ru3 tA3 fA fB uA uB a25 vq sgv hval xl ql ruA hPA tAA kA kB kq kA0 kA14 ruR tAR b5 b3 ruE e0 e11 fA' fB' fX fQ e08 x1 y1 ru ty fr b8 g hV hW; omega)) (by rw [kq _ (by omega), upo (by (clear h hP hA hs h8 gx gq x12 hi e41 e152 e151 ck cT n12 hB ru2 tA2 hP2 m7 m14 m15 m11 qN hs2 hi2 hin qb qv q0 ep pb k62 kb hj hii e153 hsig w2 w3 hrr hrow f1 f2 f3 rb at_ sro f4 w4 w5 i0 hsn q1 rsn ruT t0 ru3 tA3 fA fB uA uB a25 vq sgv hval xl ql ruA hPA tAA kA kB kq kA0 kA14 ruR tAR b5 b3 ruE e0 e11 fA' fB' fX fQ e08 x1 y1 ru ty fr b8 g hV hW e6; lia))]; (clear h hP hA hs h8 gx gq x12 hi e41 e152 e151 ck cT n12 hB ru2 tA2 hP2 m7 m14 m15 m11 qN hs2 hi2 hin qv q0 ep pb k62 kb hj hii e153 hsig w2 w3 hrr hrow f1 f2 f3 rb at_ sro f4 w4 w5 i0 hsn q1 rsn ruT t0 ru3 tA3 fA fB uA uB a25 vq sgv hval xl ql ruA hPA tAA kA kB kq kA0 kA14 ruR tAR b5 b3 ruE e0 e11 fA' fB' fX fQ e08 x1 y1 ru ty fr b8 g hV hW e6; omega))
    rw [wr_id] at q53
    refine Ex_le (d := 2) (by decide) q53 _ _ (rv_i ?_)
    rw [if_pos rfl]
    refine Ex_le (d := 1) (by decide) (q_324 b3.1 b3.2.1 b3.2.2) _ _ (rv_i ?_)
    have e197 : evQ (rmQ B' s it) 2 (M2 10 s) (M2 15 (30 * s + 5 * it)) sn 197 = N 197 := by
      rw [EvQ_ev.1 197 (by decide) (by decide)]; unfold rmQ; rw [wr_ne (by decide), kB 197 (by decide), uB 197 (by decide), qN 197 (by decide) (by decide)]
    refine ⟨by (clear h hP hA hs h8 gx gq x12 hi e41 e152 e151 ck cT n12 hB ru2 tA2 hP2 m7 m14 m15 m11 qN hs2 hi2 hin qb qv q0 ep kb hj hii e153 hsig w2 w3 hrr hrow f1 f2 f3 rb at_ sro f4 w4 w5 i0 hsn q1 rsn ruT t0 ru3 tA3 fA fB uA uB a25 vq sgv hval xl ql ruA hPA tAA kA kB kq kA0 kA14 ruR tAR b5 b3 ruE e0 e11 fA' fB' fX fQ e08 x1 y1 ru ty fr b8 g hV hW e6 q53 e197; omega), ?_⟩
    show Tr_ wd0 pg0 8 346 [Sum.inr (Sum.inr 6), Sum.inl s, Sum.inl (evQ (rmQ B' s it) 2 (M2 10 s) (M2 15 (30 * s + 5 * it)) sn 197 k)] (evQ (rmQ B' s it) 2 (M2 10 s) (M2 15 (30 * s + 5 * it)) sn) _ Qt
    rw [e197]; exact y1 _ _ (rv_i g)
end S2x
end T386_s2
section T387_xd
/-! no miracles in X's look for a step, where switches are 0 or 1; its outcome is one -/
def nxS : List Nat := [9, 12, 13, 14, 15, 16, 17, 18, 19, 20]
def GB (M : mm_) : Prop := ∀ (r : Nat) (i : Int), (wd0.2.2.2.1 r = 2 → -128 ≤ M r i ∧ M r i ≤ 127) ∧ (wd0.2.2.2.1 r = 3 → bl_ (M r i))
def nxI (e : Instr × Nat × Nat × Int × List (Int × Nat)) : Bool := match e.1 with
  | .getfield _ => !(e.2.2.1 == 1)
  | .putfield _ => e.2.2.1 == 0 && e.2.2.2.2.all (fun q => q.1 == 0)
  | .bastore => false
  | .lastore => false
  | .invokevirtual _ => nxS.contains e.2.2.1
  | .invokestatic _ => nxS.contains e.2.2.1
  | _ => true
section NXa
variable {D : ca_}
theorem GB_up [Inhabited fz_] {M : mm_} {r : Nat} {k x : Int} (h : GB M) (h2 : wd0.2.2.2.1 r ≠ 2) (h3 : wd0.2.2.2.1 r ≠ 3) : GB (up_ M r k x) := fun q i => by
  by_cases e : q = r
  · subst e; exact ⟨fun c => absurd c h2, fun c => absurd c h3⟩
  · rw [up_ne e]; exact h q i
theorem sw_nx [Inhabited fz_] {P : Nat → Prop} {x : Int} (hP : ∀ n, ¬ P n) : ∀ {tb : List (Int × Nat)} {d : Nat}, sw_ P x tb d → False
  | [], d, h => hP _ h
  | k :: t, d, h => by
    unfold sw_ at h
    by_cases e : x = k.1
    · rw [if_pos e] at h; exact hP _ h
    · rw [if_neg e] at h; exact sw_nx hP h
theorem th_nx [Inhabited fz_] {hs : List (Nat × Nat × Nat)} {pc : Nat} {ls : lo_} {r : Nat} {M : mm_} (h : th_ (fun _ _ _ M => ¬ GB M) (fun _ M => ¬ GB M) hs pc ls r M) : ¬ GB M := by
  unfold th_ at h
  cases e : hd_ hs pc with
  | none => rw [e] at h; exact h
  | some q => rw [e] at h; exact h.2
theorem rk_nx [Inhabited fz_] {k pc : Nat} {ls : lo_} {st : List pv_} {vs : List pv_} {M : mm_} (h : rk_ (fun _ _ _ M => ¬ GB M) k pc ls st vs M) : ¬ GB M := by
  unfold rk_ at h
  split at h
  · exact h.2
  · obtain ⟨x, _, h⟩ := h; exact h
  · obtain ⟨x, _, h⟩ := h; exact h
  · obtain ⟨x, _, h⟩ := h; exact h
theorem cl_nx [Inhabited fz_] (hD : ∀ a as M Qr Qt, a ∈ nxS → (∀ vs M, Qr vs M → ¬ GB M) → (∀ r M, Qt r M → ¬ GB M) → GB M → ¬ D a as M Qr Qt) {hs : List (Nat × Nat × Nat)} {pc a n k : Nat} {ls : lo_} {st : List pv_} {M : mm_} (ha : a ∈ nxS) (gM : GB M) (h : cl_ D (fun _ _ _ M => ¬ GB M) (fun _ M => ¬ GB M) hs pc a n k ls st M) : False := by
  unfold cl_ at h
  split at h
  · exact hD a _ _ _ _ ha (fun vs M g => rk_nx g) (fun r M g => th_nx g) gM h
  · exact h
theorem fd_0 [Inhabited fz_] : ∀ {tb : List (Int × Nat)} {r t : Nat}, tb.all (fun q => q.1 == 0) = true → fd_ tb r = some t → r = 0
  | [], r, t, _, h => by unfold fd_ at h; exact absurd h (by simp)
  | q :: tb, r, t, ha, h => by
    rw [List.all_cons, Bool.and_eq_true] at ha
    unfold fd_ at h
    split at h
    · rename_i e
      have := beq_iff_eq.1 ha.1
      omega
    · exact fd_0 ha.2 h
set_option maxHeartbeats 4000000 in
theorem ex_nx [Inhabited fz_] (hD : ∀ a as M Qr Qt, a ∈ nxS → (∀ vs M, Qr vs M → ¬ GB M) → (∀ r M, Qt r M → ¬ GB M) → GB M → ¬ D a as M Qr Qt) {m : md_} {pc len a : Nat} {i : Instr} {b : Int} {tb : List (Int × Nat)} {ls : lo_} {st : List pv_} {M : mm_} (gM : GB M) (hi : nxI (i, len, a, b, tb) = true) (h : ex_ wd0 D (fun _ _ _ M => ¬ GB M) (fun _ M => ¬ GB M) (fun _ M => ¬ GB M) m pc i len a b tb ls st M) : False := by
  revert h hi
  cases i <;> simp only [ex_, nxI]
  all_goals first
    | exact fun _ h => h gM
    | exact fun _ h => h
    | exact fun h => absurd h (by decide)
    | skip
  all_goals (repeat' split)
  all_goals first
    | exact fun _ h => h gM
    | exact fun _ h => h
    | exact fun _ h => h.2 gM
    | exact fun h => absurd h (by decide)
    | exact fun _ h => h.2 ((gM _ _).1 (by assumption)) gM
    | exact fun _ h => h.2 ((gM _ _).2 (by assumption)) gM
    | exact fun _ h => sw_nx (fun _ h => h gM) h
    | exact fun _ h => th_nx h gM
    | exact fun g h => cl_nx hD (List.contains_iff_mem.1 g) gM h
    | exact fun _ h => h.2 (GB_up gM (by omega) (by omega))
    | (intro g h
       rw [Bool.and_eq_true] at g
       have e := fd_0 g.2 (by assumption)
       subst e
       exact h (GB_up gM (by decide) (by decide)))
    | (intro g; rw [Bool.and_eq_true] at g; exact absurd g.1 (by decide))
    | skip
theorem lk_nx [Inhabited fz_] : ∀ (l : List en_) {pc : Nat} {e : Instr × Nat × Nat × Int × List (Int × Nat)}, l.all (fun q => nxI q.2) = true → lk_ l pc = some e → nxI e = true
  | [], pc, e, _, h => by unfold lk_ at h; exact absurd h (by simp)
  | q :: t, pc, e, ha, h => by
    rw [List.all_cons, Bool.and_eq_true] at ha
    unfold lk_ at h
    split at h
    · injection h with h; rw [← h]; exact ha.1
    · exact lk_nx t ha.2 h
theorem nxok [Inhabited fz_] : ∀ n, n ∈ nxS → (pg0 n).1.all (fun q => nxI q.2) = true := by
  intro n hn
  simp only [nxS, List.mem_cons, List.not_mem_nil, or_false] at hn
  rcases hn with e | e | e | e | e | e | e | e | e | e <;> subst e
  · show m_9.1.all _ = true; decide +kernel
  · show m_12.1.all _ = true; decide +kernel
  · show m_13.1.all _ = true; decide +kernel
  · show m_14.1.all _ = true; decide +kernel
  · show m_15.1.all _ = true; decide +kernel
  · show m_16.1.all _ = true; decide +kernel
  · show m_17.1.all _ = true; decide +kernel
  · show m_18.1.all _ = true; decide +kernel
  · show m_19.1.all _ = true; decide +kernel
  · show m_20.1.all _ = true; decide +kernel
theorem Tr_nx [Inhabited fz_] : ∀ (d : Nat) (n : Nat) (as : List pv_) (M : mm_) (Qr : qr_) (Qt : qt_), n ∈ nxS → (∀ vs M, Qr vs M → ¬ GB M) → (∀ r M, Qt r M → ¬ GB M) → GB M → ¬ Tr_ wd0 pg0 d n as M Qr Qt
  | 0, n, as, M, Qr, Qt, _, _, _, _ => fun h => h
  | d + 1, n, as, M, Qr, Qt, hn, hr, ht, gM => fun h => by
    have h := h.2
    refine h (fun _ _ _ M => ¬ GB M) (fun pc ls st M hs => ?_) (fun _ _ _ _ _ _ h => h) gM
    intro gM
    have hs2 : st_ wd0 (Tr_ wd0 pg0 d) (fun _ _ _ M => ¬ GB M) (fun _ M => ¬ GB M) (fun _ M => ¬ GB M) (pg0 n) pc ls st M := st_mono (Tr_mono d) (fun _ _ _ _ g => g) (fun vs M g => hr vs M g) (fun r M g => ht r M g) hs
    unfold st_ at hs2
    cases e : lk_ (pg0 n).1 pc with
    | none => rw [e] at hs2; exact hs2
    | some q =>
      rw [e] at hs2
      exact ex_nx (fun a as M Qr Qt ha h1 h2 g => Tr_nx d a as M Qr Qt ha h1 h2 g) gM (lk_nx _ (nxok n hn) e) hs2
/-- the outcome is one -/
theorem DETX [Inhabited fz_] {d n : Nat} {as : List pv_} {v1 v2 : List pv_} {N N' N'' : mm_} (hn : n ∈ nxS) (gM : GB N) (h1 : Ex_ d n as N v1 N') (h2 : Ex_ d n as N v2 N'') : v1 = v2 ∧ N' = N'' := by
  refine Classical.byContradiction fun hne => ?_
  have a : Tr_ wd0 pg0 d n as N (fun vs M => vs = v1 ∧ M = N') (fun _ _ => False) := h1 _ _ ⟨rfl, rfl⟩
  have b : Tr_ wd0 pg0 d n as N (fun vs M => vs = v2 ∧ M = N'') (fun _ _ => False) := h2 _ _ ⟨rfl, rfl⟩
  have c := Tr_sp a
  refine Tr_nx d n as N _ _ hn (fun vs M g => ?_) (fun r M g => g.1.elim) gM c
  obtain ⟨⟨e1, e2⟩, g2⟩ := g
  obtain ⟨e3, e4⟩ := g2 _ _ b
  exact (hne ⟨e1.symm.trans e3, e2.symm.trans e4⟩).elim
end NXa
end T387_xd
section T388_sl
/-! the run: a second look finds what the first found -/
/-- bytes and switches brought into their ranges -/
def clM (M : mm_) : mm_ := fun r i => if wd0.2.2.2.1 r = 2 then (if -128 ≤ M r i ∧ M r i ≤ 127 then M r i else 0) else if wd0.2.2.2.1 r = 3 then (if M r i = 0 ∨ M r i = 1 then M r i else 0) else M r i
section SLa
variable {z : Int} {M N M' N' M1 N1 : mm_} {s k r T p : Int}
theorem GB_cl [Inhabited fz_] : GB (clM M) := fun r i => by
  unfold clM bl_
  refine ⟨fun h => ?_, fun h => ?_⟩
  · rw [if_pos h]; split
    · assumption
    · decide
  · rw [if_neg (by rw [h]; decide), if_pos h]; split
    · assumption
    · exact .inl rfl
theorem cl_r [Inhabited fz_] {r : Nat} (h2 : wd0.2.2.2.1 r ≠ 2) (h3 : wd0.2.2.2.1 r ≠ 3) : clM M r = M r := by
  funext i; unfold clM; rw [if_neg h2, if_neg h3]
theorem cl_3 [Inhabited fz_] {r : Nat} {i : Int} (h2 : wd0.2.2.2.1 r ≠ 2) (h3 : M r i = 0 ∨ M r i = 1) : clM M r i = M r i := by
  unfold clM; rw [if_neg h2, if_pos h3]; split <;> rfl
theorem RU_cl [Inhabited fz_] (h : RU z M N) : RU z (clM M) N := by
  obtain ⟨⟨h1, h2, h3, h4⟩, g2, g3, g4, g5⟩ := h
  have e0 : clM M 0 = M 0 := cl_r (by decide) (by decide)
  refine ⟨⟨by rw [e0]; exact h1, by rw [e0]; exact h2, fun k k0 k1 => ?_, by rw [e0]; exact h4⟩, RRt_c g2 (cl_r (by decide) (by decide)) (cl_r (by decide) (by decide)) rfl rfl, RSC_c g3 (fun _ _ => by rw [e0]) (fun _ _ => rfl), ROU_c g4 (fun _ _ => by rw [e0]) (cl_r (by decide) (by decide)) (fun _ _ => rfl) rfl, REV_c g5 (fun _ _ => by rw [e0]) (cl_r (by decide) (by decide)) (fun _ _ => rfl) rfl⟩
  have hk := h3 k k0 (by rw [e0] at k1; exact k1)
  refine IN_o hk (by rw [e0]; exact Int.le_refl _) (fun q hq => ?_) (fun i _ _ => by rw [cl_r (by decide) (by decide)]) (fun i _ _ => by rw [cl_r (by decide) (by decide)]) (fun i i0 i1 => ⟨cl_3 (by decide) ?_, by rw [cl_r (by decide) (by decide)]⟩) (fun _ _ _ => rfl) rfl (fun _ _ => rfl)
  · simp only [List.mem_cons, List.not_mem_nil, or_false] at hq
    rcases hq with e | e | e | e | e | e | e <;> (subst e; rw [cl_r (by decide) (by decide)])
  · rcases (hk.2.2.2.1 i i0 i1).1 with c | c
    · exact .inr c.1
    · exact .inl c.1
theorem PTY_x [Inhabited fz_] (h : PTY M N T) (hx : ∀ q : Nat, q ≠ 117 → q ≠ 118 → M' q = M q) : PTY M' N T := by
  haveI : Inhabited gh_ := ih_ 0 (fun _ => 0) 0 0
  have e : ∀ q : Nat, q ∈ sxL → M' q = M q := fun q hq => hx q (fun c => by rw [c] at hq; revert hq; decide) (fun c => by rw [c] at hq; revert hq; decide)
  unfold PTY at h ⊢
  rw [hx 120 (by decide) (by decide), hx 121 (by decide) (by decide), hx 122 (by decide) (by decide), hx 123 (by decide) (by decide), hx 124 (by decide) (by decide), hx 125 (by decide) (by decide), hx 126 (by decide) (by decide), hx 127 (by decide) (by decide), hx 128 (by decide) (by decide), hx 129 (by decide) (by decide), hx 130 (by decide) (by decide), hx 131 (by decide) (by decide), hx 132 (by decide) (by decide)]
  exact ⟨h.1, h.2.1, h.2.2.1, h.2.2.2.1, ATP_x h.2.2.2.2.1 e, fun l l0 l1 => ATP_x (h.2.2.2.2.2 l l0 l1) e⟩
theorem PST_x [Inhabited fz_] (h : PST M N) (hx : ∀ q : Nat, q ≠ 117 → q ≠ 118 → M' q = M q) : PST M' N := by
  haveI : Inhabited gh_ := ih_ 0 (fun _ => 0) 0 0
  have e : ∀ q : Nat, q ∈ sxL → M' q = M q := fun q hq => hx q (fun c => by rw [c] at hq; revert hq; decide) (fun c => by rw [c] at hq; revert hq; decide)
  unfold PST at h ⊢
  rw [hx 5 (by decide) (by decide), hx 123 (by decide) (by decide), hx 133 (by decide) (by decide), hx 134 (by decide) (by decide), hx 135 (by decide) (by decide), hx 136 (by decide) (by decide)]
  exact ⟨h.1, fun k k0 k1 => ⟨(h.2 k k0 k1).1, fun j j0 j1 => ⟨((h.2 k k0 k1).2 j j0 j1).1, SRO_x ((h.2 k k0 k1).2 j j0 j1).2 e⟩⟩⟩
theorem PLB_x [Inhabited fz_] (h : PLB M N) (hx : ∀ q : Nat, q ≠ 117 → q ≠ 118 → M' q = M q) (h2 : ∀ q : Nat, q = 117 ∨ q = 118 → ∀ i, (M q i = 0 ∨ M q i = 1) → M' q i = M q i) : PLB M' N := by
  obtain ⟨a, b, c, d, e, f⟩ := h
  refine ⟨by rw [hx 5 (by decide) (by decide)]; exact a, fun T T0 T1 => PTY_x (b T T0 T1) hx, fun r r0 r1 => ?_, PST_x d hx, by rw [hx 112 (by decide) (by decide), hx 113 (by decide) (by decide)]; exact e, by rw [hx 5 (by decide) (by decide)]; exact f⟩
  obtain ⟨g, g1⟩ := c r r0 r1
  rw [hx 114 (by decide) (by decide), hx 115 (by decide) (by decide), hx 116 (by decide) (by decide)]
  refine ⟨?_, g1⟩
  unfold RT2 at g ⊢
  have e117 : M' 117 r = M 117 r := h2 117 (.inl rfl) r (by rcases g.2.2.2.1 with c | c; exact .inr c.1; exact .inl c.1)
  have e118 : M' 118 r = M 118 r := h2 118 (.inr rfl) r (by rw [g.2.2.2.2.1]; exact g.2.2.2.2.2)
  rw [hx 114 (by decide) (by decide), hx 115 (by decide) (by decide), hx 116 (by decide) (by decide), hx 119 (by decide) (by decide), e117, e118]
  exact g
theorem akv [Inhabited fz_] : ∀ q : Nat, 79 ≤ q → q ≤ 111 → q ≠ 84 → q ≠ 85 → wd0.2.2.2.1 q ≠ 2 ∧ wd0.2.2.2.1 q ≠ 3 := fun q h0 h1 => by
  have : ∀ q : Fin 112, 79 ≤ q.1 → q.1 ≤ 111 → q.1 ≠ 84 → q.1 ≠ 85 → wd0.2.2.2.1 q.1 ≠ 2 ∧ wd0.2.2.2.1 q.1 ≠ 3 := by decide +kernel
  exact this ⟨q, by omega⟩ h0 h1
theorem PLr_cl [Inhabited fz_] (h : PLr M N) : PLr (clM M) N := by
  unfold PLr at h ⊢
  refine PLB_x h (fun q h1 h2 => ?_) (fun q hq i hi => ?_)
  · unfold swc
    by_cases c : q = 5
    · rw [if_pos c, if_pos c, cl_r (by decide) (by decide)]
    · rw [if_neg c, if_neg c]
      by_cases c2 : 112 ≤ q ∧ q ≤ 144
      · rw [if_pos c2, if_pos c2]
        have := akv (q - 33) (by omega) (by omega) (by (clear h; lia)) (by omega)
        exact cl_r this.1 this.2
      · rw [if_neg c2, if_neg c2]
  · rcases hq with e | e <;> (subst e; exact cl_3 (by decide) hi)
/-- what the second look says is what the first said -/
theorem w_eq [Inhabited fz_] {w w2 : Int} {N2 : mm_} (h : RU z M N) (hP : PLr M N) (hA : TYA N) (hs : 0 ≤ s ∧ s < M 0 7) (h1 : RU z M N1) (hP1 : PLr M N1) (hA1 : TYA N1)
    (q : Ex_ 6 336 [.inr (.inr 6), .inl s] N [.inl w] N') (q1 : Ex_ 6 336 [.inr (.inr 6), .inl s] N1 [.inl w2] N2) : w = w2 := by
  have e0 : clM M 0 = M 0 := cl_r (by decide) (by decide)
  obtain ⟨u, A, B, xa, qa, _⟩ := j_12 (s := s) (RU_cl h) (PLr_cl hP) hA (by rw [e0]; exact hs)
  obtain ⟨u2, A2, B2, xb, qb, _⟩ := j_12 (s := s) (RU_cl h1) (PLr_cl hP1) hA1 (by rw [e0]; exact hs)
  have e1 := (DET (by decide) q qa).1
  have e2 := (DET (by decide) q1 qb).1
  have e3 := (DETX (by decide) GB_cl xa xb).1
  injection e1 with e1; injection e1 with e1
  injection e2 with e2; injection e2 with e2
  injection e3 with e3; injection e3 with e3
  rw [e1, e2, e3]
end SLa
end T388_sl
section T389_nr
/-! the run: who is ready (X 11 | Q 335), when something comes (X 21 | Q 361) -/
section NRa
variable {z : Int} {M N M' N' M1 N1 : mm_} {s k r T p : Int}
theorem RU_wn [Inhabited fz_] (h : RU z M N) : RU z (up_ M 0 11 p) (up_ N 6 130 p) := by
  obtain ⟨h1, h2, h3, h4, h5⟩ := h
  have x : ∀ r : Nat, r ≠ 0 → up_ M 0 11 p r = M r := fun r c => up_ne c
  have q : ∀ r : Nat, r ≠ 6 → up_ N 6 130 p r = N r := fun r c => up_ne c
  have x0 : ∀ i : Int, i ≠ 11 → up_ M 0 11 p 0 i = M 0 i := fun i c => upo c
  have q0 : ∀ i : Int, i ≠ 130 → up_ N 6 130 p 6 i = N 6 i := fun i c => upo c
  exact ⟨RI_c h1 ⟨x0 7 (by decide), x0 8 (by decide)⟩ (fun r hr => x r (fun c => by rw [c] at hr; revert hr; decide)) (q 239 (by decide)) (q0 19 (by decide)) (fun r hr => q r (fun c => by rw [c] at hr; revert hr; decide)), RRt_c h2 (x 21 (by decide)) (x 22 (by decide)) (q 239 (by decide)) (q0 18 (by decide)), RSC_c h3 (fun i hi => x0 i (fun c => by rw [c] at hi; revert hi; decide)) (fun i hi => q0 i (fun c => by rw [c] at hi; revert hi; decide)), ROU_c h4 (fun i hi => x0 i (fun c => by rw [c] at hi; revert hi; decide)) (x 24 (by decide)) (fun i hi => q0 i (fun c => by rw [c] at hi; revert hi; decide)) (q 241 (by decide)), REV_c h5 (fun i hi => x0 i (fun c => by rw [c] at hi; revert hi; decide)) (x 23 (by decide)) (fun i hi => q0 i (fun c => by rw [c] at hi; revert hi; decide)) (q 240 (by decide))⟩
theorem l_fr [Inhabited fz_] (h : RU z M N) (hw : M 0 11 = N 6 130) : ∀ (j : Nat) (x : Int), x + j = M 0 7 → 0 ≤ x → ∃ f, (0 ≤ f ∧ f ≤ M 0 7) ∧ RC 5 m_11 2 [rr 0, ii x, none, none] M 31 [rr 0, ii f, ii 0, none] M ∧ RC 6 m_335 9 [rr 6, ii (M 0 7), ii x, none, none] N 38 [rr 6, ii (M 0 7), ii f, ii 0, none] N := fun j => by
  have n12 := h.1.1
  induction j with
  | zero =>
    intro x hx x0
    refine ⟨x, by omega, fun V Qr Qt hV hW g => b_11_2 (Tr_mono _) hV hW _ _ ?_, fun V Qr Qt hV hW g => b_335_9 (Tr_mono _) hV hW _ _ _ ?_⟩
    · rw [if_neg (by omega)]; exact g
    · rw [if_neg (by omega)]; exact g
  | succ j ih =>
    intro x hx x0
    have hp := (h.1.2.2.1 x x0 (by (clear h hw ih x0; omega))).1.1
    have hB : sB x = 2 + 56 * x := rfl
    by_cases c : M 10 x ≤ M 0 11
    · obtain ⟨f, hf, a, b⟩ := ih (x + 1) (by (clear h hw ih x0 hp hB c; lia)) (by omega)
      refine ⟨f, hf, RC_tr (fun V Qr Qt hV hW g => b_11_2 (Tr_mono _) hV hW _ _ ?_) a, RC_tr (fun V Qr Qt hV hW g => b_335_9 (Tr_mono _) hV hW _ _ _ ?_) b⟩
      · rw [if_pos (by (clear h hw ih x0 hp hB c hf a b hV hW g; omega)), if_pos c, w32_id (x := x + 1) (by omega) (by omega)]; exact ⟨by (clear h hw ih hp hB c hf a b hV hW g; omega), g⟩
      · rw [if_pos (by (clear h hw ih x0 hp hB c hf a b hV hW g; omega))]
        refine Ex_le (d := 1) (by decide) (q_323 (by (clear h hw ih hp hB c hf a b hV hW g; omega))) _ _ (ri_i ?_)
        rw [if_pos (by (clear h n12 ih hx x0 hB hf a b hV hW g; omega)), w32_id (x := x + 1) (by omega) (by omega)]; exact ⟨by omega, g⟩
    · refine ⟨x, by omega, fun V Qr Qt hV hW g => b_11_2 (Tr_mono _) hV hW _ _ ?_, fun V Qr Qt hV hW g => b_335_9 (Tr_mono _) hV hW _ _ _ ?_⟩
      · rw [if_pos (by omega), if_neg c]; exact ⟨by omega, g⟩
      · rw [if_pos (by omega)]
        refine Ex_le (d := 1) (by decide) (q_323 (by omega)) _ _ (ri_i ?_)
        rw [if_neg (by omega)]; exact ⟨by omega, g⟩
/-- an instance that is ready -/
def RDY (M N : mm_) (v : Int) : Prop := (0 ≤ v ∧ v < M 0 7) ∧ ∃ w N0 N2, w ≠ 0 ∧ EGQ N N0 ∧ Ex_ 6 336 [.inr (.inr 6), .inl v] N0 [.inl w] N2
theorem l_rd [Inhabited fz_] {f n : Int} (hf : 0 ≤ f ∧ f ≤ n) : ∀ (j : Nat) (x : Int) (M N : mm_), RU z M N → PLr M N → TYA N → M 0 7 = n → x + j = n → 0 ≤ x → ∃ v M' N', (∀ (V : vv_) (Qr : qr_) (Qt : qt_), Cl_ wd0 (Tr_ wd0 pg0 5) V Qr Qt m_11 → Wk_ V → Qr [.inl v] M' → V 31 [rr 0, ii f, ii x, none] [] M) ∧ (∀ (V : vv_) (Qr : qr_) (Qt : qt_), Cl_ wd0 (Tr_ wd0 pg0 6) V Qr Qt m_335 → Wk_ V → Qr [.inl v] N' → V 38 [rr 6, ii n, ii f, ii x, none] [] N) ∧ EGX M M' ∧ EGQ N N' ∧ (v = -1 ∨ RDY M N v) := fun j => by
  induction j with
  | zero =>
    intro x M N h hP hA hn hx x0
    refine ⟨-1, M, N, fun V Qr Qt hV hW g => b_11_31 (Tr_mono _) hV hW _ _ _ ?_, fun V Qr Qt hV hW g => b_335_38 (Tr_mono _) hV hW _ _ _ _ ?_, EGX_rf, EGQ_rf, .inl rfl⟩
    · rw [if_neg (by (clear hf h hP hA x0 hV hW g; omega))]; exact g
    · rw [if_neg (by omega)]; exact g
  | succ j ih =>
    intro x M N h hP hA hn hx x0
    have n12 := h.1.1
    have ew : w32 (f + x) = f + x := w32_id (by (clear ih h hP hA; lia)) (by omega)
    have et : Int.tmod (f + x) n = (f + x) % n := Int.tmod_eq_emod_of_nonneg (by omega)
    have t0 : 0 ≤ (f + x) % n := Int.emod_nonneg _ (by omega)
    have t1 : (f + x) % n < n := Int.emod_lt_of_pos _ (by (clear ih h hP hA et t0; lia))
    obtain ⟨w, M1, N1, xx, qq, gx, gq, fw⟩ := j_12 (s := (f + x) % n) h hP hA ⟨t0, by (clear hf ih h hP hA x0 ew et t0; omega)⟩
    by_cases cw : w = 0
    · subst cw
      obtain ⟨v, M', N', a, b, ex, eq, rd⟩ := ih (x + 1) M1 N1 (RU_eg h gx gq) (PLr_c hP (XRF_eg gx) (QRF_eg gq)) (TYA_eg hA gq) (by rw [gx.2 7 (by decide)]; exact hn) (by (clear hf ih h hP hA x0 n12 ew et t0 t1 gx gq xx qq fw; lia)) (by omega)
      refine ⟨v, M', N', fun V Qr Qt hV hW g => b_11_31 (Tr_mono _) hV hW _ _ _ ?_, fun V Qr Qt hV hW g => b_335_38 (Tr_mono _) hV hW _ _ _ _ ?_, EGX_tr gx ex, EGQ_tr gq eq, ?_⟩
      · rw [if_pos (by omega), ew, hn, et]
        refine ⟨by (clear hf ih h hP hA x0 ew et gx gq xx qq fw a b ex eq rd hV hW g; omega), xx _ _ (ri_i ?_)⟩
        rw [if_pos rfl, w32_id (x := x + 1) (by omega) (by omega)]; exact a V Qr Qt hV hW g
      · rw [if_pos (by (clear hf ih h hP hA x0 n12 ew et t0 t1 gx gq xx qq fw a b ex eq rd hV hW g; omega)), ew, et]
        refine ⟨by (clear hf ih h hP hA x0 ew et gx gq xx qq fw a b ex eq rd hV hW g; omega), qq _ _ (ri_i ?_)⟩
        rw [if_pos (by decide), w32_id (x := x + 1) (by omega) (by omega)]; exact b V Qr Qt hV hW g
      · rcases rd with e | ⟨e, w, N0, N2, r1, r2, r3⟩
        · exact .inl e
        · exact .inr ⟨by rw [gx.2 7 (by decide)] at e; exact e, w, N0, N2, r1, EGQ_tr gq r2, r3⟩
    · have wp : ¬ w ≤ 0 := by rcases fw with e | e | e | e | e <;> (clear hf ih h hP hA hn hx x0 n12 ew et t0 t1 xx qq gx gq; lia)
      refine ⟨(f + x) % n, M1, N1, fun V Qr Qt hV hW g => b_11_31 (Tr_mono _) hV hW _ _ _ ?_, fun V Qr Qt hV hW g => b_335_38 (Tr_mono _) hV hW _ _ _ _ ?_, gx, gq, .inr ⟨⟨t0, by (clear hf ih h hP hA x0 ew et t0 xx qq gx gq fw cw wp; omega)⟩, w, N, N1, cw, EGQ_rf, qq⟩⟩
      · rw [if_pos (by omega), ew, hn, et]
        refine ⟨by (clear hf ih h hP hA x0 ew et xx qq gx gq fw cw wp hV hW g; omega), xx _ _ (ri_i ?_)⟩
        rw [if_neg cw]; exact g
      · rw [if_pos (by (clear hf ih h hP hA x0 n12 ew et t0 t1 xx qq gx gq fw cw wp hV hW g; omega)), ew, et]
        refine ⟨by omega, qq _ _ (ri_i ?_)⟩
        rw [if_neg wp]; exact g
theorem j_11 [Inhabited fz_] (h : RU z M N) (hP : PLr M N) (hA : TYA N) (hw : M 0 11 = N 6 130) : ∃ v M' N', Ex_ 6 11 [.inr (.inr 0)] M [.inl v] M' ∧ Ex_ 7 335 [.inr (.inr 6)] N [.inl v] N' ∧ EGX M M' ∧ EGQ N N' ∧ (v = -1 ∨ RDY M N v) := by
  have n12 := h.1.1
  obtain ⟨f, hf, a, b⟩ := l_fr h hw (M 0 7).toNat 0 (by (clear h hP hA hw; lia)) (by decide)
  obtain ⟨v, M', N', c, d, e, g, rd⟩ := l_rd hf (M 0 7).toNat 0 M N h hP hA rfl (by (clear h hP hA hw hf a b; omega)) (by decide)
  refine ⟨v, M', N', fun Qr Qt hq => t_11 fun V hV hW => b_11_0 (Tr_mono _) hV hW _ (a V Qr Qt hV hW (c V Qr Qt hV hW hq)), fun Qr Qt hq => t_335 fun V hV hW => b_335_0 (Tr_mono _) hV hW _ ⟨by decide, ?_⟩, e, g, rd⟩
  rw [n12.2.2]
  exact b V Qr Qt hV hW (d V Qr Qt hV hW hq)
/-- a time at which something comes -/
def BO (M : mm_) (b : Int) : Prop := b = -1 ∨ (M 0 9 < b ∧ b ≤ 2000000000)
theorem l_nt [Inhabited fz_] (h : RU 0 M N) (h4 : M 4 1 = N 6 18) (hd : DN M (fun x => 0 ≤ x ∧ x < N 6 18) (fun i => 0 ≤ i ∧ i < 3 * M 0 7)) : ∀ (j : Nat) (x b : Int), BO M b → x + j = N 6 18 → 0 ≤ x → ∃ v, BO M v ∧ RC 1 m_21 4 [rr 0, ii b, ii x, none, none] M 66 [rr 0, ii v, ii 0, none, none] M ∧ RC 1 m_361 4 [rr 6, ii b, ii x, none, none] N 63 [rr 6, ii v, ii 0, none, none] N := fun j => by
  have h10 := h.2.1.1
  have nw := h.2.2.1.2.1
  induction j with
  | zero =>
    intro x b hb hx x0
    refine ⟨b, hb, fun V Qr Qt hV hW g => b_21_4 (Tr_mono _) hV hW _ _ _ ?_, fun V Qr Qt hV hW g => b_361_4 (Tr_mono _) hV hW _ _ _ ?_⟩
    · rw [if_neg (by omega)]; exact g
    · rw [if_neg (by omega)]; exact g
  | succ j ih =>
    intro x b hb hx x0
    have hR : sR x = 674 + 43 * x := rfl
    have ro := h.2.1.2.1 x x0 (by omega)
    have rob := ro.1
    have wx : w32 (x + 1) = x + 1 := w32_id (by omega) (by omega)
    have dx := hd.1 x ⟨x0, by omega⟩
    have w3 : w32 (42 * x + 7 * 0 + 3) = 42 * x + 3 := by rw [show 42 * x + 7 * 0 + 3 = 42 * x + 3 by (clear h h4 hd h10 nw ih hb hx x0 hR ro rob wx dx; lia), w32_id (by (clear h h4 hd h10 nw ih hb hx hR ro rob dx; lia)) (by omega)]
    have w4 : w32 (sR x + 4) = sR x + 4 := w32_id (by (clear h h4 hd h10 nw ih hb hx ro rob dx w3; lia)) (by omega)
    by_cases c : M 21 x ≤ 0
    · obtain ⟨v, hv, a1, a2⟩ := ih (x + 1) b hb (by (clear h h4 hd h10 nw ih hb x0 hR ro rob wx dx w3 w4 c; lia)) (by (clear h h4 hd h10 nw ih hb hx hR ro rob dx w3 w4 c; lia))
      refine ⟨v, hv, RC_tr (fun V Qr Qt hV hW g => b_21_4 (Tr_mono _) hV hW _ _ _ ?_) a1, RC_tr (fun V Qr Qt hV hW g => b_361_4 (Tr_mono _) hV hW _ _ _ ?_) a2⟩
      · rw [if_pos (by omega), if_pos c, wx]; exact ⟨by omega, g⟩
      · rw [if_pos (by omega)]
        refine Ex_le (d := 1) (by decide) (q_327 (by omega)) _ _ (ri_i ⟨by omega, ?_⟩)
        rw [if_pos (by (clear h h4 hd h10 nw ih hb hx x0 hR ro wx dx w3 w4 hv a1 a2 hV hW g; lia)), wx]; exact g
    · obtain ⟨e1, e2, e3, e4⟩ := ro.2.1 0 (by decide) (by omega)
      have t := e3 rfl
      rw [show 42 * x + 7 * 0 + 3 = 42 * x + 3 by omega] at t e2
      rw [show sR x + 1 + 7 * 0 + 3 = sR x + 4 by omega] at t
      have hdx := dx.resolve_left c
      by_cases c2 : b = -1
      · obtain ⟨v, hv, a1, a2⟩ := ih (x + 1) (M 22 (42 * x + 3)) (.inr ⟨hdx, e2.2⟩) (by omega) (by omega)
        refine ⟨v, hv, RC_tr (fun V Qr Qt hV hW g => b_21_4 (Tr_mono _) hV hW _ _ _ ?_) a1, RC_tr (fun V Qr Qt hV hW g => b_361_4 (Tr_mono _) hV hW _ _ _ ?_) a2⟩
        · rw [if_pos (by (clear h hd h10 nw ih hb x0 hR ro rob wx dx w3 w4 c e1 e2 e3 e4 t hdx c2 hv a1 a2 hV hW g; omega)), if_neg c, if_pos c2]
          refine ⟨by omega, x_2 (a := 0) (by omega) (by decide) _ _ (ri_i ?_)⟩
          rw [w3, wx]; exact ⟨by (clear h h4 hd nw ih hb hR ro rob dx w3 w4 c e1 e2 e3 e4 t hdx c2 hv a1 a2 hV hW g; lia), g⟩
        · rw [if_pos (by (clear h h4 hd h10 nw ih hb x0 hR ro rob wx dx w3 w4 c e1 e2 e3 e4 t hdx c2 hv a1 a2 hV hW g; omega))]
          refine Ex_le (d := 1) (by decide) (q_327 (by (clear h h4 hd nw ih hb hR ro rob dx w3 w4 c e1 e2 e3 e4 t hdx c2 hv a1 a2 hV hW g; omega))) _ _ (ri_i ⟨by (clear h h4 hd nw ih hb ro rob dx w3 w4 c e1 e2 e3 e4 t hdx c2 hv a1 a2 hV hW g; lia), ?_⟩)
          rw [if_neg (by (clear h h4 hd h10 nw ih hb hx x0 hR ro wx dx w3 w4 e1 e2 e3 e4 t hdx c2 hv a1 a2 hV hW g; omega)), if_pos (by (clear h h4 hd h10 nw ih hb hx x0 hR ro rob wx dx w3 w4 c e1 e2 e3 e4 t hdx hv a1 a2 hV hW g; lia))]
          refine Ex_le (d := 1) (by decide) (q_327 (by omega)) _ _ (ri_i ?_)
          rw [w4, wx, ← t]; exact ⟨by (clear h h4 hd nw ih hb ro rob dx w3 w4 c e1 e2 e3 e4 t hdx c2 hv a1 a2 hV hW g; omega), g⟩
      · by_cases c3 : M 22 (42 * x + 3) < b
        · obtain ⟨v, hv, a1, a2⟩ := ih (x + 1) (M 22 (42 * x + 3)) (.inr ⟨hdx, e2.2⟩) (by omega) (by omega)
          refine ⟨v, hv, RC_tr (fun V Qr Qt hV hW g => b_21_4 (Tr_mono _) hV hW _ _ _ ?_) a1, RC_tr (fun V Qr Qt hV hW g => b_361_4 (Tr_mono _) hV hW _ _ _ ?_) a2⟩
          · rw [if_pos (by omega), if_neg c, if_neg c2]
            refine ⟨by omega, x_2 (a := 0) (by omega) (by decide) _ _ (ri_i ?_)⟩
            rw [w3, if_pos c3]
            refine ⟨by omega, x_2 (a := 0) (by omega) (by decide) _ _ (ri_i ?_)⟩
            rw [w3, wx]; exact ⟨by omega, g⟩
          · rw [if_pos (by omega)]
            refine Ex_le (d := 1) (by decide) (q_327 (by omega)) _ _ (ri_i ⟨by omega, ?_⟩)
            rw [if_neg (by omega), if_neg (by rcases hb with e | e <;> (clear h h4 hd h10 ih hx x0 hR ro rob wx dx w3 w4 c e1 e3 e4 c2 hv a1 a2 hV hW g; lia))]
            refine Ex_le (d := 1) (by decide) (q_327 (by omega)) _ _ (ri_i ?_)
            rw [w4, if_pos (by (clear h h4 hd h10 nw ih hb hx x0 hR ro rob wx dx w3 w4 c e1 e2 e3 e4 hdx c2 hv a1 a2 hV hW g; omega))]
            refine ⟨by omega, Ex_le (d := 1) (by decide) (q_327 (by omega)) _ _ (ri_i ?_)⟩
            rw [w4, wx, ← t]; exact ⟨by omega, g⟩
        · obtain ⟨v, hv, a1, a2⟩ := ih (x + 1) b hb (by omega) (by omega)
          refine ⟨v, hv, RC_tr (fun V Qr Qt hV hW g => b_21_4 (Tr_mono _) hV hW _ _ _ ?_) a1, RC_tr (fun V Qr Qt hV hW g => b_361_4 (Tr_mono _) hV hW _ _ _ ?_) a2⟩
          · rw [if_pos (by omega), if_neg c, if_neg c2]
            refine ⟨by omega, x_2 (a := 0) (by omega) (by decide) _ _ (ri_i ?_)⟩
            rw [w3, if_neg c3, wx]; exact ⟨by omega, g⟩
          · rw [if_pos (by omega)]
            refine Ex_le (d := 1) (by decide) (q_327 (by omega)) _ _ (ri_i ⟨by omega, ?_⟩)
            rw [if_neg (by omega), if_neg (by rcases hb with e | e <;> omega)]
            refine Ex_le (d := 1) (by decide) (q_327 (by omega)) _ _ (ri_i ?_)
            rw [w4, if_neg (by (clear h h4 hd h10 nw ih hb hx x0 hR ro rob wx dx w3 w4 c e1 e2 e3 e4 hdx c2 hv a1 a2 hV hW g; omega)), wx]; exact ⟨by omega, g⟩
theorem l_nk [Inhabited fz_] (h : RU 0 M N) (hd : DN M (fun x => 0 ≤ x ∧ x < N 6 18) (fun i => 0 ≤ i ∧ i < 3 * M 0 7)) (hk : 0 ≤ k ∧ k < M 0 7) : ∀ (j : Nat) (x b : Int), BO M b → x + j = 3 → 0 ≤ x → ∃ v, BO M v ∧ RC 1 m_21 76 [rr 0, ii b, ii k, ii x, none] M 66 [rr 0, ii v, ii (k + 1), none, none] M ∧ RC 1 m_361 75 [rr 6, ii b, ii k, ii x, none] N 63 [rr 6, ii v, ii (k + 1), none, none] N := fun j => by
  have n12 := h.1.1
  have nw := h.2.2.1.2.1
  have hB : sB k = 2 + 56 * k := rfl
  induction j with
  | zero =>
    intro x b hb hx x0
    refine ⟨b, hb, fun V Qr Qt hV hW g => b_21_76 (Tr_mono _) hV hW _ _ _ _ ?_, fun V Qr Qt hV hW g => b_361_75 (Tr_mono _) hV hW _ _ _ _ ?_⟩
    · rw [if_neg (by (clear h hd hk n12 nw hB hb x0 hV hW g; omega)), w32_id (x := k + 1) (by omega) (by omega)]; exact g
    · rw [if_neg (by omega), w32_id (x := k + 1) (by omega) (by omega)]; exact g
  | succ j ih =>
    intro x b hb hx x0
    have tm := ((h.1.2.2.1 k hk.1 hk.2).2.2.2.1 x x0 (by omega)).1
    have dx := hd.2 (3 * k + x) ⟨by (clear h hd n12 nw hB ih hb tm; omega), by (clear h hd nw hB ih hb tm; omega)⟩
    have wx : w32 (x + 1) = x + 1 := w32_id (by (clear h hd hk n12 nw hB ih hb tm dx; omega)) (by (clear h hd hk n12 nw hB ih hb tm dx; omega))
    have w : w32 (w32 (3 * k) + x) = 3 * k + x := by rw [w32_id (x := 3 * k) (by omega) (by omega), w32_id (by (clear h hd n12 nw hB ih hb tm dx; omega)) (by omega)]
    have wq : w32 (w32 (sB k + 22) + x) = sB k + 22 + x := by rw [w32_id (x := sB k + 22) (by (clear h hd n12 nw ih hb hx x0 tm dx wx w; lia)) (by omega), w32_id (by (clear h hd n12 nw ih hb tm dx; lia)) (by (clear h hd nw ih hb tm dx; lia))]
    have bd : 0 ≤ 3 * k + x ∧ 3 * k + x < 36 := by (clear h hd nw ih hb tm dx; lia)
    have bq : 0 ≤ sB k + 22 + x ∧ sB k + 22 + x < 1104 := by (clear h hd hk n12 nw ih hb tm dx; lia)
    rcases tm with ⟨d1, d2, d3⟩ | ⟨d1, d2⟩
    · have d4 : N 239 (sB k + 22 + x) = M 17 (3 * k + x) := by (clear h hd hk n12 nw hB ih hb hx x0 dx wx w wq bd bq d1 d2; lia)
      have hdx : M 0 9 < M 17 (3 * k + x) := by (clear h hd hk n12 hB ih hb hx x0 wx w wq bd bq d2; omega)
      by_cases c2 : b = -1 ∨ M 17 (3 * k + x) < b
      · obtain ⟨v, hv, a1, a2⟩ := ih (x + 1) (M 17 (3 * k + x)) (.inr ⟨hdx, d2.2⟩) (by omega) (by (clear h hd hk n12 nw ih hb dx bd bq d1 d2 d3 d4 hdx c2; lia))
        refine ⟨v, hv, RC_tr (fun V Qr Qt hV hW g => b_21_76 (Tr_mono _) hV hW _ _ _ _ ?_) a1, RC_tr (fun V Qr Qt hV hW g => b_361_75 (Tr_mono _) hV hW _ _ _ _ ?_) a2⟩
        · rw [if_pos (by (clear h hd hk n12 nw ih hb dx bd bq d1 d2 d3 d4 hdx c2 hv a1 a2 hV hW g; lia)), w, wx]
          refine ⟨bd, fun _ => ?_⟩
          rw [if_neg (by omega)]
          by_cases c3 : b = -1
          · rw [if_pos c3]; exact ⟨bd, g⟩
          · rw [if_neg c3, if_pos (by (clear h hd hk n12 nw hB ih hb hx x0 dx wx w wq bd bq d1 d2 d3 hdx hv a1 a2 hV hW g; omega))]; exact ⟨bd, bd, g⟩
        · rw [if_pos (by omega)]
          refine Ex_le (d := 1) (by decide) (q_323 (by (clear h hd nw hB ih hb hx x0 dx wx w wq bd bq d1 d2 d3 d4 hdx c2 hv a1 a2 hV hW g; omega))) _ _ (ri_i ?_)
          rw [wq, wx, if_neg (by (clear h hd hk n12 nw hB ih hb hx x0 dx wx w wq bd bq d1 d3 hdx c2 hv a1 a2 hV hW g; omega))]
          refine ⟨bq, ?_⟩
          rw [d4]
          by_cases c3 : b < 0
          · rw [if_pos c3]; exact g
          · rw [if_neg c3, if_pos (by rcases hb with e | e <;> (clear h hd hk n12 nw hB ih hx x0 dx wx w wq bd bq d1 d2 d3 hdx hv a1 a2 hV hW g; omega))]; exact g
      · obtain ⟨v, hv, a1, a2⟩ := ih (x + 1) b hb (by (clear h hd hk n12 nw hB ih hb x0 dx wx w wq bd bq d1 d2 d3 d4 hdx c2; omega)) (by (clear h hd hk n12 nw ih hb dx bd bq d1 d2 d3 d4 hdx c2; lia))
        refine ⟨v, hv, RC_tr (fun V Qr Qt hV hW g => b_21_76 (Tr_mono _) hV hW _ _ _ _ ?_) a1, RC_tr (fun V Qr Qt hV hW g => b_361_75 (Tr_mono _) hV hW _ _ _ _ ?_) a2⟩
        · rw [if_pos (by (clear h hd hk n12 nw ih hb dx bd bq d1 d2 d3 d4 hdx c2 hv a1 a2 hV hW g; lia)), w, wx]
          refine ⟨bd, fun _ => ?_⟩
          rw [if_neg (by (clear h hd hk n12 nw hB ih hb hx x0 dx wx w wq bd bq d2 d3 d4 hdx c2 hv a1 a2 hV hW g; lia)), if_neg (by (clear h hd hk n12 nw hB ih hb hx x0 dx wx w wq bd bq d1 d2 d3 d4 hdx hv a1 a2 hV hW g; omega)), if_neg (by (clear h hd hk n12 nw hB ih hb hx x0 dx wx w wq bd bq d1 d2 d3 hdx hv a1 a2 hV hW g; omega))]; exact ⟨bd, g⟩
        · rw [if_pos (by omega)]
          refine Ex_le (d := 1) (by decide) (q_323 (by omega)) _ _ (ri_i ?_)
          rw [wq, wx, if_neg (by (clear h hd hk n12 nw hB ih hb hx x0 dx wx w wq bd bq d1 d3 hdx c2 hv a1 a2 hV hW g; omega)), if_neg (by rcases hb with e | e <;> omega), if_neg (by (clear h hd hk n12 nw hB ih hb hx x0 dx wx w wq bd bq d1 d2 d3 hdx hv a1 a2 hV hW g; omega))]
          exact ⟨bq, g⟩
    · obtain ⟨v, hv, a1, a2⟩ := ih (x + 1) b hb (by omega) (by omega)
      refine ⟨v, hv, RC_tr (fun V Qr Qt hV hW g => b_21_76 (Tr_mono _) hV hW _ _ _ _ ?_) a1, RC_tr (fun V Qr Qt hV hW g => b_361_75 (Tr_mono _) hV hW _ _ _ _ ?_) a2⟩
      · rw [if_pos (by omega), w, wx]
        refine ⟨bd, fun _ => ?_⟩
        rw [if_pos d1]; exact g
      · rw [if_pos (by omega)]
        refine Ex_le (d := 1) (by decide) (q_323 (by omega)) _ _ (ri_i ?_)
        rw [wq, wx, if_pos (by (clear h hd hk n12 nw hB ih hb hx x0 dx wx w wq bd bq d1 hv a1 a2 hV hW g; omega))]
        exact ⟨bq, g⟩
theorem l_nl [Inhabited fz_] (h : RU 0 M N) (hd : DN M (fun x => 0 ≤ x ∧ x < N 6 18) (fun i => 0 ≤ i ∧ i < 3 * M 0 7)) : ∀ (j : Nat) (k b : Int), BO M b → k + j = M 0 7 → 0 ≤ k → ∃ v, BO M v ∧ (∀ (V : vv_) (Qr : qr_) (Qt : qt_), Cl_ wd0 (Tr_ wd0 pg0 1) V Qr Qt m_21 → Wk_ V → Qr [.inl v] M → V 66 [rr 0, ii b, ii k, none, none] [] M) ∧ (∀ (V : vv_) (Qr : qr_) (Qt : qt_), Cl_ wd0 (Tr_ wd0 pg0 1) V Qr Qt m_361 → Wk_ V → Qr [.inl v] N → V 63 [rr 6, ii b, ii k, none, none] [] N) := fun j => by
  have n12 := h.1.1
  induction j with
  | zero =>
    intro k b hb hx x0
    refine ⟨b, hb, fun V Qr Qt hV hW g => b_21_66 (Tr_mono _) hV hW _ _ _ ?_, fun V Qr Qt hV hW g => b_361_63 (Tr_mono _) hV hW _ _ _ ⟨by decide, ?_⟩⟩
    · rw [if_neg (by omega)]; exact g
    · rw [if_neg (by omega)]; exact g
  | succ j ih =>
    intro k b hb hx x0
    obtain ⟨b1, hb1, a1, a2⟩ := l_nk h hd (k := k) (by omega) 3 0 b hb (by decide) (by decide)
    obtain ⟨v, hv, c1, c2⟩ := ih (k + 1) b1 hb1 (by omega) (by omega)
    refine ⟨v, hv, fun V Qr Qt hV hW g => b_21_66 (Tr_mono _) hV hW _ _ _ ?_, fun V Qr Qt hV hW g => b_361_63 (Tr_mono _) hV hW _ _ _ ⟨by decide, ?_⟩⟩
    · rw [if_pos (by omega)]; exact a1 V Qr Qt hV hW (c1 V Qr Qt hV hW g)
    · rw [if_pos (by omega)]; exact a2 V Qr Qt hV hW (c2 V Qr Qt hV hW g)
theorem j_21 [Inhabited fz_] (h : RU 0 M N) (hP : PLr M N) (hd : DN M (fun x => 0 ≤ x ∧ x < N 6 18) (fun i => 0 ≤ i ∧ i < 3 * M 0 7)) : ∃ v, BO M v ∧ Ex_ 2 21 [.inr (.inr 0)] M [.inl v] M ∧ Ex_ 2 361 [.inr (.inr 6)] N [.inl v] N := by
  obtain ⟨p1, p2, p3⟩ := PLr_93 hP
  have h18 := h.2.1.1
  have n12 := h.1.1
  obtain ⟨b, hb, a1, a2⟩ := l_nt h p1 hd (N 6 18).toNat 0 (-1) (.inl rfl) (by (clear h hP hd p1 p2 p3 n12; omega)) (by decide)
  obtain ⟨v, hv, c1, c2⟩ := l_nl h hd (M 0 7).toNat 0 b hb (by omega) (by decide)
  exact ⟨v, hv, fun Qr Qt hq => t_21 fun V hV hW => b_21_0 (Tr_mono _) hV hW _ (a1 V Qr Qt hV hW (c1 V Qr Qt hV hW hq)), fun Qr Qt hq => t_361 fun V hV hW => b_361_0 (Tr_mono _) hV hW _ (a2 V Qr Qt hV hW (c2 V Qr Qt hV hW hq))⟩
end NRa
end T389_nr
section T390_go
/-! the run: run (X 0 | Q 325), go (X 33 | Q 362) -/
def XRG (M M' : mm_) : Prop := (∀ r : Nat, r ∉ xuL → M' r = M r) ∧ ∀ i : Int, i ∉ 9 :: 11 :: xfL → M' 0 i = M 0 i
def QRG (N N' : mm_) : Prop := (∀ r : Nat, r ∉ quL → N' r = N r) ∧ ∀ i : Int, i ∉ 128 :: 130 :: qfL → N' 6 i = N 6 i
/-- a run that stands -/
def STp [Inhabited fz_] (M N : mm_) : Prop := RU 0 M N ∧ PLr M N ∧ TYA N ∧ M 0 11 = N 6 130
section GOa
variable {z : Int} {M N M' N' M1 N1 M2 N2 : mm_} {s k r T p w n : Int}
theorem XRG_f [Inhabited fz_] (h : XRF M M') : XRG M M' := ⟨h.1, fun i hi => h.2 i (fun c => hi (List.mem_cons_of_mem _ (List.mem_cons_of_mem _ c)))⟩
theorem QRG_f [Inhabited fz_] (h : QRF N N') : QRG N N' := ⟨h.1, fun i hi => h.2 i (fun c => hi (List.mem_cons_of_mem _ (List.mem_cons_of_mem _ c)))⟩
theorem XRG_rf [Inhabited fz_] : XRG M M := XRG_f XRF_rf
theorem QRG_rf [Inhabited fz_] : QRG N N := QRG_f QRF_rf
theorem XRG_tr [Inhabited fz_] (h : XRG M M1) (g : XRG M1 M') : XRG M M' := ⟨fun r hr => (g.1 r hr).trans (h.1 r hr), fun i hi => (g.2 i hi).trans (h.2 i hi)⟩
theorem QRG_tr [Inhabited fz_] (h : QRG N N1) (g : QRG N1 N') : QRG N N' := ⟨fun r hr => (g.1 r hr).trans (h.1 r hr), fun i hi => (g.2 i hi).trans (h.2 i hi)⟩
theorem XRG_up [Inhabited fz_] {i v : Int} (h : i ∈ 9 :: 11 :: xfL) : XRG M (up_ M 0 i v) := ⟨fun r hr => up_ne (fun e => hr (by rw [e]; decide)), fun j hj => upo (fun e => hj (by rw [e]; exact h))⟩
theorem QRG_up [Inhabited fz_] {i v : Int} (h : i ∈ 128 :: 130 :: qfL) : QRG N (up_ N 6 i v) := ⟨fun r hr => up_ne (fun e => hr (by rw [e]; decide)), fun j hj => upo (fun e => hj (by rw [e]; exact h))⟩
theorem PLr_g [Inhabited fz_] (h : PLr M N) (hx : XRG M M') (hq : QRG N N') : PLr M' N' := by
  have e1 : swc M' = swc M := by
    funext r
    unfold swc
    split
    · rw [hx.1 4 (by decide)]
    · split
      · rename_i c
        exact hx.1 _ (fun e => by simp only [xuL, List.mem_cons, List.not_mem_nil, or_false] at e; omega)
      · rfl
  have e2 : tbN N' = tbN N := by
    funext r
    unfold tbN
    split
    · funext i
      split
      · rename_i hi
        exact hq.2 i (fun e => by simp only [tfL, qfL, List.mem_cons, List.not_mem_nil, or_false] at hi e; (clear h hx hq e1; omega))
      · rfl
    · split
      · exact hq.1 r (fun e => by simp only [quL, List.mem_cons, List.not_mem_nil, or_false] at e; omega)
      · rfl
  unfold PLr; rw [e1, e2]; exact h
theorem TYT_g [Inhabited fz_] (h : QRG N N') : TYT N N' := ⟨fun r hr => h.1 r (fun e => by revert hr e; simp only [quL, List.mem_cons, List.not_mem_nil, or_false]; (clear h; omega)), h.2 18 (by decide), h.2 17 (by decide)⟩
/-- single fields of X and Q -/
theorem RU_fl [Inhabited fz_] {a b v : Int} (h : RU z M N) (ha : a ∉ [7, 8, 9, 10, 25, 26, 27, 28, 29, 30, 31, 32, 33, 34, 35, 36, 37, 38]) : RU z (up_ M 0 a v) N := by
  obtain ⟨h1, h2, h3, h4, h5⟩ := h
  have x : ∀ r : Nat, r ≠ 0 → up_ M 0 a v r = M r := fun r c => up_ne c
  have x0 : ∀ i : Int, i ∈ [7, 8, 9, 10, 25, 26, 27, 28, 29, 30, 31, 32, 33, 34, 35, 36, 37, 38] → up_ M 0 a v 0 i = M 0 i := fun i c => upo (fun e => ha (by rw [← e]; exact c))
  exact ⟨RI_c h1 ⟨x0 7 (by decide), x0 8 (by decide)⟩ (fun r hr => x r (fun c => by rw [c] at hr; revert hr; decide)) rfl rfl (fun r hr => rfl), RRt_c h2 (x 21 (by decide)) (x 22 (by decide)) rfl rfl, RSC_c h3 (fun i hi => x0 i (by revert hi; simp only [List.mem_cons, List.not_mem_nil, or_false]; (clear ha h1 h2 h3 h4 h5 x x0; lia))) (fun i hi => rfl), ROU_c h4 (fun i hi => x0 i (by revert hi; simp only [List.mem_cons, List.not_mem_nil, or_false]; (clear ha h1 h2 h3 h4 h5 x x0; lia))) (x 24 (by decide)) (fun i hi => rfl) rfl, REV_c h5 (fun i hi => x0 i (by revert hi; simp only [List.mem_cons, List.not_mem_nil, or_false]; (clear ha h1 h2 h3 h4 h5 x x0; lia))) (x 23 (by decide)) (fun i hi => rfl) rfl⟩
theorem RU_wx [Inhabited fz_] (h : RU z M N) : RU z (up_ M 0 11 p) N := RU_fl (b := 0) h (by decide)
/-- now -/
theorem RU_nw [Inhabited fz_] (h : RU z M N) (hp : 0 ≤ p ∧ p ≤ 2000000000) : RU z (up_ M 0 9 p) (up_ N 6 128 p) := by
  obtain ⟨h1, h2, h3, h4, h5⟩ := h
  have x : ∀ r : Nat, r ≠ 0 → up_ M 0 9 p r = M r := fun r c => up_ne c
  have q : ∀ r : Nat, r ≠ 6 → up_ N 6 128 p r = N r := fun r c => up_ne c
  have x0 : ∀ i : Int, i ≠ 9 → up_ M 0 9 p 0 i = M 0 i := fun i c => upo c
  have q0 : ∀ i : Int, i ≠ 128 → up_ N 6 128 p 6 i = N 6 i := fun i c => upo c
  refine ⟨RI_c h1 ⟨x0 7 (by decide), x0 8 (by decide)⟩ (fun r hr => x r (fun c => by rw [c] at hr; revert hr; decide)) (q 239 (by decide)) (q0 19 (by decide)) (fun r hr => q r (fun c => by rw [c] at hr; revert hr; decide)), RRt_c h2 (x 21 (by decide)) (x 22 (by decide)) (q 239 (by decide)) (q0 18 (by decide)), ?_, ROU_c h4 (fun i hi => x0 i (fun c => by rw [c] at hi; revert hi; decide)) (x 24 (by decide)) (fun i hi => q0 i (fun c => by rw [c] at hi; revert hi; decide)) (q 241 (by decide)), REV_c h5 (fun i hi => x0 i (fun c => by rw [c] at hi; revert hi; decide)) (x 23 (by decide)) (fun i hi => q0 i (fun c => by rw [c] at hi; revert hi; decide)) (q 240 (by decide))⟩
  unfold RSC at h3 ⊢
  rw [x0 10 (by decide), x0 25 (by decide), x0 26 (by decide), x0 27 (by decide), x0 28 (by decide), x0 29 (by decide), x0 30 (by decide), x0 31 (by decide), x0 37 (by decide), x0 38 (by decide), q0 127 (by decide), q0 129 (by decide), q0 131 (by decide), q0 132 (by decide), q0 133 (by decide), q0 134 (by decide), q0 135 (by decide), q0 136 (by decide), q0 138 (by decide), q0 139 (by decide), up_at, up_at]
  exact ⟨h3.1, ⟨rfl, hp⟩, h3.2.2⟩
/-- a step more is done -/
theorem RU_sd [Inhabited fz_] (h : RU z M N) : RU z (up_ M 0 31 (w32 (M 0 31 + 1))) (up_ N 6 136 (w32 (N 6 136 + 1))) := by
  obtain ⟨h1, h2, h3, h4, h5⟩ := h
  have e31 : M 0 31 = N 6 136 := h3.2.2.2.1.2.2.2.2.2
  rw [e31]
  generalize w32 (N 6 136 + 1) = p
  have x : ∀ r : Nat, r ≠ 0 → up_ M 0 31 p r = M r := fun r c => up_ne c
  have q : ∀ r : Nat, r ≠ 6 → up_ N 6 136 p r = N r := fun r c => up_ne c
  have x0 : ∀ i : Int, i ≠ 31 → up_ M 0 31 p 0 i = M 0 i := fun i c => upo c
  have q0 : ∀ i : Int, i ≠ 136 → up_ N 6 136 p 6 i = N 6 i := fun i c => upo c
  refine ⟨RI_c h1 ⟨x0 7 (by decide), x0 8 (by decide)⟩ (fun r hr => x r (fun c => by rw [c] at hr; revert hr; decide)) (q 239 (by decide)) (q0 19 (by decide)) (fun r hr => q r (fun c => by rw [c] at hr; revert hr; decide)), RRt_c h2 (x 21 (by decide)) (x 22 (by decide)) (q 239 (by decide)) (q0 18 (by decide)), ?_, ROU_c h4 (fun i hi => x0 i (fun c => by rw [c] at hi; revert hi; decide)) (x 24 (by decide)) (fun i hi => q0 i (fun c => by rw [c] at hi; revert hi; decide)) (q 241 (by decide)), REV_c h5 (fun i hi => x0 i (fun c => by rw [c] at hi; revert hi; decide)) (x 23 (by decide)) (fun i hi => q0 i (fun c => by rw [c] at hi; revert hi; decide)) (q 240 (by decide))⟩
  unfold RSC at h3 ⊢
  rw [x0 9 (by decide), x0 10 (by decide), x0 25 (by decide), x0 26 (by decide), x0 27 (by decide), x0 28 (by decide), x0 29 (by decide), x0 30 (by decide), x0 37 (by decide), x0 38 (by decide), q0 127 (by decide), q0 128 (by decide), q0 129 (by decide), q0 131 (by decide), q0 132 (by decide), q0 133 (by decide), q0 134 (by decide), q0 135 (by decide), q0 138 (by decide), q0 139 (by decide), up_at, up_at]
  obtain ⟨a, b, c, ⟨d1, d2, d3, d4, d5, _⟩, e⟩ := h3
  exact ⟨a, b, c, ⟨d1, d2, d3, d4, d5, rfl⟩, e⟩
/-- a step, whatever it is -/
theorem st_w [Inhabited fz_] (h : RU z M N) (hP : PLr M N) (hA : TYA N) (hs : 0 ≤ s ∧ s < M 0 7) (h8 : M 0 8 + 200 ≤ 2000000000) (gx : EGX M M2) (gq : EGQ N N1) (x12 : Ex_ 5 12 [.inr (.inr 0), .inl s] M1 [.inl w] M2) (hf : WFS M N M2 N1 s w) (hw : w ≠ 0) : ∃ M' N', Ex_ 9 22 [.inr (.inr 0), .inl s] M1 [] M' ∧ Ex_ 9 345 [.inr (.inr 6), .inl s, .inl w] N1 [] N' ∧ RU z M' N' ∧ TYA N' ∧ (XRF M M' ∧ QRF N N') ∧ M' 0 8 ≤ M 0 8 + 200 := by
  rcases hf with e | ⟨e, a⟩ | ⟨e, a, b⟩ | ⟨e, a, b⟩ | ⟨e, a, b⟩
  · exact absurd e hw
  · subst e; exact st_1 h hP hA hs h8 gx gq x12
  · subst e; exact st_2 h hP hA hs h8 gx gq x12 b
  · subst e
    obtain ⟨M', N', a1, a2, a3, a4, a5, a6⟩ := st_3 h hP hA hs gx gq x12 b
    exact ⟨M', N', a1, a2, a3, a4, a5, by omega⟩
  · subst e; exact st_4 h hP hA hs h8 gx gq x12 b
theorem STp_run [Inhabited fz_] {x1 : Int} : ∀ (j : Nat) (m : Nat) (x2 : Int) (M N : mm_), STp M N → M 0 8 + 200 * (j : Int) ≤ 2000000000 → x2 + j = x1 → 0 ≤ x2 → x1 ≤ 1000 → M 0 9 + m = 2000000000 → ∃ v M' N', (∀ (V : vv_) (Qr : qr_) (Qt : qt_), Cl_ wd0 (Tr_ wd0 pg0 9) V Qr Qt m_0 → Wk_ V → Qr [.inl v] M' → V 23 [rr 0, ii x1, ii x2, none, none] [] M) ∧ (∀ (V : vv_) (Qr : qr_) (Qt : qt_), Cl_ wd0 (Tr_ wd0 pg0 9) V Qr Qt m_325 → Wk_ V → Qr [.inl v] N' → V 23 [rr 6, ii x1, ii x2, none, none] [] N) ∧ STp M' N' ∧ (XRG M M' ∧ QRG N N') ∧ M' 0 8 ≤ M 0 8 + 200 * (j : Int) := fun j => by
  induction j with
  | zero =>
    intro m x2 M N h h8 hx x0 hk hm
    refine ⟨x2, M, N, fun V Qr Qt hV hW g => b_0_23 (Tr_mono _) hV hW _ _ _ ?_, fun V Qr Qt hV hW g => b_325_23 (Tr_mono _) hV hW _ _ _ ?_, h, ⟨XRG_rf, QRG_rf⟩, by omega⟩
    · rw [if_neg (by omega)]; exact g
    · rw [if_neg (by omega)]; exact g
  | succ j ihj =>
    intro m
    induction m using Nat.strongRecOn with
    | _ m ihm =>
    intro x2 M N h h8 hx x0 hk hm
    obtain ⟨h1, h2, h3, h4⟩ := h
    obtain ⟨Ma, Na, xa, qa, ra, fa, ka, da⟩ := j_due h1 h2
    have Pa := PLr_c h2 fa.1 fa.2
    have Aa := ka.2 h3
    have wa : Ma 0 11 = Na 6 130 := by rw [fa.1.2 11 (by decide), fa.2.2 130 (by decide)]; exact h4
    obtain ⟨v, Mb, Nb, xb, qb, gxb, gqb, rd⟩ := j_11 ra Pa Aa wa
    have rb := RU_eg ra gxb gqb
    have Pb := PLr_c Pa (XRF_eg gxb) (QRF_eg gqb)
    have Ab := TYA_eg Aa gqb
    have wb : Mb 0 11 = Nb 6 130 := by rw [gxb.2 11 (by decide), gqb.2 130 (by decide)]; exact wa
    have e8 : Mb 0 8 = M 0 8 := by rw [gxb.2 8 (by decide), ka.1.2.1]
    have e9 : Mb 0 9 = M 0 9 := by rw [gxb.2 9 (by decide), ka.1.2.2.2]
    have fxb : XRG M Mb := XRG_f (XRF_tr fa.1 (XRF_eg gxb))
    have fqb : QRG N Nb := QRG_f (QRF_tr fa.2 (QRF_eg gqb))
    rcases rd with ev | rd
    · subst ev
      have db : DN Mb (fun x => 0 ≤ x ∧ x < Nb 6 18) (fun i => 0 ≤ i ∧ i < 3 * Mb 0 7) := by
        unfold DN at da ⊢
        rw [gxb.1 21 (by decide) (by decide), gxb.1 22 (by decide) (by decide), gxb.1 16 (by decide) (by decide), gxb.1 17 (by decide) (by decide), gxb.2 9 (by decide), gxb.2 7 (by decide), gqb.2 18 (by decide), fa.2.2 18 (by decide), ka.1.1]
        exact da
      obtain ⟨t, bt, xt, qt⟩ := j_21 rb Pb db
      by_cases ct : t = -1
      · refine ⟨x2, Mb, Nb, fun V Qr Qt hV hW g => b_0_23 (Tr_mono _) hV hW _ _ _ ?_, fun V Qr Qt hV hW g => b_325_23 (Tr_mono _) hV hW _ _ _ ?_, ⟨rb, Pb, Ab, wb⟩, ⟨fxb, fqb⟩, by (clear ihj ihm h8 x0 hk hm h1 h2 h3 h4 xa qa ra fa ka da Pa Aa wa gxb gqb rb Pb Ab wb e9 fxb fqb xb qb db bt xt qt ct; lia)⟩
        · rw [if_pos (by omega)]
          refine Ex_le (d := 6) (by decide) xa _ _ (rv_i (Ex_le (d := 6) (by decide) xb _ _ (ri_i ?_)))
          rw [if_pos rfl]
          refine Ex_le (d := 2) (by decide) xt _ _ (ri_i ?_)
          rw [if_pos ct]; exact g
        · rw [if_pos (by omega)]
          refine Ex_le (d := 5) (by decide) qa _ _ (rv_i (Ex_le (d := 7) (by decide) qb _ _ (ri_i ?_)))
          rw [if_pos (by decide)]
          refine Ex_le (d := 2) (by decide) qt _ _ (ri_i ?_)
          rw [if_pos (by omega)]; exact g
      · have bt2 := bt.resolve_left ct
        have n0 := rb.2.2.1.2.1
        have rc := RU_nw (p := t) rb (by (clear ihj ihm h8 hx x0 hk h1 h2 h3 h4 xa qa ra fa ka da Pa Aa wa gxb gqb rb Pb Ab wb e8 fxb fqb xb qb db bt xt qt ct; lia))
        obtain ⟨v, M', N', a1, a2, a3, a4, a5⟩ := ihm (2000000000 - t).toNat (by (clear ihj ihm h8 hx x0 hk h1 h2 h3 h4 xa qa ra fa ka da Pa Aa wa gxb gqb rb Pb Ab wb e8 fxb fqb xb qb db bt xt qt ct rc; omega)) x2 (up_ Mb 0 9 t) (up_ Nb 6 128 t) ⟨rc, PLr_g Pb (XRG_up (by decide)) (QRG_up (by decide)), TYA_c Ab (TYT_g (QRG_up (by decide))) (up_ne (by decide)), by rw [upo (by decide), upo (by decide)]; exact wb⟩ (by rw [upo (by decide)]; (clear ihj ihm x0 hk hm h1 h2 h3 h4 xa qa ra fa ka da Pa Aa wa gxb gqb rb Pb Ab wb e9 fxb fqb xb qb db bt xt qt ct bt2 n0 rc; lia)) hx x0 hk (by rw [up_at]; (clear ihj ihm h8 hx x0 hk hm h1 h2 h3 h4 xa qa ra fa ka da Pa Aa wa gxb gqb rb Pb Ab wb e8 e9 fxb fqb xb qb db bt xt qt ct n0 rc; omega))
        refine ⟨v, M', N', fun V Qr Qt hV hW g => b_0_23 (Tr_mono _) hV hW _ _ _ ?_, fun V Qr Qt hV hW g => b_325_23 (Tr_mono _) hV hW _ _ _ ?_, a3, ⟨XRG_tr fxb (XRG_tr (XRG_up (by decide)) a4.1), QRG_tr fqb (QRG_tr (QRG_up (by decide)) a4.2)⟩, by rw [upo (by decide)] at a5; (clear ihj ihm h8 x0 hk hm h1 h2 h3 h4 xa qa ra fa ka da Pa Aa wa gxb gqb rb Pb Ab wb e9 fxb fqb xb qb db bt xt qt ct bt2 n0 rc a1 a2 a3 a4; omega)⟩
        · rw [if_pos (by (clear ihj ihm h8 x0 hk hm h1 h2 h3 h4 xa qa ra fa ka da Pa Aa wa gxb gqb rb Pb Ab wb e8 e9 fxb fqb xb qb db bt xt qt ct bt2 n0 rc a1 a2 a3 a4 a5 hV hW g; omega))]
          refine Ex_le (d := 6) (by decide) xa _ _ (rv_i (Ex_le (d := 6) (by decide) xb _ _ (ri_i ?_)))
          rw [if_pos rfl]
          refine Ex_le (d := 2) (by decide) xt _ _ (ri_i ?_)
          rw [if_neg ct]; exact a1 V Qr Qt hV hW g
        · rw [if_pos (by omega)]
          refine Ex_le (d := 5) (by decide) qa _ _ (rv_i (Ex_le (d := 7) (by decide) qb _ _ (ri_i ?_)))
          rw [if_pos (by decide)]
          refine Ex_le (d := 2) (by decide) qt _ _ (ri_i ?_)
          rw [if_neg (by (clear ihj ihm h8 hx x0 hk h1 h2 h3 h4 xa qa ra fa ka da Pa Aa wa gxb gqb rb Pb Ab wb e8 fxb fqb xb qb db bt xt qt ct rc a1 a2 a3 a4 a5 hV hW g; lia))]; exact a2 V Qr Qt hV hW g
    · obtain ⟨hv, w, N0, N2, hw, g0, q0⟩ := rd
      have n12 := ra.1.1
      have hB : sB v = 2 + 56 * v := rfl
      have hv2 : 0 ≤ v ∧ v < Mb 0 7 := by rw [gxb.2 7 (by decide)]; exact hv
      have ep : Mb 10 v = Nb 239 (sB v) := (rb.1.2.2.1 v hv2.1 hv2.2).1.1
      generalize hp : Mb 10 v = p at ep
      have rc := RU_wn (p := p) rb
      have Pc := PLr_g Pb (XRG_up (M := Mb) (i := 11) (v := p) (by decide)) (QRG_up (N := Nb) (i := 130) (v := p) (by decide))
      have Ac := TYA_c Ab (TYT_g (QRG_up (N := Nb) (i := 130) (v := p) (by decide))) (up_ne (by decide))
      have hv3 : 0 ≤ v ∧ v < up_ Mb 0 11 p 0 7 := by rw [upo (by decide)]; exact hv2
      obtain ⟨w2, Md, Nd, xd, qd, gxd, gqd, fd⟩ := j_12 (s := v) rc Pc Ac hv3
      have ew : w = w2 := w_eq (M := up_ Mb 0 11 p) (RU_wx (RU_eg ra gxb g0)) (PLr_g (PLr_c Pa (XRF_eg gxb) (QRF_eg g0)) (XRG_up (by decide)) QRG_rf) (TYA_eg Aa g0) hv3 rc Pc Ac q0 qd
      subst ew
      obtain ⟨Me, Ne, xe, qe, re, Ae, fe, e8e⟩ := st_w rc Pc Ac hv3 (by rw [upo (by decide)]; (clear ihj ihm x0 hk hm h1 h2 h3 h4 xa qa ra fa ka da Pa Aa wa xb qb gxb gqb rb Pb Ab wb e9 fxb fqb hv hw g0 q0 n12 hB hv2 hp ep rc Pc Ac hv3 gxd gqd xd qd fd; lia)) gxd gqd xd fd hw
      rw [upo (by decide)] at e8e
      have rf := RU_sd re
      have n9 := re.2.2.1.2.1
      have we : Me 0 11 = Ne 6 130 := by rw [fe.1.2 11 (by decide), fe.2.2 130 (by decide), up_at, up_at]
      have gx1 : XRG Mb (up_ Me 0 31 (w32 (Me 0 31 + 1))) := XRG_tr (XRG_up (by decide)) (XRG_tr (XRG_f fe.1) (XRG_up (by decide)))
      have gq1 : QRG Nb (up_ Ne 6 136 (w32 (Ne 6 136 + 1))) := QRG_tr (QRG_up (by decide)) (QRG_tr (QRG_f fe.2) (QRG_up (by decide)))
      obtain ⟨v', M', N', a1, a2, a3, a4, a5⟩ := ihj (2000000000 - Me 0 9).toNat (x2 + 1) (up_ Me 0 31 (w32 (Me 0 31 + 1))) (up_ Ne 6 136 (w32 (Ne 6 136 + 1))) ⟨rf, PLr_g Pb gx1 gq1, TYA_c Ae (TYT_g (QRG_up (by decide))) (up_ne (by decide)), by rw [upo (by decide), upo (by decide)]; exact we⟩ (by rw [upo (by decide)]; (clear ihj ihm x0 hk hm h1 h2 h3 h4 xa qa ra fa ka da Pa Aa wa xb qb gxb gqb rb Pb Ab wb e9 fxb fqb hv hw g0 q0 n12 hB hv2 hp ep rc Pc Ac hv3 gxd gqd xd qd fd xe qe re Ae fe rf n9 we gx1 gq1; lia)) (by (clear ihj ihm h8 x0 hk hm h1 h2 h3 h4 xa qa ra fa ka da Pa Aa wa xb qb gxb gqb rb Pb Ab wb e8 e9 fxb fqb hv hw g0 q0 n12 hB hv2 hp ep rc Pc Ac hv3 gxd gqd xd qd fd xe qe re Ae fe e8e rf n9 we gx1 gq1; lia)) (by (clear ihj ihm h8 hx hk hm h1 h2 h3 h4 xa qa ra fa ka da Pa Aa wa xb qb gxb gqb rb Pb Ab wb e8 e9 fxb fqb hv hw g0 q0 n12 hB hv2 hp ep rc Pc Ac hv3 gxd gqd xd qd fd xe qe re Ae fe e8e rf n9 we gx1 gq1; lia)) hk (by rw [upo (by decide)]; (clear ihj ihm h8 hx x0 hk hm h1 h2 h3 h4 xa qa ra fa ka da Pa Aa wa xb qb gxb gqb rb Pb Ab wb e8 e9 fxb fqb hv hw g0 q0 n12 hB hv2 hp ep rc Pc Ac hv3 gxd gqd xd qd fd xe qe re Ae fe e8e rf we gx1 gq1; lia))
      refine ⟨v', M', N', fun V Qr Qt hV hW g => b_0_23 (Tr_mono _) hV hW _ _ _ ?_, fun V Qr Qt hV hW g => b_325_23 (Tr_mono _) hV hW _ _ _ ?_, a3, ⟨XRG_tr fxb (XRG_tr gx1 a4.1), QRG_tr fqb (QRG_tr gq1 a4.2)⟩, by rw [upo (by decide)] at a5; (clear ihj ihm h8 x0 hk hm h1 h2 h3 h4 xa qa ra fa ka da Pa Aa wa xb qb gxb gqb rb Pb Ab wb e9 fxb fqb hv hw g0 q0 n12 hB hv2 hp ep rc Pc Ac hv3 gxd gqd xd qd fd xe qe re Ae fe rf n9 we gx1 gq1 a1 a2 a3 a4; omega)⟩
      · rw [if_pos (by (clear ihj ihm h8 x0 hk hm h1 h2 h3 h4 xa qa ra fa ka da Pa Aa wa xb qb gxb gqb rb Pb Ab wb e8 e9 fxb fqb hv hw g0 q0 n12 hB hv2 hp ep rc Pc Ac hv3 gxd gqd xd qd fd xe qe re Ae fe e8e rf n9 we gx1 gq1 a1 a2 a3 a4 a5 hV hW g; omega))]
        refine Ex_le (d := 6) (by decide) xa _ _ (rv_i (Ex_le (d := 6) (by decide) xb _ _ (ri_i ?_)))
        rw [if_neg (by (clear ihj ihm h8 hx x0 hk hm h1 h2 h3 h4 xa qa ra fa ka da Pa Aa wa xb qb gxb gqb rb Pb Ab wb e8 e9 fxb fqb hw g0 q0 n12 hB hv2 hp ep rc Pc Ac hv3 gxd gqd xd qd fd xe qe re Ae fe e8e rf n9 we gx1 gq1 a1 a2 a3 a4 a5 hV hW g; omega)), hp]
        refine ⟨by (clear ihj ihm h8 hx x0 hk hm h1 h2 h3 h4 xa qa ra fa ka da Pa Aa wa xb qb gxb gqb rb Pb Ab wb e8 e9 fxb fqb hw g0 q0 hB hv2 hp ep rc Pc Ac hv3 gxd gqd xd qd fd xe qe re Ae fe e8e rf n9 we gx1 gq1 a1 a2 a3 a4 a5 hV hW g; lia), xe _ _ (rv_i ?_)⟩
        rw [w32_id (x := x2 + 1) (by (clear ihj ihm h8 hx hk hm h1 h2 h3 h4 xa qa ra fa ka da Pa Aa wa xb qb gxb gqb rb Pb Ab wb e8 e9 fxb fqb hv hw g0 q0 n12 hB hv2 hp ep rc Pc Ac hv3 gxd gqd xd qd fd xe qe re Ae fe e8e rf n9 we gx1 gq1 a1 a2 a3 a4 a5 hV hW g; omega)) (by (clear ihj ihm h8 x0 hm h1 h2 h3 h4 xa qa ra fa ka da Pa Aa wa xb qb gxb gqb rb Pb Ab wb e8 e9 fxb fqb hv hw g0 q0 n12 hB hv2 hp ep rc Pc Ac hv3 gxd gqd xd qd fd xe qe re Ae fe e8e rf n9 we gx1 gq1 a1 a2 a3 a4 a5 hV hW g; omega))]; exact a1 V Qr Qt hV hW g
      · rw [if_pos (by omega)]
        refine Ex_le (d := 5) (by decide) qa _ _ (rv_i (Ex_le (d := 7) (by decide) qb _ _ (ri_i ?_)))
        rw [if_neg (by (clear ihj ihm h8 hx x0 hk hm h1 h2 h3 h4 xa qa ra fa ka da Pa Aa wa xb qb gxb gqb rb Pb Ab wb e8 e9 fxb fqb hw g0 q0 n12 hB hv2 hp ep rc Pc Ac hv3 gxd gqd xd qd fd xe qe re Ae fe e8e rf n9 we gx1 gq1 a1 a2 a3 a4 a5 hV hW g; omega))]
        refine Ex_le (d := 1) (by decide) (q_323 (by (clear ihj ihm h8 hx x0 hk hm h1 h2 h3 h4 xa qa ra fa ka da Pa Aa wa xb qb gxb gqb rb Pb Ab wb e8 e9 fxb fqb hw g0 q0 hB hv2 hp ep rc Pc Ac hv3 gxd gqd xd qd fd xe qe re Ae fe e8e rf n9 we gx1 gq1 a1 a2 a3 a4 a5 hV hW g; omega))) _ _ (ri_i ⟨by (clear ihj ihm h8 hx x0 hk hm h1 h2 h3 h4 xa qa ra fa ka da Pa Aa wa xb qb gxb gqb rb Pb Ab wb e8 e9 fxb fqb hw g0 q0 hv2 hp ep rc Pc Ac hv3 gxd gqd xd qd fd xe qe re Ae fe e8e rf n9 we gx1 gq1 a1 a2 a3 a4 a5 hV hW g; omega), ?_⟩)
        rw [← ep]
        refine Ex_le (d := 6) (by decide) qd _ _ (ri_i (qe _ _ (rv_i ?_)))
        rw [w32_id (x := x2 + 1) (by omega) (by omega)]; exact a2 V Qr Qt hV hW g
end GOa
end T390_go
section T391_op
/-! the run: run, go, wait, none, put as called -/
/-- both answer alike, and the run stands -/
def JN [Inhabited fz_] (dx nx : Nat) (ax : List pv_) (dq nq : Nat) (aq : List pv_) (M N : mm_) (b : Int) : Prop := ∃ v M' N', Ex_ dx nx ax M [.inl v] M' ∧ Ex_ dq nq aq N [.inl v] N' ∧ STp M' N' ∧ (XRG M M' ∧ QRG N N') ∧ M' 0 8 ≤ M 0 8 + b
def RNS [Inhabited fz_] (M N : mm_) : Prop := STp M N ∧ M 0 4 = 1 ∧ N 6 126 = 1
section OPa
variable {z : Int} {M N M' N' M1 N1 M2 N2 : mm_} {s k r T p w n x1 x2 x3 x4 x5 sg to_ tq any i : Int}
theorem JN_0 [Inhabited fz_] {dx nx dq nq : Nat} {ax aq : List pv_} {v b : Int} (h : STp M N) (hb : 0 ≤ b) (hx : Ex_ dx nx ax M [.inl v] M) (hq : Ex_ dq nq aq N [.inl v] N) : JN dx nx ax dq nq aq M N b := ⟨v, M, N, hx, hq, h, ⟨XRG_rf, QRG_rf⟩, by omega⟩
theorem j_0 [Inhabited fz_] (h : RNS M N) (h8 : M 0 8 + 200000 ≤ 2000000000) : JN 10 0 [.inr (.inr 0), .inl x1] 10 325 [.inr (.inr 6), .inl x1] M N 200000 := by
  obtain ⟨h, r1, r2⟩ := h
  by_cases c1 : x1 < 1
  · refine JN_0 (v := -1) h (by decide) (fun Qr Qt g => t_0 fun V hV hW => b_0_0 (Tr_mono _) hV hW _ _ fun _ => ?_) (fun Qr Qt g => t_325 fun V hV hW => b_325_0 (Tr_mono _) hV hW _ _ fun _ => ?_)
    · rw [if_neg (by omega), if_pos c1]; exact g
    · rw [if_neg (by (clear h8 h r1 c1 g hV hW; lia)), if_pos c1]; exact g
  · by_cases c2 : x1 ≤ 1000
    · have n9 := h.1.2.2.1.2.1
      obtain ⟨v, M', N', a1, a2, a3, a4, a5⟩ := STp_run (x1 := x1) x1.toNat (2000000000 - M 0 9).toNat 0 M N h (by (clear h r1 r2 n9; omega)) (by omega) (by decide) c2 (by omega)
      refine ⟨v, M', N', fun Qr Qt g => t_0 fun V hV hW => b_0_0 (Tr_mono _) hV hW _ _ fun _ => ?_, fun Qr Qt g => t_325 fun V hV hW => b_325_0 (Tr_mono _) hV hW _ _ fun _ => ?_, a3, a4, by (clear h8 h r1 r2 n9 a1 a2 a3 a4; lia)⟩
      · rw [if_neg (by omega), if_neg c1, if_pos c2]; exact a1 V Qr Qt hV hW g
      · rw [if_neg (by omega), if_neg c1, if_pos c2]; exact a2 V Qr Qt hV hW g
    · refine JN_0 (v := -1) h (by decide) (fun Qr Qt g => t_0 fun V hV hW => b_0_0 (Tr_mono _) hV hW _ _ fun _ => ?_) (fun Qr Qt g => t_325 fun V hV hW => b_325_0 (Tr_mono _) hV hW _ _ fun _ => ?_)
      · rw [if_neg (by omega), if_neg c1, if_neg c2]; exact g
      · rw [if_neg (by omega), if_neg c1, if_neg c2]; exact g
/-- whose pid it is -/
theorem j_sl [Inhabited fz_] (h : RU z M N) (p : Int) : ∃ v, (v = -1 ∨ ((0 ≤ v ∧ v < M 0 7) ∧ M 10 v = p ∧ 1 ≤ p)) ∧ Ex_ 1 6 [.inr (.inr 0), .inl p] M [.inl v] M ∧ Ex_ 2 331 [.inr (.inr 6), .inl p] N [.inl v] N := by
  have n12 := h.1.1
  have e7 : M 0 7 = ((M 0 7).toNat : Int) := by (clear h; lia)
  refine ⟨fi_ (M 10) p (M 0 7).toNat 0, ?_, x_6 e7 (by omega), ?_⟩
  · rcases fi_rg (g := M 10) (v := p) (n := (M 0 7).toNat) with e | ⟨e1, e2, e3⟩
    · exact .inl e
    · exact .inr ⟨⟨e1, by (clear h e1 e3; omega)⟩, e3, by have := (h.1.2.2.1 _ e1 (by omega)).2.1.1.1; omega⟩
  · have e : fi_ (M 10) p (M 0 7).toNat 0 = fi_ (fun i => N 239 (sB i)) p (M 0 7).toNat 0 := fi_cg _ _ (fun i i0 i1 => by rw [(h.1.2.2.1 i i0 (by omega)).1.1])
    rw [e]
    exact q_331 (by omega) (by omega)
theorem tbN_130 [Inhabited fz_] : tbN (up_ N 6 130 p) = tbN N := by
  funext r
  unfold tbN
  split
  · funext i
    split
    · rename_i hi
      exact upo (fun e => by rw [e] at hi; revert hi; decide)
    · rfl
  · rename_i c
    split
    · exact up_ne c
    · rfl
theorem WFS_w [Inhabited fz_] (h : WFS M N M' N' s w) : WFS M (up_ N 6 130 p) M' (up_ N' 6 130 p) s w := by
  have q : ∀ r : Nat, r ≠ 6 → up_ N 6 130 p r = N r := fun r c => up_ne c
  have e62 : up_ N 6 130 p 6 62 = N 6 62 := upo (by decide)
  unfold WFS WF2 WF3 WF4 ROWk at h ⊢
  rw [tbN_130, e62, q 193 (by decide), q 192 (by decide), q 198 (by decide), q 200 (by decide), upo (i := 130) (j := 151) (by decide), upo (i := 130) (j := 152) (by decide), upo (i := 130) (j := 153) (by decide)]
  exact h
theorem j_33 [Inhabited fz_] (h : RNS M N) (h8 : M 0 8 + 200 ≤ 2000000000) : JN 10 33 [.inr (.inr 0), .inl x1] 10 362 [.inr (.inr 6), .inl x1] M N 200 := by
  obtain ⟨⟨h1, h2, h3, h4⟩, r1, r2⟩ := h
  obtain ⟨Ma, Na, xa, qa, ra, fa, ka, da⟩ := j_due h1 h2
  have Pa := PLr_c h2 fa.1 fa.2
  have Aa := ka.2 h3
  have wa : Ma 0 11 = Na 6 130 := by rw [fa.1.2 11 (by decide), fa.2.2 130 (by decide)]; exact h4
  have e8 : Ma 0 8 = M 0 8 := ka.1.2.1
  have fxa : XRG M Ma := XRG_f fa.1
  have fqa : QRG N Na := QRG_f fa.2
  obtain ⟨v, hv, xs, qs⟩ := j_sl ra x1
  by_cases cv : v = -1
  · refine ⟨0, Ma, Na, fun Qr Qt g => t_33 fun V hV hW => b_33_0 (Tr_mono _) hV hW _ _ fun _ => ?_, fun Qr Qt g => t_362 fun V hV hW => b_362_0 (Tr_mono _) hV hW _ _ fun _ => ?_, ⟨ra, Pa, Aa, wa⟩, ⟨fxa, fqa⟩, by (clear h8 h1 h2 h3 h4 r1 r2 xa qa ra fa ka da Pa Aa wa fxa fqa hv xs qs cv; omega)⟩
    · rw [if_neg (by omega)]
      refine Ex_le (d := 6) (by decide) xa _ _ (rv_i (Ex_le (d := 1) (by decide) xs _ _ (ri_i ?_)))
      rw [if_pos cv]; exact g
    · rw [if_neg (by omega)]
      refine Ex_le (d := 5) (by decide) qa _ _ (rv_i (Ex_le (d := 2) (by decide) qs _ _ (ri_i ?_)))
      by_cases c1 : x1 < 1
      · rw [if_pos c1]; exact g
      · rw [if_neg c1, if_pos (by omega)]; exact g
  · obtain ⟨hv, hp, h1p⟩ := hv.resolve_left cv
    obtain ⟨w, Mb, Nb, xb, qb, gxb, gqb, fb⟩ := j_12 (s := v) ra Pa Aa hv
    by_cases cw : w = 0
    · subst cw
      refine ⟨0, Mb, Nb, fun Qr Qt g => t_33 fun V hV hW => b_33_0 (Tr_mono _) hV hW _ _ fun _ => ?_, fun Qr Qt g => t_362 fun V hV hW => b_362_0 (Tr_mono _) hV hW _ _ fun _ => ?_, ⟨RU_eg ra gxb gqb, PLr_c Pa (XRF_eg gxb) (QRF_eg gqb), TYA_eg Aa gqb, by rw [gxb.2 11 (by decide), gqb.2 130 (by decide)]; exact wa⟩, ⟨XRG_tr fxa (XRG_f (XRF_eg gxb)), QRG_tr fqa (QRG_f (QRF_eg gqb))⟩, by rw [gxb.2 8 (by decide)]; omega⟩
      · rw [if_neg (by omega)]
        refine Ex_le (d := 6) (by decide) xa _ _ (rv_i (Ex_le (d := 1) (by decide) xs _ _ (ri_i ?_)))
        rw [if_neg cv]
        refine Ex_le (d := 5) (by decide) xb _ _ (ri_i ?_)
        rw [if_pos rfl]; exact g
      · rw [if_neg (by omega)]
        refine Ex_le (d := 5) (by decide) qa _ _ (rv_i (Ex_le (d := 2) (by decide) qs _ _ (ri_i ?_)))
        rw [if_neg (by (clear h8 h1 h2 h3 h4 r1 r2 xa qa ra fa ka da Pa Aa wa e8 fxa fqa xs qs cv hv hp gxb gqb xb qb fb g hV hW; omega)), if_neg (by omega)]
        refine Ex_le (d := 6) (by decide) qb _ _ (ri_i ?_)
        rw [if_pos rfl]; exact g
    · have rb2 : RU 0 (up_ Mb 0 11 x1) Na := RU_wx (RU_eg ra gxb EGQ_rf)
      have Pb2 : PLr (up_ Mb 0 11 x1) Na := PLr_g (PLr_c Pa (XRF_eg gxb) QRF_rf) (XRG_up (by decide)) QRG_rf
      have hv2 : 0 ≤ v ∧ v < up_ Mb 0 11 x1 0 7 := by rw [upo (by decide), gxb.2 7 (by decide)]; exact hv
      obtain ⟨w', Mc, Nc, xc, qc, gxc, gqc, fc⟩ := j_12 (s := v) rb2 Pb2 Aa hv2
      obtain ⟨e1, e2⟩ := DET (by decide) qb qc
      have ew : w = w' := by injection e1 with e1 _; injection e1
      subst ew; subst e2
      have rc := RU_wn (p := x1) (RU_eg ra gxb (EGQ_rf (N := Na)))
      have Pc : PLr (up_ Mb 0 11 x1) (up_ Na 6 130 x1) := PLr_g Pb2 XRG_rf (QRG_up (by decide))
      have Ac := TYA_c Aa (TYT_g (QRG_up (N := Na) (i := 130) (v := x1) (by decide))) (up_ne (by decide))
      have gq2 : EGQ (up_ Na 6 130 x1) (up_ Nb 6 130 x1) := ⟨fun r a b => by rw [up_ne a, up_ne a]; exact gqb.1 r a b, fun i hi => by
        by_cases c : i = 130
        · rw [c, up_at, up_at]
        · rw [upo c, upo c]; exact gqb.2 i hi⟩
      obtain ⟨Me, Ne, xe, qe, re, Ae, fe, e8e⟩ := st_w rc Pc Ac hv2 (by rw [upo (by decide), gxb.2 8 (by decide)]; omega) gxc gq2 xc (WFS_w fc) cw
      rw [upo (by decide), gxb.2 8 (by decide)] at e8e
      have rf := RU_sd re
      have we : Me 0 11 = Ne 6 130 := by rw [fe.1.2 11 (by decide), fe.2.2 130 (by decide), up_at, up_at]
      have gx1 : XRG Ma (up_ Me 0 31 (w32 (Me 0 31 + 1))) := XRG_tr (XRG_f (XRF_eg gxb)) (XRG_tr (XRG_up (by decide)) (XRG_tr (XRG_f fe.1) (XRG_up (by decide))))
      have gq1 : QRG Na (up_ Ne 6 136 (w32 (Ne 6 136 + 1))) := QRG_tr (QRG_up (by decide)) (QRG_tr (QRG_f fe.2) (QRG_up (by decide)))
      refine ⟨1, up_ Me 0 31 (w32 (Me 0 31 + 1)), up_ Ne 6 136 (w32 (Ne 6 136 + 1)), fun Qr Qt g => t_33 fun V hV hW => b_33_0 (Tr_mono _) hV hW _ _ fun _ => ?_, fun Qr Qt g => t_362 fun V hV hW => b_362_0 (Tr_mono _) hV hW _ _ fun _ => ?_, ⟨rf, PLr_g Pa gx1 gq1, TYA_c Ae (TYT_g (QRG_up (by decide))) (up_ne (by decide)), by rw [upo (by decide), upo (by decide)]; exact we⟩, ⟨XRG_tr fxa gx1, QRG_tr fqa gq1⟩, by rw [upo (by decide)]; (clear h8 h1 h2 h3 h4 r1 r2 xa qa ra fa ka da Pa Aa wa fxa fqa xs qs cv hv hp h1p xb qb gxb gqb fb cw rb2 Pb2 hv2 gxc xc e1 gqc qc fc rc Pc Ac gq2 xe qe re Ae fe rf we gx1 gq1; omega)⟩
      · rw [if_neg (by omega)]
        refine Ex_le (d := 6) (by decide) xa _ _ (rv_i (Ex_le (d := 1) (by decide) xs _ _ (ri_i ?_)))
        rw [if_neg cv]
        refine Ex_le (d := 5) (by decide) xb _ _ (ri_i ?_)
        rw [if_neg cw]
        exact xe _ _ (rv_i g)
      · rw [if_neg (by omega)]
        refine Ex_le (d := 5) (by decide) qa _ _ (rv_i (Ex_le (d := 2) (by decide) qs _ _ (ri_i ?_)))
        rw [if_neg (by (clear h8 h1 h2 h3 h4 r1 r2 xa qa ra fa ka da Pa Aa wa e8 fxa fqa xs qs cv hv hp xb qb gxb gqb fb cw rb2 Pb2 hv2 gxc xc e1 gqc qc fc rc Pc Ac gq2 xe qe re Ae fe e8e rf we gx1 gq1 g hV hW; omega)), if_neg (by omega)]
        refine Ex_le (d := 6) (by decide) qb _ _ (ri_i ?_)
        rw [if_neg cw]
        exact qe _ _ (rv_i g)
theorem j_58 [Inhabited fz_] (h : RNS M N) : JN 1 58 [.inr (.inr 0), .inl x1] 1 366 [.inr (.inr 6), .inl x1] M N 0 := by
  obtain ⟨⟨h1, h2, h3, h4⟩, r1, r2⟩ := h
  have n9 := h1.2.2.1.2.1
  by_cases c1 : x1 < 0
  · refine JN_0 (v := -1) ⟨h1, h2, h3, h4⟩ (by decide) (fun Qr Qt g => t_58 fun V hV hW => b_58_0 (Tr_mono _) hV hW _ _ fun _ => ?_) (fun Qr Qt g => t_366 fun V hV hW => b_366_0 (Tr_mono _) hV hW _ _ fun _ => ?_)
    · rw [if_neg (by omega), if_pos c1]; exact g
    · rw [if_neg (by omega), if_pos c1]; exact g
  · by_cases c2 : x1 ≤ 1000000
    · have w1 : w32 (M 0 9 + x1) = M 0 9 + x1 := w32_id (by omega) (by omega)
      have w2 : w32 (N 6 128 + x1) = M 0 9 + x1 := by rw [← n9.1]; exact w1
      have w3 : w32 (2000000000 - x1) = 2000000000 - x1 := w32_id (by omega) (by omega)
      generalize ht : (if M 0 9 + x1 < 2000000000 then M 0 9 + x1 else 2000000000) = t
      have ht0 : 0 ≤ t ∧ t ≤ 2000000000 := by rw [← ht]; split <;> omega
      refine ⟨t, up_ M 0 9 t, up_ N 6 128 t, fun Qr Qt g => t_58 fun V hV hW => b_58_0 (Tr_mono _) hV hW _ _ fun _ => ?_, fun Qr Qt g => t_366 fun V hV hW => b_366_0 (Tr_mono _) hV hW _ _ fun _ => ?_, ⟨RU_nw h1 ht0, PLr_g h2 (XRG_up (by decide)) (QRG_up (by decide)), TYA_c h3 (TYT_g (QRG_up (by decide))) (up_ne (by decide)), by rw [upo (by decide), upo (by decide)]; exact h4⟩, ⟨XRG_up (by decide), QRG_up (by decide)⟩, by rw [upo (by decide)]; omega⟩
      · rw [if_neg (by omega), if_neg c1, if_pos c2, w1, ht]; exact g
      · rw [if_neg (by omega), if_neg c1, if_pos c2, w3, w2]
        by_cases c : N 6 128 ≤ 2000000000 - x1
        · rw [if_pos c, show M 0 9 + x1 = t by rw [← ht]; split <;> omega]; exact g
        · rw [if_neg c, show (2000000000 : Int) = t by rw [← ht]; split <;> omega]; exact g
    · refine JN_0 (v := -1) ⟨h1, h2, h3, h4⟩ (by decide) (fun Qr Qt g => t_58 fun V hV hW => b_58_0 (Tr_mono _) hV hW _ _ fun _ => ?_) (fun Qr Qt g => t_366 fun V hV hW => b_366_0 (Tr_mono _) hV hW _ _ fun _ => ?_)
      · rw [if_neg (by omega), if_neg c1, if_neg c2]; exact g
      · rw [if_neg (by omega), if_neg c1, if_neg c2]; exact g
end OPa
end T391_op
section T392_no
/-! the run: none (X 34-36 | Q 363-365) -/
section NOa
variable {z : Int} {M N M' N' M1 N1 M2 N2 : mm_} {s k r T p w n x1 x2 x3 x4 x5 y : Int}
/-- X: rows that are no NONE -/
theorem sk_n [Inhabited fz_] (hs : 0 ≤ s ∧ s < 12) (hn : M 12 s ≠ -1) (h4 : M 4 4 ≤ 600) {l : Int} : ∀ (d : Nat) (y : Int), 0 ≤ y → y + d ≤ M 4 4 → (∀ x, y ≤ x → x < y + d → M 100 x ≠ 3) → RC 0 m_35 5 [rr 0, ii s, ii x2, ii l, ii y] M 5 [rr 0, ii s, ii x2, ii l, ii (y + d)] M := fun d => by
  induction d with
  | zero => intro y _ _ _; rw [show y + ((0 : Nat) : Int) = y from Int.add_zero y]; exact RC_rf
  | succ d ih =>
    intro y y0 y1 h
    have n := ih (y + 1) (by omega) (by omega) (fun x x0 x1 => h x (by omega) (by omega))
    rw [show y + 1 + (d : Int) = y + ((d + 1 : Nat) : Int) by omega] at n
    refine RC_tr (fun V Qr Qt hV hW g => b_35_5 (Tr_mono _) hV hW _ _ _ _ _ ?_) n
    have h2 := h y (Int.le_refl _) (by omega)
    rw [if_pos (by omega), if_neg hn, w32_id (x := y + 1) (by omega) (by omega), if_neg h2]
    refine ⟨hs, by omega, hs, ?_⟩
    by_cases c : M 101 y = M 11 s
    · rw [if_pos c]; exact ⟨by omega, g⟩
    · rw [if_neg c]; exact g
theorem row_e [Inhabited fz_] (hP : PLr M N) (hk : 0 ≤ k ∧ k < N 6 62) : 0 ≤ nsK (tbN N) k ∧ xsf (tbN N) k.toNat + nsK (tbN N) k ≤ M 4 4 := by
  have pb := ps_b hP
  have kb := pb.2.2 k hk.1 hk.2
  have ns : 0 ≤ nsK (tbN N) k := by rw [nsK_e]; split <;> omega
  refine ⟨ns, ?_⟩
  have mono : ∀ (d n : Nat), ((n + d : Nat) : Int) ≤ N 6 62 → xsf (tbN N) n ≤ xsf (tbN N) (n + d) := fun d => by
    induction d with
    | zero => intro n _; exact Int.le_refl _
    | succ d ih2 =>
      intro n hn
      have := ih2 n (by omega)
      have b9 := pb.2.2 ((n + d : Nat) : Int) (by (clear hP hk pb kb ns ih2 hn this; omega)) (by omega)
      show xsf (tbN N) n ≤ xsf (tbN N) (n + d) + nsK (tbN N) ((n + d : Nat) : Int)
      rw [nsK_e]; split <;> (clear hP hk pb kb ns ih2 hn; omega)
  have e1 : xsf (tbN N) (k.toNat + 1) = xsf (tbN N) k.toNat + nsK (tbN N) k := by
    show xsf (tbN N) k.toNat + nsK (tbN N) ((k.toNat : Nat) : Int) = _
    rw [show ((k.toNat : Nat) : Int) = k by (clear hP pb kb ns mono; lia)]
  have mm := mono ((N 6 62).toNat - (k.toNat + 1)) (k.toNat + 1) (by omega)
  rw [show k.toNat + 1 + ((N 6 62).toNat - (k.toNat + 1)) = (N 6 62).toNat by (clear hP kb ns mono e1 mm; omega), pb.2.1.1, e1] at mm
  exact mm
def NOF (M N : mm_) (s vx vq : Int) : Prop := (vx = -1 ∧ vq = -1) ∨ (0 ≤ vq ∧ ROWk M N vq 0 vx ∧ N 193 vq = 3 ∧ N 192 vq = M 11 s)
theorem l_no [Inhabited fz_] (hL : LK z M N s) (hx2 : 0 ≤ x2) : ∀ (d : Nat) (k l : Int), k + d = N 6 62 → 0 ≤ k → (0 ≤ l ∧ l < 2147483648) → ∃ vx vq, NOF M N s vx vq ∧ (∀ (V : vv_) (Qr : qr_) (Qt : qt_), Cl_ wd0 (Tr_ wd0 pg0 0) V Qr Qt m_35 → Wk_ V → Qr [.inl vx] M → V 5 [rr 0, ii s, ii x2, ii l, ii (xsf (tbN N) k.toNat)] [] M) ∧ (∀ (V : vv_) (Qr : qr_) (Qt : qt_), Cl_ wd0 (Tr_ wd0 pg0 1) V Qr Qt m_364 → Wk_ V → Qr [.inl vq] N → V 18 [rr 6, ii s, ii x2, ii l, ii (M 12 s), ii k] [] N) := fun d => by
  obtain ⟨w1, w2, w3, w4, w5⟩ := id hL
  have n12 := w1.1.1
  have hB : sB s = 2 + 56 * s := rfl
  have pb := ps_b w2
  have stt := LK_st hL
  have e239 : N 239 (sB s + 1) = M 11 s := (w1.1.2.2.1 s w4.1 w4.2).1.2.1.symm
  have ws : w32 (sB s + 1) = sB s + 1 := w32_id (by omega) (by omega)
  induction d with
  | zero =>
    intro k l hk k0 hl
    have e : xsf (tbN N) k.toNat = M 4 4 := by rw [show k = N 6 62 by (clear hL hx2 w1 w2 w3 w4 w5 n12 hB pb stt e239 ws k0 hl; lia)]; exact pb.2.1.1
    refine ⟨-1, -1, .inl ⟨rfl, rfl⟩, fun V Qr Qt hV hW g => b_35_5 (Tr_mono _) hV hW _ _ _ _ _ ?_, fun V Qr Qt hV hW g => b_364_18 (Tr_mono _) hV hW _ _ _ _ _ _ ?_⟩
    · rw [e, if_neg (by (clear hL hx2 w1 w2 w3 w4 w5 n12 hB pb stt e239 ws hk k0 hl e hV hW g; lia))]; exact g
    · rw [if_neg (by (clear hL hx2 w1 w2 w3 w4 w5 n12 hB pb stt e239 ws k0 hl e hV hW g; omega))]; exact g
  | succ d ih =>
    intro k l hk k0 hl
    have kb := pb.2.2 k k0 (by (clear hL hx2 w1 w2 w3 w4 w5 n12 hB pb stt e239 ws ih k0 hl; omega))
    have w1' : w32 (k + 1) = k + 1 := w32_id (by (clear hL hx2 w1 w2 w3 w4 w5 n12 hB pb stt e239 ws ih hk hl kb; omega)) (by (clear hL hx2 w1 w2 w3 w4 w5 n12 hB stt e239 ws ih k0 hl kb; omega))
    have hxs := xsfm w2 k.toNat (by (clear hL hx2 w1 w2 w3 w4 w5 n12 hB stt e239 ws ih hl kb; omega))
    have re := row_e w2 (k := k) ⟨k0, by omega⟩
    have e1 : xsf (tbN N) (k + 1).toNat = xsf (tbN N) k.toNat + nsK (tbN N) k := by
      rw [show (k + 1).toNat = k.toNat + 1 by (clear hL hx2 w1 w2 w3 w4 w5 n12 hB pb stt e239 ws ih hk hl kb hxs re; lia)]
      show xsf (tbN N) k.toNat + nsK (tbN N) ((k.toNat : Nat) : Int) = _
      rw [show ((k.toNat : Nat) : Int) = k by (clear hL hx2 w1 w2 w3 w4 w5 n12 hB pb stt e239 ws ih hk hl kb hxs re; lia)]
    -- on to the next stim
    have nxt : ∀ l', (0 ≤ l' ∧ l' < 2147483648) → RC 0 m_35 5 [rr 0, ii s, ii x2, ii l, ii (xsf (tbN N) k.toNat)] M 5 [rr 0, ii s, ii x2, ii l', ii (xsf (tbN N) (k + 1).toNat)] M → RC 1 m_364 18 [rr 6, ii s, ii x2, ii l, ii (M 12 s), ii k] N 18 [rr 6, ii s, ii x2, ii l', ii (M 12 s), ii (k + 1)] N → ∃ vx vq, NOF M N s vx vq ∧ (∀ (V : vv_) (Qr : qr_) (Qt : qt_), Cl_ wd0 (Tr_ wd0 pg0 0) V Qr Qt m_35 → Wk_ V → Qr [.inl vx] M → V 5 [rr 0, ii s, ii x2, ii l, ii (xsf (tbN N) k.toNat)] [] M) ∧ (∀ (V : vv_) (Qr : qr_) (Qt : qt_), Cl_ wd0 (Tr_ wd0 pg0 1) V Qr Qt m_364 → Wk_ V → Qr [.inl vq] N → V 18 [rr 6, ii s, ii x2, ii l, ii (M 12 s), ii k] [] N) := fun l' hl' rx rq => by
      obtain ⟨vx, vq, a1, a2, a3⟩ := ih (k + 1) l' (by (clear hL hx2 w1 w2 w3 w4 w5 n12 hB pb stt e239 ws ih k0 hl kb w1' hxs re e1 hl' rx rq; lia)) (by (clear hL hx2 w1 w2 w3 w4 w5 n12 hB pb stt e239 ws ih hk hl kb hxs re e1 hl' rx rq; omega)) hl'
      exact ⟨vx, vq, a1, fun V Qr Qt hV hW g => rx V Qr Qt hV hW (a2 V Qr Qt hV hW g), fun V Qr Qt hV hW g => rq V Qr Qt hV hW (a3 V Qr Qt hV hW g)⟩
    by_cases c3 : N 193 k = 3
    · have ns : nsK (tbN N) k = 1 := by rw [nsK_e, if_neg (by (clear hL hx2 w1 w2 w3 w4 w5 n12 hB pb stt e239 ws ih hk k0 hl kb w1' hxs re e1 nxt; omega))]
      have hrow : ROWk M N k 0 (xsf (tbN N) k.toNat) := ⟨⟨k0, by omega⟩, by rw [ns]; decide, by (clear hL hx2 w1 w2 w3 w4 w5 n12 hB pb stt e239 ws ih hk k0 hl kb w1' hxs re e1 nxt c3 ns; lia)⟩
      rw [ns] at e1
      obtain ⟨⟨f1, f2, f3, _⟩, _⟩ := row_f w2 hrow
      have rb := row_b w2 hrow
      generalize hy : xsf (tbN N) k.toNat = y at *
      have wy : w32 (y + 1) = y + 1 := w32_id (by (clear hL hx2 w1 w2 w3 w4 w5 n12 hB pb stt e239 ws ih hk k0 hl kb w1' c3 ns hy re nxt hrow f1 f2 f3 rb; omega)) (by (clear hL hx2 w1 w2 w3 w4 w5 n12 hB stt e239 ws ih hk k0 hl kb w1' c3 hy hxs nxt hrow f1 f2 f3 rb; omega))
      rw [e1] at nxt
      by_cases cT : N 192 k = M 11 s
      · have bX := an_sr (c := M 102 y) (s := M 12 s) f3.1.1 (by have := f3.1.2; (clear hL hx2 w1 w2 w3 w4 w5 n12 hB pb stt e239 ws ih hk k0 hl kb w1' c3 ns hy hxs re e1 nxt hrow f1 f2 f3 rb wy cT; omega)) stt.1 stt.2.2
        have bQ := an_sr (c := N 194 k) (s := M 12 s) f3.2.1.1 (by have := f3.2.1.2; (clear hL hx2 w1 w2 w3 w4 w5 n12 hB pb stt e239 ws ih hk k0 hl kb w1' c3 ns hy hxs re e1 nxt hrow f1 f2 f3 rb wy cT bX; omega)) stt.1 stt.2.2
        have mb := f3.2.2 (M 12 s) stt.1
        rw [cT] at mb
        by_cases cb : bt_ (N 194 k) (M 12 s)
        · have xb : ¬ an_ (sr_ (M 102 y) (M 12 s)) 1 = 0 := fun e0 => bX.1.1 e0 (mb.2 ⟨cb, stt.2.1⟩)
          have qb : ¬ an_ (sr_ (N 194 k) (M 12 s)) 1 = 0 := fun e0 => bQ.1.1 e0 cb
          by_cases cl : l = 0
          · refine ⟨y, k, .inr ⟨k0, hrow, c3, cT⟩, fun V Qr Qt hV hW g => b_35_5 (Tr_mono _) hV hW _ _ _ _ _ ?_, fun V Qr Qt hV hW g => b_364_18 (Tr_mono _) hV hW _ _ _ _ _ _ ?_⟩
            · rw [if_pos (by (clear hL hx2 w1 w2 w3 w4 w5 n12 hB pb stt e239 ws ih hk k0 hl kb w1' c3 hy hxs nxt hrow f1 f2 f3 rb cT bX bQ mb cb xb qb cl hV hW g; omega)), if_neg (by omega), if_pos (by rw [f2]; exact cT), if_pos (by rw [f1]; exact c3), if_neg xb, if_pos cl]
              exact ⟨by omega, by (clear hL hx2 w1 w2 w3 w4 w5 n12 hB stt e239 ws ih hk k0 hl kb w1' c3 hy nxt hrow f1 f2 f3 rb cT bX bQ mb cb xb qb cl hV hW g; omega), by omega, by omega, by omega, by omega, g⟩
            · rw [if_pos (by (clear hL hx2 w1 w2 w3 w4 w5 n12 hB pb stt e239 ws ih k0 hl kb w1' c3 ns hy hxs re e1 nxt hrow f1 f2 f3 rb wy cT bX bQ mb cb xb qb cl hV hW g; omega)), if_neg (by omega), if_neg (by (clear hL w1 w2 w3 w4 w5 n12 hB pb stt e239 ws ih hk k0 hl kb w1' c3 ns hy hxs re e1 nxt hrow f1 f2 f3 rb wy cT bX bQ mb cb xb qb cl hV hW g; omega))]
              refine ⟨by (clear hL hx2 w1 w2 w3 w4 w5 n12 hB stt e239 ws ih hl kb c3 ns hy hxs re e1 nxt hrow f1 f2 f3 rb wy cT bX bQ mb cb xb qb cl hV hW g; omega), Ex_le (d := 1) (by decide) (q_323 (by (clear hL hx2 w1 w2 w3 w5 hB pb stt e239 ws ih hk k0 hl kb w1' c3 ns hy hxs re e1 nxt hrow f1 f2 f3 rb wy cT bX bQ mb cb xb qb cl hV hW g; omega))) _ _ (ri_i ?_)⟩
              rw [ws, e239, if_pos cT, if_pos c3, if_neg qb, if_pos cl]
              exact ⟨by omega, by omega, by omega, g⟩
          · have wl : w32 (l + -1) = l - 1 := by rw [show l + -1 = l - 1 by (clear hL hx2 w1 w2 w3 w4 w5 n12 hB pb stt e239 ws ih hk k0 hl kb w1' c3 ns hy hxs re e1 nxt hrow f1 f2 f3 rb wy cT bX bQ mb cb xb qb cl; omega), w32_id (by (clear hL hx2 w1 w2 w3 w4 w5 n12 hB pb stt e239 ws ih hk k0 kb w1' c3 ns hy hxs re e1 nxt hrow f1 f2 f3 rb wy cT bX bQ mb cb xb qb cl; omega)) (by (clear hL hx2 w1 w2 w3 w4 w5 n12 hB pb stt e239 ws ih hk k0 kb w1' c3 ns hy hxs re e1 nxt hrow f1 f2 f3 rb wy cT bX bQ mb cb xb qb cl; omega))]
            refine nxt (l - 1) (by (clear hL hx2 w1 w2 w3 w4 w5 n12 hB pb stt e239 ws ih hk k0 kb w1' c3 ns hy hxs re e1 nxt hrow f1 f2 f3 rb wy cT bX bQ mb cb xb qb; lia)) (fun V Qr Qt hV hW g => b_35_5 (Tr_mono _) hV hW _ _ _ _ _ ?_) (fun V Qr Qt hV hW g => b_364_18 (Tr_mono _) hV hW _ _ _ _ _ _ ?_)
            · rw [if_pos (by omega), if_neg (by omega), if_pos (by rw [f2]; exact cT), if_pos (by rw [f1]; exact c3), if_neg xb, if_neg cl, wl, wy]
              exact ⟨by omega, by omega, by omega, by omega, by omega, by omega, g⟩
            · rw [if_pos (by omega), if_neg (by (clear hL hx2 w1 w2 w3 w4 n12 hB pb e239 ws ih hk k0 hl kb w1' c3 ns hy hxs re e1 nxt hrow f1 f2 f3 rb wy cT bX bQ mb cb xb qb cl wl hV hW g; omega)), if_neg (by omega)]
              refine ⟨by omega, Ex_le (d := 1) (by decide) (q_323 (by omega)) _ _ (ri_i ?_)⟩
              rw [ws, e239, if_pos cT, if_pos c3, if_neg qb, if_neg cl, wl, w1']
              exact ⟨by omega, by omega, by omega, g⟩
        · refine nxt l hl (fun V Qr Qt hV hW g => b_35_5 (Tr_mono _) hV hW _ _ _ _ _ ?_) (fun V Qr Qt hV hW g => b_364_18 (Tr_mono _) hV hW _ _ _ _ _ _ ?_)
          · rw [if_pos (by omega), if_neg (by omega), if_pos (by rw [f2]; exact cT), if_pos (by rw [f1]; exact c3), if_pos (bX.1.2 (fun h => cb (mb.1 h).1)), wy]
            exact ⟨by omega, by omega, by omega, by omega, by omega, by omega, g⟩
          · rw [if_pos (by omega), if_neg (by omega), if_neg (by omega)]
            refine ⟨by omega, Ex_le (d := 1) (by decide) (q_323 (by omega)) _ _ (ri_i ?_)⟩
            rw [ws, e239, if_pos cT, if_pos c3, if_pos (bQ.1.2 cb), w1']
            exact ⟨by omega, by omega, by omega, g⟩
      · refine nxt l hl (fun V Qr Qt hV hW g => b_35_5 (Tr_mono _) hV hW _ _ _ _ _ ?_) (fun V Qr Qt hV hW g => b_364_18 (Tr_mono _) hV hW _ _ _ _ _ _ ?_)
        · rw [if_pos (by omega), if_neg (by omega), if_neg (by rw [f2]; exact cT), wy]
          exact ⟨by omega, by omega, by omega, g⟩
        · rw [if_pos (by omega), if_neg (by (clear hL hx2 w1 w2 w3 w4 n12 hB pb e239 ws ih hk k0 hl kb w1' c3 ns hy hxs re e1 nxt hrow f1 f2 f3 rb wy cT hV hW g; omega)), if_neg (by omega)]
          refine ⟨by omega, Ex_le (d := 1) (by decide) (q_323 (by omega)) _ _ (ri_i ?_)⟩
          rw [ws, e239, if_neg cT, w1']
          exact ⟨by omega, g⟩
    · have hall : ∀ x, xsf (tbN N) k.toNat ≤ x → x < xsf (tbN N) k.toNat + nsK (tbN N) k → ROWk M N k (x - xsf (tbN N) k.toNat) x := fun x x0 x1 => ⟨⟨k0, by omega⟩, by (clear hL hx2 w1 w2 w3 w4 w5 n12 hB pb stt e239 ws ih hk k0 hl kb w1' hxs re nxt c3; omega), by (clear hL hx2 w1 w2 w3 w4 w5 n12 hB pb stt e239 ws ih hk k0 hl kb w1' hxs re e1 nxt c3 x0 x1; lia)⟩
      have sk := sk_n (s := s) (M := M) (x2 := x2) (l := l) (by omega) (by omega) pb.2.1.2 (nsK (tbN N) k).toNat (xsf (tbN N) k.toNat) hxs (by (clear hL hx2 w1 w2 w3 w4 w5 n12 hB pb stt e239 ws ih hk k0 hl kb w1' hxs nxt c3 hall; omega)) (fun x x0 x1 => by rw [(row_f w2 (hall x x0 (by (clear hL hx2 w1 w2 w3 w4 w5 n12 hB pb stt e239 ws ih hk k0 hl kb w1' hxs nxt c3 hall x0; omega)))).1.1]; exact c3)
      rw [show xsf (tbN N) k.toNat + (((nsK (tbN N) k).toNat : Nat) : Int) = xsf (tbN N) (k + 1).toNat by (clear hL hx2 w1 w2 w3 w4 w5 n12 hB pb stt e239 ws ih hk k0 hl kb w1' hxs nxt c3 hall sk; omega)] at sk
      refine nxt l hl sk (fun V Qr Qt hV hW g => b_364_18 (Tr_mono _) hV hW _ _ _ _ _ _ ?_)
      rw [if_pos (by omega), if_neg (by (clear hL hx2 w1 w2 w3 w4 n12 hB pb e239 ws ih hk k0 hl kb w1' hxs re e1 nxt c3 hall sk hV hW g; omega)), if_neg (by omega)]
      refine ⟨by (clear hL hx2 w1 w2 w3 w4 w5 n12 hB stt e239 ws ih hl kb hxs re e1 nxt c3 hall sk hV hW g; omega), Ex_le (d := 1) (by decide) (q_323 (by omega)) _ _ (ri_i ?_)⟩
      rw [ws, e239, if_neg c3, w1']
      refine ⟨by (clear hL hx2 w1 w2 w3 w5 pb stt e239 ws ih hk k0 hl kb w1' hxs re e1 nxt c3 hall sk hV hW g; lia), ?_⟩
      by_cases c : N 192 k = M 11 s
      · rw [if_pos c]; exact ⟨by omega, g⟩
      · rw [if_neg c]; exact g
/-- which NONE -/
theorem j_35 [Inhabited fz_] (h : RU z M N) (hP : PLr M N) (hA : TYA N) (hs : 0 ≤ s ∧ s < M 0 7) (hx : 0 ≤ x2 ∧ x2 < 2147483648) : ∃ vx vq, NOF M N s vx vq ∧ Ex_ 1 35 [.inr (.inr 0), .inl s, .inl x2] M [.inl vx] M ∧ Ex_ 2 364 [.inr (.inr 6), .inl s, .inl x2] N [.inl vq] N := by
  have n12 := h.1.1
  have hB : sB s = 2 + 56 * s := rfl
  have hin := h.1.2.2.1 s hs.1 hs.2
  have e2 : N 239 (sB s + 2) = M 12 s := hin.1.2.2.1.symm
  have w2 : w32 (sB s + 2) = sB s + 2 := w32_id (by lia) (by (clear h hP hA hx hin e2; omega))
  by_cases c : M 12 s = -1
  · refine ⟨-1, -1, .inl ⟨rfl, rfl⟩, fun Qr Qt g => t_35 fun V hV hW => b_35_0 (Tr_mono _) hV hW _ _ _ (b_35_5 (Tr_mono _) hV hW _ _ _ _ _ ?_), fun Qr Qt g => t_364 fun V hV hW => b_364_0 (Tr_mono _) hV hW _ _ _ (Ex_le (d := 1) (by decide) (q_323 (by omega)) _ _ (ri_i ⟨by (clear h hP hA hx hin e2 c g hV hW; lia), b_364_18 (Tr_mono _) hV hW _ _ _ _ _ _ ?_⟩))⟩
    · by_cases c4 : 0 < M 4 4
      · rw [if_pos c4, if_pos c]; exact ⟨by omega, g⟩
      · rw [if_neg c4]; exact g
    · rw [w2, e2]
      by_cases c4 : 0 < N 6 62
      · rw [if_pos c4, if_pos (by omega)]; exact g
      · rw [if_neg c4]; exact g
  · have pb := ps_b hP
    obtain ⟨vx, vq, a1, a2, a3⟩ := l_no ⟨h, hP, hA, hs, by have := hin.2.1.2.2.1; (clear h hP hA hs hx n12 hB hin e2 w2 pb; lia)⟩ hx.1 (N 6 62).toNat 0 x2 (by (clear h hP hA hs hx n12 hB hin e2 w2 c; omega)) (by decide) hx
    refine ⟨vx, vq, a1, fun Qr Qt g => t_35 fun V hV hW => b_35_0 (Tr_mono _) hV hW _ _ _ (a2 V Qr Qt hV hW g), fun Qr Qt g => t_364 fun V hV hW => b_364_0 (Tr_mono _) hV hW _ _ _ (Ex_le (d := 1) (by decide) (q_323 (by omega)) _ _ (ri_i ⟨by omega, ?_⟩))⟩
    rw [w2, e2]; exact a3 V Qr Qt hV hW g
/-- a NONE taken -/
theorem j_36 [Inhabited fz_] {vx vq : Int} (h : RU z M N) (hP : PLr M N) (hA : TYA N) (hs : 0 ≤ s ∧ s < M 0 7) (h8 : M 0 8 + 200 ≤ 2000000000) (hrow : ROWk M N vq 0 vx) (c3 : N 193 vq = 3) (cT : N 192 vq = M 11 s) : ∃ M' N', Ex_ 9 36 [.inr (.inr 0), .inl s, .inl vx] M [] M' ∧ Ex_ 9 365 [.inr (.inr 6), .inl s, .inl vq] N [] N' ∧ RU z M' N' ∧ TYA N' ∧ (XRF M M' ∧ QRF N N') ∧ M' 0 8 ≤ M 0 8 + 200 := by
  have n12 := h.1.1
  have hB : sB s = 2 + 56 * s := rfl
  have hin := h.1.2.2.1 s hs.1 hs.2
  obtain ⟨_, sro⟩ := row_f hP hrow
  have rb := row_b hP hrow
  have pb := ps_b hP
  have k62 := hrow.1
  have at_ := sro.1 (by rw [tbN_r (q := 193) (by decide) (by decide)]; omega)
  rw [tbN_r (q := 192) (by decide) (by decide), tbN_r (q := 197) (by decide) (by decide), show swc M 141 = M 108 from swc_r (q := 108) (by decide) (by decide), cT] at at_
  have ep : N 239 (sB s) = M 10 s := hin.1.1.symm
  have ru1 := RU_18 (v := M 10 s) h hs
  have fX : XRF M (up_ M 18 s (M 10 s)) := XRF_up (by decide) (fun e => absurd e (by decide))
  have fQ : QRF N (up_ N 239 (sB s + 3) (M 10 s)) := QRF_up (by decide) (fun e => absurd e (by decide))
  have u0 : up_ M 18 s (M 10 s) 0 = M 0 := up_ne (by decide)
  obtain ⟨M', N', x1, q1, ru, ty, fr, b8⟩ := j_23 (k := N 197 vq) (c := M 108 vx) ru1 (PLr_c hP fX fQ) (TYA_239 hA (by omega) 3 _ (by decide) (by (clear h hP hA h8 hrow c3 cT hB hin sro rb pb k62 at_ ep ru1 fX fQ u0; omega)) (by rw [← ep]; exact hA.2.2 _)) (s := s) (by rw [u0]; exact hs) (by rw [u0]; exact h8) (by rw [swc_e fX, tbN_e fQ, up_ne (by decide)]; exact at_)
  refine ⟨M', N', fun Qr Qt g => t_36 fun V hV hW => b_36_0 (Tr_mono _) hV hW _ _ _ ⟨by (clear h hP hA h8 hrow c3 cT hB hin sro rb pb k62 at_ ep ru1 fX fQ u0 x1 q1 ru ty fr b8 g hV hW; omega), by (clear h hP hA h8 hrow c3 cT hB hin sro rb pb k62 at_ ep ru1 fX fQ u0 x1 q1 ru ty fr b8 g hV hW; omega), by (clear h hP hA hs h8 hrow c3 cT n12 hB hin sro k62 at_ ep ru1 fX fQ u0 x1 q1 ru ty fr b8 g hV hW; omega), x1 _ _ (rv_i g)⟩, fun Qr Qt g => t_365 fun V hV hW => b_365_0 (Tr_mono _) hV hW _ _ _ (Ex_le (d := 1) (by decide) (q_323 (by (clear h hP hA h8 hrow c3 cT hB hin sro rb pb k62 at_ ep ru1 fX fQ u0 x1 q1 ru ty fr b8 g hV hW; omega))) _ _ (ri_i (Ex_le (d := 1) (by decide) (q_323 (by omega)) _ _ (ri_i ⟨by omega, ?_⟩)))), ru, ty, ⟨XRF_tr fX fr.1, QRF_tr fQ fr.2⟩, by rw [u0] at b8; exact b8⟩
  rw [w32_id (x := sB s + 3) (by (clear h hP hA h8 hrow c3 cT n12 hin sro rb pb k62 at_ ep ru1 fX fQ u0 x1 q1 ru ty fr b8 g hV hW; omega)) (by omega), ep]
  exact ⟨by (clear h hP hA h8 hrow c3 cT hin sro rb pb k62 at_ ep ru1 fX fQ u0 x1 q1 ru ty fr b8 g hV hW; lia), by (clear h hP hA hs h8 hrow c3 cT n12 hB hin sro rb at_ ep ru1 fX fQ u0 x1 q1 ru ty fr b8 g hV hW; omega), q1 _ _ (rv_i g)⟩
theorem j_34 [Inhabited fz_] (h : RNS M N) (h8 : M 0 8 + 200 ≤ 2000000000) (hx : R32 x2) : JN 10 34 [.inr (.inr 0), .inl x1, .inl x2] 10 363 [.inr (.inr 6), .inl x1, .inl x2] M N 200 := by
  obtain ⟨⟨h1, h2, h3, h4⟩, r1, r2⟩ := h
  obtain ⟨Ma, Na, xa, qa, ra, fa, ka, da⟩ := j_due h1 h2
  have Pa := PLr_c h2 fa.1 fa.2
  have Aa := ka.2 h3
  have wa : Ma 0 11 = Na 6 130 := by rw [fa.1.2 11 (by decide), fa.2.2 130 (by decide)]; exact h4
  have e8 : Ma 0 8 = M 0 8 := ka.1.2.1
  have fxa : XRG M Ma := XRG_f fa.1
  have fqa : QRG N Na := QRG_f fa.2
  obtain ⟨v, hv, xs, qs⟩ := j_sl ra x1
  have n12 := ra.1.1
  by_cases cv : v = -1
  · refine ⟨0, Ma, Na, fun Qr Qt g => t_34 fun V hV hW => b_34_0 (Tr_mono _) hV hW _ _ _ fun _ => ?_, fun Qr Qt g => t_363 fun V hV hW => b_363_0 (Tr_mono _) hV hW _ _ _ fun _ => ?_, ⟨ra, Pa, Aa, wa⟩, ⟨fxa, fqa⟩, by (clear h8 hx h1 h2 h3 h4 r1 r2 xa qa ra fa ka da Pa Aa wa fxa fqa hv xs qs n12 cv; omega)⟩
    · rw [if_neg (by (clear h8 hx h1 h2 h3 h4 r2 xa qa ra fa ka da Pa Aa wa e8 fxa fqa hv xs qs n12 cv g hV hW; lia))]
      refine Ex_le (d := 6) (by decide) xa _ _ (rv_i (Ex_le (d := 1) (by decide) xs _ _ (ri_i ?_)))
      rw [if_pos cv, if_pos rfl]; exact g
    · rw [if_neg (by (clear h8 hx h1 h2 h3 h4 r1 xa qa ra fa ka da Pa Aa wa e8 fxa fqa hv xs qs n12 cv g hV hW; lia))]
      refine Ex_le (d := 5) (by decide) qa _ _ (rv_i (Ex_le (d := 2) (by decide) qs _ _ (ri_i ?_)))
      by_cases c1 : x1 < 1
      · rw [if_pos c1, if_pos (by decide)]; exact g
      · rw [if_neg c1, if_pos (by (clear h8 hx h1 h2 h3 h4 r1 r2 xa qa ra fa ka da Pa Aa wa e8 fxa fqa hv xs qs n12 g hV hW c1; omega)), if_pos (by decide)]; exact g
  · obtain ⟨hv, hp, h1p⟩ := hv.resolve_left cv
    have hB : sB v = 2 + 56 * v := rfl
    by_cases c2 : x2 < 0
    · refine ⟨0, Ma, Na, fun Qr Qt g => t_34 fun V hV hW => b_34_0 (Tr_mono _) hV hW _ _ _ fun _ => ?_, fun Qr Qt g => t_363 fun V hV hW => b_363_0 (Tr_mono _) hV hW _ _ _ fun _ => ?_, ⟨ra, Pa, Aa, wa⟩, ⟨fxa, fqa⟩, by (clear h8 hx h1 h2 h3 h4 r1 r2 xa qa ra fa ka da Pa Aa wa fxa fqa xs qs n12 cv hv hp h1p hB c2; omega)⟩
      · rw [if_neg (by omega)]
        refine Ex_le (d := 6) (by decide) xa _ _ (rv_i (Ex_le (d := 1) (by decide) xs _ _ (ri_i ?_)))
        rw [if_neg cv, if_pos c2, if_pos rfl]; exact g
      · rw [if_neg (by (clear h8 hx h1 h2 h3 h4 r1 xa qa ra fa ka da Pa Aa wa e8 fxa fqa xs qs n12 cv hv hp h1p hB c2 g hV hW; omega))]
        refine Ex_le (d := 5) (by decide) qa _ _ (rv_i (Ex_le (d := 2) (by decide) qs _ _ (ri_i ?_)))
        rw [if_neg (by omega), if_neg (by (clear h8 hx h1 h2 h3 h4 r1 r2 xa qa ra fa ka da Pa Aa wa e8 fxa fqa xs qs n12 cv hp h1p hB c2 g hV hW; omega))]
        have q364 : Ex_ 2 364 [.inr (.inr 6), .inl v, .inl x2] Na [.inl (-1)] Na := fun Qr Qt g => t_364 fun V hV hW => b_364_0 (Tr_mono _) hV hW _ _ _ (Ex_le (d := 1) (by decide) (q_323 (by (clear h8 hx h1 h2 h3 h4 r1 r2 xa qa ra fa ka da Pa Aa wa e8 fxa fqa xs qs cv hp h1p hB c2 g hV hW; omega))) _ _ (ri_i ⟨by rw [w32_id (by (clear h8 hx h1 h2 h3 h4 r1 r2 xa qa ra fa ka da Pa Aa wa e8 fxa fqa xs qs cv hp h1p c2 g hV hW; lia)) (by (clear h8 hx h1 h2 h3 h4 r1 r2 xa qa ra fa ka da Pa Aa wa e8 fxa fqa xs qs cv hp h1p c2 g hV hW; omega))]; (clear h8 hx h1 h2 h3 h4 r1 r2 xa qa ra fa ka da Pa Aa wa e8 fxa fqa xs qs cv hp h1p c2 g hV hW; omega), b_364_18 (Tr_mono _) hV hW _ _ _ _ _ _ (by
          by_cases c4 : 0 < Na 6 62
          · rw [if_pos c4]
            by_cases c5 : Na 239 (w32 (sB v + 2)) < 0
            · rw [if_pos c5]; exact g
            · rw [if_neg c5, if_pos c2]; exact g
          · rw [if_neg c4]; exact g)⟩))
        refine Ex_le (d := 2) (by decide) q364 _ _ (ri_i ?_)
        rw [if_pos (by decide)]; exact g
    · obtain ⟨vx, vq, nof, x35, q35⟩ := j_35 (x2 := x2) ra Pa Aa hv ⟨by (clear h8 hx h1 h2 h3 h4 r1 r2 xa qa ra fa ka da Pa Aa wa e8 fxa fqa xs qs n12 cv hv hp h1p hB; omega), hx.2⟩
      rcases nof with ⟨e1, e2⟩ | ⟨e0, hrow, c3, cT⟩
      · subst e1; subst e2
        refine ⟨0, Ma, Na, fun Qr Qt g => t_34 fun V hV hW => b_34_0 (Tr_mono _) hV hW _ _ _ fun _ => ?_, fun Qr Qt g => t_363 fun V hV hW => b_363_0 (Tr_mono _) hV hW _ _ _ fun _ => ?_, ⟨ra, Pa, Aa, wa⟩, ⟨fxa, fqa⟩, by omega⟩
        · rw [if_neg (by omega)]
          refine Ex_le (d := 6) (by decide) xa _ _ (rv_i (Ex_le (d := 1) (by decide) xs _ _ (ri_i ?_)))
          rw [if_neg cv, if_neg c2]
          refine Ex_le (d := 1) (by decide) x35 _ _ (ri_i ?_)
          rw [if_pos rfl]; exact g
        · rw [if_neg (by omega)]
          refine Ex_le (d := 5) (by decide) qa _ _ (rv_i (Ex_le (d := 2) (by decide) qs _ _ (ri_i ?_)))
          rw [if_neg (by omega), if_neg (by omega)]
          refine Ex_le (d := 2) (by decide) q35 _ _ (ri_i ?_)
          rw [if_pos (by decide)]; exact g
      · have rb := row_b Pa hrow
        obtain ⟨Me, Ne, xe, qe, re, Ae, fe, e8e⟩ := j_36 ra Pa Aa hv (by (clear hx h1 h2 h3 h4 r1 r2 xa qa ra fa ka da Pa Aa wa fxa fqa xs qs n12 cv hv hp h1p hB c2 x35 q35 e0 hrow c3 cT rb; omega)) hrow c3 cT
        refine ⟨1, Me, Ne, fun Qr Qt g => t_34 fun V hV hW => b_34_0 (Tr_mono _) hV hW _ _ _ fun _ => ?_, fun Qr Qt g => t_363 fun V hV hW => b_363_0 (Tr_mono _) hV hW _ _ _ fun _ => ?_, ⟨re, PLr_c Pa fe.1 fe.2, Ae, by rw [fe.1.2 11 (by decide), fe.2.2 130 (by decide)]; exact wa⟩, ⟨XRG_tr fxa (XRG_f fe.1), QRG_tr fqa (QRG_f fe.2)⟩, by (clear h8 hx h1 h2 h3 h4 r1 r2 xa qa ra fa ka da Pa Aa wa fxa fqa xs qs n12 cv hv hp h1p hB c2 x35 q35 e0 hrow c3 cT rb xe qe re Ae fe; omega)⟩
        · rw [if_neg (by (clear h8 hx h1 h2 h3 h4 r2 xa qa ra fa ka da Pa Aa wa e8 fxa fqa xs qs n12 cv hv hp h1p hB c2 x35 q35 e0 hrow c3 cT rb xe qe re Ae fe e8e g hV hW; lia))]
          refine Ex_le (d := 6) (by decide) xa _ _ (rv_i (Ex_le (d := 1) (by decide) xs _ _ (ri_i ?_)))
          rw [if_neg cv, if_neg c2]
          refine Ex_le (d := 1) (by decide) x35 _ _ (ri_i ?_)
          rw [if_neg (by (clear h8 hx h1 h2 h3 h4 r1 r2 xa qa ra fa ka da Pa Aa wa e8 fxa fqa xs qs n12 cv hv hp h1p hB c2 x35 q35 e0 hrow c3 cT xe qe re Ae fe e8e g hV hW; omega))]; exact xe _ _ (rv_i g)
        · rw [if_neg (by (clear h8 hx h1 h2 h3 h4 r1 xa qa ra fa ka da Pa Aa wa e8 fxa fqa xs qs n12 cv hv hp h1p hB c2 x35 q35 e0 hrow c3 cT rb xe qe re Ae fe e8e g hV hW; omega))]
          refine Ex_le (d := 5) (by decide) qa _ _ (rv_i (Ex_le (d := 2) (by decide) qs _ _ (ri_i ?_)))
          rw [if_neg (by (clear h8 hx h1 h2 h3 h4 r1 r2 xa qa ra fa ka da Pa Aa wa e8 fxa fqa xs qs n12 cv hv hp hB c2 x35 q35 e0 hrow c3 cT rb xe qe re Ae fe e8e g hV hW; omega)), if_neg (by (clear h8 hx h1 h2 h3 h4 r1 r2 xa qa ra fa ka da Pa Aa wa e8 fxa fqa xs qs n12 cv hp h1p hB c2 x35 q35 e0 hrow c3 cT rb xe qe re Ae fe e8e g hV hW; omega))]
          refine Ex_le (d := 2) (by decide) q35 _ _ (ri_i ?_)
          rw [if_neg (by (clear h8 hx h1 h2 h3 h4 r1 r2 xa qa ra fa ka da Pa Aa wa e8 fxa fqa xs qs n12 cv hv hp h1p hB c2 x35 q35 hrow c3 cT rb xe qe re Ae fe e8e g hV hW; omega))]; exact qe _ _ (rv_i g)
end NOa
end T392_no
section T393_pu
/-! the run: put (X 59, 60 | Q 367) -/
section PUa
variable {z : Int} {M N M' N' M1 N1 M2 N2 : mm_} {s k r T p w n x1 x2 x3 x4 x5 y sg to_ tq any i v a b c : Int}
theorem j_26g [Inhabited fz_] {TQ : Int} (hP : PLr M N) (hE : ∀ i, 0 ≤ i → i < N 6 18 → (M 81 (2 * i) = T ↔ N 160 i = TQ)) (hto : any = 0 → 0 ≤ to_ ∧ tq = to_) (hs : 0 ≤ sg ∧ sg < 20) : ∃ v, (v = -1 ∨ (0 ≤ v ∧ v < N 6 18)) ∧ Ex_ 2 26 [.inr (.inr 0), .inl T, .inl to_, .inl sg, .inl any] M [.inl v] M ∧ Ex_ 1 357 [.inr (.inr 6), .inl TQ, .inl tq, .inl sg, .inl any] N [.inl v] N := by
  have p18 := hP.1.2.1
  rw [tbN_6 (by decide)] at p18
  have e41 : M 4 1 = N 6 18 := p18.1
  have lp : ∀ (d : Nat) (i : Int), i + d = N 6 18 → 0 ≤ i → ∃ v, (v = -1 ∨ (0 ≤ v ∧ v < N 6 18)) ∧ (∀ (V : vv_) (Qr : qr_) (Qt : qt_), Cl_ wd0 (Tr_ wd0 pg0 1) V Qr Qt m_26 → Wk_ V → Qr [.inl v] M → V 3 [rr 0, ii T, ii to_, ii sg, ii any, ii i] [] M) ∧ (∀ (V : vv_) (Qr : qr_) (Qt : qt_), Cl_ wd0 (Tr_ wd0 pg0 0) V Qr Qt m_357 → Wk_ V → Qr [.inl v] N → V 3 [rr 6, ii TQ, ii tq, ii sg, ii any, ii i] [] N) := by
    intro d
    induction d with
    | zero =>
      intro i hi i0
      refine ⟨-1, .inl rfl, fun V Qr Qt hV hW g => b_26_3 (Tr_mono _) hV hW _ _ _ _ _ _ ?_, fun V Qr Qt hV hW g => b_357_3 (Tr_mono _) hV hW _ _ _ _ _ _ ?_⟩
      · rw [if_neg (by omega)]; exact g
      · rw [if_neg (by (clear hP hE hto hs p18 i0 hV hW g; lia))]; exact g
    | succ d ih =>
      intro i hi i0
      obtain ⟨g1, g2, g3, g4⟩ := RTG_of (r := i) hP ⟨i0, by (clear hP hE hto hs p18 ih i0; omega)⟩
      obtain ⟨v, v0, xv, qv⟩ := ih (i + 1) (by (clear hP hE hto hs p18 ih i0 g1 g2 g3 g4; lia)) (by (clear hP hE hto hs p18 e41 ih hi g1 g2 g3 g4; omega))
      have bits := an_sr (c := N 164 i) (s := sg) g4.2.1 (by omega) hs.1 (by (clear hP hE hto p18 e41 ih hi i0 g1 g2 g3 g4 v0 xv qv; omega))
      have w2 : w32 (2 * i) = 2 * i := w32_id (by (clear hP hE hto hs p18 e41 ih hi g1 g2 g3 g4 v0 xv qv bits; omega)) (by omega)
      have w3 : w32 (2 * i + 1) = 2 * i + 1 := w32_id (by (clear hP hE hto hs p18 e41 ih hi g1 g2 g3 g4 v0 xv qv bits w2; lia)) (by omega)
      have w1 : w32 (i + 1) = i + 1 := w32_id (by omega) (by (clear hP hE hto hs ih i0 g1 g2 g3 g4 v0 xv qv bits w2 w3; omega))
      -- the route does not fit
      have no : (¬ (M 81 (2 * i) = T ∧ (any = 0 → M 81 (2 * i + 1) = to_) ∧ bt_ (N 164 i) sg)) → ∃ v, (v = -1 ∨ (0 ≤ v ∧ v < N 6 18)) ∧ (∀ (V : vv_) (Qr : qr_) (Qt : qt_), Cl_ wd0 (Tr_ wd0 pg0 1) V Qr Qt m_26 → Wk_ V → Qr [.inl v] M → V 3 [rr 0, ii T, ii to_, ii sg, ii any, ii i] [] M) ∧ (∀ (V : vv_) (Qr : qr_) (Qt : qt_), Cl_ wd0 (Tr_ wd0 pg0 0) V Qr Qt m_357 → Wk_ V → Qr [.inl v] N → V 3 [rr 6, ii TQ, ii tq, ii sg, ii any, ii i] [] N) := fun hn => by
        refine ⟨v, v0, fun V Qr Qt hV hW g => b_26_3 (Tr_mono _) hV hW _ _ _ _ _ _ ?_, fun V Qr Qt hV hW g => b_357_3 (Tr_mono _) hV hW _ _ _ _ _ _ ?_⟩
        · have n3 := xv V Qr Qt hV hW g
          have c5 : ¬ bt_ (N 164 i) sg → Tr_ wd0 pg0 1 205 [.inr (.inr 4), .inl i, .inl sg] M (ri_ fun v2 M2 => if v2 = 0 then V 3 [rr 0, ii T, ii to_, ii sg, ii any, ii (i + 1)] [] M2 else Qr [.inl i] M2) Qt := fun hb => t_205a fun V' hV' hW' => b_205a_0 (Tr_mono _) hV' hW' _ _ _ ⟨by (clear hP hE hto hs ih g1 g2 g3 g4 v0 xv qv bits w2 w3 hn hV hW g n3 hb hV' hW'; omega), by
            rw [g4.1, if_pos (bits.1.2 hb)]
            exact ⟨.inl rfl, ri_i (by rw [if_pos rfl]; exact n3)⟩⟩
          rw [if_pos (by omega), w2, w3, w1]
          refine ⟨by (clear hP hE hto hs ih g1 g2 g3 g4 v0 xv qv bits w2 w3 hn hV hW g n3 c5; lia), ?_⟩
          by_cases k1 : M 81 (2 * i) = T
          · rw [if_pos k1]
            by_cases k2 : any = 0
            · rw [if_pos k2]
              refine ⟨by omega, ?_⟩
              by_cases k3 : M 81 (2 * i + 1) = to_
              · rw [if_pos k3]; exact c5 (fun hb => hn ⟨k1, fun _ => k3, hb⟩)
              · rw [if_neg k3]; exact n3
            · rw [if_neg k2]; exact c5 (fun hb => hn ⟨k1, fun e => absurd e k2, hb⟩)
          · rw [if_neg k1]; exact n3
        · have n3 := qv V Qr Qt hV hW g
          rw [if_pos (by omega), w1]
          refine ⟨by omega, ?_⟩
          by_cases k1 : N 160 i = TQ
          · rw [if_pos k1]
            by_cases k2 : any = 0
            · rw [if_pos k2]
              refine ⟨by omega, ?_⟩
              by_cases k3 : N 161 i = tq
              · rw [if_pos k3, if_neg (fun e => hn ⟨(hE i i0 (by (clear hP hE hto hs p18 ih i0 g1 g2 g3 g4 v0 xv qv bits w2 w3 w1 hn hV hW g n3 k1 k2 k3 e; omega))).2 k1, fun _ => (g2 to_ (hto k2).1).2 (k3.trans (hto k2).2), bits.2.1 e⟩)]; exact ⟨by (clear hP hE hto hs ih g1 g2 g3 g4 v0 xv qv bits w2 w3 hn hV hW g n3 k1 k2 k3; lia), n3⟩
              · rw [if_neg k3]; exact n3
            · rw [if_neg k2, if_neg (fun e => hn ⟨(hE i i0 (by omega)).2 k1, fun e => absurd e k2, bits.2.1 e⟩)]; exact ⟨by omega, n3⟩
          · rw [if_neg k1]; exact n3
      by_cases c1 : M 81 (2 * i) = T ∧ (any = 0 → M 81 (2 * i + 1) = to_) ∧ bt_ (N 164 i) sg
      · refine ⟨i, .inr ⟨i0, by omega⟩, fun V Qr Qt hV hW g => b_26_3 (Tr_mono _) hV hW _ _ _ _ _ _ ?_, fun V Qr Qt hV hW g => b_357_3 (Tr_mono _) hV hW _ _ _ _ _ _ ?_⟩
        · have c5 : Tr_ wd0 pg0 1 205 [.inr (.inr 4), .inl i, .inl sg] M (ri_ fun v2 M2 => if v2 = 0 then V 3 [rr 0, ii T, ii to_, ii sg, ii any, ii (i + 1)] [] M2 else Qr [.inl i] M2) Qt := t_205a fun V' hV' hW' => b_205a_0 (Tr_mono _) hV' hW' _ _ _ ⟨by omega, by
            rw [g4.1, if_neg (fun e => bits.1.1 e c1.2.2)]
            exact ⟨.inr rfl, ri_i (by rw [if_neg (by decide)]; exact g)⟩⟩
          rw [if_pos (by (clear hP hE hto hs p18 ih i0 g1 g2 g3 g4 v0 xv qv bits w2 w3 w1 no c1 hV hW g c5; omega)), w2, w3, w1, if_pos c1.1]
          refine ⟨by (clear hP hE hto hs ih g1 g2 g3 g4 v0 xv qv bits w2 w3 no c1 hV hW g c5; lia), ?_⟩
          by_cases k2 : any = 0
          · rw [if_pos k2, if_pos (c1.2.1 k2)]; exact ⟨by omega, c5⟩
          · rw [if_neg k2]; exact c5
        · rw [if_pos (by omega), w1, if_pos ((hE i i0 (by omega)).1 c1.1)]
          refine ⟨by omega, ?_⟩
          by_cases k2 : any = 0
          · rw [if_pos k2, if_pos (by rw [(hto k2).2]; exact (g2 to_ (hto k2).1).1 (c1.2.1 k2)), if_pos (bits.2.2 c1.2.2)]
            exact ⟨by omega, by omega, g⟩
          · rw [if_neg k2, if_pos (bits.2.2 c1.2.2)]
            exact ⟨by omega, g⟩
      · exact no c1
  obtain ⟨v, v0, xv, qv⟩ := lp (N 6 18).toNat 0 (by (clear hP hE hto hs lp; lia)) (by decide)
  exact ⟨v, v0, fun Qr Qt g => t_26 fun V hV hW => b_26_0 (Tr_mono _) hV hW _ _ _ _ _ (xv V Qr Qt hV hW g), fun Qr Qt g => t_357 fun V hV hW => b_357_0 (Tr_mono _) hV hW _ _ _ _ _ (qv V Qr Qt hV hW g)⟩
theorem env_e [Inhabited fz_] (hP : PLr M N) (hr : 0 ≤ r ∧ r < N 6 18) : M 81 (2 * r) = -2 ↔ N 160 r = -1 := by
  obtain ⟨⟨⟨a1, a2⟩, _⟩, d1, _⟩ := hP.2.2.1 r hr.1 (by rw [tbN_6 (by decide)]; exact hr.2)
  rw [show swc M 114 = M 81 from swc_r (q := 81) (by decide) (by decide)] at a1 d1
  rw [tbN_r (q := 158) (by decide) (by decide)] at a1 a2
  rw [tbN_r (q := 160) (by decide) (by decide)] at a2
  have t1 := tpl_ge (tbN N) (N 158 r)
  by_cases c : N 158 r = 0
  · rw [if_pos c] at a1 a2; omega
  · rw [if_neg c] at a1 a2; (clear hP hr; lia)
/-- a value as it is given -/
def gvn (N : mm_) (sg i v : Int) : Int := if i < N 156 sg then (if N 157 (3 * sg + i) = 2 then (if v = 0 then 0 else 1) else v) else 0
theorem SGN_of [Inhabited fz_] (hP : PLr M N) (hs : 0 ≤ sg ∧ sg < N 6 17) : (0 ≤ N 156 sg ∧ N 156 sg ≤ 3 ∧ M 79 sg = N 156 sg) ∧ (∀ i, 0 ≤ i → i < N 156 sg → N 157 (3 * sg + i) = M 80 (3 * sg + i) + 1 ∧ 0 ≤ M 80 (3 * sg + i) ∧ M 80 (3 * sg + i) ≤ 2) ∧ N 6 17 ≤ 20 ∧ M 4 0 = N 6 17 := by
  have a := hP.1.1
  have b := hP.2.2.2.2.1 sg hs.1 (by rw [tbN_6 (by decide)]; exact hs.2)
  rw [tbN_6 (by decide), swc_5] at a
  rw [tbN_r (q := 156) (by decide) (by decide), tbN_r (q := 157) (by decide) (by decide), show swc M 112 = M 79 from swc_r (q := 79) (by decide) (by decide), show swc M 113 = M 80 from swc_r (q := 80) (by decide) (by decide)] at b
  exact ⟨b.1, b.2, a.2.2, a.1⟩
theorem x_60 [Inhabited fz_] (hP : PLr M N) (hs : 0 ≤ sg ∧ sg < N 6 17) (hi : 0 ≤ i ∧ i < 3) : Ex_ 1 60 [.inr (.inr 0), .inl sg, .inl i, .inl v] M [.inl (gvn N sg i v)] M := fun Qr Qt g => t_60 fun V hV hW => b_60_0 (Tr_mono _) hV hW _ _ _ _ (by
  obtain ⟨a1, a2, a3, a4⟩ := SGN_of hP hs
  refine ⟨by omega, ?_⟩
  have w : w32 (w32 (3 * sg) + i) = 3 * sg + i := by rw [w32_id (x := 3 * sg) (by omega) (by (clear hP hi g hV hW a1 a2; omega)), w32_id (by omega) (by omega)]
  unfold gvn at g
  rw [w]
  by_cases c : i < N 156 sg
  · have b := a2 i hi.1 c
    rw [if_pos c] at g
    rw [if_pos (by (clear hP hs hi g hV hW a2 a3 a4 b; omega))]
    refine ⟨by omega, ?_⟩
    by_cases c2 : M 80 (3 * sg + i) = 1
    · rw [if_pos (by (clear hP hs hi g hV hW a1 a2 a3 a4 w c; omega))] at g
      rw [if_pos c2]
      by_cases c3 : v = 0
      · rw [if_pos c3] at g; rw [if_pos c3, c3]; exact g
      · rw [if_neg c3] at g; rw [if_neg c3]; exact g
    · rw [if_neg (by (clear hP hs hi g hV hW a1 a2 a3 a4 w c; omega))] at g
      rw [if_neg c2]; exact g
  · rw [if_neg c] at g
    rw [if_neg (by (clear hP hs hi g hV hW a2 a3 a4; omega))]; exact g)
theorem q_101 [Inhabited fz_] {y1 y2 y3 y4 y5 y6 y7 : Int} (hs : 0 ≤ y1 ∧ y1 < 20) (hi : 0 ≤ i ∧ i < 3) : RC 9 m_367 101 [rr 6, ii y1, ii y2, ii y3, ii y4, ii y5, ii y6, ii y7, ii i, ii v] N 71 [rr 6, ii y1, ii y2, ii y3, ii y4, ii y5, ii y6, ii y7, ii (i + 1), none] (up_ N 242 i (gvn N y1 i v)) := fun V Qr Qt hV hW g => b_367_101 (Tr_mono _) hV hW _ _ _ _ _ _ _ _ _ _ (by
  refine ⟨hs, ?_⟩
  have w : w32 (w32 (3 * y1) + i) = 3 * y1 + i := by rw [w32_id (x := 3 * y1) (by omega) (by omega), w32_id (by omega) (by omega)]
  unfold gvn at g
  rw [w, w32_id (x := i + 1) (by omega) (by omega)]
  by_cases c : i < N 156 y1
  · rw [if_pos c] at g
    rw [if_pos c]
    refine ⟨by omega, ?_⟩
    by_cases c2 : N 157 (3 * y1 + i) = 2
    · rw [if_pos c2] at g; rw [if_pos c2]
      by_cases c3 : v = 0
      · rw [if_pos c3] at g; rw [if_pos c3, c3]; exact ⟨hi, g⟩
      · rw [if_neg c3] at g; rw [if_neg c3]; exact ⟨hi, g⟩
    · rw [if_neg c2] at g; rw [if_neg c2]; exact ⟨hi, g⟩
  · rw [if_neg c] at g
    rw [if_neg c]; exact ⟨hi, g⟩)
theorem b_q101 [Inhabited fz_] {V : vv_} {Qr : qr_} {Qt : qt_} (hV : Cl_ wd0 (Tr_ wd0 pg0 9) V Qr Qt m_367) (hW : Wk_ V) {y1 y2 y3 y4 y5 y6 y7 : Int} (hs : 0 ≤ y1 ∧ y1 < 20) (hi : 0 ≤ i ∧ i < 3) (g : V 71 [rr 6, ii y1, ii y2, ii y3, ii y4, ii y5, ii y6, ii y7, ii (i + 1), none] [] (up_ N 242 i (gvn N y1 i v))) : V 101 [rr 6, ii y1, ii y2, ii y3, ii y4, ii y5, ii y6, ii y7, ii i, ii v] [] N := q_101 hs hi V Qr Qt hV hW g
theorem gvn_e [Inhabited fz_] {N1 : mm_} (h1 : N1 156 = N 156) (h2 : N1 157 = N 157) : gvn N1 sg i v = gvn N sg i v := by unfold gvn; rw [h1, h2]
theorem gvn_r [Inhabited fz_] (hv : R32 v) : R32 (gvn N sg i v) := by
  unfold gvn
  unfold R32 at *
  split
  · split
    · split <;> omega
    · exact hv
  · omega
theorem j_59 [Inhabited fz_] (h : RNS M N) (h3 : R32 x3) (h4 : R32 x4) (h5 : R32 x5) : JN 10 59 [.inr (.inr 0), .inl x1, .inl x2, .inl x3, .inl x4, .inl x5] 10 367 [.inr (.inr 6), .inl x1, .inl x2, .inl x3, .inl x4, .inl x5] M N 0 := by
  obtain ⟨⟨u1, u2, u3, u4⟩, r1, r2⟩ := h
  have n12 := u1.1.1
  obtain ⟨v, hv, xs, qs⟩ := j_sl u1 x2
  have p0 := u2.1.1
  rw [tbN_6 (by decide), swc_5] at p0
  -- nothing is put
  have no0 : (v = -1 ∨ x1 < 0 ∨ ¬ x1 < M 4 0) → JN 10 59 [.inr (.inr 0), .inl x1, .inl x2, .inl x3, .inl x4, .inl x5] 10 367 [.inr (.inr 6), .inl x1, .inl x2, .inl x3, .inl x4, .inl x5] M N 0 := fun hno => by
    refine JN_0 (v := 0) ⟨u1, u2, u3, u4⟩ (by decide) (fun Qr Qt g => t_59 fun V hV hW => b_59_0 (Tr_mono _) hV hW _ _ _ _ _ _ fun _ => ?_) (fun Qr Qt g => t_367 fun V hV hW => b_367_0 (Tr_mono _) hV hW _ _ _ _ _ _ fun _ => ?_)
    · rw [if_neg (by omega)]
      refine Ex_le (d := 1) (by decide) xs _ _ (ri_i ?_)
      by_cases c1 : v = -1
      · rw [if_pos c1]; exact g
      · rw [if_neg c1]
        by_cases c2 : x1 < 0
        · rw [if_pos c2]; exact g
        · rw [if_neg c2, if_neg (by (clear h3 h4 h5 u1 u2 u3 u4 r1 r2 n12 hv xs qs g hV hW; lia))]; exact g
    · rw [if_neg (by omega)]
      refine Ex_le (d := 2) (by decide) qs _ _ (ri_i ?_)
      by_cases c2 : x1 < 0
      · rw [if_pos c2]; exact g
      · rw [if_neg c2]
        by_cases c3 : x1 < N 6 17
        · rw [if_pos c3]
          by_cases c4 : x2 < 1
          · rw [if_pos c4]; exact g
          · rw [if_neg c4, if_pos (by (clear h3 h4 h5 u1 u2 u3 u4 r1 r2 n12 hv xs qs g hV hW c4; omega))]; exact g
        · rw [if_neg c3]; exact g
  by_cases cv : v = -1
  · exact no0 (.inl cv)
  by_cases c2 : x1 < 0
  · exact no0 (.inr (.inl c2))
  by_cases c3 : x1 < M 4 0
  · obtain ⟨hv, hp, h1p⟩ := hv.resolve_left cv
    have hB : sB v = 2 + 56 * v := rfl
    have hin := u1.1.2.2.1 v hv.1 hv.2
    have hs : 0 ≤ x1 ∧ x1 < N 6 17 := ⟨by omega, by omega⟩
    have w1 : w32 (sB v + 1) = sB v + 1 := w32_id (by (clear h3 h4 h5 u1 u2 u3 u4 r1 r2 xs qs p0 no0 cv c2 c3 hp h1p hin hs; lia)) (by (clear h3 h4 h5 u1 u2 u3 u4 r1 r2 xs qs p0 no0 cv c2 c3 hp h1p hin hs; omega))
    have e1 : N 239 (sB v + 1) = M 11 v := hin.1.2.1.symm
    obtain ⟨r, hr, x26, q26⟩ := j_26g (T := -2) (TQ := -1) (to_ := M 11 v) (tq := M 11 v) (sg := x1) (any := 0) u2 (fun i i0 i1 => env_e u2 ⟨i0, i1⟩) (fun _ => ⟨hin.2.1.2.1.1, rfl⟩) (by omega)
    by_cases cr : r = -1
    · refine JN_0 (v := 0) ⟨u1, u2, u3, u4⟩ (by decide) (fun Qr Qt g => t_59 fun V hV hW => b_59_0 (Tr_mono _) hV hW _ _ _ _ _ _ fun _ => ?_) (fun Qr Qt g => t_367 fun V hV hW => b_367_0 (Tr_mono _) hV hW _ _ _ _ _ _ fun _ => ?_)
      · rw [if_neg (by omega)]
        refine Ex_le (d := 1) (by decide) xs _ _ (ri_i ?_)
        rw [if_neg cv, if_neg c2, if_pos c3]
        refine ⟨by omega, Ex_le (d := 2) (by decide) x26 _ _ (ri_i ?_)⟩
        rw [if_pos cr]; exact g
      · rw [if_neg (by (clear h3 h4 h5 u1 u2 u3 u4 r1 n12 xs qs p0 no0 cv c2 c3 hv hp h1p hB hin hs w1 e1 hr x26 q26 cr g hV hW; omega))]
        refine Ex_le (d := 2) (by decide) qs _ _ (ri_i ?_)
        rw [if_neg c2, if_pos hs.2, if_neg (by (clear h3 h4 h5 u1 u2 u3 u4 r1 r2 n12 xs qs p0 no0 cv c2 c3 hv hp hB hin hs w1 e1 hr x26 q26 cr g hV hW; lia)), if_neg (by (clear h3 h4 h5 u1 u2 u3 u4 r1 r2 n12 xs qs p0 no0 cv c2 c3 hp h1p hB hin hs w1 e1 hr x26 q26 cr g hV hW; omega))]
        refine Ex_le (d := 1) (by decide) (q_323 (by (clear h3 h4 h5 u1 u2 u3 u4 r1 r2 xs qs p0 no0 cv c2 c3 hp h1p hB hin hs w1 e1 hr x26 q26 cr g hV hW; omega))) _ _ (ri_i ?_)
        rw [w1, e1]
        refine ⟨by (clear h3 h4 h5 u1 u2 u3 u4 r1 r2 xs qs p0 no0 cv c2 c3 hp h1p hin hs w1 e1 hr x26 q26 cr g hV hW; omega), Ex_le (d := 1) (by decide) q26 _ _ (ri_i ?_)⟩
        rw [if_pos (by omega)]; exact g
    · have hr2 := hr.resolve_left cr
      generalize hN0 : up_ (up_ (up_ N 242 0 (gvn N x1 0 x3)) 242 1 (gvn N x1 1 x4)) 242 2 (gvn N x1 2 x5) = N0
      have er : ∀ q : Nat, q ≠ 242 → N0 q = N q := fun q c => by rw [← hN0, up_ne c, up_ne c, up_ne c]
      have g0 : N0 242 0 = gvn N x1 0 x3 ∧ N0 242 1 = gvn N x1 1 x4 ∧ N0 242 2 = gvn N x1 2 x5 := by
        rw [← hN0]; exact ⟨by rw [upo (by decide), upo (by decide), up_at], by rw [upo (by decide), up_at], by rw [up_at]⟩
      have ru0 : RU 0 M N0 := RU_2 u1 (fun q hq => er q (fun e => hq (by rw [e]; decide)))
      have fq0 : QRF N N0 := ⟨fun q hq => er q (fun e => hq (by rw [e]; decide)), fun i _ => by rw [er 6 (by decide)]⟩
      have A0 : TYA N0 := TYA_c u3 (TYT_Q fq0) (er 239 (by decide))
      obtain ⟨M', N', x27, q27, ru, ty, fr, ka⟩ := j_27 (sg := x1) (sn := 0) (rc := x2) (r := r) ru0 (PLr_c u2 XRF_rf fq0) (by rw [er 6 (by decide)]; exact hr2) g0
      have sgv : SGV N0 x1 (N0 242) := by
        refine ⟨.inl (by rw [er 6 (by decide)]; (clear h3 h4 h5 u1 u2 u3 u4 r1 r2 n12 xs qs no0 cv hv hp h1p hB hin hs w1 e1 hr x26 q26 cr hr2 hN0 er g0 ru0 fq0 A0 x27 q27 ru ty fr ka; omega)), fun _ j j0 j1 j2 j3 => ?_, fun j j0 j1 => ?_⟩
        · rw [er 156 (by decide)] at j2
          rw [er 157 (by decide)] at j3
          have bv : ∀ u, BV (gvn N x1 j u) := fun u => by
            unfold gvn BV; rw [if_pos j2, if_pos j3]; split; exact .inl rfl; exact .inr rfl
          rcases (by (clear h3 h4 h5 u1 u2 u3 u4 r1 r2 n12 xs qs p0 no0 cv c2 c3 hv hp h1p hB hin hs w1 e1 hr x26 q26 cr hr2 hN0 er g0 ru0 fq0 A0 x27 q27 ru ty fr ka j2 j3 bv; lia) : j = 0 ∨ j = 1 ∨ j = 2) with e | e | e
          · subst e; rw [g0.1]; exact bv _
          · subst e; rw [g0.2.1]; exact bv _
          · subst e; rw [g0.2.2]; exact bv _
        · rcases (by omega : j = 0 ∨ j = 1 ∨ j = 2) with e | e | e
          · subst e; rw [g0.1]; exact gvn_r h3
          · subst e; rw [g0.2.1]; exact gvn_r h4
          · subst e; rw [g0.2.2]; exact gvn_r h5
      have ty' := ty A0 sgv (by unfold R32; omega) (by rw [← hp, hin.1.1]; exact u3.2.2 _)
      have fq := QRF_tr fq0 fr.2
      refine ⟨1, M', N', fun Qr Qt g => t_59 fun V hV hW => b_59_0 (Tr_mono _) hV hW _ _ _ _ _ _ fun _ => ?_, fun Qr Qt g => t_367 fun V hV hW => b_367_0 (Tr_mono _) hV hW _ _ _ _ _ _ fun _ => ?_, ⟨ru, PLr_c u2 fr.1 fq, ty', by rw [fr.1.2 11 (by decide), fq.2 130 (by decide)]; exact u4⟩, ⟨XRG_f fr.1, QRG_f fq⟩, by rw [ka.2 8 (by decide)]; (clear h3 h4 h5 u1 u2 u3 u4 r1 r2 n12 xs qs p0 no0 cv c2 c3 hv hp h1p hB hin hs w1 e1 hr x26 q26 cr hr2 hN0 er g0 ru0 fq0 A0 x27 q27 ru ty fr ka sgv ty' fq; lia)⟩
      · rw [if_neg (by (clear h3 h4 h5 u1 u2 u3 u4 r2 n12 xs qs p0 no0 cv c2 c3 hv hp h1p hB hin hs w1 e1 hr x26 q26 cr hr2 hN0 er g0 ru0 fq0 A0 x27 q27 ru ty fr ka sgv ty' fq g hV hW; omega))]
        refine Ex_le (d := 1) (by decide) xs _ _ (ri_i ?_)
        rw [if_neg cv, if_neg c2, if_pos c3]
        refine ⟨by omega, Ex_le (d := 2) (by decide) x26 _ _ (ri_i ?_)⟩
        rw [if_neg cr]
        refine Ex_le (d := 1) (by decide) (x_60 u2 hs (by decide)) _ _ (ri_i (Ex_le (d := 1) (by decide) (x_60 u2 hs (by decide)) _ _ (ri_i (Ex_le (d := 1) (by decide) (x_60 u2 hs (by decide)) _ _ (ri_i ?_)))))
        exact Ex_le (d := 5) (by decide) x27 _ _ (rv_i g)
      · rw [if_neg (by (clear h3 h4 h5 u1 u2 u3 u4 r1 n12 xs qs p0 no0 cv c2 c3 hv hp h1p hB hin hs w1 e1 hr x26 q26 cr hr2 hN0 er g0 ru0 fq0 A0 x27 q27 ru ty fr ka sgv ty' fq g hV hW; omega))]
        refine Ex_le (d := 2) (by decide) qs _ _ (ri_i ?_)
        rw [if_neg c2, if_pos hs.2, if_neg (by (clear h3 h4 h5 u1 u2 u3 u4 r1 r2 n12 xs qs p0 no0 cv c2 c3 hv hp hB hin hs w1 e1 hr x26 q26 cr hr2 hN0 er g0 ru0 fq0 A0 x27 q27 ru ty fr ka sgv ty' fq g hV hW; omega)), if_neg (by (clear h3 h4 h5 u1 u2 u3 u4 r1 r2 n12 xs qs p0 no0 cv c2 c3 hp h1p hB hin hs w1 e1 hr x26 q26 cr hr2 hN0 er g0 ru0 fq0 A0 x27 q27 ru ty fr ka sgv ty' fq g hV hW; omega))]
        refine Ex_le (d := 1) (by decide) (q_323 (by (clear h3 h4 h5 u1 u2 u3 u4 r1 r2 xs qs p0 no0 cv c2 c3 hp h1p hB hin hs w1 e1 hr x26 q26 cr hr2 hN0 er g0 ru0 fq0 A0 x27 q27 ru ty fr ka sgv ty' fq g hV hW; omega))) _ _ (ri_i ?_)
        rw [w1, e1]
        refine ⟨by (clear h3 h4 h5 u1 u2 u3 u4 r1 r2 xs qs p0 no0 cv c2 c3 hp h1p hin hs w1 e1 hr x26 q26 cr hr2 hN0 er g0 ru0 fq0 A0 x27 q27 ru ty fr ka sgv ty' fq g hV hW; lia), Ex_le (d := 1) (by decide) q26 _ _ (ri_i ?_)⟩
        rw [if_neg (by omega)]
        refine b_367_71 (Tr_mono _) hV hW _ _ _ _ _ _ _ _ _ ?_
        rw [if_pos (by decide), if_pos rfl]
        refine b_q101 hV hW (by (clear h3 h4 h5 u1 u2 u3 u4 r1 r2 n12 xs qs no0 cv hv hp h1p hB hin hs w1 e1 hr x26 q26 cr hr2 hN0 er g0 ru0 fq0 A0 x27 q27 ru ty fr ka sgv ty' fq g hV hW; omega)) (by decide) (b_367_71 (Tr_mono _) hV hW _ _ _ _ _ _ _ _ _ ?_)
        rw [if_pos (by decide), if_neg (by decide), if_pos (by decide)]
        refine b_q101 hV hW (by omega) (by decide) (b_367_71 (Tr_mono _) hV hW _ _ _ _ _ _ _ _ _ ?_)
        rw [if_pos (by decide), if_neg (by decide), if_neg (by decide)]
        refine b_q101 hV hW (by omega) (by decide) (b_367_71 (Tr_mono _) hV hW _ _ _ _ _ _ _ _ _ ?_)
        rw [if_neg (by decide)]
        have u156 : ∀ (A : mm_) (j u : Int), up_ A 242 j u 156 = A 156 := fun A j u => up_ne (by decide)
        have u157 : ∀ (A : mm_) (j u : Int), up_ A 242 j u 157 = A 157 := fun A j u => up_ne (by decide)
        rw [gvn_e (N1 := up_ (up_ N 242 0 (gvn N x1 0 x3)) 242 (0 + 1) (gvn (up_ N 242 0 (gvn N x1 0 x3)) x1 (0 + 1) x4)) (N := N) (by rw [u156, u156]) (by rw [u157, u157]), gvn_e (N1 := up_ N 242 0 (gvn N x1 0 x3)) (N := N) (u156 _ _ _) (u157 _ _ _)]
        show Tr_ wd0 pg0 9 359 [.inr (.inr 6), .inl r, .inl x1, .inl 0, .inl x2] (up_ (up_ (up_ N 242 0 (gvn N x1 0 x3)) 242 1 (gvn N x1 1 x4)) 242 2 (gvn N x1 2 x5)) _ _
        rw [hN0]
        exact Ex_le (d := 4) (by decide) q27 _ _ (rv_i g)
  · exact no0 (.inr (.inr c3))
end PUa
end T393_pu
section T394_bg
/-! begin (X 57 | Q 321) -/
/-- what holds between the two whether or not something runs -/
def BAS (M N : mm_) : Prop := (∀ i, 0 ≤ i → i < 1200 → M 24 i = N 241 i) ∧ (∀ i, 0 ≤ i → i < 2000 → M 23 i = N 240 i) ∧ RG9 N
def XBG (M M' : mm_) : Prop := (∀ r : Nat, r ∉ xuL → M' r = M r) ∧ ∀ i : Int, i ∉ 4 :: 9 :: 11 :: 62 :: 63 :: 64 :: xfL → M' 0 i = M 0 i
def QBG (N N' : mm_) : Prop := (∀ r : Nat, r ∉ quL → N' r = N r) ∧ ∀ i : Int, i ∉ 126 :: 128 :: 130 :: 163 :: 164 :: 169 :: qfL → N' 6 i = N 6 i
def bgX (M : mm_) (x1 : Int) : mm_ := up_ (up_ (up_ (up_ (up_ (up_ (up_ (up_ (up_ (up_ (up_ (up_ (up_ (up_ (up_ (up_ (up_ (up_ (up_ (up_ (up_ M 0 4 1) 0 10 x1) 0 25 0) 0 7 0) 0 26 0) 0 8 1) 0 9 0) 0 11 0) 0 27 0) 0 28 0) 0 29 0) 0 30 0) 0 31 0) 0 32 0) 0 33 0) 0 34 0) 0 35 0) 0 36 0) 0 62 0) 0 63 0) 0 64 0
def bgQ (M : mm_) (x1 : Int) : mm_ := up_ (up_ (up_ (up_ (up_ (up_ (up_ (up_ (up_ (up_ (up_ (up_ (up_ (up_ (up_ (up_ (up_ (up_ (up_ (up_ M 239 1 1) 6 126 1) 6 127 0) 6 128 0) 6 129 x1) 6 130 0) 6 131 0) 6 132 0) 6 133 0) 6 134 0) 6 135 0) 6 136 0) 6 137 0) 6 144 0) 6 145 0) 6 142 0) 6 143 0) 6 163 0) 6 169 0) 6 164 0
section BGa
variable {z : Int} {M N M' N' M1 N1 M2 N2 : mm_} {s k r T p w n x1 x2 x3 x4 x5 y : Int}
theorem XBG_g [Inhabited fz_] (h : XRG M M') : XBG M M' := ⟨h.1, fun i hi => h.2 i (fun c => hi (by simp only [List.mem_cons] at c ⊢; rcases c with c | c | c; exact .inr (.inl c); exact .inr (.inr (.inl c)); exact .inr (.inr (.inr (.inr (.inr (.inr c)))))))⟩
theorem QBG_g [Inhabited fz_] (h : QRG N N') : QBG N N' := ⟨h.1, fun i hi => h.2 i (fun c => hi (by simp only [List.mem_cons] at c ⊢; rcases c with c | c | c; exact .inr (.inl c); exact .inr (.inr (.inl c)); exact .inr (.inr (.inr (.inr (.inr (.inr c)))))))⟩
theorem XBG_tr [Inhabited fz_] (h : XBG M M1) (g : XBG M1 M') : XBG M M' := ⟨fun r hr => (g.1 r hr).trans (h.1 r hr), fun i hi => (g.2 i hi).trans (h.2 i hi)⟩
theorem QBG_tr [Inhabited fz_] (h : QBG N N1) (g : QBG N1 N') : QBG N N' := ⟨fun r hr => (g.1 r hr).trans (h.1 r hr), fun i hi => (g.2 i hi).trans (h.2 i hi)⟩
theorem PLr_b [Inhabited fz_] (h : PLr M N) (hx : XBG M M') (hq : QBG N N') : PLr M' N' := by
  have e1 : swc M' = swc M := by
    funext r
    unfold swc
    split
    · rw [hx.1 4 (by decide)]
    · split
      · rename_i c
        exact hx.1 _ (fun e => by simp only [xuL, List.mem_cons, List.not_mem_nil, or_false] at e; omega)
      · rfl
  have e2 : tbN N' = tbN N := by
    funext r
    unfold tbN
    split
    · funext i
      split
      · rename_i hi
        exact hq.2 i (fun e => by simp only [tfL, qfL, List.mem_cons, List.not_mem_nil, or_false] at hi e; omega)
      · rfl
    · split
      · exact hq.1 r (fun e => by simp only [quL, List.mem_cons, List.not_mem_nil, or_false] at e; omega)
      · rfl
  unfold PLr; rw [e1, e2]; exact h
theorem bgX_r [Inhabited fz_] {r : Nat} (h : r ≠ 0) : bgX M x1 r = M r := by unfold bgX; simp only [up_ne h]
theorem bgX_o [Inhabited fz_] {i : Int} (h : i ∉ 4 :: 9 :: 11 :: 62 :: 63 :: 64 :: xfL) : bgX M x1 0 i = M 0 i := by
  simp only [xfL, List.mem_cons, List.not_mem_nil, or_false, not_or] at h
  unfold bgX
  rw [upo h.2.2.2.2.2.1, upo h.2.2.2.2.1, upo h.2.2.2.1]
  obtain ⟨h4, h9, h11, _, _, _, h7, h8, h10, h25, h26, h27, h28, h29, h30, h31, h32, h33, h34, h35, h36, _⟩ := h
  rw [upo h36, upo h35, upo h34, upo h33, upo h32, upo h31, upo h30, upo h29, upo h28, upo h27, upo h11, upo h9, upo h8, upo h26, upo h7, upo h25, upo h10, upo h4]
theorem bgX_v [Inhabited fz_] : bgX M x1 0 4 = 1 ∧ bgX M x1 0 10 = x1 ∧ bgX M x1 0 8 = 1 ∧ ∀ i : Int, i ∈ [25, 7, 26, 9, 11, 27, 28, 29, 30, 31, 32, 33, 34, 35, 36, 62, 63, 64] → bgX M x1 0 i = 0 := by
  refine ⟨?_, ?_, ?_, fun i hi => ?_⟩
  · unfold bgX; simp [up_]
  · unfold bgX; simp [up_]
  · unfold bgX; simp [up_]
  · simp only [List.mem_cons, List.not_mem_nil, or_false] at hi
    rcases hi with e | e | e | e | e | e | e | e | e | e | e | e | e | e | e | e | e | e <;> (subst e; unfold bgX; simp [up_])
theorem bgQ_r [Inhabited fz_] {r : Nat} (h : r ≠ 6) (h' : r ≠ 239) : bgQ N x1 r = N r := by unfold bgQ; simp only [up_ne h, up_ne h']
theorem bgQ_239 [Inhabited fz_] : bgQ N x1 239 = up_ N 239 1 1 239 := by unfold bgQ; simp only [up_ne (show (239 : Nat) ≠ 6 by decide)]
theorem bgQ_o [Inhabited fz_] {i : Int} (h : i ∉ 126 :: 128 :: 130 :: 163 :: 164 :: 169 :: qfL) : bgQ N x1 6 i = N 6 i := by
  simp only [qfL, List.mem_cons, List.not_mem_nil, or_false, not_or] at h
  obtain ⟨h126, h128, h130, h163, h164, h169, h127, h129, h131, h132, h133, h134, h135, h136, h137, h138, h139, h142, h143, h144, h145, _⟩ := h
  unfold bgQ
  rw [upo h164, upo h169, upo h163, upo h143, upo h142, upo h145, upo h144, upo h137, upo h136, upo h135, upo h134, upo h133, upo h132, upo h131, upo h130, upo h129, upo h128, upo h127, upo h126, up_ne (by decide)]
theorem bgQ_v [Inhabited fz_] : bgQ N x1 6 126 = 1 ∧ bgQ N x1 6 129 = x1 ∧ ∀ i : Int, i ∈ [127, 128, 130, 131, 132, 133, 134, 135, 136, 137, 144, 145, 142, 143, 163, 169, 164] → bgQ N x1 6 i = 0 := by
  refine ⟨?_, ?_, fun i hi => ?_⟩
  · unfold bgQ; simp [up_]
  · unfold bgQ; simp [up_]
  · simp only [List.mem_cons, List.not_mem_nil, or_false] at hi
    rcases hi with e | e | e | e | e | e | e | e | e | e | e | e | e | e | e | e | e <;> (subst e; unfold bgQ; simp [up_])
def bgX2 (M : mm_) (x1 : Int) : mm_ := wr_ (bgX M x1) 21 (flf (M 21) 0 10 0)
def bgQ2 (N : mm_) (x1 : Int) : mm_ := bgQ (wr_ N 239 (flf (N 239) 0 1104 0)) x1
theorem XBG_b [Inhabited fz_] : XBG M (bgX2 M x1) := ⟨fun r hr => by
    unfold bgX2; rw [wr_ne (fun e => hr (by rw [e]; decide)), bgX_r (fun e => hr (by rw [e]; decide))], fun i hi => by unfold bgX2; rw [wr_ne (by decide)]; exact bgX_o hi⟩
theorem QBG_b [Inhabited fz_] : QBG N (bgQ2 N x1) := ⟨fun r hr => by
    have e1 : r ≠ 6 := fun e => hr (by rw [e]; decide)
    have e2 : r ≠ 239 := fun e => hr (by rw [e]; decide)
    unfold bgQ2; rw [bgQ_r e1 e2, wr_ne e2], fun i hi => by unfold bgQ2; rw [bgQ_o hi, wr_ne (by decide)]⟩
theorem STp_b [Inhabited fz_] (hP : PLr M N) (hb : BAS M N) : STp (bgX2 M x1) (bgQ2 N x1) := by
  obtain ⟨b1, b2, b5⟩ := hb
  obtain ⟨v4, v10, v8, v0⟩ := bgX_v (M := M) (x1 := x1)
  obtain ⟨u126, u129, u0⟩ := bgQ_v (N := wr_ N 239 (flf (N 239) 0 1104 0)) (x1 := x1)
  have X0 : ∀ i, bgX2 M x1 0 i = bgX M x1 0 i := fun i => by unfold bgX2; rw [wr_ne (by decide)]
  have x0 : ∀ i : Int, i ∈ [25, 7, 26, 9, 11, 27, 28, 29, 30, 31, 32, 33, 34, 35, 36, 62, 63, 64] → bgX2 M x1 0 i = 0 := fun i hi => by rw [X0]; exact v0 i hi
  have q0 : ∀ i : Int, i ∈ [127, 128, 130, 131, 132, 133, 134, 135, 136, 137, 144, 145, 142, 143, 163, 169, 164] → bgQ2 N x1 6 i = 0 := fun i hi => u0 i hi
  have x37 : bgX2 M x1 0 37 = M 0 37 := by unfold bgX2; rw [wr_ne (by decide)]; unfold bgX; simp [up_]
  have x38 : bgX2 M x1 0 38 = M 0 38 := by unfold bgX2; rw [wr_ne (by decide)]; unfold bgX; simp [up_]
  have q138 : bgQ2 N x1 6 138 = N 6 138 := by unfold bgQ2 bgQ; simp [up_, wr_]
  have q139 : bgQ2 N x1 6 139 = N 6 139 := by unfold bgQ2 bgQ; simp [up_, wr_]
  have e239 : ∀ i, bgQ2 N x1 239 i = if i = 1 then 1 else if 0 ≤ i ∧ i < 1104 then 0 else N 239 i := fun i => by
    unfold bgQ2
    rw [bgQ_239]
    by_cases c : i = 1
    · rw [c, up_at, if_pos rfl]
    · rw [upo c, if_neg c, wr_same]; unfold flf; rfl
  have z239 : ∀ i, 0 ≤ i → i < 1104 → i ≠ 1 → bgQ2 N x1 239 i = 0 := fun i i0 i1 i2 => by rw [e239, if_neg i2, if_pos ⟨i0, i1⟩]
  have P' := PLr_b (M' := bgX2 M x1) (N' := bgQ2 N x1) hP XBG_b QBG_b
  have h18 := P'.1.2.1
  rw [tbN_6 (by decide)] at h18
  refine ⟨⟨⟨?_, ?_, ?_, ?_⟩, ⟨h18.2, ?_, ?_⟩, ?_, ?_, ?_⟩, P', ⟨?_, ?_, ?_⟩, ?_⟩
  · rw [x0 7 (by decide), z239 0 (by decide) (by decide) (by decide)]; decide
  · rw [X0, v8, e239, if_pos rfl]; decide
  · intro k k0 k1; rw [x0 7 (by decide)] at k1; omega
  · intro k k0 k1 i i0 i1
    rw [x0 7 (by decide)] at k0
    have hB : sB k = 2 + 56 * k := rfl
    exact z239 _ (by (clear hP b1 b2 b5 v4 v10 v8 v0 u126 u129 u0 X0 x0 q0 x37 x38 q138 q139 e239 z239 P' h18; lia)) (by (clear hP b1 b2 b5 v4 v10 v8 v0 u126 u129 u0 X0 x0 q0 x37 x38 q138 q139 e239 z239 P' h18; omega)) (by (clear hP b1 b2 b5 v4 v10 v8 v0 u126 u129 u0 X0 x0 q0 x37 x38 q138 q139 e239 z239 P' h18; omega))
  · intro r r0 r1
    have hR : sR r = 674 + 43 * r := rfl
    have e21 : bgX2 M x1 21 r = 0 := by unfold bgX2; rw [wr_same]; unfold flf; rw [if_pos (by (clear hP b1 b2 b5 v4 v10 v8 v0 u126 u129 u0 X0 x0 q0 x37 x38 q138 q139 e239 z239 P' hR; omega))]
    refine ⟨by rw [e21, z239 _ (by (clear hP b1 b2 b5 v4 v10 v8 v0 u126 u129 u0 X0 x0 q0 x37 x38 q138 q139 e239 z239 P' e21; lia)) (by (clear hP b1 b2 b5 v4 v10 v8 v0 u126 u129 u0 X0 x0 q0 x37 x38 q138 q139 e239 z239 P' e21; lia)) (by (clear hP b1 b2 b5 v4 v10 v8 v0 u126 u129 u0 X0 x0 q0 x37 x38 q138 q139 e239 z239 P' h18 r0 r1 e21; lia))]; decide, fun q q0 q1 => by rw [e21] at q1; (clear hP b1 b2 b5 v4 v10 v8 v0 u126 u129 u0 X0 x0 x37 x38 q138 q139 e239 z239 P' h18 r0 r1 hR e21; omega), fun i i0 i1 => ?_⟩
    rw [e21] at i0
    exact z239 _ (by (clear hP b1 b2 b5 v4 v10 v8 v0 u126 u129 u0 X0 x0 q0 x37 x38 q138 q139 e239 z239 P' e21; lia)) (by (clear hP b1 b2 b5 v4 v10 v8 v0 u126 u129 u0 X0 x0 q0 x37 x38 q138 q139 e239 z239 P' e21; omega)) (by (clear hP b1 b2 b5 v4 v10 v8 v0 u126 u129 u0 X0 x0 q0 x37 x38 q138 q139 e239 z239 P' h18 r1 e21; omega))
  · intro r r0 r1 i i0 i1
    have hR : sR r = 674 + 43 * r := rfl
    exact z239 _ (by (clear hP b1 b2 b5 v4 v10 v8 v0 u126 u129 u0 X0 x0 q0 x37 x38 q138 q139 e239 z239 P'; omega)) (by (clear hP b1 b2 b5 v4 v10 v8 v0 u126 u129 u0 X0 x0 q0 x37 x38 q138 q139 e239 z239 P'; omega)) (by (clear hP b1 b2 b5 v4 v10 v8 v0 u126 u129 u0 X0 x0 q0 x37 x38 q138 q139 e239 z239 P' r1; omega))
  · unfold RSC
    rw [x0 25 (by decide), q0 127 (by decide), x0 9 (by decide), q0 128 (by decide), X0 10, v10, show bgQ2 N x1 6 129 = x1 from u129, x0 26 (by decide), x0 27 (by decide), x0 28 (by decide), x0 29 (by decide), x0 30 (by decide), x0 31 (by decide), q0 131 (by decide), q0 132 (by decide), q0 133 (by decide), q0 134 (by decide), q0 135 (by decide), q0 136 (by decide), x37, x38, q138, q139]
    exact ⟨⟨rfl, rfl, .inl rfl⟩, ⟨rfl, by decide⟩, ⟨rfl, trivial⟩, ⟨rfl, rfl, rfl, rfl, rfl, rfl⟩, fun c => absurd c (by decide)⟩
  · unfold ROU
    rw [x0 32 (by decide), x0 33 (by decide), x0 34 (by decide), q0 137 (by decide), q0 144 (by decide), q0 145 (by decide)]
    refine ⟨by decide, fun i i0 i1 => ?_⟩
    have e1 : bgX2 M x1 24 = M 24 := by unfold bgX2; rw [wr_ne (by decide), bgX_r (by decide)]
    have e2 : bgQ2 N x1 241 = N 241 := by unfold bgQ2; rw [bgQ_r (by decide) (by decide), wr_ne (by decide)]
    rw [e1, e2]; exact ⟨b1 i i0 i1, fun c => absurd c (by decide)⟩
  · unfold REV
    rw [x0 35 (by decide), x0 36 (by decide), q0 142 (by decide), q0 143 (by decide)]
    refine ⟨by decide, fun i i0 i1 => ?_⟩
    have e1 : bgX2 M x1 23 = M 23 := by unfold bgX2; rw [wr_ne (by decide), bgX_r (by decide)]
    have e2 : bgQ2 N x1 240 = N 240 := by unfold bgQ2; rw [bgQ_r (by decide) (by decide), wr_ne (by decide)]
    rw [e1, e2]; exact ⟨b2 i i0 i1, fun c => absurd c (by decide)⟩
  · intro k k0 k1 k2; rw [z239 0 (by decide) (by decide) (by decide)] at k2; omega
  · intro r r0 r1 r2 q q0 q1 q2
    have hR : sR r = 674 + 43 * r := rfl
    have : bgQ2 N x1 239 (sR r + 0) = 0 := z239 _ (by (clear hP b1 b2 b5 v4 v10 v8 v0 u126 u129 u0 X0 x0 x37 x38 q138 q139 e239 z239 P' h18 r2 q0 q1 q2; omega)) (by (clear hP b1 b2 b5 v4 v10 v8 v0 u126 u129 u0 X0 x0 x37 x38 q138 q139 e239 z239 P' h18 r2 q0 q1 q2; omega)) (by (clear hP b1 b2 b5 v4 v10 v8 v0 u126 u129 u0 X0 x0 x37 x38 q138 q139 e239 z239 P' h18 r0 r1 r2 q0 q1 q2; omega))
    have q3 : q < bgQ2 N x1 239 (sR r + 0) := q2
    (clear hP b1 b2 b5 v4 v10 v8 v0 u126 u129 u0 X0 x0 x37 x38 q138 q139 e239 z239 P' h18 r0 r1 r2 q2 hR; omega)
  · intro j
    rw [e239]
    unfold R32
    split
    · decide
    · split
      · decide
      · exact b5 j
  · rw [x0 11 (by decide), q0 130 (by decide)]
end BGa
section BGb
variable {M N : mm_} {x1 T : Int}
/-- instances of one type -/
theorem l_b150 [Inhabited fz_] (hT : 0 ≤ T ∧ T < 6) : ∀ (j : Nat) (x : Int) (M N : mm_), STp M N → T < N 6 19 → M 0 8 ≤ M 0 7 + 1 → 0 ≤ x → x + j = N 168 T → ∃ M' N', RC 2 m_57 150 [rr 0, ii x1, ii T, ii x] M 137 [rr 0, ii x1, ii (T + 1), none] M' ∧ RC 2 m_321 145 [rr 6, ii x1, ii T, ii x] N 135 [rr 6, ii x1, ii (T + 1), none] N' ∧ STp M' N' ∧ (XRF M M' ∧ QRF N N') ∧ M' 0 8 ≤ M' 0 7 + 1 := fun j => by
  induction j with
  | zero =>
    intro x M N h h6 h8 x0 hx
    have pt := (PT_of h.2.1 ⟨hT.1, h6⟩).1.1
    rw [tbN_r (q := 168) (by decide) (by decide), show swc M 120 = M 87 from swc_r (q := 87) (by decide) (by decide)] at pt
    refine ⟨M, N, fun V Qr Qt hV hW g => b_57_150 (Tr_mono _) hV hW _ _ _ _ ⟨hT, ?_⟩, fun V Qr Qt hV hW g => b_321_145 (Tr_mono _) hV hW _ _ _ _ ⟨hT, ?_⟩, h, ⟨XRF_rf, QRF_rf⟩, h8⟩
    · rw [if_neg (by (clear hT h h6 h8 x0 hV hW g; omega)), w32_id (x := T + 1) (by omega) (by omega)]; exact g
    · rw [if_neg (by omega), w32_id (x := T + 1) (by omega) (by omega)]; exact g
  | succ j ih =>
    intro x M N h h6 h8 x0 hx
    have n12 := h.1.1.1
    have ptt := PT_of h.2.1 ⟨hT.1, h6⟩
    have pt := ptt.1.1
    rw [tbN_r (q := 168) (by decide) (by decide), show swc M 120 = M 87 from swc_r (q := 87) (by decide) (by decide)] at pt
    have p174 := ptt.2.2.1.1.2.1
    have p172 := ptt.2.2.1.2.2.1.2.1
    rw [tbN_r (q := 174) (by decide) (by decide)] at p174
    rw [tbN_r (q := 172) (by decide) (by decide)] at p172
    by_cases c : M 0 7 < 12
    · have hm := RU_mk (T := T) (p := 0) h.1 c ⟨hT.1, h6⟩ p174 p172
      have tm := TYA_mk (T := T) (p := 0) h.1 h.2.2.1 c (by omega) (by (clear hT ih h h6 x0 hx ptt pt p174 p172 hm; omega)) (by unfold R32; omega)
      have kx := mkX_k (M := M) T 0
      obtain ⟨M', N', a1, a2, a3, a4, a5⟩ := ih (x + 1) (mkX M T 0) (mkQ N T 0) ⟨hm, PLr_c h.2.1 XRF_mk QRF_mk, tm, by rw [kx.2.1 11 (by decide), QRF_mk.2 130 (by decide)]; exact h.2.2.2⟩ (by rw [QRF_mk.2 19 (by decide)]; exact h6) (by rw [kx.2.2.1, kx.2.2.2.1]; (clear hT ih h h6 x0 hx ptt pt p174 p172 c hm tm; omega)) (by (clear hT ih h h6 h8 n12 ptt p174 p172 c hm tm kx; lia)) (by rw [QRF_mk.1 168 (by decide)]; (clear hT ih h h6 h8 x0 n12 ptt pt p174 p172 c hm tm kx; lia))
      refine ⟨M', N', RC_tr (fun V Qr Qt hV hW g => b_57_150 (Tr_mono _) hV hW _ _ _ _ ⟨hT, ?_⟩) a1, RC_tr (fun V Qr Qt hV hW g => b_321_145 (Tr_mono _) hV hW _ _ _ _ ⟨hT, ?_⟩) a2, a3, ⟨XRF_tr XRF_mk a4.1, QRF_tr QRF_mk a4.2⟩, a5⟩
      · rw [if_pos (by (clear hT ih h h6 h8 x0 n12 ptt p174 p172 c hm tm kx a1 a2 a3 a4 a5 hV hW g; omega)), if_pos c]
        refine x_31 h.1 c (by (clear hT ih h h6 x0 hx ptt pt p174 p172 hm tm a1 a2 a3 a4 a5 hV hW g; omega)) ⟨hT.1, h6⟩ p174 p172 _ _ (ri_i ?_)
        rw [w32_id (x := x + 1) (by omega) (by (clear hT ih h h6 h8 x0 n12 ptt p174 p172 c hm tm kx a1 a2 a3 a4 a5 hV hW g; lia))]; exact g
      · rw [if_pos (by (clear hT ih h h6 h8 x0 n12 ptt pt p174 p172 c hm tm kx a1 a2 a3 a4 a5 hV hW g; omega)), if_pos (by omega)]
        refine ⟨by decide, q_322 h.1 c (by omega) ⟨hT.1, h6⟩ p174 p172 _ _ (ri_i ?_)⟩
        rw [w32_id (x := x + 1) (by omega) (by omega)]; exact g
    · refine ⟨M, N, fun V Qr Qt hV hW g => b_57_150 (Tr_mono _) hV hW _ _ _ _ ⟨hT, ?_⟩, fun V Qr Qt hV hW g => b_321_145 (Tr_mono _) hV hW _ _ _ _ ⟨hT, ?_⟩, h, ⟨XRF_rf, QRF_rf⟩, h8⟩
      · rw [if_pos (by omega), if_neg c, w32_id (x := T + 1) (by omega) (by omega)]; exact g
      · rw [if_pos (by omega), if_neg (by omega), w32_id (x := T + 1) (by omega) (by omega)]; exact ⟨by decide, g⟩
theorem l_b137 [Inhabited fz_] : ∀ (j : Nat) (T : Int) (M N : mm_), STp M N → M 0 8 ≤ M 0 7 + 1 → 0 ≤ T → T + j = N 6 19 → ∃ v M' N', (∀ (V : vv_) (Qr : qr_) (Qt : qt_), Cl_ wd0 (Tr_ wd0 pg0 2) V Qr Qt m_57 → Wk_ V → Qr [.inl v] M' → V 137 [rr 0, ii x1, ii T, none] [] M) ∧ (∀ (V : vv_) (Qr : qr_) (Qt : qt_), Cl_ wd0 (Tr_ wd0 pg0 2) V Qr Qt m_321 → Wk_ V → Qr [.inl v] N' → V 135 [rr 6, ii x1, ii T, none] [] N) ∧ STp M' N' ∧ (XRF M M' ∧ QRF N N') ∧ M' 0 8 ≤ M' 0 7 + 1 := fun j => by
  induction j with
  | zero =>
    intro T M N h h8 T0 hT
    have n12 := h.1.1.1
    have p := h.2.1.1.2.2
    rw [tbN_6 (by decide), swc_5] at p
    refine ⟨M 0 7, M, N, fun V Qr Qt hV hW g => b_57_137 (Tr_mono _) hV hW _ _ _ ?_, fun V Qr Qt hV hW g => b_321_135 (Tr_mono _) hV hW _ _ _ ?_, h, ⟨XRF_rf, QRF_rf⟩, h8⟩
    · rw [if_neg (by (clear h h8 T0 n12 hV hW g; omega))]; exact g
    · rw [if_neg (by (clear h h8 T0 n12 p hV hW g; lia)), n12.2.2]; exact ⟨by decide, g⟩
  | succ j ih =>
    intro T M N h h8 T0 hT
    have p := h.2.1.1.2.2
    rw [tbN_6 (by decide), swc_5] at p
    have pt := (PT_of h.2.1 ⟨T0, by (clear ih h h8 T0 p; omega)⟩).1.1
    rw [tbN_r (q := 168) (by decide) (by decide)] at pt
    obtain ⟨M1, N1, a1, a2, a3, a4, a5⟩ := l_b150 (x1 := x1) (T := T) (by omega) (N 168 T).toNat 0 M N h (by omega) h8 (by decide) (by omega)
    obtain ⟨v, M', N', c1, c2, c3, c4, c5⟩ := ih (T + 1) M1 N1 a3 a5 (by omega) (by rw [a4.2.2 19 (by decide)]; omega)
    refine ⟨v, M', N', fun V Qr Qt hV hW g => b_57_137 (Tr_mono _) hV hW _ _ _ ?_, fun V Qr Qt hV hW g => b_321_135 (Tr_mono _) hV hW _ _ _ ?_, c3, ⟨XRF_tr a4.1 c4.1, QRF_tr a4.2 c4.2⟩, c5⟩
    · rw [if_pos (by omega)]; exact a1 V Qr Qt hV hW (c1 V Qr Qt hV hW g)
    · rw [if_pos (by omega)]; exact a2 V Qr Qt hV hW (c2 V Qr Qt hV hW g)
theorem x_116b [Inhabited fz_] {A : mm_} {V : vv_} {Qr : qr_} {Qt : qt_} (hV : Cl_ wd0 (Tr_ wd0 pg0 2) V Qr Qt m_57) (hW : Wk_ V) (g : V 137 [rr 0, ii x1, ii 0, none] [] (wr_ A 21 (flf (A 21) 0 10 0))) : V 116 [rr 0, ii x1, ii 0, none] [] A := by
  have l : ∀ (j : Nat) (x : Int), x + j = 10 → 0 ≤ x → V 116 [rr 0, ii x1, ii x, none] [] (wr_ A 21 (flf (A 21) 0 x 0)) := fun j => by
    induction j with
    | zero =>
      intro x hx x0
      refine b_57_116 (Tr_mono _) hV hW _ _ _ ?_
      rw [if_neg (by omega), show x = 10 by omega]; exact g
    | succ j ih =>
      intro x hx x0
      refine b_57_116 (Tr_mono _) hV hW _ _ _ ?_
      rw [if_pos (by (clear hV hW g ih; omega)), w32_id (x := x + 1) (by omega) (by omega), flf_s x0]
      exact ⟨by (clear hV hW g ih; omega), ih (x + 1) (by omega) (by omega)⟩
  have := l 10 0 (by decide) (by decide)
  rw [flf_0, wr_id] at this
  exact this
theorem q_11b [Inhabited fz_] {A : mm_} {V : vv_} {Qr : qr_} {Qt : qt_} (hV : Cl_ wd0 (Tr_ wd0 pg0 2) V Qr Qt m_321) (hW : Wk_ V) (g : V 135 [rr 6, ii x1, ii 0, none] [] (bgQ2 A x1)) : V 11 [rr 6, ii x1, ii 0, none] [] A := by
  have l : ∀ (j : Nat) (x : Int), x + j = 1104 → 0 ≤ x → V 11 [rr 6, ii x1, ii x, none] [] (wr_ A 239 (flf (A 239) 0 x 0)) := fun j => by
    induction j with
    | zero =>
      intro x hx x0
      refine b_321_11 (Tr_mono _) hV hW _ _ _ ?_
      rw [if_neg (by omega), show x = 1104 by omega]; exact ⟨by decide, .inr rfl, .inl rfl, .inl rfl, g⟩
    | succ j ih =>
      intro x hx x0
      refine b_321_11 (Tr_mono _) hV hW _ _ _ ?_
      rw [if_pos (by omega), w32_id (x := x + 1) (by omega) (by omega), flf_s x0]
      exact ⟨by omega, ih (x + 1) (by omega) (by omega)⟩
  have := l 1104 0 (by decide) (by decide)
  rw [flf_0, wr_id] at this
  exact this
theorem j_57 [Inhabited fz_] (hg : M 0 3 = 1 ∧ N 6 6 = 1) (hP : PLr M N) (hb : BAS M N) : ∃ v M' N', Ex_ 3 57 [.inr (.inr 0), .inl x1] M [.inl v] M' ∧ Ex_ 3 321 [.inr (.inr 6), .inl x1] N [.inl v] N' ∧ RNS M' N' ∧ (XBG M M' ∧ QBG N N') ∧ M' 0 8 ≤ 13 ∧ (M' 0 62 = 0 ∧ M' 0 63 = 0 ∧ M' 0 64 = 0) ∧ (N' 6 163 = 0 ∧ N' 6 169 = 0 ∧ N' 6 164 = 0) := by
  have st := STp_b (x1 := x1) hP hb
  obtain ⟨v4, v10, v8, v0⟩ := bgX_v (M := M) (x1 := x1)
  obtain ⟨u126, u129, u0⟩ := bgQ_v (N := wr_ N 239 (flf (N 239) 0 1104 0)) (x1 := x1)
  have X0 : ∀ i, bgX2 M x1 0 i = bgX M x1 0 i := fun i => by unfold bgX2; rw [wr_ne (by decide)]
  have p := st.2.1.1.2.2
  rw [tbN_6 (by decide)] at p
  obtain ⟨v, M', N', a1, a2, a3, a4, a5⟩ := l_b137 (x1 := x1) (bgQ2 N x1 6 19).toNat 0 (bgX2 M x1) (bgQ2 N x1) st (by rw [X0, X0, v8, v0 7 (by decide)]; decide) (by decide) (by (clear hg hP hb st v4 v10 v8 v0 u126 u129 u0 X0; omega))
  have n12 := a3.1.1.1
  refine ⟨v, M', N', fun Qr Qt g => t_57 fun V hV hW => b_57_0 (Tr_mono _) hV hW _ _ fun _ => ?_, fun Qr Qt g => t_321 fun V hV hW => b_321_0 (Tr_mono _) hV hW _ _ fun _ => ?_, ⟨a3, by rw [a4.1.2 4 (by decide), X0, v4], by rw [a4.2.2 126 (by decide)]; exact u126⟩, ⟨XBG_tr XBG_b (XBG_g (XRG_f a4.1)), QBG_tr QBG_b (QBG_g (QRG_f a4.2))⟩, by (clear hg hP hb st v4 v10 v8 v0 u126 u129 u0 X0 p a1 a2 a3 a4; omega), ⟨by rw [a4.1.2 62 (by decide), X0]; exact v0 62 (by decide), by rw [a4.1.2 63 (by decide), X0]; exact v0 63 (by decide), by rw [a4.1.2 64 (by decide), X0]; exact v0 64 (by decide)⟩, by rw [a4.2.2 163 (by decide)]; exact u0 163 (by decide), by rw [a4.2.2 169 (by decide)]; exact u0 169 (by decide), by rw [a4.2.2 164 (by decide)]; exact u0 164 (by decide)⟩
  · rw [if_neg (by (clear hP hb st v4 v10 v8 v0 u126 u129 u0 X0 p a1 a2 a3 a4 a5 n12 g hV hW; lia))]
    refine ⟨.inr rfl, .inl rfl, ?_⟩
    show V 116 [rr 0, ii x1, ii 0, none] [] (bgX M x1)
    refine x_116b hV hW ?_
    rw [bgX_r (r := 21) (by decide)]
    exact a1 V Qr Qt hV hW g
  · rw [if_neg (by omega)]
    exact q_11b hV hW (a2 V Qr Qt hV hW g)
end BGb
end T394_bg
