section T252_sh
/-! from the system to a process's head -/
def sT_ (M : mm_) (T : Int) : mm_ := up_ (up_ (up_ (up_ (up_ M 1 18 T) 1 33 (T + 1)) 1 19 0) 1 20 0) 1 29 0
section SHd
variable {b F F1 : Int} {M N M1 N1 : mm_} {a a1 T t : Int}
theorem sT_r [Inhabited gh_] {r : Nat} (h : r ≠ 1) : sT_ M T r = M r := by unfold sT_; rw [up_ne h, up_ne h, up_ne h, up_ne h, up_ne h]
theorem sT_1 [Inhabited gh_] {i : Int} (h1 : i ≠ 18) (h2 : i ≠ 33) (h3 : i ≠ 19) (h4 : i ≠ 20) (h5 : i ≠ 29) : sT_ M T 1 i = M 1 i := by unfold sT_; rw [up_of2 h5, up_of2 h4, up_of2 h3, up_of2 h2, up_of2 h1]
theorem sT_k [Inhabited gh_] : sT_ M T 1 18 = T ∧ sT_ M T 1 19 = 0 ∧ sT_ M T 1 29 = 0 ∧ sT_ M T 1 33 = T + 1 := by
  unfold sT_
  refine ⟨?_, ?_, up_at, ?_⟩
  · rw [up_of2 (by decide), up_of2 (by decide), up_of2 (by decide), up_of2 (by decide), up_at]
  · rw [up_of2 (by decide), up_of2 (by decide), up_at]
  · rw [up_of2 (by decide), up_of2 (by decide), up_of2 (by decide), up_at]
theorem sT_b [Inhabited gh_] : bl_ (sT_ M T 1 8) ↔ bl_ (M 1 8) := by rw [sT_1 (by decide) (by decide) (by decide) (by decide) (by decide)]
/-- the numbers chosen are plain ones -/
theorem ER_1b [Inhabited gh_] {o : Int} (h : ER b F M N a o) (h70 : M1 70 = M 70) (h5 : M1 5 3 = M 5 3) (h1 : ∀ i : Int, i ∈ [3, 4, 5, 6, 7, 8] → M1 1 i = M 1 i) (hq : ∀ i : Int, i ∈ [12, 13, 14, 15, 16] → N1 6 i = N 6 i) (hb : bb_ (M1 1 19) = bb_ (M 1 19)) : ER b F M1 N1 a o := by
  unfold ER NR gd_ at h ⊢
  rw [h70, h5, h1 3 (by decide), h1 4 (by decide), h1 5 (by decide), h1 6 (by decide), h1 7 (by decide), h1 8 (by decide), hq 12 (by decide), hq 13 (by decide), hq 14 (by decide), hq 15 (by decide), hq 16 (by decide), hb]
  exact h
theorem ER_1 [Inhabited gh_] {o : Int} (h : ER b F M N a o) (h70 : M1 70 = M 70) (h5 : M1 5 3 = M 5 3) (h1 : ∀ i : Int, i ∈ [3, 4, 5, 6, 7, 8, 19] → M1 1 i = M 1 i) (hq : ∀ i : Int, i ∈ [12, 13, 14, 15, 16] → N1 6 i = N 6 i) : ER b F M1 N1 a o := by
  unfold ER NR gd_ at h ⊢
  rw [h70, h5, h1 3 (by decide), h1 4 (by decide), h1 5 (by decide), h1 6 (by decide), h1 7 (by decide), h1 8 (by decide), h1 19 (by decide), hq 12 (by decide), hq 13 (by decide), hq 14 (by decide), hq 15 (by decide), hq 16 (by decide)]
  exact h
theorem fi_first [Inhabited gh_] {g : Int → Int} {v : Int} : ∀ {n : Nat} {k j i : Int}, 0 ≤ k → fi_ g v n k = j → k ≤ i → i < j → g i = v → False
  | 0, k, j, i, h0, h, h1, h2, _ => by
    have : (-1 : Int) = j := h
    omega
  | n + 1, k, j, i, h0, h, h1, h2, e => by
    unfold fi_ at h
    split at h
    · omega
    · rename_i c
      by_cases ci : i = k
      · rw [ci] at e; exact c e
      · exact fi_first (by omega) h (by omega) h2 e
theorem SY_HDR [Inhabited gh_] (hg : GHP) (h : SY0 b F M N a) (hT : 0 ≤ T ∧ T < M 5 2) (ht : M 58 T < a) (h76 : 2 * N 6 76 + 2 ≤ a) (ha : 2 ≤ a) (hd : b = 0 → M 124 T = 0 ∧ M 126 T = 0) : HDR b F (sT_ M T) (up_ N 6 61 T) a := by
  obtain ⟨⟨s1, s2, s3⟩, ⟨g1, g2, g3, g4, g5⟩, ty, ⟨tp, gl⟩, ⟨⟨c1, c2, c3⟩, c4, c5, c6, c7, c8, c9, c10⟩, sr⟩ := h
  have x : ∀ r : Nat, r ≠ 1 → sT_ M T r = M r := fun r h => sT_r h
  have q : ∀ r : Nat, r ≠ 6 → up_ N 6 61 T r = N r := fun r h => up_ne h
  have q6 : ∀ i : Int, i ≠ 61 → up_ N 6 61 T 6 i = N 6 i := fun i h => up_of2 h
  have q61 : up_ N 6 61 T 6 61 = T := up_at
  obtain ⟨k18, k19, k29, _⟩ := sT_k (M := M) (T := T)
  have x1 : ∀ i : Int, i ≠ 18 → i ≠ 33 → i ≠ 19 → i ≠ 20 → i ≠ 29 → sT_ M T 1 i = M 1 i := fun i a1 a2 a3 a4 a5 => sT_1 a1 a2 a3 a4 a5
  have t6 : T < 6 := by have := g2.1.1; omega
  obtain ⟨v1, v2, v3, v4, v5, v6⟩ := ty T hT.1 hT.2
  have tpe : tpl (up_ N 6 61 T) = tpl N := by funext y; unfold tpl; rw [q6 19 (by decide), q 154 (by decide)]
  have hTk : Tks (sT_ M T) (up_ N 6 61 T) := Tks_r s1 (fun r hr => x r (fun e => by rw [e] at hr; revert hr; decide)) (fun r hr => q r (fun e => by rw [e] at hr; revert hr; decide))
  have hE : ER b F (sT_ M T) (up_ N 6 61 T) a 0 := ER_1b s2 (x 70 (by decide)) (by rw [x 5 (by decide)]) (fun i hi => x1 i (fun e => by rw [e] at hi; revert hi; decide) (fun e => by rw [e] at hi; revert hi; decide) (fun e => by rw [e] at hi; revert hi; decide) (fun e => by rw [e] at hi; revert hi; decide) (fun e => by rw [e] at hi; revert hi; decide)) (fun i hi => q6 i (fun e => by rw [e] at hi; revert hi; decide)) (by rw [hg.2.2, hg.2.2 (M 1 19)])
  have row : ROW M N (sT_ M T) (up_ N 6 61 T) T := ROW_e (fun r hr => x r (fun e => by rw [e] at hr; revert hr; decide)) (fun r hr => q r (fun e => by rw [e] at hr; revert hr; decide))
  have e70 := x 70 (by decide)
  have e71 := x 71 (by decide)
  have e151 := q 151 (by decide)
  have w1 : VTt (sT_ M T) (up_ N 6 61 T) T := VTt_c v1 row e70 e151
  have w2 : TBL F (sT_ M T) (up_ N 6 61 T) T := TBL_row v2 v1 row e71 e151 (Int.le_refl _)
  have w3 : STt (sT_ M T) (up_ N 6 61 T) T := STt_c v3 row e70 e151
  have w5 : LBt b F (sT_ M T) (up_ N 6 61 T) a T := LBt_c v5 row e70 e71 e151 (Int.le_refl _) (Int.le_refl _)
  have nm : ∀ u, nm9_ M u → nm9_ (sT_ M T) u := fun u hu => nm9_r hu e70
  have hG : GT b F (sT_ M T) (up_ N 6 61 T) (sT_ M T 71 a) := by
    obtain ⟨⟨a1, a1'⟩, a2⟩ := g1
    obtain ⟨⟨a3, a3'⟩, a4, a5⟩ := g2
    obtain ⟨a6, a6'⟩ := g3
    unfold GT SGT PRT RTT sgl9 tpl9 rtl9
    rw [tpe, q61, e151, e71, x 5 (by decide), x 56 (by decide), x 57 (by decide), x 58 (by decide), x 112 (by decide), x 113 (by decide), x 122 (by decide), x 130 (by decide), x 114 (by decide), x 119 (by decide), q6 17 (by decide), q6 18 (by decide), q6 19 (by decide), q 152 (by decide), q 153 (by decide), q 154 (by decide), q 156 (by decide), q 157 (by decide), q 158 (by decide), q 164 (by decide), q 170 (by decide), q 182 (by decide), q 183 (by decide)]
    refine ⟨⟨⟨a1, fun k k0 k1 => ⟨nm _ (a1' k k0 k1).1, (a1' k k0 k1).2⟩⟩, a2⟩, ⟨⟨a3, fun k k0 k1 => ⟨nm _ (a3' k k0 k1).1, (a3' k k0 k1).2⟩⟩, a4, a5⟩, ⟨a6, fun k k0 k1 => ⟨nm _ (a6' k k0 k1).1, (a6' k k0 k1).2⟩⟩, fun hb => ⟨fun r r0 r1 => g4 hb r r0 r1, ⟨hT.1, by rw [a3.2.2]; exact hT.2, ?_⟩, ?_⟩⟩
    · have z := a3' T hT.1 hT.2
      have := (s1 _ z.1.1).2.2.2.2.2.1 z.1.2
      rw [z.2]; omega
    · have z := a3' T hT.1 hT.2
      unfold tpl
      rcases fi_r (fun i => N 154 i) (N 154 T) (N 6 19).toNat 0 with e | ⟨e1, e2, e3⟩
      · exact absurd rfl (fi_no _ _ _ _ e (Int.le_refl _) T hT.1 (by rw [a3.2.2]; omega))
      · generalize eg : fi_ (fun i => N 154 i) (N 154 T) (N 6 19).toNat 0 = j at e1 e2 e3
        by_cases c : j = T
        · exact .inl c
        · refine .inr ?_
          have e3' : N 154 j = N 154 T := e3
          have lt : j < T := by
            by_cases cc : j < T
            · exact cc
            · exfalso
              have : T < j := by omega
              exact fi_first (Int.le_refl _) eg hT.1 this rfl
          have zj := a3' j e1 (by omega)
          have := g5.2.2.1 (M 58 j) (M 58 T) (.inr (.inr ⟨j, ⟨e1, by omega⟩, rfl⟩)) (.inr (.inr ⟨T, hT, rfl⟩)) (by rw [← zj.2, ← z.2]; exact e3') (tp j T e1 lt hT.2)
          have lt2 := (s1 a s2.1).2.2.2.2.1 (M 58 T) z.1.1 ht
          omega
  refine ⟨⟨⟨⟨hTk, ⟨by rw [x1 2 (by decide) (by decide) (by decide) (by decide) (by decide)]; exact s3, by rw [q61, k18], by rw [k18]; exact hT.1, by rw [k18]; exact t6, by rw [k18]; exact w1⟩, hE, by rw [q6 75 (by decide)]; exact c1, by rw [q6 104 (by decide)]; exact c2, by rw [x 5 (by decide)]; omega⟩, hG, by
    have l5 : LBt b F (sT_ M T) (up_ N 6 61 T) a (sT_ M T 1 18) := by rw [k18]; exact w5
    exact ⟨l5.1, l5.2, fun _ => .inl hg.1, fun _ k _ _ => .inl (by rw [hg.2.2 k, hg.2.2 (k + 1)]; exact Int.le_refl _)⟩, by
    show STt (sT_ M T) (up_ N 6 61 T) (sT_ M T 1 18)
    rw [k18]; exact w3, ⟨by rw [k29]; omega, by rw [q6 76 (by decide)]; omega⟩, by rw [x1 7 (by decide) (by decide) (by decide) (by decide) (by decide)]; exact c5, by rw [q6 90 (by decide)]; exact c6, by rw [x1 21 (by decide) (by decide) (by decide) (by decide) (by decide), x1 23 (by decide) (by decide) (by decide) (by decide) (by decide)]; exact c7, by rw [k19]; exact Int.le_refl _, by rw [x 5 (by decide)]; exact c3⟩, ⟨by rw [x 5 (by decide)]; omega, by rw [q6 62 (by decide)]; omega, by rw [q6 63 (by decide)]; omega⟩, fun hb => ?_⟩, by rw [k18]; exact w2, fun hb u hu => ?_, hg.1, fun _ => .inl hg.2.1⟩
  · obtain ⟨⟨xs, hs⟩, hl⟩ := sr hb
    refine ⟨⟨xs, SRW_c hs (by rw [x 5 (by decide)]) (x _ (by decide)) (x _ (by decide)) (x _ (by decide)) (x _ (by decide)) (x _ (by decide)) (q6 _ (by decide)) (q6 _ (by decide)) (q _ (by decide)) (q _ (by decide)) (q _ (by decide)) (q _ (by decide)) (q _ (by decide)) (q _ (by decide))⟩, ?_⟩
    rw [q6 62 (by decide), q6 63 (by decide), q 199 (by decide)]; exact hl
  · rw [k18, DCL_c (x _ (by decide)) (x _ (by decide)) (x _ (by decide)) (x _ (by decide))] at hu
    have z := hd hb
    rcases hu with ⟨k, hk, _⟩ | ⟨k, hk, _⟩ <;> omega
end SHd
end T252_sh
section T253_ty
/-! a type more (pass 1) -/
def zX_ (M : mm_) (t : Int) : mm_ := up_ (up_ (up_ (up_ (up_ (up_ (up_ M 58 (M 5 2) t) 124 (M 5 2) 0) 126 (M 5 2) 0) 123 (M 5 2) 0) 128 (M 5 2) 0) 125 (M 5 2) 0) 5 2 (M 5 2 + 1)
def zQ_ (N : mm_) (T t : Int) : mm_ := up_ (up_ (up_ (up_ (up_ (up_ (up_ (up_ (up_ N 154 T (N 151 t)) 167 T (N 150 t)) 170 T 0) 171 T 0) 172 T 0) 173 T 0) 174 T 0) 175 T 0) 6 19 (N 6 19 + 1)
section TYz
variable {b F F1 : Int} {M N M1 N1 : mm_} {a a1 T t : Int}
theorem zX_r [Inhabited gh_] {r : Nat} (h : r ∉ [5, 58, 123, 124, 125, 126, 128]) : zX_ M t r = M r := by
  unfold zX_
  rw [up_ne (fun e => h (by rw [e]; decide)), up_ne (fun e => h (by rw [e]; decide)), up_ne (fun e => h (by rw [e]; decide)), up_ne (fun e => h (by rw [e]; decide)), up_ne (fun e => h (by rw [e]; decide)), up_ne (fun e => h (by rw [e]; decide)), up_ne (fun e => h (by rw [e]; decide))]
theorem zX_o [Inhabited gh_] {r : Nat} {i : Int} (h : r ≠ 5) (hi : i ≠ M 5 2) : zX_ M t r i = M r i := by
  unfold zX_
  rw [up_ne h, up_of2 hi, up_of2 hi, up_of2 hi, up_of2 hi, up_of2 hi, up_of2 hi]
theorem zX_5 [Inhabited gh_] {i : Int} (h : i ≠ 2) : zX_ M t 5 i = M 5 i := by
  unfold zX_
  rw [up_of2 h, up_ne (by decide), up_ne (by decide), up_ne (by decide), up_ne (by decide), up_ne (by decide), up_ne (by decide)]
theorem zX_k [Inhabited gh_] : zX_ M t 5 2 = M 5 2 + 1 ∧ zX_ M t 58 (M 5 2) = t ∧ zX_ M t 124 (M 5 2) = 0 ∧ zX_ M t 126 (M 5 2) = 0 ∧ zX_ M t 123 (M 5 2) = 0 ∧ zX_ M t 128 (M 5 2) = 0 ∧ zX_ M t 125 (M 5 2) = 0 := by
  unfold zX_
  refine ⟨up_at, ?_, ?_, ?_, ?_, ?_, ?_⟩
  · rw [up_ne (by decide), up_ne (by decide), up_ne (by decide), up_ne (by decide), up_ne (by decide), up_ne (by decide), up_at]
  · rw [up_ne (by decide), up_ne (by decide), up_ne (by decide), up_ne (by decide), up_ne (by decide), up_at]
  · rw [up_ne (by decide), up_ne (by decide), up_ne (by decide), up_ne (by decide), up_at]
  · rw [up_ne (by decide), up_ne (by decide), up_ne (by decide), up_at]
  · rw [up_ne (by decide), up_ne (by decide), up_at]
  · rw [up_ne (by decide), up_at]
theorem zQ_r [Inhabited gh_] {r : Nat} (h : r ∉ [6, 154, 167, 170, 171, 172, 173, 174, 175]) : zQ_ N T t r = N r := by
  unfold zQ_
  rw [up_ne (fun e => h (by rw [e]; decide)), up_ne (fun e => h (by rw [e]; decide)), up_ne (fun e => h (by rw [e]; decide)), up_ne (fun e => h (by rw [e]; decide)), up_ne (fun e => h (by rw [e]; decide)), up_ne (fun e => h (by rw [e]; decide)), up_ne (fun e => h (by rw [e]; decide)), up_ne (fun e => h (by rw [e]; decide)), up_ne (fun e => h (by rw [e]; decide))]
theorem zQ_o [Inhabited gh_] {r : Nat} {i : Int} (h : r ≠ 6) (hi : i ≠ T) : zQ_ N T t r i = N r i := by
  unfold zQ_
  rw [up_ne h, up_of2 hi, up_of2 hi, up_of2 hi, up_of2 hi, up_of2 hi, up_of2 hi, up_of2 hi, up_of2 hi]
theorem zQ_6 [Inhabited gh_] {i : Int} (h : i ≠ 19) : zQ_ N T t 6 i = N 6 i := by
  unfold zQ_
  rw [up_of2 h, up_ne (by decide), up_ne (by decide), up_ne (by decide), up_ne (by decide), up_ne (by decide), up_ne (by decide), up_ne (by decide), up_ne (by decide)]
theorem zQ_k [Inhabited gh_] : zQ_ N T t 6 19 = N 6 19 + 1 ∧ zQ_ N T t 154 T = N 151 t ∧ zQ_ N T t 167 T = N 150 t ∧ zQ_ N T t 170 T = 0 ∧ zQ_ N T t 171 T = 0 ∧ zQ_ N T t 172 T = 0 ∧ zQ_ N T t 173 T = 0 ∧ zQ_ N T t 174 T = 0 ∧ zQ_ N T t 175 T = 0 := by
  unfold zQ_
  refine ⟨up_at, ?_, ?_, ?_, ?_, ?_, ?_, ?_, ?_⟩
  · rw [up_ne (by decide), up_ne (by decide), up_ne (by decide), up_ne (by decide), up_ne (by decide), up_ne (by decide), up_ne (by decide), up_ne (by decide), up_at]
  · rw [up_ne (by decide), up_ne (by decide), up_ne (by decide), up_ne (by decide), up_ne (by decide), up_ne (by decide), up_ne (by decide), up_at]
  · rw [up_ne (by decide), up_ne (by decide), up_ne (by decide), up_ne (by decide), up_ne (by decide), up_ne (by decide), up_at]
  · rw [up_ne (by decide), up_ne (by decide), up_ne (by decide), up_ne (by decide), up_ne (by decide), up_at]
  · rw [up_ne (by decide), up_ne (by decide), up_ne (by decide), up_ne (by decide), up_at]
  · rw [up_ne (by decide), up_ne (by decide), up_ne (by decide), up_at]
  · rw [up_ne (by decide), up_ne (by decide), up_at]
  · rw [up_ne (by decide), up_at]
theorem zQ_61 [Inhabited gh_] {x : Int} : zQ_ (up_ N 6 61 x) T t = up_ (zQ_ N T t) 6 61 x := by
  unfold zQ_
  have e1 : up_ N 6 61 x 151 = N 151 := up_ne (by decide)
  have e2 : up_ N 6 61 x 150 = N 150 := up_ne (by decide)
  have e3 : up_ N 6 61 x 6 19 = N 6 19 := up_of2 (by decide)
  rw [e1, e2, e3, up_cc (r := 6) (r' := 154) (.inl (by decide)), up_cc (r := 6) (r' := 167) (.inl (by decide)), up_cc (r := 6) (r' := 170) (.inl (by decide)), up_cc (r := 6) (r' := 171) (.inl (by decide)), up_cc (r := 6) (r' := 172) (.inl (by decide)), up_cc (r := 6) (r' := 173) (.inl (by decide)), up_cc (r := 6) (r' := 174) (.inl (by decide)), up_cc (r := 6) (r' := 175) (.inl (by decide)), up_cc (r := 6) (r' := 6) (i := 61) (i' := 19) (.inr (by decide))]
theorem gq_r [Inhabited gh_] {r : Nat} (h : r ≠ 6) (h1 : r ≠ 190) (h2 : r ≠ 191) : gq_ N t r = N r := by unfold gq_; rw [up_ne h, up_ne h2, up_ne h1]
theorem gq_6 [Inhabited gh_] {i : Int} (h : i ≠ 58) : gq_ N t 6 i = N 6 i := by unfold gq_; rw [up_of2 h, up_ne (by decide), up_ne (by decide)]
theorem gq_k [Inhabited gh_] : gq_ N t 6 58 = N 6 58 + 1 ∧ gq_ N t 190 (N 6 58) = N 151 t ∧ gq_ N t 191 (N 6 58) = N 150 t := by
  unfold gq_
  refine ⟨up_at, ?_, ?_⟩
  · rw [up_ne (by decide), up_ne (by decide), up_at]
  · rw [up_ne (by decide), up_at]
theorem gq_o [Inhabited gh_] {r : Nat} {i : Int} (h : r ≠ 6) (hi : i ≠ N 6 58) : gq_ N t r i = N r i := by unfold gq_; rw [up_ne h, up_of2 hi, up_of2 hi]
end TYz
end T253_ty
section T254_ta
/-! a type more (pass 1): the relation -/
section TYa
variable {b F F1 : Int} {M N M1 N1 : mm_} {a a1 T t : Int}
theorem SY_ty [Inhabited gh_] (h : SY0 b F M N a) (hb : b = 0) (ht : nm9_ M t) (hta : t < a) (hlt : ∀ u, GLM M u → u < t) (h6 : M 5 2 < 6) (hf : M 1 7 + 1 + 8 * (1201 - a) ≤ 1000000000 - (gg_ : Int)) : SY0 b (Fg_ F M N t) (zX_ (gd1_ M N t) t) (zQ_ (gq_ N t) (M 5 2) t) a := by
  obtain ⟨⟨s1, s2, s3⟩, ⟨g1, g2, g3, g4, g5⟩, ty, ⟨tp, gl⟩, ⟨⟨c1, c2, c3⟩, c4, c5, c6, c7, c8, c9, c10⟩, sr⟩ := h
  have hpl := (s1 t ht.1).2.2.2.1
  have hp15 : N 150 t = M 71 t := (s1 t ht.1).2.1.symm
  have hF : Fg_ F M N t ≤ F := Fg_le
  have e52 : gd1_ M N t 5 2 = M 5 2 := by rw [gd1_r (by decide)]
  have x : ∀ r : Nat, r ∉ [1, 5, 58, 123, 124, 125, 126, 128] → zX_ (gd1_ M N t) t r = M r := fun r h => by rw [zX_r (fun e => h (List.mem_cons_of_mem _ e)), gd1_r (fun e => h (by rw [e]; decide))]
  have xo : ∀ (r : Nat) (i : Int), r ≠ 5 → r ≠ 1 → i ≠ M 5 2 → zX_ (gd1_ M N t) t r i = M r i := fun r i h h1 hi => by rw [zX_o h (by rw [e52]; exact hi), gd1_r h1]
  have x5 : ∀ i : Int, i ≠ 2 → zX_ (gd1_ M N t) t 5 i = M 5 i := fun i h => by rw [zX_5 h, gd1_r (by decide)]
  have x1 : zX_ (gd1_ M N t) t 1 = gd1_ M N t 1 := zX_r (by decide)
  have x1i : ∀ i : Int, i ≠ 4 → i ≠ 5 → i ≠ 7 → zX_ (gd1_ M N t) t 1 i = M 1 i := fun i h4 h5 h7 => by rw [x1]; exact gd1_1 h4 h5 h7
  obtain ⟨k52, k58, k124, k126, k123, k128, k125⟩ := zX_k (M := gd1_ M N t) (t := t)
  rw [e52] at k52 k58 k124 k126 k123 k128 k125
  have q : ∀ r : Nat, r ∉ [6, 154, 167, 170, 171, 172, 173, 174, 175, 190, 191] → zQ_ (gq_ N t) (M 5 2) t r = N r := fun r h => by
    rw [zQ_r (fun e => h (by revert e; simp only [List.mem_cons, List.not_mem_nil, or_false]; omega)), gq_r (fun e => h (by rw [e]; decide)) (fun e => h (by rw [e]; decide)) (fun e => h (by rw [e]; decide))]
  have qo : ∀ (r : Nat) (i : Int), r ≠ 6 → r ≠ 190 → r ≠ 191 → i ≠ M 5 2 → zQ_ (gq_ N t) (M 5 2) t r i = N r i := fun r i h h1 h2 hi => by rw [zQ_o h hi, gq_r h h1 h2]
  have q6 : ∀ i : Int, i ≠ 19 → i ≠ 58 → zQ_ (gq_ N t) (M 5 2) t 6 i = N 6 i := fun i h h' => by rw [zQ_6 h, gq_6 h']
  have q58 : zQ_ (gq_ N t) (M 5 2) t 6 58 = N 6 58 + 1 := by rw [zQ_6 (by decide)]; exact gq_k.1
  have q190 : ∀ (r : Nat) (i : Int), r = 190 ∨ r = 191 → i ≠ N 6 58 → zQ_ (gq_ N t) (M 5 2) t r i = N r i := fun r i hr hi => by rw [zQ_r (by rcases hr with e | e <;> rw [e] <;> decide), gq_o (by omega) hi]
  have q190k : zQ_ (gq_ N t) (M 5 2) t 190 (N 6 58) = N 151 t ∧ zQ_ (gq_ N t) (M 5 2) t 191 (N 6 58) = N 150 t := by rw [zQ_r (by decide), zQ_r (by decide)]; exact gq_k.2
  obtain ⟨l19, l154, l167, l170, l171, l172, l173, l174, l175⟩ := zQ_k (N := gq_ N t) (T := M 5 2) (t := t)
  rw [gq_6 (by decide)] at l19
  rw [gq_r (by decide) (by decide) (by decide)] at l154 l167
  have hE : ER b (Fg_ F M N t) (zX_ (gd1_ M N t) t) (zQ_ (gq_ N t) (M 5 2) t) a 0 := ER_1 (ER_gd (t := t) s2 hb (by omega) (by omega)) (by rw [zX_r (by decide)]) (by rw [zX_5 (by decide)]) (fun i _ => by rw [x1]) (fun i hi => q6 i (fun e => by rw [e] at hi; revert hi; decide) (fun e => by rw [e] at hi; revert hi; decide))
  have f7 := gd1_7 (M := M) (N := N) (t := t)
  rw [← x1] at f7
  clear x1
  generalize eM : zX_ (gd1_ M N t) t = M9 at *
  generalize eN : zQ_ (gq_ N t) (M 5 2) t = N9 at *
  have e70 := x 70 (by decide)
  have e71 := x 71 (by decide)
  have e151 := q 151 (by decide)
  have nm : ∀ u, nm9_ M u → nm9_ M9 u := fun u hu => nm9_r hu e70
  have hTk : Tks M9 N9 := Tks_r s1 (fun r hr => x r (fun e => by simp only [List.mem_cons, List.not_mem_nil, or_false] at hr e; omega)) (fun r hr => q r (fun e => by simp only [List.mem_cons, List.not_mem_nil, or_false] at hr e; omega))
  have glm : ∀ u, GLM M9 u ↔ GLM M u ∨ u = t := fun u => by
    unfold GLM
    rw [x5 0 (by decide), x5 1 (by decide), x 56 (by decide), x 57 (by decide), k52]
    constructor
    · rintro (h | h | ⟨k, hk, e⟩)
      · exact .inl (.inl h)
      · exact .inl (.inr (.inl h))
      · by_cases c : k = M 5 2
        · rw [c, k58] at e; exact .inr e.symm
        · rw [xo 58 k (by decide) (by decide) c] at e
          exact .inl (.inr (.inr ⟨k, by omega, e⟩))
    · rintro ((h | h | ⟨k, hk, e⟩) | h)
      · exact .inl h
      · exact .inr (.inl h)
      · exact .inr (.inr ⟨k, by omega, by rw [xo 58 k (by decide) (by decide) (by omega)]; exact e⟩)
      · exact .inr (.inr ⟨M 5 2, by have := g2.1.1.1; omega, by rw [k58]; exact h.symm⟩)
  obtain ⟨⟨a1, a1'⟩, a2⟩ := g1
  obtain ⟨⟨a3, a3'⟩, a4, a5⟩ := g2
  obtain ⟨a6, a6'⟩ := g3
  obtain ⟨⟨u1, u2⟩, u3, u4, u5⟩ := g5
  refine ⟨⟨hTk, hE, by rw [x1i 2 (by decide) (by decide) (by decide)]; exact s3⟩, ⟨?_, ?_, ?_, fun hb1 => by omega, ?_⟩, fun T T0 T1 => ?_, ⟨fun i j i0 ij j1 => ?_, fun _ u hu => ?_⟩, ⟨⟨by rw [q6 75 (by decide) (by decide)]; exact c1, by rw [q6 104 (by decide) (by decide)]; exact c2, by rw [x5 3 (by decide)]; exact c3⟩, by rw [q6 76 (by decide) (by decide)]; exact c4, by omega, by rw [q6 90 (by decide) (by decide)]; exact c6, by rw [x1i 21 (by decide) (by decide) (by decide), x1i 23 (by decide) (by decide) (by decide)]; exact c7, by rw [x5 4 (by decide)]; exact c8, by rw [q6 62 (by decide) (by decide)]; exact c9, by rw [q6 63 (by decide) (by decide)]; exact c10⟩, fun hb1 => by omega⟩
  · unfold SGT sgl9
    rw [x5 0 (by decide), q6 17 (by decide) (by decide), x 56 (by decide), q 152 (by decide), e151, x 112 (by decide), x 113 (by decide), q 156 (by decide), q 157 (by decide)]
    exact ⟨⟨a1, fun k k0 k1 => ⟨nm _ (a1' k k0 k1).1, (a1' k k0 k1).2⟩⟩, a2⟩
  · unfold PRT tpl9
    rw [k52, l19, e151, q 182 (by decide), q 183 (by decide)]
    refine ⟨⟨by omega, fun k k0 k1 => ?_⟩, fun k k0 k1 => ?_, fun hb1 => by omega⟩
    · by_cases c : k = M 5 2
      · rw [c, k58, l154]; exact ⟨nm _ ht, rfl⟩
      · rw [xo 58 k (by decide) (by decide) c, qo 154 k (by decide) (by decide) (by decide) c]
        have z := a3' k k0 (by omega)
        exact ⟨nm _ z.1, z.2⟩
    · by_cases c : k = M 5 2
      · rw [c, l170]; exact ⟨by omega, by omega, fun i i0 i1 => by omega⟩
      · rw [qo 170 k (by decide) (by decide) (by decide) c]; exact a4 k k0 (by omega)
  · unfold rtl9
    rw [x5 1 (by decide), q6 18 (by decide) (by decide), x 57 (by decide), q 153 (by decide), e151]
    exact ⟨a6, fun k k0 k1 => ⟨nm _ (a6' k k0 k1).1, (a6' k k0 k1).2⟩⟩
  · unfold GLT
    rw [q58, x5 0 (by decide), x5 1 (by decide), k52, e151, e71, q 155 (by decide), x 56 (by decide)]
    refine ⟨by omega, fun i i0 i1 => ?_, fun u v hu hv he hl => ?_, u5.1, fun u hu => ?_⟩
    · by_cases c : i = N 6 58
      · rw [c, q190k.1, q190k.2]
        exact ⟨t, ⟨nm _ ht, (glm t).2 (.inr rfl)⟩, rfl, hp15⟩
      · rw [q190 190 i (.inl rfl) c, q190 191 i (.inr rfl) c]
        obtain ⟨u, hu, w⟩ := u3 i i0 (by omega)
        exact ⟨u, ⟨nm _ hu.1, (glm u).2 (.inl hu.2)⟩, w⟩
    · rcases (glm u).1 hu with hu | hu
      · rcases (glm v).1 hv with hv | hv
        · have := u4 u v hu hv he hl; omega
        · rw [hv] at he ⊢
          have told := GLM_told ⟨a1, a1'⟩ ⟨a6, a6'⟩ ⟨a3, a3'⟩ hu he
          unfold Fg_
          rw [if_neg told]; omega
      · rcases (glm v).1 hv with hv | hv
        · have := hlt v hv; omega
        · omega
    · rcases (glm u).1 hu with hu | hu
      · obtain ⟨i, hi, w⟩ := u5.2 u hu
        exact ⟨i, by omega, by rw [q190 190 i (.inl rfl) (by omega), q190 191 i (.inr rfl) (by omega)]; exact w⟩
      · rw [hu]; exact ⟨N 6 58, by omega, by rw [q190k.1, q190k.2]; exact ⟨rfl, hp15⟩⟩
  · rw [k52] at T1
    by_cases c : T = M 5 2
    · rw [c]
      refine ⟨⟨by rw [k124, l171]; decide, by rw [k126, l173]; decide, fun k k0 k1 => by rw [k124] at k1; omega, fun k k0 k1 => by rw [k126] at k1; omega⟩, ⟨by rw [l172, k125]; exact ⟨rfl, by decide, by decide, fun k k0 k1 _ => by rw [k124] at k1 ⊢; rw [k125, if_pos (by omega)]; omega, fun i k i0 i1 k1 => by rw [k124] at k1; omega⟩, fun k k0 k1 => by rw [k124] at k1; omega, fun k k0 k1 => by rw [k126] at k1; omega, fun u v hu => ?_⟩, ⟨by rw [k123, l174]; decide, fun k k0 k1 => by rw [k123] at k1; omega⟩, fun k k0 k1 => by rw [k123] at k1; omega, ⟨⟨by rw [k128, l175]; decide, fun k k0 k1 => by rw [k128] at k1; omega⟩, fun k k0 k1 => by rw [k128] at k1; omega⟩, by rw [l167, k58, e71]; exact hp15⟩
      unfold DCL at hu
      rw [k124, k126] at hu
      rcases hu with ⟨k, hk, _⟩ | ⟨k, hk, _⟩ <;> omega
    · refine TYP_c (ty T T0 (by omega)) ?_ e70 e71 e151 hF (Int.le_refl _)
      have y : ∀ r : Nat, r ≠ 5 → r ≠ 1 → M9 r T = M r T := fun r h h1 => xo r T h h1 c
      have w : ∀ r : Nat, r ≠ 6 → r ≠ 190 → r ≠ 191 → N9 r T = N r T := fun r h h1 h2 => qo r T h h1 h2 c
      unfold ROW
      rw [y 58 (by decide) (by decide), y 120 (by decide) (by decide), y 121 (by decide) (by decide), y 123 (by decide) (by decide), y 124 (by decide) (by decide), y 125 (by decide) (by decide), y 126 (by decide) (by decide), y 128 (by decide) (by decide), w 167 (by decide) (by decide) (by decide), w 168 (by decide) (by decide) (by decide), w 169 (by decide) (by decide) (by decide), w 171 (by decide) (by decide) (by decide), w 172 (by decide) (by decide) (by decide), w 173 (by decide) (by decide) (by decide), w 174 (by decide) (by decide) (by decide), w 175 (by decide) (by decide) (by decide), x 60 (by decide), x 130 (by decide), x 131 (by decide), x 132 (by decide), x 61 (by decide), x 59 (by decide), x 62 (by decide), q 177 (by decide), q 181 (by decide), q 182 (by decide), q 183 (by decide), q 184 (by decide), q 178 (by decide), q 185 (by decide), q 179 (by decide), q 186 (by decide), q 180 (by decide), q 187 (by decide)]
      exact ROW_rf
  · rw [k52] at j1
    have z := xo 58 i (by decide) (by decide) (by omega)
    rw [z]
    by_cases c : j = M 5 2
    · rw [c, k58]; exact hlt _ (.inr (.inr ⟨i, by omega, rfl⟩))
    · rw [xo 58 j (by decide) (by decide) c]; exact tp i j i0 ij (by omega)
  · rcases (glm u).1 hu with h | h
    · exact gl hb u h
    · omega
end TYa
end T254_ta
section T255_sg
/-! the system's relation: steps that change no table -/
section SYg
variable {b F F1 : Int} {M N M1 N1 N' : mm_} {a a1 T t ns nr np : Int}
theorem SY_1 [Inhabited gh_] (h : SY0 b F M N a) (hE : ER b F M1 N1 a1 0) (ha : a ≤ a1) (hx : ∀ r : Nat, r ≠ 1 → M1 r = M r) (h1 : ∀ i : Int, i ∈ [2, 21, 23] → M1 1 i = M 1 i) (h7 : M1 1 7 + 8 * (1201 - a1) ≤ 1000000000 - (gg_ : Int)) (hq : ∀ r : Nat, r ≠ 6 → N1 r = N r) (h6 : ∀ i : Int, i ∈ [17, 18, 19, 58, 62, 63, 75, 76, 90, 104] → N1 6 i = N 6 i) : SY0 b F M1 N1 a1 := by
  obtain ⟨⟨s1, s2, s3⟩, ⟨g1, g2, g3, g4, g5⟩, ty, ⟨tp, gl⟩, ⟨⟨c1, c2, c3⟩, c4, c5, c6, c7, c8, c9, c10⟩, sr⟩ := h
  have e5 := hx 5 (by decide)
  have e70 := hx 70 (by decide)
  have e71 := hx 71 (by decide)
  have e151 := hq 151 (by decide)
  have nm : ∀ u, nm9_ M u → nm9_ M1 u := fun u hu => nm9_r hu e70
  have tpe : tpl N1 = tpl N := by funext y; unfold tpl; rw [h6 19 (by decide), hq 154 (by decide)]
  have glm : ∀ u, GLM M1 u ↔ GLM M u := fun u => by
    unfold GLM
    rw [e5, hx 56 (by decide), hx 57 (by decide), hx 58 (by decide)]
  obtain ⟨⟨a1', a1''⟩, a2⟩ := g1
  obtain ⟨⟨a3, a3'⟩, a4, a5⟩ := g2
  obtain ⟨a6, a6'⟩ := g3
  obtain ⟨u1, u3, u4, u5⟩ := g5
  refine ⟨⟨Tks_r s1 (fun r hr => hx r (fun e => by rw [e] at hr; revert hr; decide)) (fun r hr => hq r (fun e => by rw [e] at hr; revert hr; decide)), hE, by rw [h1 2 (by decide)]; exact s3⟩, ⟨?_, ?_, ?_, fun hb => ?_, ?_⟩, fun T T0 T1 => ?_, ⟨by rw [e5, hx 58 (by decide)]; exact tp, fun hb u hu => by have := gl hb u ((glm u).1 hu); omega⟩, ⟨⟨by rw [h6 75 (by decide)]; omega, by rw [h6 104 (by decide)]; omega, by rw [e5]; omega⟩, by rw [h6 76 (by decide)]; omega, h7, by rw [h6 90 (by decide)]; omega, by rw [h1 21 (by decide), h1 23 (by decide)]; exact c7, by rw [e5]; omega, by rw [h6 62 (by decide)]; omega, by rw [h6 63 (by decide)]; omega⟩, fun hb => ?_⟩
  · unfold SGT sgl9
    rw [e5, h6 17 (by decide), hx 56 (by decide), hq 152 (by decide), e151, hx 112 (by decide), hx 113 (by decide), hq 156 (by decide), hq 157 (by decide)]
    exact ⟨⟨a1', fun k k0 k1 => ⟨nm _ (a1'' k k0 k1).1, (a1'' k k0 k1).2⟩⟩, a2⟩
  · unfold PRT tpl9
    rw [e5, h6 19 (by decide), hx 58 (by decide), hq 154 (by decide), e151, hq 170 (by decide), hq 182 (by decide), hq 183 (by decide), hx 122 (by decide), hx 130 (by decide)]
    exact ⟨⟨a3, fun k k0 k1 => ⟨nm _ (a3' k k0 k1).1, (a3' k k0 k1).2⟩⟩, a4, a5⟩
  · unfold rtl9
    rw [e5, h6 18 (by decide), hx 57 (by decide), hq 153 (by decide), e151]
    exact ⟨a6, fun k k0 k1 => ⟨nm _ (a6' k k0 k1).1, (a6' k k0 k1).2⟩⟩
  · unfold RT1
    rw [e5, hx 114 (by decide), hx 119 (by decide), hq 158 (by decide), hq 164 (by decide), tpe]
    exact g4 hb
  · unfold GLT
    rw [h6 58 (by decide), e5, hq 190 (by decide), hq 191 (by decide), e151, e71, hq 155 (by decide), hx 56 (by decide)]
    refine ⟨u1, fun i i0 i1 => ?_, fun u v hu hv => u4 u v ((glm u).1 hu) ((glm v).1 hv), u5.1, fun u hu => u5.2 u ((glm u).1 hu)⟩
    obtain ⟨u, hu, w⟩ := u3 i i0 i1
    exact ⟨u, ⟨nm _ hu.1, (glm u).2 hu.2⟩, w⟩
  · rw [e5] at T1
    exact TYP_c (ty T T0 T1) (ROW_e (fun r hr => hx r (fun e => by rw [e] at hr; revert hr; decide)) (fun r hr => hq r (fun e => by rw [e] at hr; revert hr; decide))) e70 e71 e151 (Int.le_refl _) ha
  · obtain ⟨⟨xs, hs⟩, hl⟩ := sr hb
    refine ⟨⟨xs, SRW_c hs (by rw [e5]) (hx _ (by decide)) (hx _ (by decide)) (hx _ (by decide)) (hx _ (by decide)) (hx _ (by decide)) (h6 _ (by decide)) (h6 _ (by decide)) (hq _ (by decide)) (hq _ (by decide)) (hq _ (by decide)) (hq _ (by decide)) (hq _ (by decide)) (hq _ (by decide))⟩, ?_⟩
    rw [h6 62 (by decide), h6 63 (by decide), hq 199 (by decide)]; exact hl
theorem SY_go [Inhabited gh_] (h : SY0 b F M N a) (hE : ER b F (nX_ M) (nx_ N) (a + 1) 0) : SY0 b F (nX_ M) (nx_ N) (a + 1) := by
  have c := h.2.2.2.2.1.2.2.1
  refine SY_1 h hE (by omega) (fun r hr => nX_ne hr) (fun i hi => nX_1 (fun e => by rw [e] at hi; revert hi; decide)) ?_ (fun r hr => nx_ne hr) (fun i hi => nx_6 (fun e => by rw [e] at hi; revert hi; decide))
  rw [nX_1 (by decide)]; omega
theorem SY_gw [Inhabited gh_] (h : SY0 b F M N a) (hb : b = 1) (ht : nm9_ M t) (hg : GLM M t) (hw : GWI N t N') : SY0 b F M N' a := by
  have hT := h.1.1
  have hp := (hT t ht.1).2.2.2.1
  have pt : N 150 t = M 71 t := (hT t ht.1).2.1.symm
  have hE : ER b F M N' a 0 := by
    rcases hw with e | ⟨e, m⟩
    · rw [e]; exact h.1.2.1
    · rw [e]; exact ER_nq h.1.2.1 hb (by decide) (by omega) (GWM_F hT h.2.1.2.2.2.2 ht hg m)
  exact SY_1 h hE (Int.le_refl _) (fun _ _ => rfl) (fun _ _ => rfl) h.2.2.2.2.1.2.2.1 (fun r hr => GWI_r hw hr) (fun i hi => GWI_6 hw (fun e => by rw [e] at hi; revert hi; decide) (fun e => by rw [e] at hi; revert hi; decide))
theorem SYS_go [Inhabited gh_] (h : SYS b F M N a ns nr np) (hE : ER b F (nX_ M) (nx_ N) (a + 1) 0) : SYS b F (nX_ M) (nx_ N) (a + 1) ns nr np := by
  obtain ⟨h1, h2, h3⟩ := h
  refine ⟨SY_go h1 hE, by rw [nX_1 (by decide), nX_1 (by decide), nX_1 (by decide), nX_ne (by decide)]; exact h2, fun T T0 T1 => ?_⟩
  rw [nX_ne (by decide)] at T1
  exact CNT_c (h3 T T0 T1) (ROW_e (fun r hr => nX_ne (fun e => by rw [e] at hr; revert hr; decide)) (fun r hr => nx_ne (fun e => by rw [e] at hr; revert hr; decide)))
end SYg
end T255_sg
section T256_ct
/-! a process's counts (X 126 V 158 | Q 252 V 131) -/
def ctS (κ ν : Int → Int) (a : Int) : Option Int := (cnS κ ν 200 a).bind fun a1 => (tS κ 115 a1).bind fun a2 => cnS κ ν 200 a2
def CTF (b T : Int) (M N M1 N1 : mm_) : Prop := (∀ r : Nat, r ≠ 1 → r ≠ 120 → r ≠ 121 → M1 r = M r) ∧ (∀ i, i ≠ T → M1 120 i = M 120 i ∧ M1 121 i = M 121 i) ∧ (∀ i : Int, i ≠ 3 → i ≠ 4 → i ≠ 5 → i ≠ 7 → M1 1 i = M 1 i) ∧ (∀ r : Nat, r ≠ 6 → r ≠ 168 → r ≠ 169 → N1 r = N r) ∧ (∀ i, i ≠ T → N1 168 i = N 168 i ∧ N1 169 i = N 169 i) ∧ (∀ i : Int, i ≠ 12 → i ≠ 13 → i ≠ 14 → N1 6 i = N 6 i) ∧ CNT M1 N1 T ∧ (b = 1 → N1 6 13 = 0 → N 6 13 = 0)
def q131 (dq : Nat) (x1 x2 : Int) (N : mm_) (G : mm_ → Prop) (Qt : qt_) : Prop := ∀ V : vv_, Cl_ wd0 (Tr_ wd0 pg0 (dq + 18)) V (rv_ G) Qt m_252 → Wk_ V → V 131 [rr 6, ii x1, ii x2, none, none, none, none] [] N
/-- X from its counts on -/
def z158 (V : vv_) (Qt : qt_) (x1 T : Int) (M : mm_) : Prop := Tr_ wd0 pg0 130 124 [.inr (.inr 1), .inl 200] M (ri_ fun v1 M1 =>
  (0 ≤ T ∧ T < 6) ∧
   Tr_ wd0 pg0 130 108 [.inr (.inr 1), .inl 115] (up_ M1 120 T v1) (rv_ fun M2 =>
   M2 1 2 = 5 ∧
    Tr_ wd0 pg0 130 124 [.inr (.inr 1), .inl 200] M2 (ri_ fun v2 M3 =>
    (0 ≤ M2 1 18 ∧ M2 1 18 < 6) ∧
     (bl_ (M3 1 8) → (if M3 1 8 = 0 then
     V 281 [rr 1, ii x1, ii (M2 1 3), none, none, none, none] [] (up_ M3 121 (M2 1 18) v2)
    else
     M3 1 2 = 5 ∧
      (0 ≤ M3 1 18 ∧ M3 1 18 < 6) ∧
      M3 1 2 = 5 ∧
      (0 ≤ M3 1 18 ∧ M3 1 18 < 6) ∧
      (if (up_ M3 121 (M2 1 18) v2) 121 (M3 1 18) < M3 120 (M3 1 18) then
      Tr_ wd0 pg0 130 116 [.inr (.inr 1), .inl 6, .inl (M2 1 3)] (up_ M3 121 (M2 1 18) v2) (rv_ fun M4 =>
       V 281 [rr 1, ii x1, ii (M2 1 3), none, none, none, none] [] M4) Qt
     else
      V 281 [rr 1, ii x1, ii (M2 1 3), none, none, none, none] [] (up_ M3 121 (M2 1 18) v2))))) Qt) Qt) Qt
section CTw
variable {dq : Nat} {b F : Int} {x2 x3 x4 x5 c T y1 y2 : Int} {Kv G : mm_ → Prop} {Qt Qtq : qt_} {V V' : vv_} {M N Mx' M' N' : mm_} {a a' : Int}
theorem q180_s [Inhabited gh_] (hx : 0 ≤ T ∧ T < 6) (hV : Cl_ wd0 (Tr_ wd0 pg0 (dq + 18)) V' (rv_ G) Qtq m_252) (hW : Wk_ V') (h : SQp Mx' N N') (hg : ∀ M', SQp Mx' N M' → G M') : V' 180 [rr 6, ii T, ii x2, ii x3, ii x4, ii x5, none] [] N' :=
  b_252_180 (Tr_mono _) hV hW _ _ _ _ _ _ (q_227s h.1 (by rw [if_neg (by decide)]; exact qPR_s hx hV hW h hg))
theorem nt_sp [Inhabited gh_] {k p : Int} (hs : sp_ N) : nt_ N k p = N := by unfold nt_; rw [if_pos hs.2]
theorem qv2_s [Inhabited gh_] {v1 v2 p : Int} (hx : 0 ≤ T ∧ T < 6) (hV : Cl_ wd0 (Tr_ wd0 pg0 (dq + 18)) V' (rv_ G) Qtq m_252) (hW : Wk_ V') (h : SQp Mx' N N') (hg : ∀ M', SQp Mx' N M' → G M') : (if v1 ≤ v2 then
     V' 180 [rr 6, ii T, ii x2, ii v1, ii p, ii v2, none] [] N'
    else
     Tr_ wd0 pg0 (dq + 18) 236 [.inr (.inr 6), .inl 6, .inl p] N' (rv_ fun M4 =>
      V' 180 [rr 6, ii T, ii x2, ii v1, ii p, ii v2, none] [] M4) Qtq) := by
  by_cases c : v1 ≤ v2
  · rw [if_pos c]; exact q180_s hx hV hW h hg
  · rw [if_neg c]
    refine q_236 ?_
    rw [nt_sp h.1]; exact q180_s hx hV hW h hg
theorem q24_s [Inhabited gh_] {v1 : Int} (hx : 0 ≤ T ∧ T < 6) (hV : Cl_ wd0 (Tr_ wd0 pg0 (dq + 18)) V' (rv_ G) Qtq m_252) (hW : Wk_ V') (h : SQp Mx' N N') (hg : ∀ M', SQp Mx' N M' → G M') : (0 ≤ N' 6 12 ∧ N' 6 12 < 1202) ∧
    Tr_ wd0 pg0 (dq + 18) 248 [.inr (.inr 6), .inl 200] N' (ri_ fun v2 M3 =>
    (if v1 ≤ v2 then
     V' 180 [rr 6, ii T, ii x2, ii v1, ii (N' 150 (N' 6 12)), ii v2, none] [] M3
    else
     Tr_ wd0 pg0 (dq + 18) 236 [.inr (.inr 6), .inl 6, .inl (N' 150 (N' 6 12))] M3 (rv_ fun M4 =>
      V' 180 [rr 6, ii T, ii x2, ii v1, ii (N' 150 (N' 6 12)), ii v2, none] [] M4) Qtq)) Qtq := ⟨h.2.1, q_248s h.1 h.2.1 (qv2_s hx hV hW h hg)⟩
theorem y_cnt [Inhabited gh_] (hV : Cl_ wd0 (Tr_ wd0 pg0 130) V (rv_ Kv) Qt m_126) (hW : Wk_ V) (h : HDR b F M N a) (hT : M 1 18 = T) (hf : M 1 7 + 8 * (1201 - a) ≤ 1000000000 - (gg_ : Int)) (hS : b = 1 → ctS (M 70) (M 73) a ≠ none)
    (hK : ∀ M1 N1, HDR b F M1 N1 (a + 3) → CTF b T M N M1 N1 → (b = 1 → kk_ (N1 6 13) (N1 6 14) ≤ kk_ (N 6 13) (N 6 14)) → ctS (M 70) (M 73) a = some (a + 3) → (∀ (G : mm_ → Prop) (Qtq : qt_), qPR dq T x2 (M 73 a) (M 71 (a + 1 + 1)) (M 73 (a + 1 + 1)) N1 G Qtq → q131 dq T x2 N G Qtq) → V 281 [rr 1, ii y1, ii (a + 1 + 1), none, none, none, none] [] M1)
    (hQ : b = 0 → ∀ Mx', XPb M Mx' → (∀ (G : mm_ → Prop) (Qtq : qt_), (∀ M', SQp Mx' N M' → G M') → q131 dq T x2 N G Qtq) → Qt 8 Mx') :
    z158 V Qt y1 T M := by
  have hE := TS_E h.1.1
  have hTk := h.1.1.1.1
  have ha := ER_a hE
  have hV0 := h.1.1.1.2.1
  have hx : 0 ≤ T ∧ T < 6 := by have := hV0.2.2; omega
  unfold z158
  refine y_124 (dq := dq + 14) hTk hE (fun hb => bind_n (hS hb)) (fun k1 m1 z1 h12 hE1 sy1 hq1 => ?_) (fun hb Mx' hx' hq' => ?_)
  rotate_left
  · exact hQ hb Mx' (XF_P hx') (fun G Qtq hg V' hV' hW' => b_252_131 (Tr_mono _) hV' hW' _ _ _ (hq' _ _ fun v M9 p => q_244s p.1 (q24_s hx hV' hW' (SQ_P p) hg)))
  have H1 := HDR_go h hE1
  have H1' : HDR b F (up_ (nX_ M) 120 T (M 73 a)) (nx_ N) (a + 1) := HDR_nr H1 (fun r h _ _ _ => up_ne h) (fun _ => up_ne (by decide)) (fun _ _ _ _ => rfl)
  have hE1' := TS_E H1'.1.1
  have hT1 := H1'.1.1.1.1
  have u70 : up_ (nX_ M) 120 T (M 73 a) 70 = M 70 := by rw [up_ne (by decide), nX_ne (by decide)]
  have xp1 : XPb M (up_ (nX_ M) 120 T (M 73 a)) := XPb_tr XPb_nX (fun r hr => up_ne (fun e => hr (by rw [e]; decide)))
  have eS1 : ctS (M 70) (M 73) a = (tS (M 70) 115 (a + 1)).bind fun a2 => cnS (M 70) (M 73) 200 a2 := by unfold ctS; rw [sy1, Option.bind_some]
  refine ⟨hx, ?_⟩
  refine y_108 hE1' (by decide) (fun hb => by rw [u70]; have := hS hb; rw [eS1] at this; exact bind_n this) (fun k2 h13 hE2 => ?_) (fun hb k2 h13 => ?_) (fun hb k2 => ?_)
  rotate_left
  · have hsp := SQ_bf hE1' hb (k := 2) (by decide) QA_rf
    exact hQ hb _ (XPb_tr xp1 XPb_fl) (fun G Qtq hg V' hV' hW' => b_252_131 (Tr_mono _) hV' hW' _ _ _ (hq1 _ _ (j_244r hT1 hE1' hb (by decide) k2 h13 (q24_s hx hV' hW' (SQp_tr QPb_nx (SQ_P hsp)) hg))))
  · have hsp := SQ_bf hE1' hb (k := 1) (by decide) QA_rf
    exact hQ hb _ (XPb_tr xp1 XPb_fl) (fun G Qtq hg V' hV' hW' => b_252_131 (Tr_mono _) hV' hW' _ _ _ (hq1 _ _ (j_244w hT1 hE1' hb (by decide) k2 (q24_s hx hV' hW' (SQp_tr QPb_nx (SQ_P hsp)) hg))))
  have H2 := HDR_go H1' hE2
  have hT2 := H2.1.1.1.1
  have k2' : M 70 (a + 1) = 115 := by rw [← u70]; exact k2
  have eS2 : ctS (M 70) (M 73) a = cnS (M 70) (M 73) 200 (a + 1 + 1) := by rw [eS1, tS_e k2' h13, Option.bind_some]
  have v70 : nX_ (up_ (nX_ M) 120 T (M 73 a)) 70 = M 70 := by rw [nX_ne (by decide)]; exact u70
  have v73 : nX_ (up_ (nX_ M) 120 T (M 73 a)) 73 = M 73 := by rw [nX_ne (by decide), up_ne (by decide), nX_ne (by decide)]
  have e13 : nX_ (up_ (nX_ M) 120 T (M 73 a)) 1 3 = a + 1 + 1 := hE2.2.1
  have e18 : nX_ (up_ (nX_ M) 120 T (M 73 a)) 1 18 = T := by rw [nX_1 (by decide), up_ne (by decide), nX_1 (by decide)]; exact hT
  have e12 : nx_ (nx_ N) 6 12 = a + 1 + 1 := hE2.2.2.1
  have p2 : nx_ (nx_ N) 150 (a + 1 + 1) = M 71 (a + 1 + 1) := by
    have := (hT2 (a + 1 + 1) hE2.1).2.1
    rw [nX_ne (by decide), up_ne (by decide), nX_ne (by decide)] at this
    exact this.symm
  have xp2 : XPb M (nX_ (up_ (nX_ M) 120 T (M 73 a))) := XPb_tr xp1 XPb_nX
  refine ⟨by rw [nX_1 (by decide), up_ne (by decide), nX_1 (by decide)]; exact hV0.1, ?_⟩
  have toQ : ∀ {G : mm_ → Prop} {Qtq : qt_}, (∀ V' : vv_, Cl_ wd0 (Tr_ wd0 pg0 (dq + 18)) V' (rv_ G) Qtq m_252 → Wk_ V' → Tr_ wd0 pg0 (dq + 14 + 4) 248 [.inr (.inr 6), .inl 200] (nx_ (nx_ N)) (ri_ fun v2 M3 =>
    (if M 73 a ≤ v2 then
     V' 180 [rr 6, ii T, ii x2, ii (M 73 a), ii (M 71 (a + 1 + 1)), ii v2, none] [] M3
    else
     Tr_ wd0 pg0 (dq + 18) 236 [.inr (.inr 6), .inl 6, .inl (M 71 (a + 1 + 1))] M3 (rv_ fun M4 =>
      V' 180 [rr 6, ii T, ii x2, ii (M 73 a), ii (M 71 (a + 1 + 1)), ii v2, none] [] M4) Qtq)) Qtq) → q131 dq T x2 N G Qtq := fun hq V' hV' hW' => b_252_131 (Tr_mono _) hV' hW' _ _ _ (hq1 _ _ (j_244t hT1 hE1' (by decide) k2 h13 (by
      rw [e12, p2]
      exact ⟨by omega, hq V' hV' hW'⟩)))
  refine y_124 (dq := dq + 14) hT2 hE2 (fun hb => by rw [v70, v73]; have := hS hb; rw [eS2] at this; exact this) (fun k3 m3 z3 h14 hE3 sy3 hq3 => ?_) (fun hb Mx' hx' hq' => ?_)
  rotate_left
  · exact hQ hb Mx' (XPb_tr xp2 (XF_P hx')) (fun G Qtq hg => toQ fun V' hV' hW' => hq' _ _ fun v M9 p => qv2_s hx hV' hW' (SQp_tr (QPb_tr QPb_nx QPb_nx) (SQ_P p)) hg)
  have H3 := HDR_go H2 hE3
  rw [v73] at m3 z3 hq3 ⊢
  rw [v70, v73] at sy3
  rw [e13, e18]
  refine ⟨hx, ?_⟩
  generalize eM2 : nX_ (up_ (nX_ M) 120 T (M 73 a)) = M2 at *
  have r2 : ∀ r : Nat, r ≠ 1 → r ≠ 120 → M2 r = M r := fun r h h' => by rw [← eM2, nX_ne h, up_ne h', nX_ne h]
  have m120 : M2 120 T = M 73 a := by rw [← eM2, nX_ne (by decide), up_at]
  have o120 : ∀ i, i ≠ T → M2 120 i = M 120 i := fun i hi => by rw [← eM2, nX_ne (by decide), up_of2 hi, nX_ne (by decide)]
  have o1 : ∀ i : Int, i ≠ 3 → M2 1 i = M 1 i := fun i hi => by rw [← eM2, nX_1 hi, up_ne (by decide), nX_1 hi]
  clear eM2
  have e8 : nX_ M2 1 8 = b := hE3.2.2.2.2.2.2.1
  have f12 : nX_ M2 1 2 = 5 := by rw [nX_1 (by decide), o1 2 (by decide)]; exact hV0.1
  have f18 : nX_ M2 1 18 = T := by rw [nX_1 (by decide)]; exact e18
  have f120 : nX_ M2 120 T = M 73 a := by rw [nX_ne (by decide)]; exact m120
  have H4 : HDR b F (up_ (nX_ M2) 121 T (M 73 (a + 1 + 1))) (nx_ (nx_ (nx_ N))) (a + 1 + 1 + 1) := HDR_nr H3 (fun r _ h _ _ => up_ne h) (fun _ => up_ne (by decide)) (fun _ _ _ _ => rfl)
  have e71 : up_ (nX_ M2) 121 T (M 73 (a + 1 + 1)) 71 = M 71 := by rw [up_ne (by decide), nX_ne (by decide), r2 71 (by decide) (by decide)]
  have f7 : up_ (nX_ M2) 121 T (M 73 (a + 1 + 1)) 1 7 = M 1 7 := by rw [up_ne (by decide), nX_1 (by decide), o1 7 (by decide)]
  have gd2 : gd_ (up_ (nX_ M2) 121 T (M 73 (a + 1 + 1))) (a + 1 + 1) := by
    have := hE2.1
    unfold gd_ at this ⊢
    rw [up_ne (by decide), nX_ne (by decide)]; exact this
  have fin : ∀ kk : Int, (kk = if M 73 (a + 1 + 1) < M 73 a then 6 else 0) → V 281 [rr 1, ii y1, ii (a + 1 + 1), none, none, none, none] [] (Xn_ (up_ (nX_ M2) 121 T (M 73 (a + 1 + 1))) b kk (a + 1 + 1)) := fun kk hkk => by
    have hk6 : kk = 0 ∨ (3 ≤ kk ∧ kk ≤ 6) := by
      by_cases c : M 73 (a + 1 + 1) < M 73 a
      · rw [if_pos c] at hkk; omega
      · rw [if_neg c] at hkk; omega
    obtain ⟨H5, p5, _⟩ := HDR_n (kk := kk) (tk := a + 1 + 1) H4 hk6 gd2 (by rw [f7]; omega)
    rw [e71] at H5 p5
    have H6 : HDR b F (Xn_ (up_ (nX_ M2) 121 T (M 73 (a + 1 + 1))) b kk (a + 1 + 1)) (up_ (up_ (Qn_ (nx_ (nx_ (nx_ N))) b kk (M 71 (a + 1 + 1))) 168 T (M 73 a)) 169 T (M 73 (a + 1 + 1))) (a + 1 + 1 + 1) := HDR_nr H5 (fun _ _ _ _ _ => rfl) (fun _ => rfl) (fun r h h' _ => by rw [up_ne h', up_ne h])
    rw [show a + 1 + 1 + 1 = a + 3 by omega] at H6
    have z73 : 0 ≤ M 73 (a + 1 + 1) := z3
    have z73' : 0 ≤ M 73 a := z1
    refine hK _ _ H6 ⟨fun r h h' h'' => ?_, fun i hi => ?_, fun i h3 h4 h5 h7 => ?_, fun r h h' h'' => ?_, fun i hi => ?_, fun i h2 h3 h4 => ?_, ⟨?_, ?_, ?_⟩, fun hb hz => ?_⟩ (fun hb => by have := (p5.2.2.2.2.2.2.2.2 hb).1; rw [nx_6 (by decide), nx_6 (by decide), nx_6 (by decide), nx_6 (by decide), nx_6 (by decide), nx_6 (by decide)] at this; rw [up_ne (by decide), up_ne (by decide)]; exact this) ?_ (fun G Qtq hq => toQ fun V' hV' hW' => hq3 _ _ ?_)
    · rw [Xn_r h, up_ne h'', nX_ne h, r2 r h h']
    · rw [Xn_r (by decide), Xn_r (by decide), up_of2 hi, up_of2 hi, nX_ne (by decide), nX_ne (by decide), o120 i hi, r2 121 (by decide) (by decide)]
      exact ⟨rfl, rfl⟩
    · rw [Xn_1 h4 h5 h7, up_ne (by decide), nX_1 h3, o1 i h3]
    · rw [up_ne h'', up_ne h', Qn_r h, nx_ne h, nx_ne h, nx_ne h]
    · rw [up_of2 hi, up_of2 hi, up_of2 hi, up_of2 hi, Qn_r (by decide), Qn_r (by decide), nx_ne (by decide), nx_ne (by decide), nx_ne (by decide), nx_ne (by decide), nx_ne (by decide), nx_ne (by decide)]
      exact ⟨rfl, rfl⟩
    · rw [up_ne (by decide), up_ne (by decide), Qn_6 h3 h4, nx_6 h2, nx_6 h2, nx_6 h2]
    · rw [up_ne (M := up_ _ 168 T _) (by decide), up_at, up_at, Xn_r (by decide), Xn_r (by decide), up_at, up_ne (by decide), f120]
      exact ⟨rfl, rfl⟩
    · rw [Xn_r (by decide), up_ne (by decide), f120]; exact ⟨z73', m1⟩
    · rw [Xn_r (by decide), up_at]; exact ⟨z73, m3⟩
    · have z5 := (p5.2.2.1 hb).2.2 (by rw [up_ne (by decide), up_ne (by decide)] at hz; exact hz)
      rw [nx_6 (by decide), nx_6 (by decide), nx_6 (by decide)] at z5
      exact z5
    · rw [eS2, sy3]
      rw [show a + 1 + 1 + 1 = a + 3 by omega]
    · have c180 : V' 180 [rr 6, ii T, ii x2, ii (M 73 a), ii (M 71 (a + 1 + 1)), ii (M 73 (a + 1 + 1)), none] [] (Qn_ (nx_ (nx_ (nx_ N))) b kk (M 71 (a + 1 + 1))) := by
        refine b_252_180 (Tr_mono _) hV' hW' _ _ _ _ _ _ (q_227g (ER_goq (TS_E H5.1.1)) ?_)
        rw [if_pos rfl]
        exact ⟨hx, hx, hq V' hV' hW'⟩
      by_cases cc : M 73 a ≤ M 73 (a + 1 + 1)
      · rw [if_pos cc]
        have k0 : kk = 0 := by rw [if_neg (by omega)] at hkk; exact hkk
        have : Qn_ (nx_ (nx_ (nx_ N))) b kk (M 71 (a + 1 + 1)) = nx_ (nx_ (nx_ N)) := by unfold Qn_; rw [if_pos (.inr k0)]
        rw [this] at c180; exact c180
      · rw [if_neg cc]
        have k6 : kk = 6 := by rw [if_pos (by omega)] at hkk; exact hkk
        refine q_236 ?_
        have : Qn_ (nx_ (nx_ (nx_ N))) b kk (M 71 (a + 1 + 1)) = nt_ (nx_ (nx_ (nx_ N))) 6 (M 71 (a + 1 + 1)) := by
          unfold Qn_
          rw [k6]
          by_cases cb : b = 0
          · rw [if_pos (.inl cb)]
            unfold nt_
            rw [if_pos (hE3.2.2.2.2.2.2.2.1.trans cb)]
          · rw [if_neg (by omega)]
        rw [this] at c180; exact c180
  intro _
  rw [e8]
  by_cases cb : b = 0
  · rw [if_pos cb]
    have := fin _ rfl
    unfold Xn_ at this
    rw [if_pos (.inl cb)] at this
    exact this
  · rw [if_neg cb, f18, up_at, f120]
    refine ⟨f12, hx, f12, hx, ?_⟩
    by_cases c6 : M 73 (a + 1 + 1) < M 73 a
    · rw [if_pos c6]
      have := fin 6 (by rw [if_pos c6])
      unfold Xn_ at this
      rw [if_neg (by omega)] at this
      exact x_116 (by omega) (by omega) (by rw [f7]; exact hE.2.2.2.2.2.2.2.2.2.2.2.1) (by rw [f7]; omega) this
    · rw [if_neg c6]
      have := fin 0 (by rw [if_neg c6])
      unfold Xn_ at this
      rw [if_pos (.inr rfl)] at this
      exact this
end CTw
end T256_ct
section T257_pn
/-! a process's name (X 126 V 0 | Q 252 V 0) -/
def TMT (M : mm_) (np : Int) : Int → Bool := fun t => decide (np < M 5 2 ∧ M 58 np = t)
def TOK (b : Int) (tm : Int → Bool) (np : Int) (M M' : mm_) : Prop := (b = 0 → tm (M' 58 np) = true) ∧ (b = 1 → tm = TMT M np)
def pnS (κ : Int → Int) (tm : Int → Bool) (a : Int) : Option Int := (gS a).bind fun a1 => (tS κ 100 a1).bind fun a2 => if tm a1 then some a2 else none
def qPC (dq : Nat) (np : Int) (N : mm_) (G : mm_ → Prop) (Qt : qt_) : Prop := Tr_ wd0 pg0 (dq + 19) 228 [.inr (.inr 6), .inl 2] N (ri_ fun v M3 => if v = 0 then False else Tr_ wd0 pg0 (dq + 19) 252 [.inr (.inr 6), .inl np] M3 (rv_ G) Qt) Qt
def pzX : List Nat := [1, 5, 58, 123, 124, 125, 126, 128]
def pzQ : List Nat := [6, 154, 167, 170, 171, 172, 173, 174, 175, 190, 191]
/-- what the name changes -/
def PZ (b F F1 : Int) (M N M1 N1 : mm_) (T : Int) : Prop := ((∀ r : Nat, r ∉ pzX → M1 r = M r) ∧ (∀ (r : Nat) i, r ≠ 1 → r ≠ 5 → i ≠ T → M1 r i = M r i) ∧ (∀ i : Int, i ≠ 2 → M1 5 i = M 5 i) ∧ (∀ i : Int, i ∉ [3, 4, 5, 7] → M1 1 i = M 1 i))
  ∧ ((∀ r : Nat, r ∉ pzQ → N1 r = N r) ∧ (∀ (r : Nat) i, r ∉ [6, 190, 191] → i ≠ T → N1 r i = N r i) ∧ (∀ i : Int, i ∉ [12, 13, 14, 19, 58] → N1 6 i = N 6 i)) ∧ (b = 1 → (∀ r : Nat, r ≠ 1 → M1 r = M r) ∧ (∀ r : Nat, r ≠ 6 → N1 r = N r) ∧ (∀ i : Int, i ∉ [12, 13, 14] → N1 6 i = N 6 i) ∧ (N1 6 13 = 0 → N 6 13 = 0)) ∧ (F1 ≤ F ∧ (b = 1 → F1 = F))
  ∧ (b = 0 → M1 5 2 = T + 1 ∧ (M1 123 T = 0 ∧ M1 124 T = 0 ∧ M1 126 T = 0 ∧ M1 128 T = 0) ∧ N1 170 T = 0 ∧ N1 174 T = 0)
section PNm
variable {dq : Nat} {b F F1 : Int} {x2 x3 x4 x5 c T y1 y2 ns nr np t : Int} {Kv G : mm_ → Prop} {Qt Qtq : qt_} {V V' : vv_} {M N Mx' M' N' M1 N1 : mm_} {a a' : Int}
theorem q252z [Inhabited gh_] {x : Int} (hs : sp_ N) (h : G N) : Tr_ wd0 pg0 (dq + 19) 252 [.inr (.inr 6), .inl x] N (rv_ G) Qtq := t_252 fun V hV hW => b_252_0 (Tr_mono _) hV hW _ _ (q_233s hs (q_227s hs (by rw [if_neg (by decide)]; exact rv_i h)))
theorem PZ_0 [Inhabited gh_] (h52 : M 5 2 = T) : PZ 0 F (Fg_ F (nX_ (nX_ M)) (nx_ (nx_ N)) t) M N (zX_ (gd1_ (nX_ (nX_ M)) (nx_ (nx_ N)) t) t) (zQ_ (gq_ (nx_ (nx_ N)) t) T t) T := by
  have e52 : gd1_ (nX_ (nX_ M)) (nx_ (nx_ N)) t 5 2 = T := by rw [gd1_r (by decide), nX_ne (by decide), nX_ne (by decide)]; exact h52
  have kX := zX_k (M := gd1_ (nX_ (nX_ M)) (nx_ (nx_ N)) t) (t := t)
  rw [e52] at kX
  have kQ := zQ_k (N := gq_ (nx_ (nx_ N)) t) (T := T) (t := t)
  refine ⟨⟨fun r hr => ?_, fun r i h1 h5 hi => ?_, fun i hi => ?_, fun i hi => ?_⟩, ⟨fun r hr => ?_, fun r i hr hi => ?_, fun i hi => ?_⟩, fun hb => absurd hb (by decide), ⟨Fg_le, fun hb => absurd hb (by decide)⟩, fun _ => ⟨kX.1, ⟨kX.2.2.2.2.1, kX.2.2.1, kX.2.2.2.1, kX.2.2.2.2.2.1⟩, kQ.2.2.2.1, kQ.2.2.2.2.2.2.2.1⟩⟩
  · have h1 : r ≠ 1 := fun e => hr (by rw [e]; decide)
    rw [zX_r (fun e => hr (List.mem_cons_of_mem _ e)), gd1_r h1, nX_ne h1, nX_ne h1]
  · rw [zX_o h5 (by rw [e52]; exact hi), gd1_r h1, nX_ne h1, nX_ne h1]
  · rw [zX_5 hi, gd1_r (by decide), nX_ne (by decide), nX_ne (by decide)]
  · have h3 : i ≠ 3 := nm_i hi (by decide)
    rw [zX_r (by decide), gd1_1 (nm_i hi (by decide)) (nm_i hi (by decide)) (nm_i hi (by decide)), nX_1 h3, nX_1 h3]
  · have h6 : r ≠ 6 := fun e => hr (by rw [e]; decide)
    rw [zQ_r (fun e => hr (by revert e; unfold pzQ; simp only [List.mem_cons, List.not_mem_nil, or_false]; omega)), gq_r h6 (fun e => hr (by rw [e]; decide)) (fun e => hr (by rw [e]; decide)), nx_ne h6, nx_ne h6]
  · have h6 : r ≠ 6 := fun e => hr (by rw [e]; decide)
    rw [zQ_o h6 hi, gq_r h6 (fun e => hr (by rw [e]; decide)) (fun e => hr (by rw [e]; decide)), nx_ne h6, nx_ne h6]
  · have h2 : i ≠ 12 := nm_i hi (by decide)
    rw [zQ_6 (nm_i hi (by decide)), gq_6 (nm_i hi (by decide)), nx_6 h2, nx_6 h2]
theorem PZ_1 [Inhabited gh_] (hw : GWI (nx_ (nx_ N)) t N') : PZ 1 F F M N (nX_ (nX_ M)) N' T := by
  have xr : ∀ r : Nat, r ≠ 1 → nX_ (nX_ M) r = M r := fun r h => by rw [nX_ne h, nX_ne h]
  have qr : ∀ r : Nat, r ≠ 6 → N' r = N r := fun r h => by rw [GWI_r hw h, nx_ne h, nx_ne h]
  have q6 : ∀ i : Int, i ≠ 12 → i ≠ 13 → i ≠ 14 → N' 6 i = N 6 i := fun i h h' h'' => by rw [GWI_6 hw h' h'', nx_6 h, nx_6 h]
  refine ⟨⟨fun r hr => xr r (fun e => hr (by rw [e]; decide)), fun r i h1 _ _ => by rw [xr r h1], fun i _ => by rw [xr 5 (by decide)], fun i hi => by rw [nX_1 (nm_i hi (by decide)), nX_1 (nm_i hi (by decide))]⟩, ⟨fun r hr => qr r (fun e => hr (by rw [e]; decide)), fun r i hr _ => by rw [qr r (fun e => hr (by rw [e]; decide))], fun i hi => q6 i (nm_i hi (by decide)) (nm_i hi (by decide)) (nm_i hi (by decide))⟩, fun _ => ⟨xr, qr, fun i hi => q6 i (nm_i hi (by decide)) (nm_i hi (by decide)) (nm_i hi (by decide)), fun hz => ?_⟩, ⟨Int.le_refl _, fun _ => rfl⟩, fun hb => absurd hb (by decide)⟩
  rcases hw with e | ⟨e, _⟩
  · rw [e, nx_6 (by decide), nx_6 (by decide)] at hz; exact hz
  · rw [e] at hz
    unfold nt_ at hz
    by_cases c : nx_ (nx_ N) 6 16 = 0
    · rw [if_pos c, nx_6 (by decide), nx_6 (by decide)] at hz; exact hz
    · rw [if_neg c] at hz
      by_cases c2 : nx_ (nx_ N) 6 13 = 0 ∨ nx_ (nx_ N) 150 t < nx_ (nx_ N) 6 14 ∨ nx_ (nx_ N) 150 t = nx_ (nx_ N) 6 14 ∧ 3 < nx_ (nx_ N) 6 13
      · rw [if_pos c2, bf_13] at hz; exact absurd hz (by decide)
      · rw [if_neg c2, nx_6 (by decide), nx_6 (by decide)] at hz; exact hz
theorem y_pnm [Inhabited gh_] (hgh : GHP) (hV : Cl_ wd0 (Tr_ wd0 pg0 130) V (rv_ Kv) Qt m_126) (hW : Wk_ V) (h : SYS b F M N a ns nr np) (hk : M 70 a = 2) (hS : b = 1 → pnS (M 70) (TMT M np) a ≠ none)
    (hK : ∀ F1 Mz Nz, SY0 b F1 Mz Nz (a + 2) → PZ b F F1 M N Mz Nz np → GNO b F F1 M N Nz (a + 1) → Mz 58 np = a + 1 → np < Mz 5 2 → HDR b F1 (sT_ Mz np) (up_ Nz 6 61 np) (a + 2) → (∀ tm, TOK b tm np M Mz → pnS (M 70) tm a = some (a + 2)) → (∀ (G : mm_ → Prop) (Qtq : qt_), q131 dq np (a + 1) (up_ Nz 6 61 np) G Qtq → qPC dq np N G Qtq) → z158 V Qt (a + 1) np (sT_ Mz np))
    (hQ : b = 0 → ∀ Mx', XPb M Mx' → (∀ (G : mm_ → Prop) (Qtq : qt_), (∀ M', SQp Mx' N M' → G M') → qPC dq np N G Qtq) → Qt 8 Mx') :
    V 0 [rr 1, none, none, none, none, none, none] [] M := by
  have hE := h.1.1.2.1
  have hT := h.1.1.1
  have ha := ER_a hE
  have h01 := bl01 hE
  have hnp := h.2.1.2.1.2.2
  have fl := h.1.2.2.2.2.1.2.2.1
  have b76 := h.1.2.2.2.2.1.2.1
  refine b_126_0 (Tr_mono _) hV hW _ ?_
  refine y_105 hE (by omega) (fun hb => bind_n (hS hb)) (fun h12 hE1 => ?_) (fun hb h12 => ?_)
  rotate_left
  · have hsp := SQ_bf hE hb (k := 2) (by decide) QA_rf
    exact hQ hb _ XPb_fl (fun G Qtq hg => j_228r hT hE hb (by decide) hk h12 (by rw [if_neg (by decide)]; exact q252z hsp.1 (hg _ (SQ_P hsp))))
  have S1 := SYS_go h hE1
  have hT1 := S1.1.1.1
  have x70 : nX_ M 70 = M 70 := nX_ne (by decide)
  have toQ : ∀ {G : mm_ → Prop} {Qtq : qt_}, (∀ V' : vv_, Cl_ wd0 (Tr_ wd0 pg0 (dq + 18)) V' (rv_ G) Qtq m_252 → Wk_ V' → Tr_ wd0 pg0 (dq + 18) 233 [.inr (.inr 6)] (nx_ N) (ri_ fun v1 M1 =>
  Tr_ wd0 pg0 (dq + 18) 227 [.inr (.inr 6)] M1 (ri_ fun v2 M2 =>
   (if v2 = 0 then
    (bl_ (M2 6 16) → (if M2 6 16 = 0 then
     (if np = 6 then
      (0 ≤ v1 ∧ v1 < 1202) ∧
       Tr_ wd0 pg0 (dq + 18) 231 [.inr (.inr 6), .inl 2, .inl (M2 150 v1)] M2 (rv_ fun M3 =>
       rv_ G [] M3) Qtq
     else
      V' 38 [rr 6, ii np, ii v1, none, none, none, none] [] M2)
    else
     V' 38 [rr 6, ii np, ii v1, none, none, none, none] [] M2))
   else
    rv_ G [] M2)) Qtq) Qtq) → qPC dq np N G Qtq := fun hq => j_228t hT hE (by decide) hk h12 (by
      rw [if_neg (by decide)]
      exact t_252 fun V' hV' hW' => b_252_0 (Tr_mono _) hV' hW' _ _ (hq V' hV' hW'))
  refine y_107 hE1 (fun hb => by
    rw [x70]
    have := hS hb
    unfold pnS at this
    rw [gS_e h12, Option.bind_some] at this
    exact bind_n this) (fun k1 h13 hE2 => ?_) (fun hb k1 h13 => ?_) (fun hb k1 => ?_)
  rotate_left
  · have hsp := SQ_bf hE1 hb (k := 2) (by decide) QA_rf
    exact hQ hb _ (XPb_tr XPb_nX XPb_fl) (fun G Qtq hg => toQ fun V' hV' hW' => j_233r hT1 hE1 hb k1 h13 (q_227s hsp.1 (by rw [if_neg (by decide)]; exact rv_i (hg _ (SQp_tr QPb_nx (SQ_P hsp))))))
  · have hsp := SQ_bf hE1 hb (k := 1) (by decide) QA_rf
    exact hQ hb _ (XPb_tr XPb_nX XPb_fl) (fun G Qtq hg => toQ fun V' hV' hW' => j_233w hT1 hE1 hb k1 (q_227s hsp.1 (by rw [if_neg (by decide)]; exact rv_i (hg _ (SQp_tr QPb_nx (SQ_P hsp))))))
  have S2 := SYS_go S1 hE2
  have hT2 := S2.1.1.1
  have k1' : M 70 (a + 1) = 100 := by rw [← x70]; exact k1
  have r2 : ∀ r : Nat, r ≠ 1 → nX_ (nX_ M) r = M r := fun r h => by rw [nX_ne h, nX_ne h]
  have nmt : nm9_ (nX_ (nX_ M)) (a + 1) := ⟨gd_c (nX_ne (by decide)) hE1.1, by rw [r2 70 (by decide)]; exact k1'⟩
  have e8 : nX_ (nX_ M) 1 8 = b := hE2.2.2.2.2.2.2.1
  have e16 : nx_ (nx_ N) 6 16 = b := hE2.2.2.2.2.2.2.2.1
  have e12 : nX_ (nX_ M) 1 2 = 5 := S2.1.1.2.2
  have e33 : nX_ (nX_ M) 1 33 = np := S2.2.1.1.2.2
  have e5 : nX_ (nX_ M) 5 = M 5 := r2 5 (by decide)
  have glu := S2.1.2.1.2.2.2.2
  have a52 := S2.1.2.1.2.1.1.1
  have eS : ∀ tm, tm (a + 1) = true → pnS (M 70) tm a = some (a + 2) := fun tm htm => by
    unfold pnS
    rw [gS_e h12, Option.bind_some, tS_e k1' h13, Option.bind_some, if_pos htm]
    rw [show a + 1 + 1 = a + 2 by omega]
  have toQ2 : ∀ {G : mm_ → Prop} {Qtq : qt_}, (b = 0 → np ≠ 6) → (∀ V' : vv_, Cl_ wd0 (Tr_ wd0 pg0 (dq + 18)) V' (rv_ G) Qtq m_252 → Wk_ V' → V' 38 [rr 6, ii np, ii (a + 1), none, none, none, none] [] (nx_ (nx_ N))) → qPC dq np N G Qtq := fun h6 hq => toQ fun V' hV' hW' => j_233t hT1 hE1 k1 h13 (q_227g (ER_goq hE2) (by
    rw [if_pos rfl]
    intro _
    rw [e16]
    rcases h01 with hb | hb
    · rw [if_pos hb, if_neg (h6 hb)]; exact hq V' hV' hW'
    · rw [if_neg (by omega)]; exact hq V' hV' hW'))
  -- from the tables on
  have z : ∀ {x : Int} {Mz : mm_}, Mz 1 2 = 5 → Mz 1 33 = np → np < 6 → z158 V Qt x np (sT_ Mz np) → V 158 [rr 1, ii x, none, none, none, none, none] [] Mz := fun {x Mz} h2 h33 h6 hz => by
    refine b_126_158 (Tr_mono _) hV hW _ _ ?_
    rw [h33, w32_id (x := np + 1) (by omega) (by omega)]
    exact ⟨h2, hz⟩
  intro _
  rw [e8]
  rcases h01 with hb | hb
  · rw [if_pos hb]
    have e52 : M 5 2 = np := (h.2.1.2.2 hb).2.2
    refine ⟨e12, ?_⟩
    rw [e5, e52]
    by_cases c6 : np = 6
    · rw [if_pos c6]
      refine x_110 (by omega) (by omega) (fun e => absurd e (by decide)) (fun _ => ?_)
      have e150 : nx_ (nx_ N) 150 (a + 1) = nX_ (nX_ M) 71 (a + 1) := ((hT2 (a + 1) nmt.1).2.1).symm
      have sp2 : sp_ (bf_ (nx_ (nx_ N)) 2 (nX_ (nX_ M) 71 (a + 1))) := bf_sp (e16.trans hb) (by decide)
      refine hQ hb _ (XPb_tr (XPb_tr XPb_nX XPb_nX) XPb_fl) (fun G Qtq hg => toQ fun V' hV' hW' => j_233t hT1 hE1 k1 h13 (q_227g (ER_goq hE2) ?_))
      rw [if_pos rfl]
      intro _
      rw [e16, if_pos hb, if_pos c6]
      refine ⟨by omega, q_231o (hE2.2.2.2.2.2.2.2.2.2.1 hb) ?_⟩
      rw [e150]
      refine rv_i (hg _ ⟨sp2, ?_, ?_, ?_, QPb_tr (QPb_tr QPb_nx QPb_nx) (QF_P bf_QF)⟩)
      · unfold in9_; rw [bf_6 (by decide) (by decide), hE2.2.2.1]; omega
      · unfold bf_ flX_; rw [up_off (by decide), up_at, up_off (by decide), up_at]
      · refine ⟨?_, fl_b7 (by assumption)⟩; unfold bf_ flX_; rw [up_at, up_at]
    rw [if_neg c6]
    have n6 : np < 6 := by rw [e5] at a52; omega
    have glt : ∀ u, GLM (nX_ (nX_ M)) u → u < a + 1 := fun u hu => by
      have : GLM M u := by
        unfold GLM at hu ⊢
        rw [r2 5 (by decide), r2 56 (by decide), r2 57 (by decide), r2 58 (by decide)] at hu
        exact hu
      have := h.1.2.2.2.1.2 hb u this
      omega
    have f7 : nX_ (nX_ M) 1 7 = M 1 7 := by rw [nX_1 (by decide), nX_1 (by decide)]
    have Z := SY_ty (t := a + 1) S2.1 hb nmt (by omega) glt (by rw [e5, e52]; exact n6) (by rw [f7]; omega)
    rw [e5, e52] at Z
    have PZ0 : PZ b F (Fg_ F (nX_ (nX_ M)) (nx_ (nx_ N)) (a + 1)) M N (zX_ (gd1_ (nX_ (nX_ M)) (nx_ (nx_ N)) (a + 1)) (a + 1)) (zQ_ (gq_ (nx_ (nx_ N)) (a + 1)) np (a + 1)) np := by rw [hb]; exact PZ_0 e52
    have g52 : gd1_ (nX_ (nX_ M)) (nx_ (nx_ N)) (a + 1) 5 2 = np := by rw [gd1_r (by decide), e5]; exact e52
    have k58 : zX_ (gd1_ (nX_ (nX_ M)) (nx_ (nx_ N)) (a + 1)) (a + 1) 58 np = a + 1 := by have := (zX_k (M := gd1_ (nX_ (nX_ M)) (nx_ (nx_ N)) (a + 1)) (t := a + 1)).2.1; rw [g52] at this; exact this
    have k52 := (PZ0.2.2.2.2 hb).1
    have k12 := (PZ0.2.2.2.2 hb).2.1
    have q76 : zQ_ (gq_ (nx_ (nx_ N)) (a + 1)) np (a + 1) 6 76 = N 6 76 := PZ0.2.1.2.2 76 (by decide)
    have m12 : zX_ (gd1_ (nX_ (nX_ M)) (nx_ (nx_ N)) (a + 1)) (a + 1) 1 2 = 5 := Z.1.2.2
    have m33 : zX_ (gd1_ (nX_ (nX_ M)) (nx_ (nx_ N)) (a + 1)) (a + 1) 1 33 = np := by rw [PZ0.1.2.2.2 33 (by decide)]; exact h.2.1.1.2.2
    have fin : V 52 [rr 1, ii (a + 1), none, none, none, none, none] [] (gd1_ (nX_ (nX_ M)) (nx_ (nx_ N)) (a + 1)) := by
      have g12 : gd1_ (nX_ (nX_ M)) (nx_ (nx_ N)) (a + 1) 1 2 = 5 := by rw [gd1_1 (by decide) (by decide) (by decide)]; exact e12
      refine b_126_52 (Tr_mono _) hV hW _ _ ?_
      have b6 : 0 ≤ gd1_ (nX_ (nX_ M)) (nx_ (nx_ N)) (a + 1) 5 2 ∧ gd1_ (nX_ (nX_ M)) (nx_ (nx_ N)) (a + 1) 5 2 < 6 := by rw [g52]; omega
      refine ⟨g12, b6, g12, g12, b6, g12, g12, b6, g12, g12, b6, g12, g12, b6, g12, g12, b6, g12, ?_⟩
      rw [w32_id (x := gd1_ (nX_ (nX_ M)) (nx_ (nx_ N)) (a + 1) 5 2 + 1) (by omega) (by omega)]
      have HD := SY_HDR hgh (T := np) Z (by rw [k52]; omega) (by rw [k58]; omega) (by rw [q76]; omega) (by omega) (fun _ => ⟨k12.2.1, k12.2.2.1⟩)
      rw [show a + 1 + 1 = a + 2 by omega] at Z HD
      refine z (Mz := zX_ (gd1_ (nX_ (nX_ M)) (nx_ (nx_ N)) (a + 1)) (a + 1)) m12 m33 n6 (hK _ (zX_ (gd1_ (nX_ (nX_ M)) (nx_ (nx_ N)) (a + 1)) (a + 1)) (zQ_ (gq_ (nx_ (nx_ N)) (a + 1)) np (a + 1)) Z PZ0 (GNO_c (M2 := M) (N2 := N) (by rw [hb]; exact GNO_0 S2.1.2.1.1.1 S2.1.2.1.2.2.1 S2.1.2.1.2.1.1) (fun r hr => (r2 r (fun e => by rw [e] at hr; revert hr; decide)).symm) (by rw [nx_ne (by decide), nx_ne (by decide)]) (by rw [nx_6 (by decide), nx_6 (by decide)]) (by rw [nx_6 (by decide), nx_6 (by decide)])) k58 (by rw [k52]; omega) HD (fun tm ht => eS tm (by have := ht.1 hb; rw [k58] at this; exact this)) (fun G Qtq hq => toQ2 (fun _ => c6) fun V' hV' hW' => b_252_38 (Tr_mono _) hV' hW' _ _ _ (q_235n (ER_goq hE2) (e16.trans hb) ?_ (by omega) ?_)))
      · have := glu.1
        have s5 := S2.1.2.1.1.1.1
        have r5 := S2.1.2.1.2.2.1.1
        rw [e5] at this s5 r5
        omega
      · intro _
        rw [gq_6 (by decide), e16, if_pos hb, w32_id (x := gq_ (nx_ (nx_ N)) (a + 1) 6 19 + 1) (by
          have q19 := S2.1.2.1.2.1.1.1.2.2
          rw [e5] at q19
          rw [gq_6 (by decide), q19]; omega) (by
          have q19 := S2.1.2.1.2.1.1.1.2.2
          rw [e5] at q19
          rw [gq_6 (by decide), q19]; omega)]
        have hq' := hq V' hV' hW'
        rw [← zQ_61] at hq'
        unfold zQ_ at hq'
        have u1 : up_ (gq_ (nx_ (nx_ N)) (a + 1)) 6 61 np 151 = gq_ (nx_ (nx_ N)) (a + 1) 151 := up_ne (by decide)
        have u2 : up_ (gq_ (nx_ (nx_ N)) (a + 1)) 6 61 np 150 = gq_ (nx_ (nx_ N)) (a + 1) 150 := up_ne (by decide)
        have u3 : up_ (gq_ (nx_ (nx_ N)) (a + 1)) 6 61 np 6 19 = gq_ (nx_ (nx_ N)) (a + 1) 6 19 := up_of2 (by decide)
        rw [u1, u2, u3] at hq'
        exact ⟨by omega, by omega, by omega, by omega, by omega, by omega, by omega, by omega, by omega, by omega, hq'⟩
    refine x_110 (by omega) (by omega) (fun _ => ?_) (fun e => absurd rfl e)
    refine x_111s hT2 e12 S2.1.2.1.1.1 S2.1.2.1.2.2.1 S2.1.2.1.2.1.1 nmt (fun c => ?_) (fun c => ?_)
    · rw [if_pos rfl]
      unfold gd1_ at fin
      rw [if_pos c] at fin; exact fin
    · rw [if_neg (by decide)]
      unfold gd1_ at fin
      rw [if_neg c] at fin
      exact x_116 (by omega) (by omega) (by rw [f7]; exact hE.2.2.2.2.2.2.2.2.2.2.2.1) (by rw [f7]; omega) fin
  · rw [if_neg (by omega)]
    have tmb : TMT M np (a + 1) = true := by
      have := hS hb
      unfold pnS at this
      rw [gS_e h12, Option.bind_some, tS_e k1' h13, Option.bind_some] at this
      by_cases c : TMT M np (a + 1) = true
      · exact c
      · rw [if_neg c] at this; exact absurd rfl this
    have tm2 : np < M 5 2 ∧ M 58 np = a + 1 := by unfold TMT at tmb; exact of_decide_eq_true tmb
    have n6 : np < 6 := by rw [e5] at a52; omega
    have r5 := S2.1.2.1.2.2.1.1
    have s5 := S2.1.2.1.1.1.1
    have g1 := glu.1
    rw [e5] at r5 s5 g1 a52
    obtain ⟨Nz, ⟨hw, hwn⟩, hq⟩ := q_235j (N := nx_ (nx_ N)) (t := a + 1) (e16.trans hb) (by omega) (by omega)
    have gm : GLM (nX_ (nX_ M)) (a + 1) := .inr (.inr ⟨np, by rw [e5]; exact ⟨hnp, tm2.1⟩, by rw [r2 58 (by decide)]; exact tm2.2⟩)
    have Z := SY_gw S2.1 hb nmt gm hw
    have PZ1 : PZ b F F M N (nX_ (nX_ M)) Nz np := by rw [hb]; exact PZ_1 hw
    have q76 : Nz 6 76 = N 6 76 := PZ1.2.1.2.2 76 (by decide)
    have k58 : nX_ (nX_ M) 58 np = a + 1 := by rw [r2 58 (by decide)]; exact tm2.2
    have k52 : np < nX_ (nX_ M) 5 2 := by rw [e5]; exact tm2.1
    have HD := SY_HDR hgh (T := np) Z ⟨hnp, k52⟩ (by rw [k58]; omega) (by rw [q76]; omega) (by omega) (fun hb0 => by omega)
    rw [show a + 1 + 1 = a + 2 by omega] at Z HD
    refine z e12 e33 n6 (hK _ _ _ Z PZ1 (GNO_c (M2 := M) (N2 := N) (by rw [hb]; exact GNO_1 S2.1.2.1.1.1 S2.1.2.1.2.2.1 S2.1.2.1.2.1.1 hT2 S2.1.2.1.2.2.2.2 nmt (e16.trans hb) hE2.2.2.2.2.2.2.2.2.2.2.1.2.1 ⟨hw, hwn⟩) (fun r hr => (r2 r (fun e => by rw [e] at hr; revert hr; decide)).symm) (by rw [nx_ne (by decide), nx_ne (by decide)]) (by rw [nx_6 (by decide), nx_6 (by decide)]) (by rw [nx_6 (by decide), nx_6 (by decide)])) k58 k52 HD (fun tm ht => eS tm (by rw [ht.2 hb]; exact tmb)) (fun G Qtq hg => toQ2 (fun hb0 => by omega) fun V' hV' hW' => b_252_38 (Tr_mono _) hV' hW' _ _ _ (hq _ _ _ ?_)))
    intro _
    rw [GWI_6 hw (by decide) (by decide), e16, if_neg (by omega)]
    exact hg V' hV' hW'
end PNm
end T257_pn
section T258_pr
/-! a process up to its end (X 126 | Q 252) -/
def DMs (M : mm_) (T : Int) : Int → Bool := DMT (up_ M 1 18 T)
def LMs (M : mm_) (T : Int) : Int → Int → Bool := LMT (up_ M 1 18 T)
def SMs (N : mm_) (T : Int) : Int → Bool := SMT (up_ N 6 61 T)
def POK (b : Int) (tm dm : Int → Bool) (pm : Int) (lm : Int → Int → Bool) (sm : Int → Bool) (lb T : Int) (M N M' N' : mm_) : Prop := (b = 0 → lb = M' 128 T ∧ tm (M' 58 T) = true ∧ (∀ t, DCL M' T t → dm t = true) ∧ pm = M' 122 T ∧ (∀ j, 0 ≤ j → j < M' 128 T → lm j (M' 62 (10 * T + j)) = true) ∧ (∀ t, stt (up_ N' 6 61 T) (N' 151 t) ≠ -1 → sm t = true))
  ∧ (b = 1 → lb = M 128 T ∧ tm = TMT M T ∧ dm = DMs M T ∧ pm = M 122 T ∧ lm = LMs M T ∧ sm = SMs N T)
def prcS (κ ν : Int → Int) (tm dm : Int → Bool) (pm : Int) (lm : Int → Int → Bool) (sm : Int → Bool) (lb a : Int) : Option Int := (pnS κ tm a).bind fun a2 => (ctS κ ν a2).bind fun a5 => (pdS κ ν dm pm lm sm (a5, 0)).bind fun r => if r.2 = lb then some r.1 else none
def PRO [Inhabited gh_] (b F F' : Int) (M N M' N' : mm_) (np a a' : Int) : Prop := ∃ (F1 : Int) (Mz Nz Ma Na : mm_), SY0 b F1 Mz Nz (a + 2) ∧ PZ b F F1 M N Mz Nz np ∧ Mz 58 np = a + 1 ∧ np < Mz 5 2 ∧ CTF b np (sT_ Mz np) (up_ Nz 6 61 np) Ma Na ∧ HDR b F1 Ma Na (a + 5) ∧ PBD b F1 F' Ma Na M' N' a'
/-- told twice: what a process says -/
def PCG (b F F' : Int) (M N M' N' : mm_) (np a : Int) : Prop := (b = 0 → (F' = F ∨ ((∃ u, GLM M u ∧ N 151 u = N 151 (a + 1)) ∧ F' = 8 * M 71 (a + 1) + 3) ∨ DUN M' N' np F' ∨ DUL M' N' np (M' 128 np) F') ∧ ∃ ah, (∀ tm dm pm lm sm lb, POK b tm dm pm lm sm lb np M N M' N' → hdP (M 70) (M 73) dm pm (a + 5) = some ah) ∧ ∀ u, DCL M' np u → a + 5 ≤ u ∧ u < ah)
  ∧ (b = 1 → kk_ (N' 6 13) (N' 6 14) ≤ kk_ (N 6 13) (N 6 14) ∧ (TDW M N (a + 1) → kk_ (N' 6 13) (N' 6 14) ≤ 8 * M 71 (a + 1) + 3) ∧ (∀ ah, hdP (M 70) (M 73) (DMs M np) (M 122 np) (a + 5) = some ah → (∀ u, DCL M np u → a + 5 ≤ u ∧ u < ah) → ∀ f, DUN M N np f → kk_ (N' 6 13) (N' 6 14) ≤ f) ∧ ∀ f, DUL M N np (M 128 np) f → kk_ (N' 6 13) (N' 6 14) ≤ f)
section PRw
variable {dq : Nat} {b F F1 F' : Int} {x2 x3 x4 x5 c T y1 y2 ns nr np t : Int} {Kv G : mm_ → Prop} {Qt Qtq : qt_} {V V' : vv_} {M N Mx' M' N' M1 N1 Ma Na Mz Nz : mm_} {a a' : Int}
theorem PZ_X [Inhabited gh_] (h : PZ b F F1 M N Mz Nz np) : XPb M Mz := fun r hr => h.1.1 r (fun e => hr (by revert e; unfold pzX xpL; simp only [List.mem_cons, List.not_mem_nil, or_false]; omega))
theorem PZ_Q [Inhabited gh_] (h : PZ b F F1 M N Mz Nz np) : QPb N Nz := ⟨fun r hr => h.2.1.1 r (fun e => hr (by revert e; unfold pzQ QPRr; simp only [List.mem_cons, List.not_mem_nil, or_false]; omega)), fun i hi => h.2.1.2.2 i (fun e => hi (by revert e; unfold qpI; simp only [List.mem_cons, List.not_mem_nil, or_false]; omega))⟩
theorem sT_X [Inhabited gh_] : XPb M (sT_ M T) := fun r hr => sT_r (fun e => hr (by rw [e]; decide))
theorem u61_Q [Inhabited gh_] : QPb N (up_ N 6 61 T) := ⟨fun r hr => up_ne (fun e => hr (by unfold QPRr; omega)), fun i hi => up_of2 (nm_i hi (by decide))⟩
theorem CTF_X [Inhabited gh_] (h : CTF b T M N M1 N1) : XPb M M1 := fun r hr => h.1 r (fun e => hr (by rw [e]; decide)) (fun e => hr (by rw [e]; decide)) (fun e => hr (by rw [e]; decide))
theorem CTF_Q [Inhabited gh_] (h : CTF b T M N M1 N1) : QPb N N1 := ⟨fun r hr => h.2.2.2.1 r (fun e => hr (by unfold QPRr; omega)) (fun e => hr (by unfold QPRr; omega)) (fun e => hr (by unfold QPRr; omega)), fun i hi => h.2.2.2.2.2.1 i (nm_i hi (by decide)) (nm_i hi (by decide)) (nm_i hi (by decide))⟩
theorem PBD_18 [Inhabited gh_] (h : PBD b F F' M N M' N' a') : M' 1 18 = M 1 18 := by
  obtain ⟨Mh, Nh, ah, c, Fh, Hh, ph, cb, cc, n170, S', P', f', at'⟩ := h
  rw [sB_18 f', ph.1.2.1 18 (by decide), up_ne (by decide)]
/-- X's and Q's memory at the head, against the start -/
theorem hd_r [Inhabited gh_] (hz : PZ b F F1 M N Mz Nz np) (hc : CTF b np (sT_ Mz np) (up_ Nz 6 61 np) Ma Na) {r : Nat} (h : r ∉ pzX) (h0 : r ≠ 120) (h1 : r ≠ 121) : Ma r = M r := by
  have e1 : r ≠ 1 := fun e => h (by rw [e]; decide)
  rw [hc.1 r e1 h0 h1, sT_r e1, hz.1.1 r h]
theorem hd_b [Inhabited gh_] (hz : PZ b F F1 M N Mz Nz np) (hc : CTF b np (sT_ Mz np) (up_ Nz 6 61 np) Ma Na) (hb : b = 1) {r : Nat} (e1 : r ≠ 1) (h0 : r ≠ 120) (h1 : r ≠ 121) : Ma r = M r := by
  rw [hc.1 r e1 h0 h1, sT_r e1, (hz.2.2.1 hb).1 r e1]
theorem hd_q [Inhabited gh_] (hz : PZ b F F1 M N Mz Nz np) (hc : CTF b np (sT_ Mz np) (up_ Nz 6 61 np) Ma Na) (hb : b = 1) {r : Nat} (e1 : r ≠ 6) (h0 : r ≠ 168) (h1 : r ≠ 169) : Na r = N r := by
  rw [hc.2.2.2.1 r e1 h0 h1, up_ne e1, (hz.2.2.1 hb).2.1 r e1]
theorem hd_18 [Inhabited gh_] (hc : CTF b np (sT_ Mz np) (up_ Nz 6 61 np) Ma Na) : Ma 1 18 = np ∧ Ma 1 19 = 0 ∧ Ma 1 29 = 0 ∧ Ma 1 33 = np + 1 ∧ Na 6 61 = np := by
  obtain ⟨k18, k19, k29, k33⟩ := sT_k (M := Mz) (T := np)
  have e := hc.2.2.1
  exact ⟨(e 18 (by decide) (by decide) (by decide) (by decide)).trans k18, (e 19 (by decide) (by decide) (by decide) (by decide)).trans k19, (e 29 (by decide) (by decide) (by decide) (by decide)).trans k29, (e 33 (by decide) (by decide) (by decide) (by decide)).trans k33, (hc.2.2.2.2.2.1 61 (by decide) (by decide) (by decide)).trans up_at⟩
theorem hd_T [Inhabited gh_] (hz : PZ b F F1 M N Mz Nz np) (hc : CTF b np (sT_ Mz np) (up_ Nz 6 61 np) Ma Na) (hb : b = 1) : DMT Ma = DMs M np ∧ LMT Ma = LMs M np ∧ SMT Na = SMs N np ∧ Ma 122 np = M 122 np := by
  have k := hd_18 hc
  have x : ∀ r : Nat, r ≠ 1 → r ≠ 120 → r ≠ 121 → Ma r = up_ M 1 18 np r := fun r e1 h0 h1 => by rw [hd_b hz hc hb e1 h0 h1, up_ne e1]
  have q : ∀ r : Nat, r ≠ 6 → r ≠ 168 → r ≠ 169 → Na r = up_ N 6 61 np r := fun r e1 h0 h1 => by rw [hd_q hz hc hb e1 h0 h1, up_ne e1]
  have e18 : Ma 1 18 = up_ M 1 18 np 1 18 := by rw [k.1, up_at]
  have e61 : Na 6 61 = up_ N 6 61 np 6 61 := by rw [k.2.2.2.2, up_at]
  refine ⟨?_, ?_, ?_, by rw [hd_b hz hc hb (by decide) (by decide) (by decide)]⟩
  · unfold DMs DMT
    rw [e18, x 60 (by decide) (by decide) (by decide), x 124 (by decide) (by decide) (by decide), x 61 (by decide) (by decide) (by decide), x 126 (by decide) (by decide) (by decide)]
  · unfold LMs LMT
    rw [e18, x 128 (by decide) (by decide) (by decide), x 62 (by decide) (by decide) (by decide)]
  · unfold SMs SMT stt
    rw [e61, q 151 (by decide) (by decide) (by decide), q 174 (by decide) (by decide) (by decide), q 179 (by decide) (by decide) (by decide)]
theorem PCG_of [Inhabited gh_] (h01 : b = 0 ∨ b = 1) (pz : PZ b F F1 M N Mz Nz np) (ct : CTF b np (sT_ Mz np) (up_ Nz 6 61 np) Ma Na) (gn : GNO b F F1 M N Nz (a + 1)) (kc : b = 1 → kk_ (Na 6 13) (Na 6 14) ≤ kk_ (up_ Nz 6 61 np 6 13) (up_ Nz 6 61 np 6 14)) (Ha : HDR b F1 Ma Na (a + 5)) (m18 : M' 1 18 = np) (hl : b = 1 → M' 1 19 = M 128 np) (G : PBG b F1 F' Ma Na M' N') : PCG b F F' M N M' N' np a := by
  obtain ⟨e18, e19, e29, e33, e61⟩ := hd_18 ct
  have a70 : Ma 70 = M 70 := hd_r pz ct (by decide) (by decide) (by decide)
  have a73 : Ma 73 = M 73 := hd_r pz ct (by decide) (by decide) (by decide)
  have a3 : Ma 1 3 = a + 5 := (TS_E Ha.1.1).2.1
  unfold PBG at G
  rw [e18, a70, a73, a3] at G
  refine ⟨fun hb => ?_, fun hb => ?_⟩
  · obtain ⟨g1, ah, g2, g3⟩ := G.1 hb
    refine ⟨?_, ah, fun tm dm pm lm sm lb ok => g2 dm pm ⟨fun hb t ht => (ok.1 hb).2.2.1 t (by rw [m18] at ht; exact ht), fun hb1 => by omega⟩ (ok.1 hb).2.2.2.1, g3⟩
    rcases g1 with z | z | z
    · rcases gn.1 hb with y | y
      · exact .inl (z.trans y)
      · exact .inr (.inl ⟨y.1, z.trans y.2⟩)
    · exact .inr (.inr (.inl z))
    · exact .inr (.inr (.inr z))
  · obtain ⟨g1, g2, g3⟩ := G.2 hb
    have t := hd_T pz ct hb
    have n1 := gn.2 hb
    have k1 := kc hb
    rw [up_of2 (by decide), up_of2 (by decide)] at k1
    have dc : ∀ u, DCL Ma np u ↔ DCL M np u := fun u => DCL_c (hd_b pz ct hb (by decide) (by decide) (by decide)) (hd_b pz ct hb (by decide) (by decide) (by decide)) (hd_b pz ct hb (by decide) (by decide) (by decide)) (hd_b pz ct hb (by decide) (by decide) (by decide))
    have x71 : Ma 71 = M 71 := hd_b pz ct hb (by decide) (by decide) (by decide)
    have x62 : Ma 62 = M 62 := hd_b pz ct hb (by decide) (by decide) (by decide)
    have q151 : Na 151 = N 151 := hd_q pz ct hb (by decide) (by decide) (by decide)
    have q180 : Na 180 = N 180 := hd_q pz ct hb (by decide) (by decide) (by decide)
    refine ⟨by have := n1.1; omega, fun h => by have := n1.2 h; omega, fun ah h1 h2 f hf => g2 ah (by rw [t.1, t.2.2.2]; exact h1) (fun u hu => h2 u ((dc u).1 hu)) f (DUN_c hf (fun u hu => (dc u).2 hu) x71 q151), fun f hf => g3 f ?_⟩
    unfold DUL at hf ⊢
    rw [x71, x62, q180, hl hb]; exact hf
theorem y_prc [Inhabited gh_] (hgh : GHP) (hV : Cl_ wd0 (Tr_ wd0 pg0 130) V (rv_ Kv) Qt m_126) (hW : Wk_ V) (h : SYS b F M N a ns nr np) (hk : M 70 a = 2) (hS : b = 1 → prcS (M 70) (M 73) (TMT M np) (DMs M np) (M 122 np) (LMs M np) (SMs N np) (M 128 np) a ≠ none)
    (hK : ∀ F' M' N' a', PRO b F F' M N M' N' np a a' → PCG b F F' M N M' N' np a → a + 10 ≤ a' → (b = 1 → M' 1 19 = M 128 np) → (∀ tm dm pm lm sm lb, POK b tm dm pm lm sm lb np M N M' N' → prcS (M 70) (M 73) tm dm pm lm sm lb a = some a') → (∀ (G : mm_ → Prop) (Qtq : qt_), G N' → qPC dq np N G Qtq) → R461 Kv Qt M')
    (hQ : b = 0 → ∀ Mx', XPb M Mx' → (∀ (G : mm_ → Prop) (Qtq : qt_), (∀ M', SQp Mx' N M' → G M') → qPC dq np N G Qtq) → Qt 8 Mx') :
    V 0 [rr 1, none, none, none, none, none, none] [] M := by
  have h01 := bl01 h.1.1.2.1
  refine y_pnm (dq := dq) hgh hV hW h hk (fun hb => bind_n (hS hb)) (fun F1 Mz Nz Z pz gn k58 k52 HD sy hq => ?_) hQ
  have syb : b = 1 → pnS (M 70) (TMT M np) a = some (a + 2) := fun hb => sy _ ⟨fun hb0 => by omega, fun _ => rfl⟩
  have s70 : sT_ Mz np 70 = M 70 := by rw [sT_r (by decide), pz.1.1 70 (by decide)]
  have s73 : sT_ Mz np 73 = M 73 := by rw [sT_r (by decide), pz.1.1 73 (by decide)]
  have s71 : sT_ Mz np 71 = M 71 := by rw [sT_r (by decide), pz.1.1 71 (by decide)]
  have s7 : sT_ Mz np 1 7 = Mz 1 7 := sT_1 (by decide) (by decide) (by decide) (by decide) (by decide)
  have z7 := Z.2.2.2.2.1.2.2.1
  refine y_cnt (dq := dq) (x2 := a + 1) hV hW HD sT_k.1 (by rw [s7]; exact z7) (fun hb => ?_) (fun Ma Na Ha ct kc sy2 hq2 => ?_) (fun hb Mx' hx' hq' => ?_)
  · have := hS hb
    unfold prcS at this
    rw [syb hb, Option.bind_some] at this
    rw [s70, s73]; exact bind_n this
  · rw [s70, s73] at sy2
    rw [show a + 2 + 3 = a + 5 by omega] at Ha sy2
    obtain ⟨e18, e19, e29, e33, e61⟩ := hd_18 ct
    have a70 : Ma 70 = M 70 := hd_r pz ct (by decide) (by decide) (by decide)
    have a73 : Ma 73 = M 73 := hd_r pz ct (by decide) (by decide) (by decide)
    have zx : ∀ r : Nat, r ≠ 1 → r ≠ 120 → r ≠ 121 → Ma r = Mz r := fun r e1 h0 h1 => by rw [ct.1 r e1 h0 h1, sT_r e1]
    have zq : ∀ r : Nat, r ≠ 6 → r ≠ 168 → r ≠ 169 → Na r = Nz r := fun r e1 h0 h1 => by rw [ct.2.2.2.1 r e1 h0 h1, up_ne e1]
    have lc0 : lc_ b Ma = 0 := by
      unfold lc_
      rcases h01 with hb | hb
      · rw [if_pos hb, e18, zx 128 (by decide) (by decide) (by decide)]; exact (pz.2.2.2.2 hb).2.1.2.2.2
      · rw [if_neg (by omega)]; exact e19
    refine y_pbd (dq := dq) (x2 := a + 1) (x3 := sT_ Mz np 73 (a + 2)) (x4 := sT_ Mz np 71 (a + 2 + 1 + 1)) (x5 := sT_ Mz np 73 (a + 2 + 1 + 1)) hgh (fun _ => e19) hV hW Ha (fun hb => ?_) (fun hb => ?_) (fun F' M' N' a' P' G' ha' sy3 hq3 => ?_) (fun hb Mx' hx' hq' => ?_)
    · have k := (pz.2.2.2.2 hb).2
      rw [e18, zx 124 (by decide) (by decide) (by decide), zx 126 (by decide) (by decide) (by decide), zq 170 (by decide) (by decide) (by decide)]
      exact ⟨k.1.2.1, k.1.2.2.1, k.2.1⟩
    · have t := hd_T pz ct hb
      have := hS hb
      unfold prcS at this
      rw [syb hb, Option.bind_some, sy2, Option.bind_some] at this
      rw [a70, a73, t.1, t.2.1, t.2.2.1, e18, t.2.2.2, lc0]
      exact bind_n this
    · have m18 := PBD_18 P'
      rw [e18] at m18
      rw [lc0, a70, a73, e18] at sy3
      have hl : b = 1 → M' 1 19 = M 128 np := fun hb => by
        have t := hd_T pz ct hb
        have h9 := hS hb
        unfold prcS at h9
        have e3 := sy3 (DMs M np) (M 122 np) (LMs M np) (SMs N np) ⟨fun hb0 => by omega, fun _ => t.1.symm⟩ (by
          obtain ⟨Mh, Nh, ah, c, Fh, Hh, ph, cb, cc, n170, S', P'', f', at'⟩ := P'
          rw [sB_r f' (by decide) (by decide), ph.1.1 122 (by decide) (by decide), e18, up_at, cb hb, e18, t.2.2.2]) ⟨fun hb0 => by omega, fun _ => t.2.1.symm⟩ ⟨fun hb0 => by omega, fun _ => t.2.2.1.symm⟩
        rw [syb hb, Option.bind_some, sy2, Option.bind_some, e3, Option.bind_some] at h9
        by_cases cl : lc_ b M' = M 128 np
        · unfold lc_ at cl
          rw [if_neg (by omega)] at cl; exact cl
        · exact absurd (if_neg cl) h9
      refine hK F' M' N' a' ⟨F1, Mz, Nz, Ma, Na, Z, pz, k58, k52, ct, Ha, P'⟩ (PCG_of h01 pz ct gn kc Ha m18 hl G') (by omega) hl (fun tm dm pm lm sm lb ok => ?_) (fun G Qtq hg => hq G Qtq (hq2 G Qtq (by have := hq3 G Qtq hg; rw [e18] at this; exact this)))
      have l58 : M' 58 np = Mz 58 np := by
        obtain ⟨Mh, Nh, ah, c, Fh, Hh, ph, cb, cc, n170, S', P'', f', at'⟩ := P'
        rw [sB_r f' (by decide) (by decide), ph.1.1 58 (by decide) (by decide), up_ne (by decide), zx 58 (by decide) (by decide) (by decide)]
      have e1 := sy tm ⟨fun hb => by rw [← l58]; exact (ok.1 hb).2.1, fun hb => (ok.2 hb).2.1⟩
      have m61 : b = 0 → N' 6 61 = np := fun hb => by
        obtain ⟨Mh, Nh, ah, c, Fh, Hh, ph, cb, cc, n170, S', P'', f', at'⟩ := P'
        rw [S'.1.1.2.1.2.1]; exact m18
      have e3 := sy3 dm pm lm sm ⟨fun hb t ht => (ok.1 hb).2.2.1 t (by rw [m18] at ht; exact ht), fun hb => by rw [(hd_T pz ct hb).1]; exact (ok.2 hb).2.2.1⟩ (by
        rcases h01 with hb | hb
        · exact (ok.1 hb).2.2.2.1
        · rw [(ok.2 hb).2.2.2.1]
          obtain ⟨Mh, Nh, ah, c, Fh, Hh, ph, cb, cc, n170, S', P'', f', at'⟩ := P'
          rw [sB_r f' (by decide) (by decide), ph.1.1 122 (by decide) (by decide), e18, up_at, cb hb, e18, (hd_T pz ct hb).2.2.2]) ⟨fun hb j j0 j1 => by
          rw [e18]
          refine (ok.1 hb).2.2.2.2.1 j (by rw [lc0] at j0; exact j0) ?_
          unfold lc_ at j1
          rw [if_pos hb, m18] at j1; exact j1, fun hb => by rw [(hd_T pz ct hb).2.1]; exact (ok.2 hb).2.2.2.2.1⟩ ⟨fun hb t ht => (ok.1 hb).2.2.2.2.2 t (by
          have : up_ N' 6 61 np = N' := by rw [← m61 hb]; exact up_id
          rw [this]; exact ht), fun hb => by rw [(hd_T pz ct hb).2.2.1]; exact (ok.2 hb).2.2.2.2.2⟩
      unfold prcS
      have el : lc_ b M' = lb := by
        unfold lc_
        rcases h01 with hb | hb
        · rw [if_pos hb, m18]; exact (ok.1 hb).1.symm
        · have t := hd_T pz ct hb
          have h9 := hS hb
          unfold prcS at h9
          rw [(ok.2 hb).1]
          rw [syb hb, Option.bind_some, sy2, Option.bind_some] at h9
          rw [(ok.2 hb).2.2.1, (ok.2 hb).2.2.2.1, (ok.2 hb).2.2.2.2.1, (ok.2 hb).2.2.2.2.2] at e3
          rw [e3, Option.bind_some] at h9
          by_cases cl : lc_ b M' = M 128 np
          · unfold lc_ at cl
            exact cl
          · exact absurd (if_neg cl) h9
      rw [e1, Option.bind_some, sy2, Option.bind_some, e3, Option.bind_some, if_pos el]
    · exact hQ hb Mx' (XPb_tr (XPb_tr (XPb_tr (PZ_X pz) sT_X) (CTF_X ct)) hx') (fun G Qtq hg => hq G Qtq (hq2 G Qtq (by
        have := hq' G Qtq fun M9 p => hg _ (SQp_tr (QPb_tr (QPb_tr (PZ_Q pz) u61_Q) (CTF_Q ct)) p)
        rw [e18] at this; exact this)))
  · exact hQ hb Mx' (XPb_tr (XPb_tr (PZ_X pz) sT_X) hx') (fun G Qtq hg => hq G Qtq (hq' G Qtq fun M9 p => hg _ (SQp_tr (QPb_tr (PZ_Q pz) u61_Q) p)))
end PRw
end T258_pr
section T259_ps
/-! a process leaves the system's relation -/
section PSy
variable {b F F1 F' Fh : Int} {c T ns nr np t : Int} {M N M' N' M1 N1 Ma Na Mz Nz Mh Nh : mm_} {a a' : Int}
theorem TBL_F [Inhabited gh_] (h : TBL F M N T) (hF : F1 ≤ F) : TBL F1 M N T := ⟨h.1, h.2.1, h.2.2.1, fun u v hu hv he hl => by have := h.2.2.2 u v hu hv he hl; omega⟩
theorem ROW_z [Inhabited gh_] (h : PZ b F F1 M N Mz Nz np) (hT : T ≠ np) : ROW M N Mz Nz T := by
  have x := h.1.1
  have y : ∀ r : Nat, r ≠ 1 → r ≠ 5 → Mz r T = M r T := fun r h1 h5 => h.1.2.1 r T h1 h5 hT
  have q := h.2.1.1
  have w : ∀ r : Nat, r ∉ [6, 190, 191] → Nz r T = N r T := fun r hr => h.2.1.2.1 r T hr hT
  unfold ROW
  rw [y 58 (by decide) (by decide), y 120 (by decide) (by decide), y 121 (by decide) (by decide), y 123 (by decide) (by decide), y 124 (by decide) (by decide), y 125 (by decide) (by decide), y 126 (by decide) (by decide), y 128 (by decide) (by decide), w 167 (by decide), w 168 (by decide), w 169 (by decide), w 171 (by decide), w 172 (by decide), w 173 (by decide), w 174 (by decide), w 175 (by decide), x 60 (by decide), x 130 (by decide), x 131 (by decide), x 132 (by decide), x 61 (by decide), x 59 (by decide), x 62 (by decide), q 177 (by decide), q 181 (by decide), q 182 (by decide), q 183 (by decide), q 184 (by decide), q 178 (by decide), q 185 (by decide), q 179 (by decide), q 186 (by decide), q 180 (by decide), q 187 (by decide)]
  exact ROW_rf
theorem ROW_ct [Inhabited gh_] (h : CTF b np M N M1 N1) (hT : T ≠ np) : ROW M N M1 N1 T := by
  have x : ∀ r : Nat, r ≠ 1 → r ≠ 120 → r ≠ 121 → M1 r = M r := h.1
  have q : ∀ r : Nat, r ≠ 6 → r ≠ 168 → r ≠ 169 → N1 r = N r := h.2.2.2.1
  have y := h.2.1 T hT
  have w := h.2.2.2.2.1 T hT
  unfold ROW
  rw [x 58 (by decide) (by decide) (by decide), y.1, y.2, x 123 (by decide) (by decide) (by decide), x 124 (by decide) (by decide) (by decide), x 125 (by decide) (by decide) (by decide), x 126 (by decide) (by decide) (by decide), x 128 (by decide) (by decide) (by decide), q 167 (by decide) (by decide) (by decide), w.1, w.2, q 171 (by decide) (by decide) (by decide), q 172 (by decide) (by decide) (by decide), q 173 (by decide) (by decide) (by decide), q 174 (by decide) (by decide) (by decide), q 175 (by decide) (by decide) (by decide), x 60 (by decide) (by decide) (by decide), x 130 (by decide) (by decide) (by decide), x 131 (by decide) (by decide) (by decide), x 132 (by decide) (by decide) (by decide), x 61 (by decide) (by decide) (by decide), x 59 (by decide) (by decide) (by decide), x 62 (by decide) (by decide) (by decide), q 177 (by decide) (by decide) (by decide), q 181 (by decide) (by decide) (by decide), q 182 (by decide) (by decide) (by decide), q 183 (by decide) (by decide) (by decide), q 184 (by decide) (by decide) (by decide), q 178 (by decide) (by decide) (by decide), q 185 (by decide) (by decide) (by decide), q 179 (by decide) (by decide) (by decide), q 186 (by decide) (by decide) (by decide), q 180 (by decide) (by decide) (by decide), q 187 (by decide) (by decide) (by decide)]
  exact ROW_rf
theorem ROW_ph [Inhabited gh_] (h : PHF b F F1 M N M1 N1) (h0 : 0 ≤ T) (hT : T ≠ M 1 18) : ROW M N M1 N1 T := by
  have x : ∀ r : Nat, r ≠ 1 → r ∉ vxL → M1 r = M r := h.1.1
  have q : ∀ r : Nat, r ≠ 6 → r ∉ vqL → N1 r = N r := h.1.2.2.1
  obtain ⟨p1, p2, p3⟩ := h.2.1
  have y := p1 T hT
  refine ⟨⟨by rw [x 58 (by decide) (by decide)], by rw [x 120 (by decide) (by decide)], by rw [x 121 (by decide) (by decide)], by rw [x 123 (by decide) (by decide)], y.1.1, y.1.2.1, y.1.2.2, by rw [x 128 (by decide) (by decide)]⟩, ⟨by rw [q 167 (by decide) (by decide)], by rw [q 168 (by decide) (by decide)], by rw [q 169 (by decide) (by decide)], y.2.2.1, y.2.2.2.1, y.2.2.2.2, by rw [q 174 (by decide) (by decide)], by rw [q 175 (by decide) (by decide)]⟩, fun k k0 k1 => ?_, fun k k0 k1 => ?_, fun k k0 k1 => ?_, fun k k0 k1 => ?_⟩
  · exact p2 (8 * T + k) (by omega)
  · exact p3 (3 * T + k) (by omega)
  · rw [x 59 (by decide) (by decide), q 179 (by decide) (by decide), q 186 (by decide) (by decide)]; exact ⟨rfl, rfl, rfl⟩
  · rw [x 62 (by decide) (by decide), q 180 (by decide) (by decide), q 187 (by decide) (by decide)]; exact ⟨rfl, rfl, rfl⟩
theorem ROW_st [Inhabited gh_] (h : STF b F F1 M N M1 N1) (h0 : 0 ≤ T) (hT : T ≠ M 1 18) (h123 : M 123 (M 1 18) ≤ 12 ∧ 0 ≤ M 123 (M 1 18)) (hl : 0 ≤ lc_ b M ∧ lc_ b M ≤ 10) : ROW M N M1 N1 T := by
  have x : ∀ r : Nat, r ∉ xbL → M1 r = M r := h.1.1
  have q : ∀ r : Nat, r ∉ qbL → N1 r = N r := h.2.1.1
  obtain ⟨s1, s2, _⟩ := h.2.2.2.1
  obtain ⟨l1, l2, _⟩ := h.2.2.2.2.2
  have y := s2 T hT
  have w := l1 T hT
  refine ⟨⟨by rw [x 58 (by decide)], by rw [x 120 (by decide)], by rw [x 121 (by decide)], y.1, by rw [x 124 (by decide)], by rw [x 125 (by decide)], by rw [x 126 (by decide)], w.1⟩, ⟨by rw [q 167 (by decide)], by rw [q 168 (by decide)], by rw [q 169 (by decide)], by rw [q 171 (by decide)], by rw [q 172 (by decide)], by rw [q 173 (by decide)], y.2, w.2⟩, fun k k0 k1 => ?_, fun k k0 k1 => ?_, fun k k0 k1 => ?_, fun k k0 k1 => ?_⟩
  · rw [x 60 (by decide), x 130 (by decide), x 131 (by decide), x 132 (by decide), q 177 (by decide), q 181 (by decide), q 182 (by decide), q 183 (by decide), q 184 (by decide)]; exact ⟨⟨rfl, rfl, rfl, rfl⟩, rfl, rfl, rfl, rfl, rfl⟩
  · rw [x 61 (by decide), q 178 (by decide), q 185 (by decide)]; exact ⟨rfl, rfl, rfl⟩
  · exact s1 (12 * T + k) (by omega)
  · exact l2 (10 * T + k) (by omega)
theorem PRO_SYS [Inhabited gh_] (h : SYS b F M N a ns nr np) (hP : PRO b F F' M N M' N' np a a') (aa : a + 2 ≤ a') : SYS b F' M' N' a' ns nr (np + 1) := by
  obtain ⟨F1, Mz, Nz, Ma, Na, Z, pz, k58, k52, ct, Ha, Mh, Nh, ah, c, Fh, Hh, ph, cb, cc, n170, S', P', f', at'⟩ := hP
  obtain ⟨e18, e19, e29, e33, e61⟩ := hd_18 ct
  have hnp := h.2.1.2.1
  rw [e18] at ph
  have h18 : Mh 1 18 = np := by rw [ph.1.2.1 18 (by decide), up_ne (by decide)]; exact e18
  have m18 : M' 1 18 = np := (sB_18 f').trans h18
  have n61 : N' 6 61 = np := S'.1.1.2.1.2.1.trans m18
  -- frames from Mz to the end
  have xr : ∀ r : Nat, r ∉ xbL → r ∉ vxL → r ≠ 127 → r ≠ 122 → r ≠ 120 → r ≠ 121 → M' r = Mz r := fun r h1 h2 h3 h4 h5 h6 => by
    have r1 : r ≠ 1 := fun e => h1 (by rw [e]; decide)
    rw [sB_r f' h1 h3, ph.1.1 r r1 h2, up_ne h4, ct.1 r r1 h5 h6, sT_r r1]
  have qr : ∀ r : Nat, r ∉ qbL → r ∉ vqL → r ≠ 176 → r ≠ 168 → r ≠ 169 → N' r = Nz r := fun r h1 h2 h3 h4 h5 => by
    have r6 : r ≠ 6 := fun e => h1 (by rw [e]; decide)
    rw [sB_q f' h1 h3, ph.1.2.2.1 r r6 h2, ct.2.2.2.1 r r6 h4 h5, up_ne r6]
  have x5 : ∀ i : Int, i ≠ 3 → i ≠ 4 → M' 5 i = Mz 5 i := fun i h3 h4 => by
    rw [f'.1.2.2 i h3 h4, sBX_r (by decide) (by decide), ph.1.1 5 (by decide) (by decide), up_ne (by decide), ct.1 5 (by decide) (by decide) (by decide), sT_r (by decide)]
  have x1 : ∀ i : Int, i ∉ xbI → M' 1 i = sT_ Mz np 1 i := fun i hi => by
    rw [f'.1.2.1 i hi, sBX_1 (nm_i hi (by decide)), ph.1.2.1 i (fun e => hi (by revert e; unfold xbI; simp only [List.mem_cons, List.not_mem_nil, or_false]; omega)), up_ne (by decide), ct.2.2.1 i (nm_i hi (by decide)) (nm_i hi (by decide)) (nm_i hi (by decide)) (nm_i hi (by decide))]
  have q6 : ∀ i : Int, i ∉ qbI → i ≠ 61 → N' 6 i = Nz 6 i := fun i hi h61 => by
    rw [f'.2.1.2 i hi, sBQ_6 (nm_i hi (by decide)), ph.1.2.2.2 i (fun e => hi (by revert e; unfold qbI; simp only [List.mem_cons, List.not_mem_nil, or_false]; omega)), ct.2.2.2.2.2.1 i (nm_i hi (by decide)) (nm_i hi (by decide)) (nm_i hi (by decide)), up_of2 h61]
  have e70 := xr 70 (by decide) (by decide) (by decide) (by decide) (by decide) (by decide)
  have e71 := xr 71 (by decide) (by decide) (by decide) (by decide) (by decide) (by decide)
  have l58 := xr 58 (by decide) (by decide) (by decide) (by decide) (by decide) (by decide)
  have e151 := qr 151 (by decide) (by decide) (by decide) (by decide) (by decide)
  have e52 : M' 5 2 = Mz 5 2 := x5 2 (by decide) (by decide)
  have fF : F' ≤ Fh ∧ Fh ≤ F1 := ⟨f'.2.2.2.2.1.1, ph.2.2.2.1⟩
  have glm : ∀ u, GLM M' u ↔ GLM Mz u := fun u => by
    unfold GLM
    rw [x5 0 (by decide) (by decide), x5 1 (by decide) (by decide), e52, l58, xr 56 (by decide) (by decide) (by decide) (by decide) (by decide) (by decide), xr 57 (by decide) (by decide) (by decide) (by decide) (by decide) (by decide)]
  have row : ∀ T, 0 ≤ T → T ≠ np → ROW Mz Nz M' N' T := fun T T0 hT => by
    have b18 : sBX Mh 1 18 = np := by rw [sBX_1 (by decide)]; exact h18
    have c123 := Hh.1.1.2.2.2.1.1
    rw [h18] at c123
    have lcc : lc_ b (sBX Mh) = 0 := by
      unfold lc_
      rcases bl01 (TS_E S'.1) with hb | hb
      · rw [if_pos hb, b18, sBX_r (by decide) (by decide), ph.1.1 128 (by decide) (by decide), up_ne (by decide), ct.1 128 (by decide) (by decide) (by decide), sT_r (by decide)]
        exact (pz.2.2.2.2 hb).2.1.2.2.2
      · rw [if_neg (by omega), sBX_1 (by decide), ph.1.2.1 19 (by decide), up_ne (by decide)]; exact e19
    have r1 : ROW Mz Nz (sT_ Mz np) (up_ Nz 6 61 np) T := ROW_e (fun r hr => sT_r (fun e => by rw [e] at hr; revert hr; decide)) (fun r hr => up_ne (fun e => by rw [e] at hr; revert hr; decide))
    have r2 := ROW_ct ct hT
    have r3 : ROW Ma Na (up_ Ma 122 np c) Na T := ROW_e (fun r hr => up_ne (fun e => by rw [e] at hr; revert hr; decide)) (fun _ _ => rfl)
    have r4 := ROW_ph ph T0 (by rw [up_ne (by decide), e18]; exact hT)
    have r5 : ROW Mh Nh (sBX Mh) (sBQ Mh Nh) T := ROW_e (fun r hr => sBX_r (fun e => by rw [e] at hr; revert hr; decide) (fun e => by rw [e] at hr; revert hr; decide)) (fun r hr => sBQ_r (fun e => by rw [e] at hr; revert hr; decide) (fun e => by rw [e] at hr; revert hr; decide))
    have r6 := ROW_st f' T0 (by rw [b18]; exact hT) (by rw [b18, sBX_r (by decide) (by decide)]; omega) (by rw [lcc]; decide)
    exact ROW_tr r1 (ROW_tr r2 (ROW_tr r3 (ROW_tr r4 (ROW_tr r5 r6))))
  have k120 : M' 120 = Ma 120 := by rw [sB_r f' (by decide) (by decide), ph.1.1 120 (by decide) (by decide), up_ne (by decide)]
  have k121 : M' 121 = Ma 121 := by rw [sB_r f' (by decide) (by decide), ph.1.1 121 (by decide) (by decide), up_ne (by decide)]
  have k168 : N' 168 = Na 168 := by rw [sB_q f' (by decide) (by decide), ph.1.2.2.1 168 (by decide) (by decide)]
  have k169 : N' 169 = Na 169 := by rw [sB_q f' (by decide) (by decide), ph.1.2.2.1 169 (by decide) (by decide)]
  obtain ⟨t1, t2, t3, t4, ⟨t5, t6⟩, t7, t8, t9, t10, t11⟩ := S'.1
  obtain ⟨⟨s1, s2, s3⟩, ⟨g1, g2, g3, g4, g5⟩, ty, ⟨tp, gl⟩, _, _⟩ := Z
  refine ⟨⟨⟨t1.1, t1.2.2.1, t1.2.1.1⟩, ⟨t2.1, t2.2.1, t2.2.2.1, fun hb => (t2.2.2.2 hb).1, ?_⟩, fun T T0 T1 => ?_, ⟨by rw [e52, l58]; exact tp, fun hb u hu => by have := gl hb u ((glm u).1 hu); omega⟩, ⟨⟨t1.2.2.2.1, t1.2.2.2.2.1, t11⟩, by omega, t7, t8, t9, by have := S'.2.1; omega, by have := S'.2.1; omega, by have := S'.2.1; omega⟩, S'.2.2⟩, ⟨⟨?_, ?_, ?_⟩, ⟨hnp.1, hnp.2.1, by omega⟩, fun hb => ?_⟩, fun T T0 T1 => ?_⟩
  · obtain ⟨u1, u3, u4, u5⟩ := g5
    unfold GLT
    rw [q6 58 (by decide) (by decide), x5 0 (by decide) (by decide), x5 1 (by decide) (by decide), e52, e151, e71, qr 190 (by decide) (by decide) (by decide) (by decide) (by decide), qr 191 (by decide) (by decide) (by decide) (by decide) (by decide), qr 155 (by decide) (by decide) (by decide) (by decide) (by decide), xr 56 (by decide) (by decide) (by decide) (by decide) (by decide) (by decide)]
    refine ⟨u1, fun i i0 i1 => ?_, fun u v hu hv he hl => by have := u4 u v ((glm u).1 hu) ((glm v).1 hv) he hl; omega, u5.1, fun u hu => u5.2 u ((glm u).1 hu)⟩
    obtain ⟨u, hu, w⟩ := u3 i i0 i1
    exact ⟨u, ⟨nm9_r hu.1 e70, (glm u).2 hu.2⟩, w⟩
  · by_cases cT : T = np
    · rw [cT]
      have tv := ty np hnp.2.2 k52
      refine ⟨?_, ?_, ?_, fun k k0 k1 => ?_, ?_, ?_⟩
      · have := t1.2.1.2.2.2.2
        rw [m18] at this; exact this
      · have := TBL_c (M1 := M') (N1 := N') Hh.2.1 (fun r hr => sB_r f' (fun e => by revert hr e; unfold xbL; simp only [List.mem_cons, List.not_mem_nil, or_false]; omega) (fun e => by rw [e] at hr; revert hr; decide)) (fun r hr => sB_q f' (fun e => by revert hr e; unfold qbL; simp only [List.mem_cons, List.not_mem_nil, or_false]; omega) (fun e => by rw [e] at hr; revert hr; decide))
        rw [h18] at this
        exact TBL_F this fF.1
      · have : STt M' N' (M' 1 18) := t4
        rw [m18] at this; exact this
      · obtain ⟨n1, n2, n3, n4, n5⟩ := f'.2.2.2.1
        have b18 : sBX Mh 1 18 = np := by rw [sBX_1 (by decide)]; exact h18
        rw [b18] at n4
        rcases bl01 (TS_E S'.1) with hb | hb
        · have z0 : sBX Mh 123 np = 0 := by
            rw [sBX_r (by decide) (by decide), ph.1.1 123 (by decide) (by decide), up_ne (by decide), ct.1 123 (by decide) (by decide) (by decide), sT_r (by decide)]
            exact (pz.2.2.2.2 hb).2.1.1
          exact n4 k (by rw [z0]; exact k0) k1
        · have z := n5 hb
          have w : ∀ r : Nat, r = 59 ∨ r = 123 → M' r = Mz r := fun r hr => by
            have e : M' r = sBX Mh r := by
              rcases hr with e | e
              · rw [e]; exact z.1
              · rw [e]; exact z.2.1
            rw [e, sBX_r (by omega) (by omega), ph.1.1 r (by omega) (by unfold vxL; simp only [List.mem_cons, List.not_mem_nil, or_false]; omega), up_ne (by omega), ct.1 r (by omega) (by omega) (by omega), sT_r (by omega)]
          rw [w 123 (.inr rfl)] at k1
          rw [w 59 (.inl rfl), e71, z.2.2.2.2, sBQ_r (by decide) (by decide), ph.1.2.2.1 186 (by decide) (by decide), ct.2.2.2.1 186 (by decide) (by decide) (by decide), up_ne (by decide)]
          exact tv.2.2.2.1 k k0 k1
      · have : LBt b F' M' N' a' (M' 1 18) := ⟨t3.1, t3.2.1⟩
        rw [m18] at this; exact this
      · rw [qr 167 (by decide) (by decide) (by decide) (by decide) (by decide), e71, l58]; exact tv.2.2.2.2.2
    · rw [e52] at T1
      exact TYP_c (ty T T0 T1) (row T T0 cT) e70 e71 e151 (by omega) aa
  · rw [x1 31 (by decide), sT_1 (by decide) (by decide) (by decide) (by decide) (by decide), pz.1.2.2.2 31 (by decide)]; exact h.2.1.1.1
  · rw [x1 32 (by decide), sT_1 (by decide) (by decide) (by decide) (by decide) (by decide), pz.1.2.2.2 32 (by decide)]; exact h.2.1.1.2.1
  · rw [x1 33 (by decide)]; exact sT_k.2.2.2
  · have w := h.2.1.2.2 hb
    rw [x5 0 (by decide) (by decide), x5 1 (by decide) (by decide), e52, pz.1.2.2.1 0 (by decide), pz.1.2.2.1 1 (by decide)]
    exact ⟨w.1, w.2.1, (pz.2.2.2.2 hb).1⟩
  · rw [e52] at T1
    by_cases cT : T = np
    · rw [cT]
      have z := ct.2.2.2.2.2.2.1
      unfold CNT at z ⊢
      rw [k120, k121, k168, k169]; exact z
    · have T2 : T < M 5 2 := by
        rcases bl01 (TS_E S'.1) with hb | hb
        · have := (pz.2.2.2.2 hb).1
          have := (h.2.1.2.2 hb).2.2
          omega
        · rw [(pz.2.2.1 hb).1 5 (by decide)] at T1; exact T1
      exact CNT_c (h.2.2 T T0 T2) (ROW_tr (ROW_z pz cT) (row T T0 cT))
end PSy
end T259_ps
section T260_cm
/-! comeTo (X 178): ors grow -/
def uB (v : Int) : Nat := (Int32.ofInt v).toBitVec.toNat
def uM (v : Int) : Nat := 2 * uB v + (if (Int32.ofInt v).toInt = v then 1 else 0)
section UB
variable {x y : Int}
theorem uB_lt [Inhabited gh_] : uB x < 4294967296 := (Int32.ofInt x).toBitVec.isLt
theorem uM_lt [Inhabited gh_] : uM x < 8589934600 := by
  have := uB_lt (x := x)
  unfold uM; split <;> omega
theorem or_oi [Inhabited gh_] : Int32.ofInt (or_ x y) = Int32.ofInt x ||| Int32.ofInt y := by unfold or_; exact Int32.ofInt_toInt _
theorem or_rg [Inhabited gh_] : (Int32.ofInt (or_ x y)).toInt = or_ x y := by rw [or_oi]; rfl
theorem or_uB [Inhabited gh_] : uB (or_ x y) = uB x ||| uB y := by
  unfold uB
  rw [or_oi, Int32.toBitVec_or, BitVec.toNat_or]
theorem or_up [Inhabited gh_] (h : or_ x y ≠ x) : uM x < uM (or_ x y) := by
  have e := or_uB (x := x) (y := y)
  have le : uB x ≤ uB x ||| uB y := Nat.left_le_or
  unfold uM
  rw [e, if_pos or_rg]
  by_cases c : uB x ||| uB y = uB x
  · have e2 : Int32.ofInt x ||| Int32.ofInt y = Int32.ofInt x := by
      have : (Int32.ofInt x ||| Int32.ofInt y).toBitVec = (Int32.ofInt x).toBitVec := by
        apply BitVec.eq_of_toNat_eq
        rw [Int32.toBitVec_or, BitVec.toNat_or]; exact c
      exact Int32.toBitVec_inj.1 this
    have e3 : (Int32.ofInt x).toInt = or_ x y := by unfold or_; rw [e2]
    rw [if_neg (fun c2 => h (by rw [← e3]; exact c2)), c]; omega
  · split <;> omega
end UB
end T260_cm
