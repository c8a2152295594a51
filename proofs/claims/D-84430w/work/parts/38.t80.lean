section T80_er
/-! Q's first parts -/
section QP
variable {dq d : Nat} {M M' : mm_} {a k p : Int} {sg : List (Int × Int)} {ws : List (Int × Int × Int)} {cm : List Int} {f : Int} {fm : List (Int × Int)} {K : Int → mm_ → Prop} {Kv : mm_ → Prop} {Qr : qr_} {Qt : qt_} {V : vv_}
theorem Rq_272 [Inhabited gh_] {v : Int} (hg : go_ M) (h : ∀ (K : Int → mm_ → Prop) (Qt : qt_), K v M' → Tr_ wd0 pg0 (dq + 10) 272 [.inr (.inr 6)] M (ri_ K) Qt) : Rq dq 0 M v M' := fun V Qr Qt hV hW q => by
  refine b_271_26 (Tr_mono _) hV hW 0 1 M ?_
  rw [if_neg (by decide)]
  refine q_227g hg ?_
  rw [if_pos rfl, if_pos rfl]
  exact h (fun v5 M7 => V 26 [rr 6, ii v5, ii 1, none] [] M7) Qt q
/-- kinds that begin an operand otherwise -/
def kf_ (k : Int) : Prop := k ≠ 245 ∧ k ≠ 41 ∧ k ≠ 240
theorem q_272o [Inhabited gh_] (hi : in9_ M) (ha : M 6 12 = a) (hk : KQ k (M 149 a) (M 151 a)) (hf : kf_ k) (h : (if M 149 a = 1 then Tr_ wd0 pg0 (d + 1) 275 [.inr (.inr 6), .inl (M 150 a)] M (ri_ fun v6 M9 => bl_ v6 ∧ ri_ K [.inl v6] M9) Qt else (if M 149 a = 2 then Tr_ wd0 pg0 (d + 1) 277 [.inr (.inr 6), .inl 1, .inl (w32 (M 151 a))] M (rv_ fun M5 => Tr_ wd0 pg0 (d + 1) 230 [.inr (.inr 6)] M5 (rv_ fun M6 => Tr_ wd0 pg0 (d + 1) 227 [.inr (.inr 6)] M6 (ri_ fun v5 M7 => (if v5 = 0 then Tr_ wd0 pg0 (d + 1) 278 [.inr (.inr 6), .inl 1, .inl (M 150 a), .inl 0] M7 (rv_ fun M8 => bl_ 1 ∧ ri_ K [.inl 1] M8) Qt else bl_ 1 ∧ ri_ K [.inl 1] M7)) Qt) Qt) Qt else Tr_ wd0 pg0 (d + 1) 281 [.inr (.inr 6), .inl (M 150 a)] M (ri_ fun v4 M4 => bl_ v4 ∧ ri_ K [.inl v4] M4) Qt))) : Tr_ wd0 pg0 (d + 2) 272 [.inr (.inr 6)] M (ri_ K) Qt := t_272 fun V hV hW => b_272_0 (Tr_mono _) hV hW M (by
  subst ha
  unfold KQ at hk
  obtain ⟨f1, f2, f3⟩ := hf
  refine ⟨hi, q_237f hi (by omega) ?_⟩
  rw [if_pos rfl]
  refine q_229f hi (by omega) ?_
  rw [if_pos rfl]
  refine q_237f hi (by omega) ?_
  rw [if_pos rfl]
  refine ⟨hi, ?_⟩
  by_cases c1 : M 149 (M 6 12) = 1
  · rw [if_pos c1] at h ⊢; exact h
  · rw [if_neg c1] at h ⊢
    refine ⟨hi, ?_⟩
    by_cases c2 : M 149 (M 6 12) = 2
    · rw [if_pos c2] at h ⊢; exact ⟨hi, h⟩
    · rw [if_neg c2] at h ⊢; exact h)
/-- a number -/
theorem q_272n [Inhabited gh_] (ha : M 6 12 = a) (h0 : 0 ≤ a) (h12 : a < 1200) (hg : go_ M) (hk : KQ 101 (M 149 a) (M 151 a)) (hv0 : 0 ≤ M 151 a) (hv : M 151 a < 1000000000) (hE : QE M sg ws cm f fm) (hw : (ws.length : Int) < 1202) (hf0 : 0 ≤ f) (hf : f + fm.length < 3000)
    (h : Tr_ wd0 pg0 (d + 1) 279 [.inr (.inr 6)] (ad_ (nx_ (pu_ M 1 (M 151 a))) 1 (M 150 a) 0) (rv_ fun M8 => K 1 M8) Qt) : Tr_ wd0 pg0 (d + 3) 272 [.inr (.inr 6)] M (ri_ K) Qt := by
  refine q_272o (k := 101) ⟨by omega, by omega⟩ ha hk ⟨by decide, by decide, by decide⟩ ?_
  have h2 : M 149 a = 2 := by unfold KQ at hk; omega
  rw [if_neg (by omega), if_pos h2, w32_id (by omega) (by omega)]
  refine q_277 (by rw [hE.2.2.2.2.2.2.1]; omega) (by rw [hE.2.2.2.2.2.2.1]; omega) ?_
  have hg1 : go_ (pu_ M 1 (M 151 a)) := by unfold go_; rw [pu_6 (by decide), pu_6 (by decide)]; exact hg
  refine q_230g hg1 (by rw [pu_6 (by decide)]; omega) (by rw [pu_6 (by decide)]; omega) ?_
  refine q_227g (nx_go hg1) ?_
  rw [if_pos rfl]
  have e116 : nx_ (pu_ M 1 (M 151 a)) 6 116 = ws.length := by rw [nx_6 (by decide), pu_6 (by decide)]; exact hE.2.2.1
  refine q_278 (by omega) (by omega) (.inl rfl) ?_
  exact Tr_m h (fun vs N hq => ⟨hq.1, .inr rfl, ri_i hq.2⟩) (fun _ _ q => q)
/-- the form of a word, and its sort -/
def wf_ (k : Int) : Int × Int := if k = 31 then (1, 1) else if k = 32 then (1, 0) else if k = 33 then (1, 0) else if k ≤ 37 then (5, k - 34) else if k = 38 then (8, 0) else (9, 0)
def wt_ (k : Int) : Int := if k = 31 ∨ k = 32 then 2 else if k ≤ 37 then 3 else 1
theorem q_272w [Inhabited gh_] (ha : M 6 12 = a) (h0 : 0 ≤ a) (h12 : a < 1200) (hg : go_ M) (hk : KQ k (M 149 a) (M 151 a)) (hk1 : 31 ≤ k) (hk2 : k ≤ 40) (hk3 : k ≠ 39) (hE : QE M sg ws cm f fm) (hw : (ws.length : Int) < 1202) (hf0 : 0 ≤ f) (hf : f + fm.length < 3000)
    (h : Tr_ wd0 pg0 (d + 1) 279 [.inr (.inr 6)] (ad_ (pu_ (nx_ M) (wf_ k).1 (wf_ k).2) (wt_ k) (M 150 a) 0) (rv_ fun M8 => K 1 M8) Qt) : Tr_ wd0 pg0 (d + 4) 272 [.inr (.inr 6)] M (ri_ K) Qt := by
  refine q_272o (k := k) ⟨by omega, by omega⟩ ha hk ⟨by omega, by omega, by omega⟩ ?_
  have h4 : M 149 a = 4 ∧ M 151 a = k := by unfold KQ at hk; omega
  rw [if_neg (by omega), if_neg (by omega)]
  refine t_281 fun V hV hW => b_281_0 (Tr_mono _) hV hW _ M ?_
  rw [ha, if_pos h4.1, h4.2, w32_id (by omega) (by omega)]
  refine ⟨by omega, by omega, b_281_28 (Tr_mono _) hV hW _ _ M ?_⟩
  rw [if_neg hk3, if_neg (by omega), if_pos hk2]
  refine q_230g hg (by omega) (by omega) ?_
  refine q_227g (nx_go hg) ?_
  rw [if_pos rfl]
  have e104 : nx_ M 6 104 = f + fm.length := by rw [nx_6 (by decide)]; exact hE.2.2.2.2.2.2.1
  have last : V 200 [rr 6, ii (M 150 a), ii k, none] [] (pu_ (nx_ M) (wf_ k).1 (wf_ k).2) := by
    refine b_281_200 (Tr_mono _) hV hW _ _ _ ?_
    have e116 : pu_ (nx_ M) (wf_ k).1 (wf_ k).2 6 116 = ws.length := by rw [pu_6 (by decide), nx_6 (by decide)]; exact hE.2.2.1
    have fin : ∀ t : Int, t = wt_ k → Tr_ wd0 pg0 (d + 2) 278 [.inr (.inr 6), .inl t, .inl (M 150 a), .inl 0] (pu_ (nx_ M) (wf_ k).1 (wf_ k).2) (rv_ fun M1 => bl_ 1 ∧ ri_ (fun v4 M4 => bl_ v4 ∧ ri_ K [.inl v4] M4) [.inl 1] M1) Qt := by
      intro t ht
      rw [ht]
      refine q_278 (by omega) (by omega) (.inl rfl) ?_
      exact Tr_m h (fun vs N hq => ⟨hq.1, .inr rfl, ri_i ⟨.inr rfl, ri_i hq.2⟩⟩) (fun _ _ q => q)
    unfold wt_ at fin
    by_cases c1 : k = 31
    · rw [if_pos c1]; exact fin 2 (by rw [if_pos (.inl c1)])
    · rw [if_neg c1]
      by_cases c2 : k = 32
      · rw [if_pos c2]; exact fin 2 (by rw [if_pos (.inr c2)])
      · rw [if_neg c2]
        by_cases c3 : k ≤ 37
        · rw [if_pos c3]; exact fin 3 (by rw [if_neg (by omega), if_pos c3])
        · rw [if_neg c3]; exact fin 1 (by rw [if_neg (by omega), if_neg c3])
  have pu : ∀ x y : Int, wf_ k = (x, y) → Tr_ wd0 pg0 (d + 2) 277 [.inr (.inr 6), .inl x, .inl y] (nx_ M) (rv_ fun M5 => V 200 [rr 6, ii (M 150 a), ii k, none] [] M5) Qt := by
    intro x y e
    rw [e] at last
    exact q_277 (by omega) (by omega) last
  unfold wf_ at pu
  by_cases c1 : k = 31
  · rw [if_pos c1, if_pos c1]; exact pu 1 1 (by rw [if_pos c1])
  · rw [if_neg c1]
    by_cases c2 : k = 32
    · rw [if_pos c2, if_neg c1]; exact pu 1 0 (by rw [if_neg c1, if_pos c2])
    · rw [if_neg c2]
      by_cases c3 : k = 33
      · rw [if_pos c3]; exact pu 1 0 (by rw [if_neg c1, if_neg c2, if_pos c3])
      · rw [if_neg c3, if_neg (by omega)]
        by_cases c4 : k ≤ 37
        · rw [if_pos c4, w32_id (by omega) (by omega)]; exact pu 5 (k - 34) (by rw [if_neg c1, if_neg c2, if_neg c3, if_pos c4])
        · rw [if_neg c4]
          by_cases c5 : k = 38
          · rw [if_pos c5]; exact pu 8 0 (by rw [if_neg c1, if_neg c2, if_neg c3, if_neg c4, if_pos c5])
          · rw [if_neg c5]; exact pu 9 0 (by rw [if_neg c1, if_neg c2, if_neg c3, if_neg c4, if_neg c5])
/-- no operand: wrong -/
theorem q_272b [Inhabited gh_] (hi : in9_ M) (ha : M 6 12 = a) (hs : ok_ M) (hk : KQ k (M 149 a) (M 151 a)) (hf : kf_ k) (h1 : k ≠ 100) (h2 : k ≠ 101) (h3 : ¬ (31 ≤ k ∧ k ≤ 40)) (h : K 1 (bf_ M 1 (M 150 a))) : Tr_ wd0 pg0 (d + 4) 272 [.inr (.inr 6)] M (ri_ K) Qt := by
  refine q_272o (k := k) hi ha hk hf ?_
  unfold in9_ at hi
  rw [ha] at hi
  have hh : M 149 a ≠ 1 ∧ M 149 a ≠ 2 ∧ (M 149 a = 4 → M 151 a = k ∧ 0 ≤ k ∧ k < 48) := by unfold KQ at hk; omega
  rw [if_neg hh.1, if_neg hh.2.1]
  refine t_281 fun V hV hW => b_281_0 (Tr_mono _) hV hW _ M ?_
  rw [ha]
  have hw : ∀ w : Int, (w < 31 ∨ 40 < w) → V 28 [rr 6, ii (M 150 a), ii w, none] [] M := by
    intro w hw
    refine b_281_28 (Tr_mono _) hV hW _ _ M ?_
    rw [if_neg (by omega)]
    have e : Tr_ wd0 pg0 (d + 2) 234 [.inr (.inr 6)] M (rv_ fun M1 => bl_ 1 ∧ ri_ (fun v4 M4 => bl_ v4 ∧ ri_ K [.inl v4] M4) [.inl 1] M1) Qt := q_234o (by unfold in9_; rw [ha]; exact hi) hs.1 ⟨.inr rfl, ri_i ⟨.inr rfl, ri_i (by rw [ha]; exact h)⟩⟩
    by_cases c : w < 31
    · rw [if_pos c]; exact e
    · rw [if_neg c, if_neg (by omega)]; exact e
  refine ⟨hi, ?_⟩
  by_cases c : M 149 a = 4
  · rw [if_pos c]
    have := hh.2.2 c
    rw [this.1, w32_id (by omega) (by omega)]
    exact ⟨hi, hw k (by omega)⟩
  · rw [if_neg c]; exact hw (-1) (by omega)
end QP
end T80_er
section T81_er
/-! Q's first parts: no room; prefixes; brackets; a timer -/
section QP
variable {dq d : Nat} {M M' : mm_} {a k p o : Int} {sg : List (Int × Int)} {ws : List (Int × Int × Int)} {cm : List Int} {f : Int} {fm : List (Int × Int)} {K : Int → mm_ → Prop} {Kv : mm_ → Prop} {Qr : qr_} {Qt : qt_} {V : vv_}
theorem q_272nr [Inhabited gh_] (ha : M 6 12 = 1200) (hg : ok_ M) (hk : KQ 101 (M 149 1200) (M 151 1200)) (hv0 : 0 ≤ M 151 1200) (hv : M 151 1200 < 1000000000) (hE : QE M sg ws cm f fm) (hf0 : 0 ≤ f) (hf : f + fm.length < 3000)
    (h : K 1 (bf_ (pu_ M 1 (M 151 1200)) 2 (M 150 1200))) : Tr_ wd0 pg0 (d + 3) 272 [.inr (.inr 6)] M (ri_ K) Qt := by
  refine q_272o (k := 101) (a := 1200) ⟨by omega, by omega⟩ ha hk ⟨by decide, by decide, by decide⟩ ?_
  have h2 : M 149 1200 = 2 := by unfold KQ at hk; omega
  rw [if_neg (by omega), if_pos h2, w32_id (by omega) (by omega)]
  refine q_277 (by rw [hE.2.2.2.2.2.2.1]; omega) (by rw [hE.2.2.2.2.2.2.1]; omega) ?_
  have hg1 : ok_ (pu_ M 1 (M 151 1200)) := by unfold ok_; rw [pu_6 (by decide), pu_6 (by decide)]; exact hg
  refine q_230r hg1 (by rw [pu_6 (by decide)]; omega) ?_
  refine q_227s (bf_sp hg1.2 (by decide)) ?_
  rw [if_neg (by decide), pu_6 (by decide), ha, pu_r (by decide) (by decide) (by decide)]
  exact ⟨.inr rfl, ri_i h⟩
theorem q_272wr [Inhabited gh_] (ha : M 6 12 = 1200) (hg : ok_ M) (hk : KQ k (M 149 1200) (M 151 1200)) (hk1 : 31 ≤ k) (hk2 : k ≤ 40) (hk3 : k ≠ 39) (h : K 1 (bf_ M 2 (M 150 1200))) : Tr_ wd0 pg0 (d + 4) 272 [.inr (.inr 6)] M (ri_ K) Qt := by
  refine q_272o (k := k) (a := 1200) ⟨by omega, by omega⟩ ha hk ⟨by omega, by omega, by omega⟩ ?_
  have h4 : M 149 1200 = 4 ∧ M 151 1200 = k := by unfold KQ at hk; omega
  rw [if_neg (by omega), if_neg (by omega)]
  refine t_281 fun V hV hW => b_281_0 (Tr_mono _) hV hW _ M ?_
  rw [ha, if_pos h4.1, h4.2, w32_id (by omega) (by omega)]
  refine ⟨by omega, by omega, b_281_28 (Tr_mono _) hV hW _ _ M ?_⟩
  rw [if_neg hk3, if_neg (by omega), if_pos hk2]
  refine q_230r hg ha ?_
  refine q_227s (bf_sp hg.2 (by decide)) ?_
  rw [if_neg (by decide), ha]
  exact ⟨.inr rfl, ri_i ⟨.inr rfl, ri_i h⟩⟩
/-- the code of a prefix -/
def pc_ (k : Int) : Int := if k = 245 then 13 else 14
theorem q_272p [Inhabited gh_] (ha : M 6 12 = a) (h0 : 0 ≤ a) (h12 : a < 1200) (hg : go_ M) (hk : KQ k (M 149 a) (M 151 a)) (hk1 : k = 245 ∨ k = 41) (ho : M 6 15 = o) (ho0 : 0 ≤ o) (ho1 : o < 12) (hs0 : 0 ≤ M 6 112) (hs : M 6 112 < 1240)
    (h : K 0 (nx_ (ho_ (up_ M 6 15 (o + 1)) (pc_ k) a))) : Tr_ wd0 pg0 (d + 3) 272 [.inr (.inr 6)] M (ri_ K) Qt := t_272 fun V hV hW => b_272_0 (Tr_mono _) hV hW M (by
  subst ha
  subst ho
  have hi : in9_ M := ⟨by omega, by omega⟩
  have at28 : V 28 [rr 6, ii (M 150 (M 6 12)), none] [] M := by
    refine b_272_28 (Tr_mono _) hV hW _ M ?_
    refine q_240g ho0 ho1 ?_
    have e12 : up_ M 6 15 (M 6 15 + 1) 6 12 = M 6 12 := up_off (by decide)
    have e149 : up_ M 6 15 (M 6 15 + 1) 149 = M 149 := up_ne (by decide)
    have e151 : up_ M 6 15 (M 6 15 + 1) 151 = M 151 := up_ne (by decide)
    have e112 : up_ M 6 15 (M 6 15 + 1) 6 112 = M 6 112 := up_off (by decide)
    have hi1 : in9_ (up_ M 6 15 (M 6 15 + 1)) := by unfold in9_; rw [e12]; exact hi
    have fin : ∀ s : Int, s = pc_ k → Tr_ wd0 pg0 (d + 2) 273 [.inr (.inr 6), .inl s, .inl (up_ M 6 15 (M 6 15 + 1) 6 12)] (up_ M 6 15 (M 6 15 + 1)) (rv_ fun M3 => Tr_ wd0 pg0 (d + 2) 230 [.inr (.inr 6)] M3 (rv_ fun M4 => bl_ 0 ∧ ri_ K [.inl 0] M4) Qt) Qt := by
      intro s hs9
      rw [hs9, e12]
      refine q_273 (by rw [e112]; exact hs0) (by rw [e112]; exact hs) ?_
      refine q_230g ?_ ?_ ?_ ⟨.inl rfl, ri_i h⟩
      · unfold go_; rw [ho_6 (by decide), ho_6 (by decide), up_off (by decide), up_off (by decide)]; exact hg
      · rw [ho_6 (by decide), e12]; exact h0
      · rw [ho_6 (by decide), e12]; exact h12
    unfold KQ at hk
    by_cases c : k = 245
    · refine q_237t hi1 (by rw [e149, e12]; omega) (by rw [e151, e12]; omega) ?_
      rw [if_neg (by decide)]; exact fin 13 (by unfold pc_; rw [if_pos c])
    · refine q_237f hi1 (by rw [e149, e151, e12]; omega) ?_
      rw [if_pos rfl]; exact fin 14 (by unfold pc_; rw [if_neg c])
  unfold KQ at hk
  refine ⟨hi, ?_⟩
  by_cases c : k = 245
  · refine q_237t hi (by omega) (by omega) ?_
    rw [if_neg (by decide)]; exact at28
  · refine q_237f hi (by omega) ?_
    rw [if_pos rfl]
    refine q_229t hi (by omega) (by omega) ?_
    rw [if_neg (by decide)]; exact at28)
/-- a prefix, where there is no room -/
theorem q_272pr [Inhabited gh_] (ha : M 6 12 = a) (h0 : 0 ≤ a) (h12 : a ≤ 1200) (hg : ok_ M) (hk : KQ k (M 149 a) (M 151 a)) (hk1 : k = 245 ∨ k = 41) (ho : M 6 15 = o) (ho0 : 0 ≤ o) (ho1 : o ≤ 12) (hor : o = 12 ∨ a = 1200) (hs0 : 0 ≤ M 6 112) (hs : M 6 112 < 1240)
    (h : ∀ M', sp_ M' → in9_ M' → M' 6 13 = 2 → M' 6 14 = M 150 a → QF M M' → K 0 M') : Tr_ wd0 pg0 (d + 3) 272 [.inr (.inr 6)] M (ri_ K) Qt := t_272 fun V hV hW => b_272_0 (Tr_mono _) hV hW M (by
  subst ha
  subst ho
  have hi : in9_ M := ⟨by omega, by omega⟩
  have at28 : V 28 [rr 6, ii (M 150 (M 6 12)), none] [] M := by
    refine b_272_28 (Tr_mono _) hV hW _ M ?_
    by_cases c12 : M 6 15 = 12
    · refine q_240r hg hi c12 ?_
      generalize hM1 : bf_ (up_ M 6 15 13) 2 (M 150 (M 6 12)) = M1
      have q1 : QF M M1 := by rw [← hM1]; exact QF_tr oq_QF bf_QF
      have e12 : M1 6 12 = M 6 12 := by rw [← hM1, bf_6 (by decide) (by decide), up_off (by decide)]
      have e112 : M1 6 112 = M 6 112 := by rw [← hM1, bf_6 (by decide) (by decide), up_off (by decide)]
      have e149 : M1 149 = M 149 := QF_r q1 (by decide) (by decide)
      have e151 : M1 151 = M 151 := QF_r q1 (by decide) (by decide)
      have e13 : M1 6 13 = 2 := by rw [← hM1, bf_13]
      have e14 : M1 6 14 = M 150 (M 6 12) := by rw [← hM1, bf_14]
      have hsp : sp_ M1 := ⟨by rw [e13]; decide, by rw [← hM1, bf_6 (by decide) (by decide), up_off (by decide)]; exact hg.2⟩
      have hi1 : in9_ M1 := by unfold in9_; rw [e12]; exact hi
      have fin : ∀ s : Int, Tr_ wd0 pg0 (d + 2) 273 [.inr (.inr 6), .inl s, .inl (M1 6 12)] M1 (rv_ fun M3 => Tr_ wd0 pg0 (d + 2) 230 [.inr (.inr 6)] M3 (rv_ fun M4 => bl_ 0 ∧ ri_ K [.inl 0] M4) Qt) Qt := by
        intro s
        refine q_273 (by rw [e112]; exact hs0) (by rw [e112]; exact hs) ?_
        have hsp2 : sp_ (ho_ M1 s (M1 6 12)) := by unfold sp_; rw [ho_6 (by decide), ho_6 (by decide)]; exact hsp
        have hi2 : in9_ (ho_ M1 s (M1 6 12)) := by unfold in9_; rw [ho_6 (by decide)]; exact hi1
        exact q_230s hsp2 hi2 ⟨.inl rfl, ri_i (h _ hsp2 hi2 (by rw [ho_6 (by decide)]; exact e13) (by rw [ho_6 (by decide)]; exact e14) (QF_tr q1 ho_QF))⟩
      unfold KQ at hk
      by_cases c : k = 245
      · refine q_237t hi1 (by rw [e149, e12]; omega) (by rw [e151, e12]; omega) ?_
        rw [if_neg (by decide)]; exact fin 13
      · refine q_237f hi1 (by rw [e149, e151, e12]; omega) ?_
        rw [if_pos rfl]; exact fin 14
    · have ha2 : M 6 12 = 1200 := hor.resolve_left c12
      refine q_240g ho0 (by omega) ?_
      have e12 : up_ M 6 15 (M 6 15 + 1) 6 12 = M 6 12 := up_off (by decide)
      have e149 : up_ M 6 15 (M 6 15 + 1) 149 = M 149 := up_ne (by decide)
      have e151 : up_ M 6 15 (M 6 15 + 1) 151 = M 151 := up_ne (by decide)
      have e112 : up_ M 6 15 (M 6 15 + 1) 6 112 = M 6 112 := up_off (by decide)
      have hi1 : in9_ (up_ M 6 15 (M 6 15 + 1)) := by unfold in9_; rw [e12]; exact hi
      have fin : ∀ s : Int, Tr_ wd0 pg0 (d + 2) 273 [.inr (.inr 6), .inl s, .inl (up_ M 6 15 (M 6 15 + 1) 6 12)] (up_ M 6 15 (M 6 15 + 1)) (rv_ fun M3 => Tr_ wd0 pg0 (d + 2) 230 [.inr (.inr 6)] M3 (rv_ fun M4 => bl_ 0 ∧ ri_ K [.inl 0] M4) Qt) Qt := by
        intro s
        rw [e12]
        refine q_273 (by rw [e112]; exact hs0) (by rw [e112]; exact hs) ?_
        have hok : ok_ (ho_ (up_ M 6 15 (M 6 15 + 1)) s (M 6 12)) := by unfold ok_; rw [ho_6 (by decide), ho_6 (by decide), up_off (by decide), up_off (by decide)]; exact hg
        refine q_230r hok (by rw [ho_6 (by decide), e12]; exact ha2) ⟨.inl rfl, ri_i (h _ (bf_sp hok.2 (by decide)) ?_ bf_13 ?_ (QF_tr oq_QF (QF_tr ho_QF bf_QF)))⟩
        · unfold in9_; rw [bf_6 (by decide) (by decide), ho_6 (by decide), e12]; exact hi
        · rw [bf_14, ho_6 (by decide), e12, ho_r (by decide) (by decide) (by decide), up_ne (by decide)]
      unfold KQ at hk
      by_cases c : k = 245
      · refine q_237t hi1 (by rw [e149, e12]; omega) (by rw [e151, e12]; omega) ?_
        rw [if_neg (by decide)]; exact fin 13
      · refine q_237f hi1 (by rw [e149, e151, e12]; omega) ?_
        rw [if_pos rfl]; exact fin 14
  unfold KQ at hk
  refine ⟨hi, ?_⟩
  by_cases c : k = 245
  · refine q_237t hi (by omega) (by omega) ?_
    rw [if_neg (by decide)]; exact at28
  · refine q_237f hi (by omega) ?_
    rw [if_pos rfl]
    refine q_229t hi (by omega) (by omega) ?_
    rw [if_neg (by decide)]; exact at28)
/-- a bracket more: its sign, the comparison in it -/
theorem q_274 [Inhabited gh_] {x y : Int} (hs0 : 0 ≤ M 6 112) (hs : M 6 112 < 1240) (hb0 : 0 ≤ M 6 118) (hb : M 6 118 < 39) (h : Kv (br_ (ho_ M x y))) : Tr_ wd0 pg0 (d + 2) 274 [.inr (.inr 6), .inl x, .inl y] M (rv_ Kv) Qt := t_274 fun V hV hW => b_274_0 (Tr_mono _) hV hW x y M (by
  refine q_273 hs0 hs ?_
  have e : ho_ M x y 6 118 = M 6 118 := ho_6 (by decide)
  rw [e, w32_id (by omega) (by omega)]
  refine ⟨⟨by omega, .inl rfl⟩, rv_i ?_⟩
  unfold br_ at h
  rw [e] at h
  exact h)
/-- an opening bracket -/
theorem q_272r [Inhabited gh_] (ha : M 6 12 = a) (h0 : 0 ≤ a) (h12 : a < 1200) (hg : go_ M) (hk : KQ 240 (M 149 a) (M 151 a)) (ho : M 6 15 = o) (ho0 : 0 ≤ o) (ho1 : o < 12) (hs0 : 0 ≤ M 6 112) (hs : M 6 112 < 1240) (hb0 : 0 ≤ M 6 118) (hb : M 6 118 < 39)
    (h : K 0 (br_ (ho_ (nx_ (up_ M 6 15 (o + 1))) 1 a))) : Tr_ wd0 pg0 (d + 4) 272 [.inr (.inr 6)] M (ri_ K) Qt := t_272 fun V hV hW => b_272_0 (Tr_mono _) hV hW M (by
  subst ha
  subst ho
  have hi : in9_ M := ⟨by omega, by omega⟩
  unfold KQ at hk
  refine ⟨hi, q_237f hi (by omega) ?_⟩
  rw [if_pos rfl]
  refine q_229f hi (by omega) ?_
  rw [if_pos rfl]
  refine q_237t hi (by omega) (by omega) ?_
  rw [if_neg (by decide)]
  refine q_239g hg h0 h12 (by omega) (by omega) ho0 ho1 ?_
  have hg1 : go_ (nx_ (up_ M 6 15 (M 6 15 + 1))) := by unfold go_; rw [nx_6 (by decide), nx_6 (by decide), up_off (by decide), up_off (by decide)]; exact hg
  refine q_227g hg1 ?_
  rw [if_pos rfl]
  refine q_274 (by rw [nx_6 (by decide), up_off (by decide)]; exact hs0) (by rw [nx_6 (by decide), up_off (by decide)]; exact hs) (by rw [nx_6 (by decide), up_off (by decide)]; exact hb0) (by rw [nx_6 (by decide), up_off (by decide)]; exact hb) ⟨.inl rfl, ri_i h⟩)
theorem q_272rr [Inhabited gh_] (ha : M 6 12 = a) (h0 : 0 ≤ a) (h12 : a ≤ 1200) (hg : ok_ M) (hk : KQ 240 (M 149 a) (M 151 a)) (ho : M 6 15 = o) (ho0 : 0 ≤ o) (ho1 : o ≤ 12) (hor : o = 12 ∨ a = 1200)
    (h : ∀ M', sp_ M' → in9_ M' → M' 6 13 = 2 → M' 6 14 = M 150 a → QF M M' → K 0 M') : Tr_ wd0 pg0 (d + 4) 272 [.inr (.inr 6)] M (ri_ K) Qt := t_272 fun V hV hW => b_272_0 (Tr_mono _) hV hW M (by
  subst ha
  subst ho
  have hi : in9_ M := ⟨by omega, by omega⟩
  unfold KQ at hk
  refine ⟨hi, q_237f hi (by omega) ?_⟩
  rw [if_pos rfl]
  refine q_229f hi (by omega) ?_
  rw [if_pos rfl]
  refine q_237t hi (by omega) (by omega) ?_
  rw [if_neg (by decide)]
  by_cases c12 : M 6 15 = 12
  · refine q_239o hg hi (by omega) (by omega) c12 ?_
    have hsp : sp_ (bf_ (up_ M 6 15 13) 2 (M 150 (M 6 12))) := bf_sp (by rw [up_off (by decide)]; exact hg.2) (by decide)
    refine q_227s hsp ?_
    rw [if_neg (by decide)]
    exact ⟨.inl rfl, ri_i (h _ hsp (by unfold in9_; rw [bf_6 (by decide) (by decide), up_off (by decide)]; exact hi) bf_13 bf_14 (QF_tr oq_QF bf_QF))⟩
  · have ha2 : M 6 12 = 1200 := hor.resolve_left c12
    refine q_239r hg ha2 (by omega) (by omega) ho0 (by omega) ?_
    have hsp : sp_ (bf_ (up_ M 6 15 (M 6 15 + 1)) 2 (M 150 (M 6 12))) := bf_sp (by rw [up_off (by decide)]; exact hg.2) (by decide)
    refine q_227s hsp ?_
    rw [if_neg (by decide)]
    exact ⟨.inl rfl, ri_i (h _ hsp (by unfold in9_; rw [bf_6 (by decide) (by decide), up_off (by decide)]; exact hi) bf_13 bf_14 (QF_tr oq_QF bf_QF))⟩)
end QP
end T81_er
section T82_er
/-! first: numbers and words -/
section FI
variable {dq D n d : Nat} {b F : Int} {Mx Mq Mx' Mq' M : mm_} {a o : Int} {sg : List (Int × Int)} {ws : List (Int × Int × Int)} {c : Int} {cm : List Int} {f : Int} {fm : List (Int × Int)} {cc : Int} {cd : List Int} {K : Int → mm_ → Prop} {Kv : mm_ → Prop} {Qr : qr_} {Qt : qt_} {V : vv_}
theorem XW_i [Inhabited gh_] {v : Int} (hg : go_ Mq) (hx : XF Mx Mx') (h : ∀ (K : Int → mm_ → Prop) (Qt : qt_), (∀ M', sp_ M' → in9_ M' → M' 6 13 = Mx' 1 4 → P14 Mx' M' → QF Mq M' → K v M') → Tr_ wd0 pg0 (dq + 10) 272 [.inr (.inr 6)] Mq (ri_ K) Qt) : XW dq 0 Mx Mq Mx' := ⟨hx, fun V Qr Qt hV hW q => by
  refine b_271_26 (Tr_mono _) hV hW 0 1 Mq ?_
  rw [if_neg (by decide)]
  refine q_227g hg ?_
  rw [if_pos rfl, if_pos rfl]
  exact h _ Qt fun M' h1 h2 h3 h4 h5 => l_271_st hV hW h1 (q M' v 1 h1 h2 h3 h4 h5)⟩
theorem x_153 [Inhabited gh_] {v s : Int} (hi : iX_ M) (h2 : M 1 2 = 5) (h5 : 0 ≤ M 5 3) (h5' : M 5 3 < 11999) (hg : M 1 3 < 1200 → K s (pX_ (pX_ (nX_ M) 0) v)) (hr : M 1 3 = 1200 → Qt 8 (flX_ M 2 (M 1 3))) : Tr_ wd0 pg0 (d + 3) 153 [.inr (.inr 1), .inl v, .inl s] M (ri_ K) Qt := t_153 fun V hV hW => b_153_0 (Tr_mono _) hV hW v s M (x_105 hi (fun h => by
  have e5 : nX_ M 5 3 = M 5 3 := by rw [nX_ne (by decide)]
  have e6 : pX_ (nX_ M) 0 5 3 = M 5 3 ∨ pX_ (nX_ M) 0 5 3 = M 5 3 + 1 := by
    unfold pX_; split
    · exact .inl e5
    · rw [up_at, e5]; exact .inr rfl
  refine x_138 (by rw [nX_1 (by decide)]; exact h2) (by rw [e5]; exact h5) (by rw [e5]; omega) ?_
  refine x_138 (by rw [pX_1, nX_1 (by decide)]; exact h2) (by rcases e6 with e | e <;> omega) (by rcases e6 with e | e <;> omega) ?_
  exact ri_i (hg h)) hr)
theorem x_154 [Inhabited gh_] {v s : Int} (hi : iX_ M) (h2 : M 1 2 = 5) (h5 : 0 ≤ M 5 3) (h5' : M 5 3 < 11999) (hg : M 1 3 < 1200 → K s (pX_ (nX_ M) v)) (hr : M 1 3 = 1200 → Qt 8 (flX_ M 2 (M 1 3))) : Tr_ wd0 pg0 (d + 3) 154 [.inr (.inr 1), .inl v, .inl s] M (ri_ K) Qt := t_154 fun V hV hW => b_154_0 (Tr_mono _) hV hW v s M (x_105 hi (fun h => by
  have e5 : nX_ M 5 3 = M 5 3 := by rw [nX_ne (by decide)]
  refine x_138 (by rw [nX_1 (by decide)]; exact h2) (by rw [e5]; exact h5) (by rw [e5]; omega) ?_
  exact ri_i (hg h)) hr)
theorem ER_st2 [Inhabited gh_] (h : ER b F Mx Mq a o) : 0 ≤ Mx 5 3 ∧ Mx 5 3 < 11999 := by
  have h1 := h.1.2.1
  have h2 := h.2.2.2.2.2.2.2.2.2.2.2.2.2.1
  have h3 := h.2.2.2.2.2.2.2.2.2.2.2.2.2.2
  clear h
  omega
theorem ER_goq [Inhabited gh_] (h : ER b F Mx Mq a o) : go_ Mq := by
  unfold go_; rw [h.2.2.2.2.2.2.2.1]
  rcases h.2.2.2.2.2.2.2.2.1 with h9 | h9
  · left; rw [h.2.2.2.2.2.2.2.2.2.1 h9]; omega
  · right; omega
theorem ER_ok [Inhabited gh_] (h : ER b F Mx Mq a o) (hb : b = 0) : ok_ Mq := ⟨h.2.2.2.2.2.2.2.2.2.1 hb, by rw [h.2.2.2.2.2.2.2.1]; exact hb⟩
/-- what a leaf leaves -/
theorem leaf_EP [Inhabited gh_] {x : Int × Int} {t : Int} {y : List Int} (hR : PR b F Mx Mq a o sg ws c cm f fm cc cd) (h12 : a < 1200) (hk : Mx 70 a ≠ 102 ∧ Mx 70 a ≠ 103) {Mf : mm_} (hXF : XF Mx Mx') (hM1 : Mx' 1 = nX_ Mx 1) (hst : Mx' 5 3 = cc + (y ++ cd).length) (hXE : XE Mx' cc (y ++ cd)) (hy0 : b = 0 → y = []) (hy1 : b = 1 → y = en_1 Mq x) (hyl : (y.length : Int) ≤ 3)
    (hQF : QF Mq Mf) (hQE : QE Mf sg ws (c :: cm) f (x :: fm)) (m12 : Mf 6 12 = a + 1) (m13 : Mf 6 13 = Mq 6 13) (m14 : Mf 6 14 = Mq 6 14) (m15 : Mf 6 15 = Mq 6 15) (ht : 1 ≤ t ∧ t ≤ 3) (hts : ∀ st, ts_ Mq x st (t :: st)) :
    EP (nU n t) b F Mx Mq Mx' (ad_ Mf t (Mx 71 a) 0) a (a + 1) o sg ws c cm f fm cc cd y (t - 1) t 0 [x] ∧ (b = 1 → (0 : Int) = 1 → t - 1 = -1) := by
  obtain ⟨hT, hVT, hER, hQE0, hXE0, hL⟩ := hR
  have h5 : Mx 5 3 = cc + cd.length := hXE0.1
  have hER1 := (ER_go hER h12 hk).1
  have e16 : Mf 6 16 = Mq 6 16 := QF_16 hQF
  have hER2 : ER b F Mx' (ad_ Mf t (Mx 71 a) 0) (a + 1) o := by
    obtain ⟨e1, e2, e3, e4, e5, e6, e7, e8, e9, e10, e11, e12, e13, e14, e15⟩ := hER1
    have g5 : 0 ≤ Mx 5 3 ∧ Mx 5 3 ≤ 9 * a + 1000 := ⟨hER.2.2.2.2.2.2.2.2.2.2.2.2.2.1, hER.2.2.2.2.2.2.2.2.2.2.2.2.2.2⟩
    refine ⟨gd_c ((XF_70 hXF (r := 70) (by decide) (by decide) (by decide)).trans (nX_ne (by decide)).symm) e1, by rw [hM1]; exact e2, by rw [ad_6 (by decide)]; exact m12, by rw [hM1]; exact e4, by rw [ad_6 (by decide), m15]; rw [nx_6 (by decide)] at e5; exact e5, e6, by rw [hM1]; exact e7, by rw [ad_6 (by decide), e16]; rw [nx_6 (by decide)] at e8; exact e8, e9, fun hb => by rw [ad_6 (by decide), m13]; have := e10 hb; rw [nx_6 (by decide)] at this; exact this, ?_, by rw [hM1]; exact e12, by rw [hM1]; exact e13, ?_, ?_⟩
    · have := e11
      unfold NR at this ⊢
      rw [nx_6 (by decide), nx_6 (by decide), nx_6 (by decide)] at this
      rw [hM1, ad_6 (by decide), ad_6 (by decide), ad_6 (by decide), m13, m14, e16]
      exact this
    · rw [hst]; simp only [List.length_append]; push_cast; omega
    · rw [hst]; simp only [List.length_append]; push_cast; omega
  have hfl : Mx' 1 7 = Mx 1 7 := by rw [hM1, nX_1 (by decide)]
  refine EP_atom hT (by omega) hXF (QF_tr hQF ad_QF) hER2 (ad_QE hQE) (.inl rfl) hXE hy0 (fun hb _ => hy1 hb) hyl (by omega) (by omega) (fun hb _ => ⟨rfl, ht.1, ht.2, hfl, ?_, hts⟩) (fun _ h => absurd h (by decide)) ?_
  · unfold fqq_; rw [ad_6 (by decide), ad_6 (by decide), m13, m14]
  · unfold nU; split <;> omega
theorem Ex9_l [Inhabited gh_] {dq d : Nat} {M M' : mm_} (h : Ex9 dq M M') (hd : dq + 7 ≤ d) {Kv : mm_ → Prop} {Qt : qt_} (hk : Kv M') : Tr_ wd0 pg0 d 279 [.inr (.inr 6)] M (rv_ Kv) Qt := Tr_le hd (h Kv Qt hk)
theorem wf_ts [Inhabited gh_] {k : Int} (h1 : 31 ≤ k) (h2 : k ≤ 40) (h3 : k ≠ 39) : ∀ st, ts_ Mq (wf_ k) st (wt_ k :: st) := by
  intro st
  have : k = 31 ∨ k = 32 ∨ k = 33 ∨ k = 34 ∨ k = 35 ∨ k = 36 ∨ k = 37 ∨ k = 38 ∨ k = 40 := by omega
  rcases this with h | h | h | h | h | h | h | h | h <;> rw [h]
  · exact .inl ⟨rfl, 2, by decide, ⟨fun _ => .inr rfl, by decide, by decide⟩, rfl⟩
  · exact .inl ⟨rfl, 2, by decide, ⟨fun _ => .inl rfl, by decide, by decide⟩, rfl⟩
  · exact .inl ⟨rfl, 3, by decide, ⟨fun h => absurd h (by decide), by decide, by decide⟩, rfl⟩
  · exact .inr (.inl ⟨rfl, by decide, by decide, rfl⟩)
  · exact .inr (.inl ⟨rfl, by decide, by decide, rfl⟩)
  · exact .inr (.inl ⟨rfl, by decide, by decide, rfl⟩)
  · exact .inr (.inl ⟨rfl, by decide, by decide, rfl⟩)
  · exact .inr (.inr (.inl ⟨.inl rfl, rfl⟩))
  · exact .inr (.inr (.inl ⟨.inr rfl, rfl⟩))
/-- how a first part of one token goes on -/
def FK [Inhabited gh_] (n dq nt : Nat) (b F : Int) (Mx Mq : mm_) (a o : Int) (sg : List (Int × Int)) (ws : List (Int × Int × Int)) (c : Int) (cm : List Int) (f : Int) (fm : List (Int × Int)) (cc : Int) (cd : List Int) (K : Int → mm_ → Prop) : Prop :=
  ∀ s Mx' Mq' a' y t bd l, EP (nU n t) b F Mx Mq Mx' Mq' a a' o sg ws c cm f fm cc cd y s t bd l → (b = 1 → bd = 1 → s = -1) → (∀ M', Ex9 dq Mq' M' → Rq dq 0 Mq 1 M') → ES (Mx 70) nt o a = some a' → K s Mx'
/-- X has no room for a token: so has Q -/
theorem XW_nr [Inhabited gh_] (hR : PR b F Mx Mq a o sg ws c cm f fm cc cd) (hb : b = 0) (ha : a = 1200) (hk : Mx 70 a = 101 ∨ 31 ≤ Mx 70 a ∧ Mx 70 a ≤ 40 ∧ Mx 70 a ≠ 39) : XW dq 0 Mx Mq (flX_ Mx 2 a) := by
  obtain ⟨hT, hVT, hER, hQE, hXE, hL⟩ := hR
  have hok := ER_ok hER hb
  have h12 : Mq 6 12 = 1200 := by rw [hER.2.2.1]; exact ha
  have hKQ := (hT a hER.1).1
  have h150 : Mq 150 1200 = Mx 71 a := by rw [← ha]; exact (hT a hER.1).2.1.symm
  rw [ha] at hKQ
  rcases hk with hk | hk
  · have hv := (hT a hER.1).2.2.1 hk
    rw [ha] at hk hv
    rw [hk] at hKQ
    refine XW_i (v := 1) (ER_goq hER) fl_XF fun K Qt q => q_272nr h12 hok hKQ (by omega) (by omega) hQE hL.2.2.2.2.2.2.2.1 (by have := hL.2.2.2.2.2.2.2.2; omega) (q _ (bf_sp (by rw [pu_6 (by decide)]; exact hok.2) (by decide)) ?_ ?_ ?_ (QF_tr pu_QF bf_QF))
    · unfold in9_; rw [bf_6 (by decide) (by decide), pu_6 (by decide), h12]; omega
    · rw [bf_13, fl_4]
    · exact ⟨by rw [bf_14, fl_5]; exact h150, fl_b7 hER⟩
  · rw [ha] at hk
    refine XW_i (v := 1) (ER_goq hER) fl_XF fun K Qt q => q_272wr h12 hok hKQ hk.1 hk.2.1 hk.2.2 (q _ (bf_sp hok.2 (by decide)) ?_ ?_ ?_ bf_QF)
    · unfold in9_; rw [bf_6 (by decide) (by decide), h12]; omega
    · rw [bf_13, fl_4]
    · exact ⟨by rw [bf_14, fl_5]; exact h150, fl_b7 hER⟩
theorem x_num [Inhabited gh_] (hR : PR b F Mx Mq a o sg ws c cm f fm cc cd) (hk : Mx 70 a = 101) (hS : b = 1 → a < 1200) (hES : ES (Mx 70) 6 o a = gS a) (hK : FK n dq 6 b F Mx Mq a o sg ws c cm f fm cc cd K) (hQ : b = 0 → ∀ Mx', XW dq 0 Mx Mq Mx' → Qt 8 Mx') : Tr_ wd0 pg0 (D + 3) 153 [.inr (.inr 1), .inl (Mx 73 (Mx 1 3)), .inl 0] Mx (ri_ K) Qt := by
  obtain ⟨hT, hVT, hER, hQE, hXE, hL⟩ := hR
  have hR : PR b F Mx Mq a o sg ws c cm f fm cc cd := ⟨hT, hVT, hER, hQE, hXE, hL⟩
  have h3 : Mx 1 3 = a := hER.2.1
  have hst := ER_st2 hER
  have hv := (hT a hER.1).2.2.1 hk
  have hKQ := (hT a hER.1).1
  rw [hk] at hKQ
  have h150 : Mq 150 a = Mx 71 a := (hT a hER.1).2.1.symm
  refine x_153 (ER_iX hER) hVT.1 hst.1 hst.2 (fun h12 => ?_) (fun h12 => ?_)
  · rw [h3] at h12 ⊢
    have h8 : nX_ Mx 1 8 = b := by rw [nX_1 (by decide)]; exact hER.2.2.2.2.2.2.1
    have hE2 := pX_2 h8 hER.2.2.2.2.2.2.2.2.1 0 (Mx 73 a) (nX_E hXE)
    have hl := leaf_EP (n := n) (x := (1, Mx 73 a)) (t := 1) (Mf := nx_ (pu_ Mq 1 (Mx 73 a))) hR h12 (by rw [hk]; decide) (Mx' := pX_ (pX_ (nX_ Mx) 0) (Mx 73 a)) (XF_tr nX_XF (XF_tr pX_XF pX_XF)) (by rw [pX_1, pX_1]) hE2.1 hE2 (fun hb => by rw [if_pos hb]) (fun hb => by rw [if_neg (by rw [hb]; decide)]; rfl) (by split <;> simp) (QF_tr pu_QF nx_QF) (nx_QE (pu_QE hQE)) (by rw [nx_12, pu_6 (by decide), hER.2.2.1]) (by rw [nx_6 (by decide), pu_6 (by decide)]) (by rw [nx_6 (by decide), pu_6 (by decide)]) (by rw [nx_6 (by decide), pu_6 (by decide)]) (by decide) (fun st => .inl ⟨rfl, 1, by decide, ⟨fun h => absurd h (by decide), hv.2.1, hv.2.2⟩, rfl⟩)
    refine hK 0 _ _ (a + 1) _ 1 0 _ hl.1 (fun _ h => absurd h (by decide)) (fun M' hex => ?_) ?_
    · refine Rq_272 (ER_goq hER) fun K Qt hk9 => ?_
      refine q_272n (a := a) hER.2.2.1 (ER_a hER).1 h12 (ER_goq hER) hKQ (by rw [hv.1]; exact hv.2.1) (by rw [hv.1]; exact hv.2.2) hQE (by have := hL.2.2.2.2.2.2.1; omega) hL.2.2.2.2.2.2.2.1 (by have := hL.2.2.2.2.2.2.2.2; omega) ?_
      rw [hv.1, h150]
      exact Ex9_l hex (by omega) hk9
    · rw [hES]; unfold gS; rw [if_pos h12]
  · rw [h3] at h12 ⊢
    have hb : b = 0 := by
      rcases hER.2.2.2.2.2.2.2.2.1 with h | h
      · exact h
      · exact absurd (hS h) (by omega)
    exact hQ hb _ (XW_nr hR hb h12 (.inl hk))
theorem x_word [Inhabited gh_] {k : Int} {op : Int} (hR : PR b F Mx Mq a o sg ws c cm f fm cc cd) (hk : Mx 70 a = k) (hk1 : 34 ≤ k) (hk2 : k ≤ 40) (hk3 : k ≠ 39) (hop : op = if k ≤ 38 then k - 33 else 6) (hS : b = 1 → a < 1200) (hES : ES (Mx 70) 6 o a = gS a) (hK : FK n dq 6 b F Mx Mq a o sg ws c cm f fm cc cd K) (hQ : b = 0 → ∀ Mx', XW dq 0 Mx Mq Mx' → Qt 8 Mx') : Tr_ wd0 pg0 (D + 3) 154 [.inr (.inr 1), .inl op, .inl (wt_ k - 1)] Mx (ri_ K) Qt := by
  obtain ⟨hT, hVT, hER, hQE, hXE, hL⟩ := hR
  have hR : PR b F Mx Mq a o sg ws c cm f fm cc cd := ⟨hT, hVT, hER, hQE, hXE, hL⟩
  have h3 : Mx 1 3 = a := hER.2.1
  have hst := ER_st2 hER
  have hKQ := (hT a hER.1).1
  have h150 : Mq 150 a = Mx 71 a := (hT a hER.1).2.1.symm
  refine x_154 (ER_iX hER) hVT.1 hst.1 hst.2 (fun h12 => ?_) (fun h12 => ?_)
  · rw [h3] at h12
    have h8 : nX_ Mx 1 8 = b := by rw [nX_1 (by decide)]; exact hER.2.2.2.2.2.2.1
    have hE2 := pX_1w h8 hER.2.2.2.2.2.2.2.2.1 op (nX_E hXE)
    have hen : [op] = en_1 Mq (wf_ k) := by
      have : k = 34 ∨ k = 35 ∨ k = 36 ∨ k = 37 ∨ k = 38 ∨ k = 40 := by omega
      rw [hop]
      rcases this with h | h | h | h | h | h <;> (rw [h]; rfl)
    have hl := leaf_EP (n := n) (x := wf_ k) (t := wt_ k) (Mf := pu_ (nx_ Mq) (wf_ k).1 (wf_ k).2) hR h12 (by rw [hk]; omega) (Mx' := pX_ (nX_ Mx) op) (XF_tr nX_XF pX_XF) (by rw [pX_1]) hE2.1 hE2 (fun hb => by rw [if_pos hb]) (fun hb => by rw [if_neg (by rw [hb]; decide)]; exact hen) (by split <;> simp) (QF_tr nx_QF pu_QF) (pu_QE (nx_QE hQE)) (by rw [pu_6 (by decide), nx_12, hER.2.2.1]) (by rw [pu_6 (by decide), nx_6 (by decide)]) (by rw [pu_6 (by decide), nx_6 (by decide)]) (by rw [pu_6 (by decide), nx_6 (by decide)]) (by unfold wt_; split; omega; split <;> omega) (wf_ts (by omega) hk2 hk3)
    refine hK _ _ _ (a + 1) _ _ 0 _ hl.1 (fun _ h => absurd h (by decide)) (fun M' hex => ?_) ?_
    · refine Rq_272 (ER_goq hER) fun K Qt hk9 => ?_
      refine q_272w (d := dq + 6) (a := a) (k := k) hER.2.2.1 (ER_a hER).1 h12 (ER_goq hER) (by rw [← hk]; exact hKQ) (by omega) hk2 hk3 hQE (by have := hL.2.2.2.2.2.2.1; omega) hL.2.2.2.2.2.2.2.1 (by have := hL.2.2.2.2.2.2.2.2; omega) ?_
      rw [h150]
      exact Ex9_l hex (by omega) hk9
    · rw [hES]; unfold gS; rw [if_pos h12]
  · rw [h3] at h12 ⊢
    have hb : b = 0 := by
      rcases hER.2.2.2.2.2.2.2.2.1 with h | h
      · exact h
      · exact absurd (hS h) (by omega)
    exact hQ hb _ (XW_nr hR hb h12 (.inr (by rw [hk]; omega)))
theorem x_wpush [Inhabited gh_] {k v : Int} (hR : PR b F Mx Mq a o sg ws c cm f fm cc cd) (hk : Mx 70 a = k) (hk1 : 31 ≤ k) (hk2 : k ≤ 33) (hv : v = if k = 31 then 1 else 0) (hS : b = 1 → a < 1200) (hES : ES (Mx 70) 6 o a = gS a) (hK : FK n dq 6 b F Mx Mq a o sg ws c cm f fm cc cd K) (hQ : b = 0 → ∀ Mx', XW dq 0 Mx Mq Mx' → Qt 8 Mx') : Tr_ wd0 pg0 (D + 3) 153 [.inr (.inr 1), .inl v, .inl (wt_ k - 1)] Mx (ri_ K) Qt := by
  obtain ⟨hT, hVT, hER, hQE, hXE, hL⟩ := hR
  have hR : PR b F Mx Mq a o sg ws c cm f fm cc cd := ⟨hT, hVT, hER, hQE, hXE, hL⟩
  have h3 : Mx 1 3 = a := hER.2.1
  have hst := ER_st2 hER
  have hKQ := (hT a hER.1).1
  have h150 : Mq 150 a = Mx 71 a := (hT a hER.1).2.1.symm
  refine x_153 (ER_iX hER) hVT.1 hst.1 hst.2 (fun h12 => ?_) (fun h12 => ?_)
  · rw [h3] at h12
    have h8 : nX_ Mx 1 8 = b := by rw [nX_1 (by decide)]; exact hER.2.2.2.2.2.2.1
    have hE2 := pX_2 h8 hER.2.2.2.2.2.2.2.2.1 0 v (nX_E hXE)
    have hen : [v, 0] = en_1 Mq (wf_ k) := by
      have : k = 31 ∨ k = 32 ∨ k = 33 := by omega
      rw [hv]
      rcases this with h | h | h <;> (rw [h]; rfl)
    have hl := leaf_EP (n := n) (x := wf_ k) (t := wt_ k) (Mf := pu_ (nx_ Mq) (wf_ k).1 (wf_ k).2) hR h12 (by rw [hk]; omega) (Mx' := pX_ (pX_ (nX_ Mx) 0) v) (XF_tr nX_XF (XF_tr pX_XF pX_XF)) (by rw [pX_1, pX_1]) hE2.1 hE2 (fun hb => by rw [if_pos hb]) (fun hb => by rw [if_neg (by rw [hb]; decide)]; exact hen) (by split <;> simp) (QF_tr nx_QF pu_QF) (pu_QE (nx_QE hQE)) (by rw [pu_6 (by decide), nx_12, hER.2.2.1]) (by rw [pu_6 (by decide), nx_6 (by decide)]) (by rw [pu_6 (by decide), nx_6 (by decide)]) (by rw [pu_6 (by decide), nx_6 (by decide)]) (by unfold wt_; split; omega; split <;> omega) (wf_ts (by omega) (by omega) (by omega))
    refine hK _ _ _ (a + 1) _ _ 0 _ hl.1 (fun _ h => absurd h (by decide)) (fun M' hex => ?_) ?_
    · refine Rq_272 (ER_goq hER) fun K Qt hk9 => ?_
      refine q_272w (d := dq + 6) (a := a) (k := k) hER.2.2.1 (ER_a hER).1 h12 (ER_goq hER) (by rw [← hk]; exact hKQ) (by omega) (by omega) (by omega) hQE (by have := hL.2.2.2.2.2.2.1; omega) hL.2.2.2.2.2.2.2.1 (by have := hL.2.2.2.2.2.2.2.2; omega) ?_
      rw [h150]
      exact Ex9_l hex (by omega) hk9
    · rw [hES]; unfold gS; rw [if_pos h12]
  · rw [h3] at h12 ⊢
    have hb : b = 0 := by
      rcases hER.2.2.2.2.2.2.2.2.1 with h | h
      · exact h
      · exact absurd (hS h) (by omega)
    exact hQ hb _ (XW_nr hR hb h12 (.inr (by rw [hk]; omega)))
end FI
end T82_er
section T83_er
/-! names in e's: timers and variables of the type at hand -/
/-- which timer, which variable a name is -/
def tmr (Mq : mm_) (v : Int) : Int := fi_ (fun i => Mq 178 (3 * Mq 6 61 + i)) v (Mq 173 (Mq 6 61)).toNat 0
def vrr (Mq : mm_) (v : Int) : Int := fi_ (fun i => Mq 177 (8 * Mq 6 61 + i)) v (Mq 171 (Mq 6 61)).toNat 0
section NN
variable {d : Nat} {Mx Mq M : mm_} {K : Int → mm_ → Prop} {Kv : mm_ → Prop} {Qt : qt_} {t : Int}
theorem tk9_of [Inhabited gh_] (hT : Tks Mx Mq) (h : gd_ Mx t) : tk9_ Mx t := by
  have h1 := (hT t h).2.2.2.1
  exact ⟨h.1, by have := h.2.1; omega, h1⟩
theorem lk_of [Inhabited gh_] (hT : Tks Mx Mq) {i j : Int} (hi : nm9_ Mx i) (hj : nm9_ Mx j) : lk9_ Mx i j ↔ Mq 151 i = Mq 151 j := (hT i hi.1).2.2.2.2.2.2 j hj.1 hi.2 hj.2
theorem x_129R [Inhabited gh_] (hT : Tks Mx Mq) (hV : VT Mx Mq) (ht : nm9_ Mx t) (h : K (tmr Mq (Mq 151 t)) Mx) : Tr_ wd0 pg0 (d + 3) 129 [.inr (.inr 1), .inl t] Mx (ri_ K) Qt := by
  obtain ⟨v1, v2, v3, v4, v5, v6, v7, v8⟩ := hV
  obtain ⟨m, hm⟩ := Int.eq_ofNat_of_zero_le v6.1
  have hm2 : (Mq 173 (Mq 6 61)).toNat = m := by rw [v2, v6.2.2, hm]; rfl
  refine x_129 (η := Mq 151) (m := m) v1 v3 v4 hm (by have := v6.2.1; omega) (tk9_of hT ht.1) (fun k h1 h2 => ?_) ?_
  · have := v8 k h1 (by rw [hm]; exact h2)
    exact ⟨tk9_of hT this.1.1, lk_of hT this.1 ht⟩
  · unfold tmr at h
    rw [hm2, v2] at h
    rw [fi_cg (g' := fun i => Mq 178 (3 * Mx 1 18 + i)) (v' := Mq 151 t) m 0 (fun i h1 h2 => ?_)]
    · exact h
    · rw [(v8 i h1 (by rw [hm]; omega)).2]
theorem q_283R [Inhabited gh_] (hV : VT Mx Mq) {v : Int} (h : K (tmr Mq v) Mq) : Tr_ wd0 pg0 (d + 1) 283 [.inr (.inr 6), .inl (Mq 6 61), .inr (.inl v)] Mq (ri_ K) Qt := by
  obtain ⟨v1, v2, v3, v4, v5, v6, v7, v8⟩ := hV
  obtain ⟨m, hm⟩ := Int.eq_ofNat_of_zero_le v6.1
  have hm2 : (Mq 173 (Mq 6 61)).toNat = m := by rw [v2, v6.2.2, hm]; rfl
  refine q_283 (m := m) (by rw [v2]; exact v3) (by rw [v2]; exact v4) (by rw [v2, v6.2.2, hm]) (by have := v6.2.1; omega) ?_
  unfold tmr at h; rw [hm2] at h; exact h
theorem x_128R [Inhabited gh_] (hT : Tks Mx Mq) (hV : VT Mx Mq) (ht : nm9_ Mx t) (h : K (vrr Mq (Mq 151 t)) Mx) : Tr_ wd0 pg0 (d + 3) 128 [.inr (.inr 1), .inl t] Mx (ri_ K) Qt := by
  obtain ⟨v1, v2, v3, v4, v5, v6, v7, v8⟩ := hV
  obtain ⟨m, hm⟩ := Int.eq_ofNat_of_zero_le v5.1
  have hm2 : (Mq 171 (Mq 6 61)).toNat = m := by rw [v2, v5.2.2, hm]; rfl
  refine x_128 (η := Mq 151) (m := m) v1 v3 v4 hm (by have := v5.2.1; omega) (tk9_of hT ht.1) (fun k h1 h2 => ?_) ?_
  · have := v7 k h1 (by rw [hm]; exact h2)
    exact ⟨tk9_of hT this.1.1, lk_of hT this.1 ht⟩
  · unfold vrr at h
    rw [hm2, v2] at h
    rw [fi_cg (g' := fun i => Mq 177 (8 * Mx 1 18 + i)) (v' := Mq 151 t) m 0 (fun i h1 h2 => ?_)]
    · exact h
    · rw [(v7 i h1 (by rw [hm]; omega)).2.1]
theorem q_276R [Inhabited gh_] (hV : VT Mx Mq) {v : Int} (h : K (if vrr Mq v = -1 then -1 else 8 * Mq 6 61 + vrr Mq v) Mq) : Tr_ wd0 pg0 (d + 1) 276 [.inr (.inr 6), .inl (Mq 6 61), .inr (.inl v)] Mq (ri_ K) Qt := by
  obtain ⟨v1, v2, v3, v4, v5, v6, v7, v8⟩ := hV
  obtain ⟨m, hm⟩ := Int.eq_ofNat_of_zero_le v5.1
  have hm2 : (Mq 171 (Mq 6 61)).toNat = m := by rw [v2, v5.2.2, hm]; rfl
  refine q_276 (m := m) (by rw [v2]; exact v3) (by rw [v2]; exact v4) (by rw [v2, v5.2.2, hm]) (by have := v5.2.1; omega) ?_
  unfold vrr at h; rw [hm2] at h; exact h
theorem tmr_r [Inhabited gh_] (hV : VT Mx Mq) {v : Int} : tmr Mq v = -1 ∨ (0 ≤ tmr Mq v ∧ tmr Mq v < Mq 173 (Mq 6 61)) := by
  have h6 := hV.2.2.2.2.2.1
  have e : Mq 173 (Mq 6 61) = Mx 126 (Mx 1 18) := by rw [hV.2.1]; exact h6.2.2
  rcases fi_r (fun i => Mq 178 (3 * Mq 6 61 + i)) v (Mq 173 (Mq 6 61)).toNat 0 with h | h
  · exact .inl h
  · exact .inr ⟨h.1, by have := h.2.1; unfold tmr; omega⟩
theorem vrr_r [Inhabited gh_] (hV : VT Mx Mq) {v : Int} : vrr Mq v = -1 ∨ (0 ≤ vrr Mq v ∧ vrr Mq v < Mq 171 (Mq 6 61)) := by
  have h6 := hV.2.2.2.2.1
  have e : Mq 171 (Mq 6 61) = Mx 124 (Mx 1 18) := by rw [hV.2.1]; exact h6.2.2
  rcases fi_r (fun i => Mq 177 (8 * Mq 6 61 + i)) v (Mq 171 (Mq 6 61)).toNat 0 with h | h
  · exact .inl h
  · exact .inr ⟨h.1, by have := h.2.1; unfold vrr; omega⟩
theorem tmr_c [Inhabited gh_] {Mq' : mm_} (h : QF Mq Mq') {v : Int} : tmr Mq' v = tmr Mq v := by unfold tmr; rw [QF_r h (r := 178) (by decide) (by decide), QF_r h (r := 173) (by decide) (by decide), QF_61 h]
theorem vrr_c [Inhabited gh_] {Mq' : mm_} (h : QF Mq Mq') {v : Int} : vrr Mq' v = vrr Mq v := by unfold vrr; rw [QF_r h (r := 177) (by decide) (by decide), QF_r h (r := 171) (by decide) (by decide), QF_61 h]
/-- Q: the name of a timer -/
theorem q_282g [Inhabited gh_] (hV : VT Mx Mq) {a : Int} (ha : Mq 6 12 = a) (h0 : 0 ≤ a) (h12 : a < 1200) (hg : go_ Mq) (h1 : Mq 149 a = 1) (h : K (tmr Mq (Mq 151 a)) (if tmr Mq (Mq 151 a) < 0 then nt_ (nx_ Mq) 4 (Mq 150 a) else nx_ Mq)) : Tr_ wd0 pg0 (d + 4) 282 [.inr (.inr 6)] Mq (ri_ K) Qt := t_282 fun V hV9 hW => b_282_0 (Tr_mono _) hV9 hW Mq (by
  subst ha
  refine q_233g hg h0 h12 h1 ?_
  refine q_227g (nx_go hg) ?_
  rw [if_pos rfl]
  have hq : QF Mq (nx_ Mq) := nx_QF
  have e151 : nx_ Mq 151 = Mq 151 := nx_ne (by decide)
  have e150 : nx_ Mq 150 = Mq 150 := nx_ne (by decide)
  refine ⟨by omega, q_283R (VT_c XF_rf hq hV) ?_⟩
  rw [e151, tmr_c hq]
  intro _
  by_cases c : nx_ Mq 6 16 = 0
  · rw [if_pos c]
    have : (if tmr Mq (Mq 151 (Mq 6 12)) < 0 then nt_ (nx_ Mq) 4 (Mq 150 (Mq 6 12)) else nx_ Mq) = nx_ Mq := by
      split
      · unfold nt_; rw [if_pos c]
      · rfl
    rw [this] at h
    exact ri_i h
  · rw [if_neg c]
    by_cases c2 : tmr Mq (Mq 151 (Mq 6 12)) < 0
    · rw [if_pos c2] at h ⊢
      rw [e150]
      exact ⟨by omega, q_236 (ri_i h)⟩
    · rw [if_neg c2] at h ⊢
      exact ri_i h)
/-- its name is not there: stopped -/
theorem q_282s [Inhabited gh_] (hs : sp_ Mq) (h : K (-1) Mq) : Tr_ wd0 pg0 (d + 4) 282 [.inr (.inr 6)] Mq (ri_ K) Qt := t_282 fun V hV9 hW => b_282_0 (Tr_mono _) hV9 hW Mq (by
  refine q_233s hs ?_
  refine q_227s hs ?_
  rw [if_neg (by decide)]; exact ri_i h)
theorem q_282w [Inhabited gh_] {a : Int} (ha : Mq 6 12 = a) (hi : in9_ Mq) (hs : ok_ Mq) (h1 : Mq 149 a ≠ 1) (h : K (-1) (bf_ Mq 1 (Mq 150 a))) : Tr_ wd0 pg0 (d + 4) 282 [.inr (.inr 6)] Mq (ri_ K) Qt := t_282 fun V hV9 hW => b_282_0 (Tr_mono _) hV9 hW Mq (by
  subst ha
  refine q_233w hs hi h1 ?_
  refine q_227s (bf_sp hs.2 (by decide)) ?_
  rw [if_neg (by decide)]; exact ri_i h)
theorem q_282r [Inhabited gh_] (ha : Mq 6 12 = 1200) (hs : ok_ Mq) (h1 : Mq 149 1200 = 1) (h : K (-1) (bf_ Mq 2 (Mq 150 1200))) : Tr_ wd0 pg0 (d + 4) 282 [.inr (.inr 6)] Mq (ri_ K) Qt := t_282 fun V hV9 hW => b_282_0 (Tr_mono _) hV9 hW Mq (by
  refine q_233r hs ha (by rw [ha]; exact h1) ?_
  refine q_227s (bf_sp hs.2 (by decide)) ?_
  rw [if_neg (by decide), ha]; exact ri_i h)
end NN
end T83_er
section T84_er
/-! first: active -/
section AC
variable {dq D n d : Nat} {b F : Int} {Mx Mq Mx' Mq' M : mm_} {a o : Int} {sg : List (Int × Int)} {ws : List (Int × Int × Int)} {c : Int} {cm : List Int} {f : Int} {fm : List (Int × Int)} {cc : Int} {cd : List Int} {K : Int → mm_ → Prop} {Kv : mm_ → Prop} {Qr : qr_} {Qt : qt_} {V : vv_}
/-- Q: active, whatever its name does -/
theorem q_272a [Inhabited gh_] (hi : in9_ Mq) (ha : Mq 6 12 = a) (hk : KQ 39 (Mq 149 a) (Mq 151 a)) (h : Tr_ wd0 pg0 (d + 2) 230 [.inr (.inr 6)] Mq (rv_ fun M15 => Tr_ wd0 pg0 (d + 2) 282 [.inr (.inr 6)] M15 (ri_ fun v2 M16 => Tr_ wd0 pg0 (d + 2) 277 [.inr (.inr 6), .inl 10, .inl v2] M16 (rv_ fun M17 => Tr_ wd0 pg0 (d + 2) 227 [.inr (.inr 6)] M17 (ri_ fun v3 M18 => (if v3 = 0 then Tr_ wd0 pg0 (d + 2) 278 [.inr (.inr 6), .inl 2, .inl (Mq 150 a), .inl (if M18 6 16 ≠ 0 ∧ v2 < 0 then 1 else 0)] M18 (rv_ fun M19 => K 1 M19) Qt else K 1 M18)) Qt) Qt) Qt) Qt) : Tr_ wd0 pg0 (d + 4) 272 [.inr (.inr 6)] Mq (ri_ K) Qt := by
  refine q_272o (k := 39) hi ha hk ⟨by decide, by decide, by decide⟩ ?_
  unfold in9_ at hi
  rw [ha] at hi
  have h4 : Mq 149 a = 4 ∧ Mq 151 a = 39 := by unfold KQ at hk; omega
  rw [if_neg (by omega), if_neg (by omega)]
  refine t_281 fun V hV hW => b_281_0 (Tr_mono _) hV hW _ Mq ?_
  rw [ha, if_pos h4.1, h4.2]
  refine ⟨hi, hi, b_281_28 (Tr_mono _) hV hW _ _ Mq ?_⟩
  rw [if_pos (by decide)]
  refine Tr_m h (fun vs N hq => ⟨hq.1, Tr_m hq.2 (fun vs N hq => ?_) (fun _ _ q => q)⟩) (fun _ _ q => q)
  obtain ⟨v2, hv, hq⟩ := hq
  refine ⟨v2, hv, Tr_m hq (fun vs N hq => ⟨hq.1, Tr_m hq.2 (fun vs N hq => ?_) (fun _ _ q => q)⟩) (fun _ _ q => q)⟩
  obtain ⟨v3, hv3, hq⟩ := hq
  refine ⟨v3, hv3, ?_⟩
  by_cases c1 : v3 = 0
  · rw [if_pos c1] at hq ⊢
    intro _
    have fin : ∀ bb : Int, bb = (if N 6 16 ≠ 0 ∧ v2 < 0 then 1 else 0) → Tr_ wd0 pg0 (d + 2) 278 [.inr (.inr 6), .inl 2, .inl (Mq 150 a), .inl bb] N (rv_ fun M19 => bl_ 1 ∧ ri_ (fun v4 M4 => bl_ v4 ∧ ri_ K [.inl v4] M4) [.inl 1] M19) Qt := by
      intro bb hbb
      rw [hbb]
      exact Tr_m hq (fun vs N hq => ⟨hq.1, .inr rfl, ri_i ⟨.inr rfl, ri_i hq.2⟩⟩) (fun _ _ q => q)
    by_cases c2 : N 6 16 = 0
    · rw [if_pos c2]; exact fin 0 (by rw [if_neg (fun h => h.1 c2)])
    · rw [if_neg c2]
      by_cases c3 : v2 < 0
      · rw [if_pos c3]; exact fin 1 (by rw [if_pos ⟨c2, c3⟩])
      · rw [if_neg c3]; exact fin 0 (by rw [if_neg (fun h => c3 h.2)])
  · rw [if_neg c1] at hq ⊢
    exact ⟨.inr rfl, ri_i ⟨.inr rfl, ri_i hq⟩⟩
theorem x_act [Inhabited gh_] (hR : PR b F Mx Mq a o sg ws c cm f fm cc cd) (hk : Mx 70 a = 39) (hS : b = 1 → (gS a).bind (tS (Mx 70) 100) ≠ none) (hES : ES (Mx 70) 6 o a = (gS a).bind (tS (Mx 70) 100)) (hK : FK n dq 6 b F Mx Mq a o sg ws c cm f fm cc cd K) (hQ : b = 0 → ∀ Mx', XW dq 0 Mx Mq Mx' → Qt 8 Mx') :
    Tr_ wd0 pg0 (D + 4) 105 [.inr (.inr 1)] Mx (rv_ fun M10 => Tr_ wd0 pg0 (D + 4) 107 [.inr (.inr 1)] M10 (ri_ fun v7 M11 => Tr_ wd0 pg0 (D + 4) 129 [.inr (.inr 1), .inl v7] M11 (ri_ fun v8 M12 =>
      (bl_ (M12 1 8) → (if M12 1 8 = 0 then Tr_ wd0 pg0 (D + 4) 138 [.inr (.inr 1), .inl 7] M12 (rv_ fun M13 => Tr_ wd0 pg0 (D + 4) 138 [.inr (.inr 1), .inl v8] M13 (rv_ fun M14 => (if v8 = (-1) then ri_ K [.inl (-1)] M14 else ri_ K [.inl 1] M14)) Qt) Qt
      else (if v8 = (-1) then Tr_ wd0 pg0 (D + 4) 116 [.inr (.inr 1), .inl 4, .inl v7] M12 (rv_ fun M17 => Tr_ wd0 pg0 (D + 4) 138 [.inr (.inr 1), .inl 7] M17 (rv_ fun M18 => Tr_ wd0 pg0 (D + 4) 138 [.inr (.inr 1), .inl v8] M18 (rv_ fun M19 => (if v8 = (-1) then ri_ K [.inl (-1)] M19 else ri_ K [.inl 1] M19)) Qt) Qt) Qt
      else Tr_ wd0 pg0 (D + 4) 138 [.inr (.inr 1), .inl 7] M12 (rv_ fun M15 => Tr_ wd0 pg0 (D + 4) 138 [.inr (.inr 1), .inl v8] M15 (rv_ fun M16 => (if v8 = (-1) then ri_ K [.inl (-1)] M16 else ri_ K [.inl 1] M16)) Qt) Qt)))) Qt) Qt) Qt := by
  obtain ⟨hT, hVT, hER, hQE, hXE, hL⟩ := hR
  have h3 : Mx 1 3 = a := hER.2.1
  have ha := ER_a hER
  have hKQ := (hT a hER.1).1
  rw [hk] at hKQ
  have hgo := ER_goq hER
  have hb01 := hER.2.2.2.2.2.2.2.2.1
  have hin : in9_ Mq := by unfold in9_; rw [hER.2.2.1]; omega
  have hfl3 : f + fm.length + 1 < 3000 := by have := hL.2.2.2.2.2.2.2.2; omega
  have hf0 : 0 ≤ f := hL.2.2.2.2.2.2.2.1
  have hwl : (ws.length : Int) ≤ 1200 := by have := hL.2.2.2.2.2.2.1; omega
  have h150 : ∀ i, gd_ Mx i → Mq 150 i = Mx 71 i := fun i h => (hT i h).2.1.symm
  refine x_105 (ER_iX hER) (fun h12 => ?_) (fun h12 => ?_)
  · rw [h3] at h12
    obtain ⟨hER1, hst1, hfb1⟩ := ER_go hER h12 (by rw [hk]; decide)
    have hX1 : XF Mx (nX_ Mx) := nX_XF
    have hQ1 : QF Mq (nx_ Mq) := nx_QF
    have g1 : gd_ Mx (a + 1) := gd_c (XF_70 hX1 (r := 70) (by decide) (by decide) (by decide)).symm hER1.1
    have e70 : nX_ Mx 70 (nX_ Mx 1 3) = Mx 70 (a + 1) := by rw [nX_ne (by decide), hER1.2.1]
    have h31 : nX_ Mx 1 3 = a + 1 := hER1.2.1
    have hKQ1 : KQ (Mx 70 (a + 1)) (nx_ Mq 149 (a + 1)) (nx_ Mq 151 (a + 1)) := KQ_at hT hX1 hQ1 hER1.1
    rw [gb_eq2 h12] at hS hES
    have tail : ∀ (M16 : mm_) (K : Int → mm_ → Prop) (Qt : qt_), sp_ M16 → M16 6 104 = Mq 6 104 → K 1 (pu_ M16 10 (-1)) → Tr_ wd0 pg0 (dq + 8) 277 [.inr (.inr 6), .inl 10, .inl (-1)] M16 (rv_ fun M17 => Tr_ wd0 pg0 (dq + 8) 227 [.inr (.inr 6)] M17 (ri_ fun v3 M18 => (if v3 = 0 then Tr_ wd0 pg0 (dq + 8) 278 [.inr (.inr 6), .inl 2, .inl (Mq 150 a), .inl (if M18 6 16 ≠ 0 ∧ (-1 : Int) < 0 then 1 else 0)] M18 (rv_ fun M19 => K 1 M19) Qt else K 1 M18)) Qt) Qt := by
      intro M16 K Qt hsp h104 hk9
      refine q_277 (by rw [h104, hQE.2.2.2.2.2.2.1]; omega) (by rw [h104, hQE.2.2.2.2.2.2.1]; omega) ?_
      have hsp2 : sp_ (pu_ M16 10 (-1)) := by unfold sp_; rw [pu_6 (by decide), pu_6 (by decide)]; exact hsp
      refine q_227s hsp2 ?_
      rw [if_neg (by decide)]; exact hk9
    refine x_107 (ER_iX hER1) (fun hn h12b => ?_) (fun hn => ?_) (fun hn h12b => ?_)
    · -- a name is there
      rw [e70] at hn
      rw [h31] at h12b ⊢
      obtain ⟨hER2, hst2, hfb2⟩ := ER_go hER1 h12b (by rw [nX_ne (by decide), hn]; decide)
      have e112 : a + 1 + 1 = a + 2 := by omega
      rw [e112] at hER2 hst2 hfb2
      have hX2 : XF Mx (nX_ (nX_ Mx)) := XF_tr hX1 nX_XF
      have hQ2 : QF Mq (nx_ (nx_ Mq)) := QF_tr hQ1 nx_QF
      have hT2 := Tks_c hX2 hQ2 hT
      have hV2 := VT_c hX2 hQ2 hVT
      have nm1 : nm9_ (nX_ (nX_ Mx)) (a + 1) := by
        have e : nX_ (nX_ Mx) 70 = Mx 70 := XF_70 hX2 (by decide) (by decide) (by decide)
        exact ⟨gd_c e g1, by rw [e]; exact hn⟩
      have e151 : nx_ (nx_ Mq) 151 = Mq 151 := QF_r hQ2 (by decide) (by decide)
      refine x_129R hT2 hV2 nm1 ?_
      rw [e151, tmr_c hQ2]
      generalize hv8 : tmr Mq (Mq 151 (a + 1)) = v8
      have hv8r : v8 = -1 ∨ (0 ≤ v8 ∧ v8 < Mq 173 (Mq 6 61)) := by rw [← hv8]; exact tmr_r hVT
      have h8 : nX_ (nX_ Mx) 1 8 = b := by rw [nX_1 (by decide), nX_1 (by decide)]; exact hER.2.2.2.2.2.2.1
      have h7 : nX_ (nX_ Mx) 1 7 = Mx 1 7 := by rw [nX_1 (by decide), nX_1 (by decide)]
      have hst0 : nX_ (nX_ Mx) 5 3 = Mx 5 3 := by rw [nX_ne (by decide), nX_ne (by decide)]
      have hES2 : ES (Mx 70) 6 o a = some (a + 2) := by
        rw [hES]; unfold tS gS; rw [if_pos hn, if_pos h12b]
        rw [e112]
      have t1 : nx_ Mq 149 (a + 1) = 1 := by rw [hn] at hKQ1; unfold KQ at hKQ1; omega
      -- Q's way
      have hQway : ∀ (Mf : mm_) (bd : Int), Mf = (if v8 < 0 then nt_ (nx_ (nx_ Mq)) 4 (Mx 71 (a + 1)) else nx_ (nx_ Mq)) → bd = (if b ≠ 0 ∧ v8 < 0 then 1 else 0) → ∀ M', Ex9 dq (ad_ (pu_ Mf 10 v8) 2 (Mx 71 a) bd) M' → Rq dq 0 Mq 1 M' := by
        intro Mf bd hMf hbd M' hex
        refine Rq_272 hgo fun K Qt hk9 => ?_
        refine q_272a (d := dq + 6) hin hER.2.2.1 hKQ ?_
        refine q_230g hgo (by rw [hER.2.2.1]; exact ha.1) (by rw [hER.2.2.1]; exact h12) ?_
        refine q_282g (Mx := nX_ Mx) (VT_c hX1 hQ1 hVT) (a := a + 1) hER1.2.2.1 (by omega) h12b (nx_go hgo) t1 ?_
        rw [nx_ne (r := 151) (by decide), nx_ne (r := 150) (by decide), tmr_c hQ1, hv8, h150 (a + 1) g1, ← hMf]
        have f6 : ∀ i : Int, i ≠ 12 → i ≠ 13 → i ≠ 14 → Mf 6 i = Mq 6 i := by
          intro i x y z
          rw [hMf]; split
          · rw [nt_6 y z, nx_6 x, nx_6 x]
          · rw [nx_6 x, nx_6 x]
        refine q_277 (by rw [f6 104 (by decide) (by decide) (by decide), hQE.2.2.2.2.2.2.1]; omega) (by rw [f6 104 (by decide) (by decide) (by decide), hQE.2.2.2.2.2.2.1]; omega) ?_
        have e16 : pu_ Mf 10 v8 6 16 = b := by rw [pu_6 (by decide), f6 16 (by decide) (by decide) (by decide)]; exact hER.2.2.2.2.2.2.2.1
        have hg3 : go_ (pu_ Mf 10 v8) := by
          unfold go_; rw [e16]
          rcases hb01 with h | h
          · left
            rw [pu_6 (by decide), hMf]
            have : nx_ (nx_ Mq) 6 16 = 0 := by rw [nx_6 (by decide), nx_6 (by decide), hER.2.2.2.2.2.2.2.1]; exact h
            split
            · unfold nt_; rw [if_pos this, nx_6 (by decide), nx_6 (by decide), hER.2.2.2.2.2.2.2.2.2.1 h]; omega
            · rw [nx_6 (by decide), nx_6 (by decide), hER.2.2.2.2.2.2.2.2.2.1 h]; omega
          · right; omega
        refine q_227g hg3 ?_
        rw [if_pos rfl, e16, h150 a hER.1, ← hbd]
        refine q_278 (by rw [pu_6 (by decide), f6 116 (by decide) (by decide) (by decide), hQE.2.2.1]; omega) (by rw [pu_6 (by decide), f6 116 (by decide) (by decide) (by decide), hQE.2.2.1]; omega) ?_ (Ex9_l hex (by omega) hk9)
        rw [hbd]; split
        · exact .inr rfl
        · exact .inl rfl
      have fin : ∀ (M12 Mf : mm_) (bd s : Int), Mf = (if v8 < 0 then nt_ (nx_ (nx_ Mq)) 4 (Mx 71 (a + 1)) else nx_ (nx_ Mq)) → bd = (if b ≠ 0 ∧ v8 < 0 then 1 else 0) → s = (if v8 = -1 then -1 else 1) → XF Mx M12 → QF Mq Mf → ER b F M12 Mf (a + 2) o → M12 5 3 = Mx 5 3 → XE M12 cc cd → (b = 1 → bd = 0 → M12 1 7 = Mx 1 7 ∧ fqq_ Mf = fqq_ Mq) → (b = 1 → bd = 1 → M12 1 7 = Mx 1 7 + 1 ∧ kk_ (Mf 6 13) (Mf 6 14) ≤ 8 * Mx 71 (a + 1) + 4) → (b = 0 → M12 1 7 = Mx 1 7) → QE Mf sg ws (c :: cm) f fm → K s (pX_ (pX_ M12 7) v8) := by
        intro M12 Mf bd s hMf hbd hs hXF hQF hE12 h53 hXE12 hn0 hn1 hn2 hQEf
        have h8' : M12 1 8 = b := hE12.2.2.2.2.2.2.1
        have hE2 := pX_2 h8' hb01 7 v8 hXE12
        have hst : Mx 5 3 ≤ 9 * a + 1000 := hER.2.2.2.2.2.2.2.2.2.2.2.2.2.2
        have p53 : pX_ M12 7 5 3 ≤ M12 5 3 + 1 := by
          unfold pX_; split
          · omega
          · rw [up_at]; omega
        have hER3 : ER b F (pX_ (pX_ M12 7) v8) (ad_ (pu_ Mf 10 v8) 2 (Mx 71 a) bd) (a + 2) o := by
          refine ER_Q (Mq := Mf) (ER_pX (ER_pX hE12 (by omega)) (by omega)) ?_ ?_ ?_ ?_ ?_
          all_goals rw [ad_6 (by decide), pu_6 (by decide)]
        have hbd01 : bd = 0 ∨ bd = 1 := by rw [hbd]; split; exact .inr rfl; exact .inl rfl
        have m7 : pX_ (pX_ M12 7) v8 1 7 = M12 1 7 := by rw [pX_1, pX_1]
        have hm17 : Mx 1 7 ≤ M12 1 7 ∧ M12 1 7 ≤ Mx 1 7 + 1 := by
          rcases hb01 with h | h
          · have := hn2 h; omega
          · rcases hbd01 with h' | h'
            · have := (hn0 h h').1; omega
            · have := (hn1 h h').1; omega
        have ga2 : gd_ Mx (a + 2) := gd_c (XF_70 hXF (r := 70) (by decide) (by decide) (by decide)).symm hE12.1
        have hmono := (hT (a + 2) ga2).2.2.2.2.1 (a + 1) g1 (by omega)
        have hv9 : b = 1 → bd = 0 → 0 ≤ v8 ∧ v8 < Mq 173 (Mq 6 61) := by
          intro h h'
          rcases hv8r with h9 | h9
          · rw [hbd, if_pos ⟨by omega, by omega⟩] at h'; omega
          · exact h9
        have hP := EP_atom (need := nU n 2) (t := 2) (s := s) (x := (10, v8)) (y := if b = 0 then [] else [v8, 7]) hT (by omega) (XF_tr hXF (XF_tr pX_XF pX_XF)) (QF_tr hQF (QF_tr pu_QF ad_QF)) hER3 (ad_QE (pu_QE hQEf)) hbd01 hE2 (fun h => by rw [if_pos h]) (fun h _ => by rw [if_neg (by omega)]; rfl) (by split <;> simp) (by rw [m7]; omega) (by rw [m7]; omega) (fun h h' => ⟨?_, by decide, by decide, by rw [m7]; exact (hn0 h h').1, ?_, fun st => .inr (.inr (.inr (.inl ⟨rfl, (hv9 h h').1, (hv9 h h').2, rfl⟩)))⟩) (fun h h' => ⟨?_, by rw [m7]; have := (hn1 h h').1; omega, ?_⟩) (by unfold nU; rw [if_neg (by decide)]; omega)
        · exact hK s _ _ (a + 2) _ 2 bd _ hP.1 hP.2 (hQway Mf bd hMf hbd) hES2
        · rw [hs, if_neg (by have := hv9 h h'; omega)]; rfl
        · unfold fqq_; rw [ad_6 (by decide), ad_6 (by decide), pu_6 (by decide), pu_6 (by decide)]; exact (hn0 h h').2
        · rw [hs, if_pos]
          rcases hv8r with h9 | h9
          · exact h9
          · rw [hbd, if_neg (by omega)] at h'; omega
        · rw [ad_6 (by decide), ad_6 (by decide), pu_6 (by decide), pu_6 (by decide)]
          have := (hn1 h h').2; omega
      have ret : ∀ M14, K (if v8 = -1 then -1 else 1) M14 → (if v8 = (-1) then ri_ K [.inl (-1)] M14 else ri_ K [.inl 1] M14) := by
        intro M14 hk9
        split
        · rename_i h; rw [if_pos h] at hk9; exact ri_i hk9
        · rename_i h; rw [if_neg h] at hk9; exact ri_i hk9
      have h12m : nX_ (nX_ Mx) 1 2 = 5 := by rw [nX_1 (by decide), nX_1 (by decide)]; exact hVT.1
      have stb := ER_st2 hER
      have hXE2 : XE (nX_ (nX_ Mx)) cc cd := nX_E (nX_E hXE)
      have hQE2 : QE (nx_ (nx_ Mq)) sg ws (c :: cm) f fm := nx_QE (nx_QE hQE)
      have puts2 : ∀ M12 : mm_, M12 1 2 = 5 → M12 5 3 = Mx 5 3 → K (if v8 = -1 then -1 else 1) (pX_ (pX_ M12 7) v8) → Tr_ wd0 pg0 (D + 4) 138 [.inr (.inr 1), .inl 7] M12 (rv_ fun M13 => Tr_ wd0 pg0 (D + 4) 138 [.inr (.inr 1), .inl v8] M13 (rv_ fun M14 => (if v8 = (-1) then ri_ K [.inl (-1)] M14 else ri_ K [.inl 1] M14)) Qt) Qt := by
        intro M12 e2 e53 hk9
        have p53 : pX_ M12 7 5 3 = M12 5 3 ∨ pX_ M12 7 5 3 = M12 5 3 + 1 := by
          unfold pX_; split
          · exact .inl rfl
          · exact .inr (by rw [up_at])
        refine x_138 e2 (by omega) (by omega) ?_
        refine x_138 (by rw [pX_1]; exact e2) (by rcases p53 with e | e <;> omega) (by rcases p53 with e | e <;> omega) ?_
        exact ret _ hk9
      have hpl := tk_p hT g1
      intro _
      rw [h8]
      rcases hb01 with hb | hb
      · rw [if_pos hb]
        refine puts2 _ h12m hst0 (fin _ (if v8 < 0 then nt_ (nx_ (nx_ Mq)) 4 (Mx 71 (a + 1)) else nx_ (nx_ Mq)) _ _ rfl rfl rfl hX2 ?_ ?_ hst0 hXE2 (fun h => by omega) (fun h => by omega) (fun _ => h7) ?_)
        all_goals
          have e0 : nx_ (nx_ Mq) 6 16 = 0 := by rw [nx_6 (by decide), nx_6 (by decide), hER.2.2.2.2.2.2.2.1]; exact hb
          have e : (if v8 < 0 then nt_ (nx_ (nx_ Mq)) 4 (Mx 71 (a + 1)) else nx_ (nx_ Mq)) = nx_ (nx_ Mq) := by
            split
            · unfold nt_; rw [if_pos e0]
            · rfl
          rw [e]
        · exact hQ2
        · exact hER2
        · exact hQE2
      · rw [if_neg (by omega)]
        rcases hv8r with h9 | h9
        · rw [if_pos h9]
          have hfb3 : nX_ (nX_ Mx) 1 7 + 1 + 8 * (1201 - (a + 2)) ≤ 1000001000 - (gg_ : Int) := by omega
          have h71 : nX_ (nX_ Mx) 71 (a + 1) = Mx 71 (a + 1) := by rw [nX_ne (by decide), nX_ne (by decide)]
          have hnt := ER_nt (k := 4) (t := a + 1) (p := Mx 71 (a + 1)) hER2 hb (by decide) h71 hpl hfb3
          refine x_116 (by omega) (by omega) (by rw [h7]; exact (ER_fl hER).1) (by rw [h7]; exact (ER_fl hER).2) ?_
          have ef : (if v8 < 0 then nt_ (nx_ (nx_ Mq)) 4 (Mx 71 (a + 1)) else nx_ (nx_ Mq)) = nt_ (nx_ (nx_ Mq)) 4 (Mx 71 (a + 1)) := if_pos (by omega)
          refine puts2 _ (by rw [nt1_1 (by decide) (by decide) (by decide)]; exact h12m) (by rw [nt1_r (by decide)]; exact hst0) (fin _ (nt_ (nx_ (nx_ Mq)) 4 (Mx 71 (a + 1))) 1 _ ef.symm (by rw [if_pos ⟨by omega, by omega⟩]) rfl (XF_tr hX2 nt1_XF) (QF_tr hQ2 nt_QF) hnt.1 (by rw [nt1_r (by decide)]; exact hst0) (XE_c (by rw [nt1_r (by decide)]) (nt1_r (by decide)) hXE2) (fun _ h => absurd h (by decide)) (fun _ _ => ⟨by rw [nt1_7, h7], hnt.2⟩) (fun h => by omega) (nt_QE hQE2))
        · rw [if_neg (by omega)]
          have ef : (if v8 < 0 then nt_ (nx_ (nx_ Mq)) 4 (Mx 71 (a + 1)) else nx_ (nx_ Mq)) = nx_ (nx_ Mq) := if_neg (by omega)
          refine puts2 _ h12m hst0 (fin _ (nx_ (nx_ Mq)) 0 _ ef.symm (by rw [if_neg (by omega)]) rfl hX2 hQ2 hER2 hst0 hXE2 (fun _ _ => ⟨h7, ?_⟩) (fun _ h => absurd h (by decide)) (fun h => by omega) hQE2)
          unfold fqq_; rw [nx_6 (by decide), nx_6 (by decide), nx_6 (by decide), nx_6 (by decide)]
    · -- no name
      rw [e70] at hn
      rw [h31]
      have hb : b = 0 := by
        rcases hb01 with h | h
        · exact h
        · exact absurd (by unfold tS; rw [if_neg hn]) (hS h)
      refine hQ hb _ (XW_i (v := 1) hgo (XF_tr hX1 fl_XF) fun K Qt q => ?_)
      refine q_272a (d := dq + 6) hin hER.2.2.1 hKQ ?_
      refine q_230g hgo (by rw [hER.2.2.1]; exact ha.1) (by rw [hER.2.2.1]; exact h12) ?_
      have hok1 := nx_ok (ER_ok hER hb)
      refine q_282w (a := a + 1) hER1.2.2.1 ⟨by rw [hER1.2.2.1]; omega, by rw [hER1.2.2.1]; omega⟩ hok1 (by unfold KQ at hKQ1; omega) ?_
      have e150 : nx_ Mq 150 (a + 1) = Mx 71 (a + 1) := by rw [nx_ne (by decide)]; exact h150 _ g1
      refine tail _ _ _ (bf_sp hok1.2 (by decide)) (by rw [bf_6 (by decide) (by decide), nx_6 (by decide)]) (q _ ?_ ?_ ?_ ?_ (QF_tr hQ1 (QF_tr bf_QF pu_QF)))
      · unfold sp_; rw [pu_6 (by decide), pu_6 (by decide)]; exact bf_sp hok1.2 (by decide)
      · unfold in9_; rw [pu_6 (by decide), bf_6 (by decide) (by decide), hER1.2.2.1]; omega
      · rw [pu_6 (by decide), bf_13, fl_4]
      · exact ⟨by rw [pu_6 (by decide), bf_14, fl_5, e150, nX_ne (by decide)], fl_b7 hER1⟩
    · -- no room for the name
      rw [e70] at hn
      rw [h31] at h12b ⊢
      have hb : b = 0 := by
        rcases hb01 with h | h
        · exact h
        · exact absurd (by unfold tS gS; rw [if_pos hn, if_neg (by omega)]) (hS h)
      refine hQ hb _ (XW_i (v := 1) hgo (XF_tr hX1 fl_XF) fun K Qt q => ?_)
      refine q_272a (d := dq + 6) hin hER.2.2.1 hKQ ?_
      refine q_230g hgo (by rw [hER.2.2.1]; exact ha.1) (by rw [hER.2.2.1]; exact h12) ?_
      have hok1 := nx_ok (ER_ok hER hb)
      have t1 : nx_ Mq 149 (a + 1) = 1 := by rw [hn] at hKQ1; unfold KQ at hKQ1; omega
      refine q_282r (by rw [hER1.2.2.1]; exact h12b) hok1 (by rw [← h12b]; exact t1) ?_
      have e150 : nx_ Mq 150 1200 = Mx 71 (a + 1) := by rw [nx_ne (by decide), ← h12b]; exact h150 _ g1
      refine tail _ _ _ (bf_sp hok1.2 (by decide)) (by rw [bf_6 (by decide) (by decide), nx_6 (by decide)]) (q _ ?_ ?_ ?_ ?_ (QF_tr hQ1 (QF_tr bf_QF pu_QF)))
      · unfold sp_; rw [pu_6 (by decide), pu_6 (by decide)]; exact bf_sp hok1.2 (by decide)
      · unfold in9_; rw [pu_6 (by decide), bf_6 (by decide) (by decide), hER1.2.2.1]; omega
      · rw [pu_6 (by decide), bf_13, fl_4]
      · exact ⟨by rw [pu_6 (by decide), bf_14, fl_5, e150, nX_ne (by decide)], fl_b7 hER1⟩
  · -- no room for active
    rw [h3] at h12 ⊢
    have hb : b = 0 := by
      rcases hb01 with h | h
      · exact h
      · exact absurd (by unfold gS; rw [if_neg (by omega)]; rfl) (hS h)
    have hok := ER_ok hER hb
    refine hQ hb _ (XW_i (v := 1) hgo fl_XF fun K Qt q => ?_)
    refine q_272a (d := dq + 6) hin hER.2.2.1 hKQ ?_
    refine q_230r hok (by rw [hER.2.2.1]; exact h12) ?_
    have hsp : sp_ (bf_ Mq 2 (Mq 150 (Mq 6 12))) := bf_sp hok.2 (by decide)
    refine q_282s hsp ?_
    refine q_277 (by rw [bf_6 (by decide) (by decide), hQE.2.2.2.2.2.2.1]; omega) (by rw [bf_6 (by decide) (by decide), hQE.2.2.2.2.2.2.1]; omega) ?_
    have hsp2 : sp_ (pu_ (bf_ Mq 2 (Mq 150 (Mq 6 12))) 10 (-1)) := by unfold sp_; rw [pu_6 (by decide), pu_6 (by decide)]; exact hsp
    refine q_227s hsp2 ?_
    rw [if_neg (by decide)]
    refine q _ hsp2 ?_ ?_ ?_ (QF_tr bf_QF pu_QF)
    · unfold in9_; rw [pu_6 (by decide), bf_6 (by decide) (by decide), hER.2.2.1]; omega
    · rw [pu_6 (by decide), bf_13, fl_4]
    · exact ⟨by rw [pu_6 (by decide), bf_14, fl_5, hER.2.2.1]; exact h150 _ hER.1, fl_b7 hER⟩
end AC
end T84_er
section T85_er
/-! Q closes a bracket -/
section CB
variable {dq d : Nat} {M Ms : mm_} {a t o : Int} {x : Int × Int × Int} {c' : Int} {sg : List (Int × Int)} {ws : List (Int × Int × Int)} {cm : List Int} {f : Int} {fm : List (Int × Int)} {K : Int → mm_ → Prop} {Kv : mm_ → Prop} {Qr : qr_} {Qt : qt_} {V : vv_}
/-- behind a closing bracket -/
def cl5_ (Ms : mm_) (o : Int) : mm_ := up_ (up_ (up_ (nx_ (up_ Ms 6 112 (Ms 6 112 - 1))) 6 15 (o - 1)) 6 118 (Ms 6 118 - 1)) 6 116 (Ms 6 116 - 1)
theorem cl5_QE [Inhabited gh_] {z : Int × Int} (h : QE Ms (z :: sg) (x :: ws) (c' :: cm) f fm) : QE (cl5_ Ms o) sg ws cm f fm := by
  unfold cl5_
  have h1 := QE_sc (i := 15) (v := o - 1) (nx_QE (pS_QE h)) (by decide) (by decide) (by decide) (by decide)
  have h2 := pC_QE h1
  have e1 : up_ (nx_ (up_ Ms 6 112 (Ms 6 112 - 1))) 6 15 (o - 1) 6 118 = Ms 6 118 := by rw [up_off (by decide), nx_6 (by decide), up_off (by decide)]
  rw [e1] at h2
  have h3 := pW_QE h2
  have e2 : up_ (up_ (nx_ (up_ Ms 6 112 (Ms 6 112 - 1))) 6 15 (o - 1)) 6 118 (Ms 6 118 - 1) 6 116 = Ms 6 116 := by rw [up_off (by decide), up_off (by decide), nx_6 (by decide), up_off (by decide)]
  rw [e2] at h3
  exact h3
theorem cl5_6 [Inhabited gh_] {i : Int} (h1 : i ≠ 12) (h2 : i ≠ 15) (h3 : i ≠ 112) (h4 : i ≠ 116) (h5 : i ≠ 118) : cl5_ Ms o 6 i = Ms 6 i := by unfold cl5_; rw [up_off h4, up_off h5, up_off h2, nx_6 h1, up_off h3]
theorem cl5_12 [Inhabited gh_] : cl5_ Ms o 6 12 = Ms 6 12 + 1 := by unfold cl5_; rw [up_off (by decide), up_off (by decide), up_off (by decide), nx_12, up_off (by decide)]
theorem cl5_15 [Inhabited gh_] : cl5_ Ms o 6 15 = o - 1 := by unfold cl5_; rw [up_off (by decide), up_off (by decide), up_at]
theorem cl5_r [Inhabited gh_] {r : Nat} (h : r ≠ 6) : cl5_ Ms o r = Ms r := by unfold cl5_; rw [up_ne h, up_ne h, up_ne h, nx_ne h, up_ne h]
theorem cl5_QF [Inhabited gh_] : QF Ms (cl5_ Ms o) := ⟨fun r h => cl5_r fun e => h (by rw [e]; decide), fun i h1 _ _ h2 _ h3 h4 h5 => cl5_6 h1 h2 h3 h4 h5⟩
/-- closing: up to what the bracket was -/
theorem q_285 [Inhabited gh_] {w : Int} (hr : Red (d + 3) 1 M Ms) (hE : QE Ms ((w, t) :: sg) (x :: ws) (c' :: cm) f fm) (hw : w = 1 ∨ w = 2) (hs : (sg.length : Int) < 1239) (hwl : (ws.length : Int) < 1202) (hcm : (cm.length : Int) < 39) (ha : Ms 6 12 = a) (h0 : 0 ≤ a) (h12 : a < 1200) (hg : go_ Ms) (hk : KQ (if w = 1 then 241 else 293) (Ms 149 a) (Ms 151 a)) (ho : Ms 6 15 = o) (ho0 : 0 < o) (ho1 : o ≤ 12) (ht0 : 0 ≤ t) (ht1 : t < 1202)
    (h1 : w = 1 → (x.2.2 = 0 ∨ x.2.2 = 1) ∧ Tr_ wd0 pg0 (d + 4) 278 [.inr (.inr 6), .inl x.1, .inl (Ms 150 t), .inl x.2.2] (cl5_ Ms o) (rv_ Kv) Qt)
    (h2 : w = 2 → ∀ V : vv_, Cl_ wd0 (Tr_ wd0 pg0 (d + 4)) V (rv_ Kv) Qt m_285 → Wk_ V → V 143 [rr 6, ii 2, ii t, ii (ws.length : Int), ii (if x.2.2 = 0 then ab_ x 1 else 1), none] [] (if x.2.2 = 0 then aM_ (cl5_ Ms o) x 1 else cl5_ Ms o)) :
    Tr_ wd0 pg0 (d + 5) 285 [.inr (.inr 6)] M (rv_ Kv) Qt := t_285 fun V hV hW => b_285_0 (Tr_mono _) hV hW M (by
  have htl : tl_ ((w, t) :: sg) < 1 := by
    show lo9_ w < 1
    rcases hw with h | h <;> (rw [h]; decide)
  refine q_286 (lev := 1) hr (by decide) (by decide) hE (by simp only [List.length_cons]; push_cast; omega) (.inr ⟨htl, by decide⟩) ?_
  have e112 : Ms 6 112 = (sg.length : Int) + 1 := by rw [hE.1]; simp only [List.length_cons]; push_cast; omega
  have e229 : Ms 229 (sg.length : Int) = w := hE.2.1.1
  have e230 : Ms 230 (sg.length : Int) = t := hE.2.1.2.1
  have em : Ms 6 112 - 1 = (sg.length : Int) := by omega
  have w1 : w32 (Ms 6 112 - 1) = Ms 6 112 - 1 := w32_id (by omega) (by omega)
  rw [w1, em, e229, e230]
  refine ⟨by omega, by omega, ?_⟩
  have hE1 : QE (up_ Ms 6 112 (sg.length : Int)) sg (x :: ws) (c' :: cm) f fm := by rw [← em]; exact pS_QE hE
  have s12 : up_ Ms 6 112 (sg.length : Int) 6 12 = a := by rw [up_off (by decide)]; exact ha
  have s15 : up_ Ms 6 112 (sg.length : Int) 6 15 = o := by rw [up_off (by decide)]; exact ho
  have sgo : go_ (up_ Ms 6 112 (sg.length : Int)) := by unfold go_; rw [up_off (by decide), up_off (by decide)]; exact hg
  have s149 : up_ Ms 6 112 (sg.length : Int) 149 = Ms 149 := up_ne (by decide)
  have s151 : up_ Ms 6 112 (sg.length : Int) 151 = Ms 151 := up_ne (by decide)
  -- behind the sign
  generalize hM3 : up_ (nx_ (up_ Ms 6 112 (sg.length : Int))) 6 15 (o - 1) = M3
  have h3go : go_ M3 := by rw [← hM3]; unfold go_; rw [up_off (by decide), up_off (by decide), nx_6 (by decide), nx_6 (by decide)]; exact sgo
  have h3r : ∀ r : Nat, r ≠ 6 → M3 r = Ms r := fun r h => by rw [← hM3, up_ne h, nx_ne h, up_ne h]
  have h3i : ∀ i : Int, i ≠ 12 → i ≠ 15 → i ≠ 112 → M3 6 i = Ms 6 i := fun i x y z => by rw [← hM3, up_off y, nx_6 x, up_off z]
  have e116 : M3 6 116 = (ws.length : Int) + 1 := by rw [h3i 116 (by decide) (by decide) (by decide), hE.2.2.1]; simp only [List.length_cons]; push_cast; omega
  have e118 : M3 6 118 = (cm.length : Int) := by rw [h3i 118 (by decide) (by decide) (by decide)]; have := hE.2.2.2.2.1; simp only [List.length_cons] at this; push_cast at this; omega
  have ecl : up_ (up_ M3 6 118 (M3 6 118 - 1)) 6 116 (M3 6 116 - 1) = cl5_ Ms o := by
    rw [h3i 118 (by decide) (by decide) (by decide), h3i 116 (by decide) (by decide) (by decide), ← hM3, ← em]; rfl
  have ex1 : M3 231 (ws.length : Int) = x.1 := by rw [h3r 231 (by decide)]; exact hE.2.2.2.1.1
  have ex2 : M3 232 (ws.length : Int) = x.2.1 := by rw [h3r 232 (by decide)]; exact hE.2.2.2.1.2.1
  have ex3 : M3 233 (ws.length : Int) = x.2.2 := by rw [h3r 233 (by decide)]; exact hE.2.2.2.1.2.2.1
  have v1 : w32 (M3 6 116 - 1) = M3 6 116 - 1 := w32_id (by omega) (by omega)
  have v2 : w32 (M3 6 118 - 1) = M3 6 118 - 1 := w32_id (by omega) (by omega)
  have v3 : M3 6 116 - 1 = (ws.length : Int) := by omega
  have at55 : V 55 [rr 6, ii w, ii t, none, none, none] [] M3 := by
    refine b_285_55 (Tr_mono _) hV hW _ _ M3 ?_
    refine q_227g h3go ?_
    rw [if_pos rfl, v1, v2, ecl]
    have i1 : M3 231 (M3 6 116 - 1) = x.1 := by rw [v3]; exact ex1
    have i3 : M3 233 (M3 6 116 - 1) = x.2.2 := by rw [v3]; exact ex3
    rw [i1, i3, h3r 150 (by decide)]
    by_cases c1 : w = 1
    · rw [if_pos c1]
      refine ⟨by omega, by omega, by omega, fun _ => ?_⟩
      exact Tr_m (h1 c1).2 (fun vs N hq => ⟨hq.1, rfl, hq.2⟩) (fun _ _ q => q)
    · have c2 : w = 2 := hw.resolve_left c1
      rw [if_neg c1, v3]
      refine ⟨by omega, fun _ => ?_⟩
      have h2' := h2 c2 V hV hW
      rw [c2]
      by_cases c3 : x.2.2 = 0
      · rw [if_pos c3]
        rw [if_pos c3, if_pos c3] at h2'
        refine q_280 (x := x) (by omega) (by omega) (by rw [cl5_r (by decide)]; exact hE.2.2.2.1.1) (by rw [cl5_r (by decide)]; exact hE.2.2.2.1.2.1) (by rw [cl5_r (by decide)]; exact hE.2.2.2.1.2.2.1) ?_
        by_cases c4 : ab_ x 1 = 0
        · rw [if_pos c4]; rw [c4] at h2'; exact h2'
        · rw [if_neg c4]
          have : ab_ x 1 = 1 := by unfold ab_ at c4 ⊢; split; rfl; rename_i h9; rw [if_neg h9] at c4; exact absurd rfl c4
          rw [this] at h2'; exact h2'
      · rw [if_neg c3]
        rw [if_neg c3, if_neg c3] at h2'
        exact h2'
  unfold KQ at hk
  by_cases c1 : w = 1
  · rw [if_pos c1]
    rw [if_pos c1] at hk
    refine q_243g sgo (by rw [s12]; exact h0) (by rw [s12]; exact h12) (by rw [s149, s12]; omega) (by rw [s151, s12]; omega) (by rw [s15]; exact ho0) (by rw [s15]; omega) ?_
    rw [s15, hM3]; exact at55
  · rw [if_neg c1]
    rw [if_neg c1] at hk
    refine q_243g sgo (by rw [s12]; exact h0) (by rw [s12]; exact h12) (by rw [s149, s12]; omega) (by rw [s151, s12]; omega) (by rw [s15]; exact ho0) (by rw [s15]; omega) ?_
    rw [s15, hM3]; exact at55)
/-- closing, where there is no room -/
theorem q_285r [Inhabited gh_] {w : Int} (hr : Red (d + 3) 1 M Ms) (hE : QE Ms ((w, t) :: sg) (x :: ws) (c' :: cm) f fm) (hw : w = 1 ∨ w = 2) (hs : (sg.length : Int) < 1239) (ha : Ms 6 12 = 1200) (hg : ok_ Ms) (hk : KQ (if w = 1 then 241 else 293) (Ms 149 1200) (Ms 151 1200))
    (h : ∀ M', sp_ M' → in9_ M' → M' 6 13 = 2 → M' 6 14 = Ms 150 1200 → QF Ms M' → Kv M') : Tr_ wd0 pg0 (d + 5) 285 [.inr (.inr 6)] M (rv_ Kv) Qt := t_285 fun V hV hW => b_285_0 (Tr_mono _) hV hW M (by
  have htl : tl_ ((w, t) :: sg) < 1 := by
    show lo9_ w < 1
    rcases hw with h | h <;> (rw [h]; decide)
  refine q_286 (lev := 1) hr (by decide) (by decide) hE (by simp only [List.length_cons]; push_cast; omega) (.inr ⟨htl, by decide⟩) ?_
  have e112 : Ms 6 112 = (sg.length : Int) + 1 := by rw [hE.1]; simp only [List.length_cons]; push_cast; omega
  have e229 : Ms 229 (sg.length : Int) = w := hE.2.1.1
  have em : Ms 6 112 - 1 = (sg.length : Int) := by omega
  have w1 : w32 (Ms 6 112 - 1) = Ms 6 112 - 1 := w32_id (by omega) (by omega)
  rw [w1, em, e229]
  refine ⟨by omega, by omega, ?_⟩
  have s12 : up_ Ms 6 112 (sg.length : Int) 6 12 = 1200 := by rw [up_off (by decide)]; exact ha
  have sok : ok_ (up_ Ms 6 112 (sg.length : Int)) := by unfold ok_; rw [up_off (by decide), up_off (by decide)]; exact hg
  have s149 : up_ Ms 6 112 (sg.length : Int) 149 = Ms 149 := up_ne (by decide)
  have s151 : up_ Ms 6 112 (sg.length : Int) 151 = Ms 151 := up_ne (by decide)
  have s150 : up_ Ms 6 112 (sg.length : Int) 150 = Ms 150 := up_ne (by decide)
  have at55 : ∀ w t : Int, V 55 [rr 6, ii w, ii t, none, none, none] [] (bf_ (up_ Ms 6 112 (sg.length : Int)) 2 (Ms 150 1200)) := by
    intro w t
    have hsp : sp_ (bf_ (up_ Ms 6 112 (sg.length : Int)) 2 (Ms 150 1200)) := bf_sp sok.2 (by decide)
    refine b_285_55 (Tr_mono _) hV hW _ _ _ ?_
    refine q_227s hsp ?_
    rw [if_neg (by decide)]
    refine rv_i (h _ hsp ?_ bf_13 bf_14 (QF_tr ⟨Fr_up Fr_rf (by decide), fun i _ _ _ _ _ h _ _ => by rw [up_off h]⟩ bf_QF))
    unfold in9_; rw [bf_6 (by decide) (by decide), s12]; omega
  unfold KQ at hk
  by_cases c1 : w = 1
  · rw [if_pos c1]
    rw [if_pos c1] at hk
    refine q_243r sok s12 (by rw [s149, s12]; omega) (by rw [s151, s12]; omega) ?_
    rw [s12, s150]; exact at55 _ _
  · rw [if_neg c1]
    rw [if_neg c1] at hk
    refine q_243r sok s12 (by rw [s149, s12]; omega) (by rw [s151, s12]; omega) ?_
    rw [s12, s150]; exact at55 _ _)
end CB
end T85_er
section T86_er
/-! first: an e in brackets -/
section PA
variable {dq D n : Nat} {b F : Int} {Mx Mq Mx' Mq' M : mm_} {a o : Int} {sg : List (Int × Int)} {ws : List (Int × Int × Int)} {c : Int} {cm : List Int} {f : Int} {fm : List (Int × Int)} {cc : Int} {cd : List Int} {K : Int → mm_ → Prop} {Kv : mm_ → Prop} {Qr : qr_} {Qt : qt_} {V : vv_}
/-- a bracket is opened by both -/
theorem PR_open [Inhabited gh_] {w t : Int} (hR : PR b F Mx Mq a o sg ws c cm f fm cc cd) (ho : o < 12) (h12 : a < 1200) (hk : Mx 70 a ≠ 102 ∧ Mx 70 a ≠ 103) (hw : w = 1 ∨ w = 2) (ht0 : 0 ≤ t) (ht1 : t < 1202) :
    PR b F (nX_ (up_ Mx 1 6 (o + 1))) (br_ (ho_ (nx_ (up_ Mq 6 15 (o + 1))) w t)) (a + 1) (o + 1) ((w, t) :: sg) ws 0 (c :: cm) f fm cc cd ∧ XF Mx (nX_ (up_ Mx 1 6 (o + 1))) ∧ QF Mq (br_ (ho_ (nx_ (up_ Mq 6 15 (o + 1))) w t)) ∧ nP_ ((w, t) :: sg) ∧ tl_ ((w, t) :: sg) < 1 ∧ fqq_ (br_ (ho_ (nx_ (up_ Mq 6 15 (o + 1))) w t)) = fqq_ Mq := by
  obtain ⟨hT, hVT, hER, hQE, hXE, hL⟩ := hR
  have ho0 := hER.2.2.2.2.2.1
  have hE1 := ER_o hER (o' := o + 1) ⟨by omega, by omega⟩
  have hE2 := (ER_go hE1 h12 (by rw [up_ne (by decide)]; exact hk)).1
  have hX : XF Mx (nX_ (up_ Mx 1 6 (o + 1))) := XF_tr oX_XF nX_XF
  have b6 : ∀ (M : mm_) (i : Int), i ≠ 118 → br_ M 6 i = M 6 i := fun M i h => by unfold br_; rw [up_ne (by decide), up_off h]
  have bQ : ∀ M : mm_, QF M (br_ M) := fun M => ⟨by unfold br_; exact Fr_up (Fr_up Fr_rf (by decide)) (by decide), fun i _ _ _ _ _ _ _ h => b6 M i h⟩
  have hQ : QF Mq (br_ (ho_ (nx_ (up_ Mq 6 15 (o + 1))) w t)) := QF_tr oq_QF (QF_tr nx_QF (QF_tr ho_QF (bQ _)))
  have hlow : lo9_ w = 0 := by rcases hw with h | h <;> (rw [h]; decide)
  obtain ⟨l1, l2, l3, l4, l5, l6, l7, l8, l9⟩ := hL
  refine ⟨⟨Tks_c hX hQ hT, VT_c hX hQ hVT, ER_Q hE2 ?_ ?_ ?_ ?_ ?_, br_QE (ho_QE (nx_QE (QE_sc hQE (by decide) (by decide) (by decide) (by decide)))), XE_c (by rw [nX_ne (by decide), up_ne (by decide)]) (by rw [nX_ne (by decide), up_ne (by decide)]) hXE, ?_, l2, .inl rfl, ?_, ?_, ?_, ?_, l8, ?_⟩, hX, hQ, ?_, ?_, ?_⟩
  all_goals try (rw [b6 _ _ (by decide), ho_6 (by decide)])
  · intro x hx
    rcases List.mem_cons.mp hx with h | h
    · rw [h]; exact ⟨ht0, ht1⟩
    · exact l1 x h
  · show cm.length + 1 = (if w = 1 ∨ w = 2 then 1 else 0) + nb_ sg
    rw [if_pos hw, l4]; omega
  · simp only [List.length_cons]; push_cast; omega
  · simp only [List.length_cons]; push_cast; omega
  · omega
  · simp only [List.length_cons]; push_cast; omega
  · refine ⟨?_, ?_⟩
    · show w ≠ 13; omega
    · show w ≠ 14; omega
  · show lo9_ w < 1; rw [hlow]; decide
  · unfold fqq_
    rw [b6 _ _ (by decide), b6 _ _ (by decide), ho_6 (by decide), ho_6 (by decide), nx_6 (by decide), nx_6 (by decide), up_off (by decide), up_off (by decide)]
/-- X: no closing bracket where one must be: Q stops too -/
theorem XW_close [Inhabited gh_] {nd w t a1 s1 t1 bd1 c' : Int} {Mx2 Mq2 Mx1 Mq1 Ms : mm_} {y1 : List Int} {l1 : List (Int × Int)} (hb : b = 0) (hw : w = 1 ∨ w = 2) (hPR : PR b F Mx2 Mq2 a (o + 1) ((w, t) :: sg) ws 0 (c :: cm) f fm cc cd) (hX : XF Mx Mx2) (hQ : QF Mq Mq2) (hr : Rq dq 0 Mq 0 Mq2)
    (hP : EP nd b F Mx2 Mq2 Mx1 Ms a a1 (o + 1) ((w, t) :: sg) ws c' (c :: cm) f fm cc cd y1 s1 t1 bd1 l1) (hB : QB dq 1 b Mq2 Mq1 Ms a1 ((w, t) :: sg) c' (c :: cm) f) (hNX : NX 1 (Mx2 70 a1) 0 c') (hk : Mx2 70 a1 ≠ (if w = 1 then 241 else 293)) : XW dq 0 Mx Mq (flX_ Mx1 1 a1) := by
  obtain ⟨hBr, hR, pend, wsP, fmP, hE, hpe, hlen, h12', h16, h13, hQF⟩ := hB
  have hER := hP.2.2.2.1
  have ha := ER_a hER
  have hT2 := hPR.1
  have hL := hPR.2.2.2.2.2
  have hga : gd_ Mx2 a1 := gd_c (XF_70 hP.2.1 (r := 70) (by decide) (by decide) (by decide)).symm hER.1
  have hKQ : KQ (Mx2 70 a1) (Mq1 149 a1) (Mq1 151 a1) := KQ_at hT2 hP.2.1 hQF hER.1
  have hnp := nb_pend pend ((w, t) :: sg) hpe
  have e118 : Mq1 6 118 = (cm.length : Int) + 1 := by have := hE.2.2.2.2.1; simp only [List.length_cons] at this; push_cast at this; omega
  have e234 : Mq1 234 (Mq1 6 118) = c' := by
    have := hE.2.2.2.2.2.1.1
    simp only [List.length_cons] at this
    rw [e118]; exact_mod_cast this
  have hcb : cb_ ((w, t) :: sg) = (if w = 1 then 241 else 293) := by
    show (if w = 1 then 241 else if w = 2 then 293 else cb_ sg) = _
    rcases hw with h | h
    · rw [if_pos h, if_pos h]
    · rw [if_neg (by omega), if_pos h, if_neg (by omega)]
  have hg1 : go_ Mq1 := .inl (by rw [h13 hb]; omega)
  have hcl : (cm.length : Int) + 1 ≤ 12 := by have := hL.2.2.2.2.1; simp only [List.length_cons] at this; push_cast at this; have := hER.2.2.2.2.2.1.2; omega
  have hin : in9_ Mq1 := by unfold in9_; rw [h12']; omega
  refine ⟨XF_tr hX (XF_tr hP.2.1 fl_XF), fun V Qr Qt hV hW q => hr V Qr Qt hV hW (hBr V Qr Qt hV hW ?_)⟩
  have hl1 := hL.2.2.2.1
  simp only [List.length_cons] at hl1
  refine l_271_26n (k := Mx2 70 a1) (a := a1) hV hW hE (by omega) (by simp only [List.length_cons]; rw [hnp.1]; omega) hg1 h12' ha.1 (by omega) hKQ (by rw [hnp.2, hcb]; exact hk) ?_
  refine l_271_90e (k := Mx2 70 a1) (a := a1) hV hW hin h12' hKQ ?_ (fun h => absurd h (by omega)) (fun _ => ⟨h13 hb, ?_⟩)
  · by_cases h1 : 1 ≤ lv_ (Mx2 70 a1)
    · have := hNX.1 h1
      exact .inr ⟨this.1, by omega, by omega, by rw [e234, this.2.2]; decide⟩
    · left; have := (lv_r (k := Mx2 70 a1)).1; omega
  · have hsp : sp_ (bf_ Mq1 1 (Mq1 150 a1)) := bf_sp (by rw [h16]; exact hb) (by decide)
    refine l_271_st hV hW hsp (q _ 1 0 hsp ?_ ?_ ?_ (QF_tr hQ (QF_tr hQF bf_QF)))
    · unfold in9_; rw [bf_6 (by decide) (by decide)]; exact hin
    · rw [bf_13, fl_4]
    · refine ⟨?_, fl_b7 hER⟩
      rw [bf_14, fl_5, XF_70 hP.2.1 (r := 71) (by decide) (by decide) (by decide)]; exact pl_at hT2 hQF hga
/-- X: no room for a closing bracket: nor for Q -/
theorem XW_closer [Inhabited gh_] {nd w t a1 s1 t1 bd1 c' : Int} {Mx2 Mq2 Mx1 Mq1 Ms : mm_} {y1 : List Int} {l1 : List (Int × Int)} (hb : b = 0) (hw : w = 1 ∨ w = 2) (hPR : PR b F Mx2 Mq2 a (o + 1) ((w, t) :: sg) ws 0 (c :: cm) f fm cc cd) (hX : XF Mx Mx2) (hQ : QF Mq Mq2) (hr : Rq dq 0 Mq 0 Mq2)
    (hP : EP nd b F Mx2 Mq2 Mx1 Ms a a1 (o + 1) ((w, t) :: sg) ws c' (c :: cm) f fm cc cd y1 s1 t1 bd1 l1) (hB : QB dq 1 b Mq2 Mq1 Ms a1 ((w, t) :: sg) c' (c :: cm) f) (ha1 : a1 = 1200) (hk : Mx2 70 a1 = (if w = 1 then 241 else 293)) : XW dq 0 Mx Mq (flX_ Mx1 2 a1) := by
  obtain ⟨hBr, hR, pend, wsP, fmP, hE, hpe, hlen, h12', h16, h13, hQF⟩ := hB
  have hER := hP.2.2.2.1
  have ha := ER_a hER
  have hT2 := hPR.1
  have hL := hPR.2.2.2.2.2
  have hga : gd_ Mx2 a1 := gd_c (XF_70 hP.2.1 (r := 70) (by decide) (by decide) (by decide)).symm hER.1
  have hKQ : KQ (if w = 1 then 241 else 293) (Mq1 149 a1) (Mq1 151 a1) := by rw [← hk]; exact KQ_at hT2 hP.2.1 hQF hER.1
  have hKQs : KQ (if w = 1 then 241 else 293) (Ms 149 1200) (Ms 151 1200) := by rw [← hk, ← ha1]; exact KQ_at hT2 hP.2.1 hP.2.2.1 hER.1
  have hnp := nb_pend pend ((w, t) :: sg) hpe
  have hcb : cb_ ((w, t) :: sg) = (if w = 1 then 241 else 293) := by
    show (if w = 1 then 241 else if w = 2 then 293 else cb_ sg) = _
    rcases hw with h | h
    · rw [if_pos h, if_pos h]
    · rw [if_neg (by omega), if_pos h, if_neg (by omega)]
  have hg1 : go_ Mq1 := .inl (by rw [h13 hb]; omega)
  have hl1 := hL.2.2.2.1
  simp only [List.length_cons] at hl1
  have hsl : (sg.length : Int) < 1239 := by have := hL.2.2.2.2.2.1; simp only [List.length_cons] at this; push_cast at this; have := hP.1; omega
  refine ⟨XF_tr hX (XF_tr hP.2.1 fl_XF), fun V Qr Qt hV hW q => hr V Qr Qt hV hW (hBr V Qr Qt hV hW ?_)⟩
  refine l_271_26c (k := if w = 1 then 241 else 293) (a := a1) hV hW hE (by omega) (by simp only [List.length_cons]; rw [hnp.1]; omega) hg1 h12' ha.1 (by omega) hKQ (by split <;> decide) (by rw [hnp.2, hcb]) ?_
  refine q_285r (d := dq + 5) (w := w) (t := t) hR hP.2.2.2.2.1 hw hsl (by rw [hER.2.2.1]; exact ha1) ⟨hER.2.2.2.2.2.2.2.2.2.1 hb, by rw [hER.2.2.2.2.2.2.2.1]; exact hb⟩ hKQs fun M' h1 h2 h3 h4 h5 => ?_
  refine l_271_st hV hW h1 (q _ 1 1 h1 h2 ?_ ?_ (QF_tr hQ (QF_tr hP.2.2.1 h5)))
  · rw [h3, fl_4]
  · refine ⟨?_, fl_b7 hER⟩
    rw [h4, fl_5, XF_70 hP.2.1 (r := 71) (by decide) (by decide) (by decide), ← ha1]; exact pl_at hT2 hP.2.2.1 hga
/-- Q closes; what then comes -/
theorem Rq_close [Inhabited gh_] {nd w t a1 s1 t1 bd1 c' : Int} {Mx2 Mq2 Mx1 Mq1 Ms M' : mm_} {y1 : List Int} {l1 : List (Int × Int)} (hw : w = 1 ∨ w = 2) (hPR : PR b F Mx2 Mq2 a (o + 1) ((w, t) :: sg) ws 0 (c :: cm) f fm cc cd) (hr : Rq dq 0 Mq 0 Mq2)
    (hP : EP nd b F Mx2 Mq2 Mx1 Ms a a1 (o + 1) ((w, t) :: sg) ws c' (c :: cm) f fm cc cd y1 s1 t1 bd1 l1) (hB : QB dq 1 b Mq2 Mq1 Ms a1 ((w, t) :: sg) c' (c :: cm) f) (ha1 : a1 < 1200) (hk : Mx2 70 a1 = (if w = 1 then 241 else 293)) (ho : 0 ≤ o)
    (h1 : w = 1 → ∀ (Kv : mm_ → Prop) (Qt : qt_), Kv M' → Tr_ wd0 pg0 (dq + 9) 278 [.inr (.inr 6), .inl t1, .inl (Ms 150 t), .inl bd1] (cl5_ Ms (o + 1)) (rv_ Kv) Qt)
    (h2 : w = 2 → ∀ (Kv : mm_ → Prop) (Qt : qt_), Kv M' → ∀ V : vv_, Cl_ wd0 (Tr_ wd0 pg0 (dq + 9)) V (rv_ Kv) Qt m_285 → Wk_ V → V 143 [rr 6, ii 2, ii t, ii (ws.length : Int), ii (if bd1 = 0 then ab_ (t1, Mx2 71 a, bd1) 1 else 1), none] [] (if bd1 = 0 then aM_ (cl5_ Ms (o + 1)) (t1, Mx2 71 a, bd1) 1 else cl5_ Ms (o + 1))) : Rq dq 0 Mq 1 M' := by
  obtain ⟨hBr, hR, pend, wsP, fmP, hE, hpe, hlen, h12', h16, h13, hQF⟩ := hB
  have hER := hP.2.2.2.1
  have ha := ER_a hER
  have hT2 := hPR.1
  have hL := hPR.2.2.2.2.2
  have hKQ : KQ (if w = 1 then 241 else 293) (Mq1 149 a1) (Mq1 151 a1) := by rw [← hk]; exact KQ_at hT2 hP.2.1 hQF hER.1
  have hKQs : KQ (if w = 1 then 241 else 293) (Ms 149 a1) (Ms 151 a1) := by rw [← hk]; exact KQ_at hT2 hP.2.1 hP.2.2.1 hER.1
  have hnp := nb_pend pend ((w, t) :: sg) hpe
  have hcb : cb_ ((w, t) :: sg) = (if w = 1 then 241 else 293) := by
    show (if w = 1 then 241 else if w = 2 then 293 else cb_ sg) = _
    rcases hw with h | h
    · rw [if_pos h, if_pos h]
    · rw [if_neg (by omega), if_pos h, if_neg (by omega)]
  have hg1 : go_ Mq1 := by
    unfold go_; rw [h16]
    rcases hER.2.2.2.2.2.2.2.2.1 with h | h
    · left; rw [h13 h]; omega
    · right; omega
  have hl1 := hL.2.2.2.1
  simp only [List.length_cons] at hl1
  have hsl : (sg.length : Int) < 1239 := by have := hL.2.2.2.2.2.1; simp only [List.length_cons] at this; push_cast at this; have := hP.1; omega
  have hcl : (cm.length : Int) + 1 ≤ 12 := by have := hL.2.2.2.2.1; simp only [List.length_cons] at this; push_cast at this; have := hER.2.2.2.2.2.1.2; omega
  have htk := hL.1 (w, t) List.mem_cons_self
  intro V Qr Qt hV hW q
  refine hr V Qr Qt hV hW (hBr V Qr Qt hV hW ?_)
  refine l_271_26c (k := if w = 1 then 241 else 293) (a := a1) hV hW hE (by omega) (by simp only [List.length_cons]; rw [hnp.1]; omega) hg1 h12' ha.1 (by omega) hKQ (by split <;> decide) (by rw [hnp.2, hcb]) ?_
  exact q_285 (d := dq + 5) (w := w) (t := t) (x := (t1, Mx2 71 a, bd1)) hR hP.2.2.2.2.1 hw hsl (by have := hL.2.2.2.2.2.2.1; have := hP.1; omega) (by simp only [List.length_cons]; push_cast; omega) hER.2.2.1 ha.1 ha1 (ER_goq hER) hKQs hER.2.2.2.2.1 (by omega) hER.2.2.2.2.2.1.2 htk.1 htk.2 (fun hw1 => ⟨hP.2.2.2.2.2.1, h1 hw1 _ Qt q⟩) (fun hw2 V' hV' hW' => h2 hw2 _ Qt q V' hV' hW')
end PA
end T86_er
section T87_er
/-! first: an e in brackets, X's way -/
section PX
variable {dq D n : Nat} {b F : Int} {Mx Mq Mx' Mq' M : mm_} {a o : Int} {sg : List (Int × Int)} {ws : List (Int × Int × Int)} {c : Int} {cm : List Int} {f : Int} {fm : List (Int × Int)} {cc : Int} {cd : List Int} {K : Int → mm_ → Prop} {Kv : mm_ → Prop} {Qr : qr_} {Qt : qt_} {V : vv_}
theorem ER_b7 [Inhabited gh_] {b F : Int} {M N : mm_} {a o : Int} (hE : ER b F M N a o) : 0 ≤ M 1 7 ∧ M 1 7 ≤ 1000001000 - (gg_ : Int) := by have := fl_b7 (k := 0) (t := 0) hE; rw [fl_7] at this; exact this
/-- an e in brackets is one part -/
theorem EP_par [Inhabited gh_] {a1 s t1 bd1 c' : Int} {Mx2 Mq2 Mx1 Ms : mm_} {y : List Int} {l : List (Int × Int)} (hR : PR b F Mx Mq a o sg ws c cm f fm cc cd) (ho : 0 ≤ o ∧ o < 12) (hX2 : XF Mx Mx2) (hQ2 : QF Mq Mq2) (h7 : Mx2 1 7 = Mx 1 7) (hfq : fqq_ Mq2 = fqq_ Mq)
    (hP : EP (nE n t1) b F Mx2 Mq2 Mx1 Ms (a + 1) a1 (o + 1) ((1, a) :: sg) ws c' (c :: cm) f fm cc cd y s t1 bd1 l) (hs : b = 1 → bd1 = 1 → s = -1) (ha1 : a1 < 1200) (hk : Mx2 70 a1 = 241) :
    EP (nU (n + 1) t1) b F Mx Mq (up_ (nX_ Mx1) 1 6 o) (ad_ (cl5_ Ms (o + 1)) t1 (Mx 71 a) bd1) a (a1 + 1) o sg ws c cm f fm cc cd y s t1 bd1 l := by
  obtain ⟨u1, u2, u3, u4, u5, u6, u7, ⟨u8, u9, u10, u11⟩, ⟨u12, u13⟩, u14, u15⟩ := hP
  obtain ⟨hT, hVT, hER, hQE, hXE, hL⟩ := hR
  have hX : XF Mx Mx1 := XF_tr hX2 u2
  have hXX : XF Mx (up_ (nX_ Mx1) 1 6 o) := XF_tr hX (XF_tr nX_XF oX_XF)
  have hQQ : QF Mq (ad_ (cl5_ Ms (o + 1)) t1 (Mx 71 a) bd1) := QF_tr hQ2 (QF_tr u3 (QF_tr cl5_QF ad_QF))
  have e70 : Mx1 70 = Mx2 70 := XF_70 u2 (by decide) (by decide) (by decide)
  obtain ⟨g1, gst, gfb⟩ := ER_go u4 ha1 (by rw [e70, hk]; decide)
  have g2 := ER_o g1 (o' := o) ⟨ho.1, by omega⟩
  have m7 : up_ (nX_ Mx1) 1 6 o 1 7 = Mx1 1 7 := by rw [up_off (by decide), nX_1 (by decide)]
  have q13 : ad_ (cl5_ Ms (o + 1)) t1 (Mx 71 a) bd1 6 13 = Ms 6 13 := by rw [ad_6 (by decide), cl5_6 (by decide) (by decide) (by decide) (by decide) (by decide)]
  have q14 : ad_ (cl5_ Ms (o + 1)) t1 (Mx 71 a) bd1 6 14 = Ms 6 14 := by rw [ad_6 (by decide), cl5_6 (by decide) (by decide) (by decide) (by decide) (by decide)]
  have hE3 : ER b F (up_ (nX_ Mx1) 1 6 o) (ad_ (cl5_ Ms (o + 1)) t1 (Mx 71 a) bd1) (a1 + 1) o := by
    refine ER_Q g2 ?_ ?_ ?_ ?_ ?_
    · rw [ad_6 (by decide), cl5_12, up_off (by decide), nx_12]
    · rw [q13, up_off (by decide), nx_6 (by decide)]
    · rw [q14, up_off (by decide), nx_6 (by decide)]
    · rw [ad_6 (by decide), cl5_15, up_at]; omega
    · rw [ad_6 (by decide), cl5_6 (by decide) (by decide) (by decide) (by decide) (by decide), up_off (by decide), nx_6 (by decide)]
  have h71 : Mx2 71 = Mx 71 := XF_70 hX2 (by decide) (by decide) (by decide)
  have ga1 : gd_ Mx a1 := gd_c (XF_70 hX (r := 70) (by decide) (by decide) (by decide)).symm u4.1
  have ga2 : gd_ Mx (a1 + 1) := gd_c (XF_70 hXX (r := 70) (by decide) (by decide) (by decide)).symm hE3.1
  have hmono := (hT (a1 + 1) ga2).2.2.2.2.1 a1 ga1 (by omega)
  refine ⟨by omega, hXX, hQQ, hE3, ad_QE (cl5_QE u5), u6, by omega, ⟨XE_c (by rw [up_ne (by decide), nX_ne (by decide)]) (by rw [up_ne (by decide), nX_ne (by decide)]) u8, u9, fun h h' => by rw [u10 h h', er_c hQ2], by omega⟩, ⟨by rw [m7]; omega, by rw [m7]; omega⟩, fun h => ⟨fun h' => ?_, fun h' => ?_⟩, fun h h' st Dd hD => ?_⟩
  · have := (u14 h).1 h'
    refine ⟨this.1, this.2.1, this.2.2.1, by rw [m7, this.2.2.2.1]; exact h7, ?_⟩
    have e := this.2.2.2.2
    rw [hfq] at e
    rw [← e]; unfold fqq_; rw [q13, q14]
  · have := (u14 h).2 h'
    refine ⟨.inl (hs h h'), by rw [m7]; omega, ?_⟩
    rw [q13, q14]
    have h9 := this.2.2
    rw [h71] at h9
    omega
  · refine ty_c hQ2 l st _ (u15 h h' st Dd ?_)
    have : nE n t1 ≤ nU (n + 1) t1 := by unfold nE nU; split <;> (push_cast; omega)
    omega
theorem x_par [Inhabited gh_] (hE : ∀ n' : Nat, n = n' + 1 → SB 146 0 1 (nE n') (D + 4) dq (o + 1)) (ho : o = 12 - (n : Int)) (hR : PR b F Mx Mq a o sg ws c cm f fm cc cd) (hk : Mx 70 a = 240) (hES : ES (Mx 70) 6 o a = if o = 12 then none else (gS a).bind fun a1 => (ES (Mx 70) 0 (o + 1) a1).bind (tS (Mx 70) 241)) (hS : b = 1 → ES (Mx 70) 6 o a ≠ none) (hK : FK n dq 6 b F Mx Mq a o sg ws c cm f fm cc cd K) (hQ : b = 0 → ∀ Mx', XW dq 0 Mx Mq Mx' → Qt 8 Mx') :
    Tr_ wd0 pg0 (D + 4) 118 [.inr (.inr 1)] Mx (rv_ fun M3 => Tr_ wd0 pg0 (D + 4) 105 [.inr (.inr 1)] M3 (rv_ fun M4 => Tr_ wd0 pg0 (D + 4) 146 [.inr (.inr 1)] M4 (ri_ fun v3 M5 => Tr_ wd0 pg0 (D + 4) 121 [.inr (.inr 1), .inl 41] M5 (rv_ fun M6 => ri_ K [.inl v3] (up_ M6 1 6 (w32 ((M6 1 6) - 1)))) Qt) Qt) Qt) Qt := by
  have hR9 := hR
  obtain ⟨hT, hVT, hER, hQE, hXE, hL⟩ := hR9
  have h3 : Mx 1 3 = a := hER.2.1
  have ha := ER_a hER
  have hKQ := (hT a hER.1).1
  rw [hk] at hKQ
  have hgo := ER_goq hER
  have hb01 := hER.2.2.2.2.2.2.2.2.1
  have ho6 := hER.2.2.2.2.2.1
  have e112 : Mq 6 112 = sg.length := hQE.1
  have hsl := hL.2.2.2.2.2.1
  have e118 : Mq 6 118 = (cm.length : Int) := by have := hQE.2.2.2.2.1; simp only [List.length_cons] at this; push_cast at this; omega
  have hcl := hL.2.2.2.2.1
  have fail : ∀ Mx' : mm_, b = 0 → XF Mx Mx' → Mx' 1 4 = 2 → Mx' 1 5 = Mx 71 a → Mx' 1 7 = Mx 1 7 → (o = 12 ∨ a = 1200) → Qt 8 Mx' := by
    intro Mx' hb hx h4 h5 h7 hor
    refine hQ hb _ (XW_i (v := 0) hgo hx fun K Qt q => ?_)
    refine q_272rr (a := a) (o := o) hER.2.2.1 ha.1 ha.2 (ER_ok hER hb) hKQ hER.2.2.2.2.1 ho6.1 ho6.2 hor fun M' h1 h2 h3' h4' h5' => q M' h1 h2 (by rw [h3', h4]) ⟨by rw [h4', h5]; exact (hT a hER.1).2.1.symm, by rw [h7]; exact ER_b7 hER⟩ h5'
  have h8 : Mx 1 6 = o := hER.2.2.2.1
  refine x_118 (ER_iX hER) (by rw [h8]; exact ho6.1) (by rw [h8]; exact ho6.2) (fun ho1 => ?_) (fun ho1 => ?_)
  · rw [h8] at ho1 ⊢
    obtain ⟨n', hn'⟩ : ∃ n' : Nat, n = n' + 1 := ⟨n - 1, by omega⟩
    rw [if_neg (by omega)] at hES
    rw [hES] at hS
    have hi1 : iX_ (up_ Mx 1 6 (o + 1)) := by unfold iX_; rw [up_off (by decide), h3]; exact ha
    have e13 : up_ Mx 1 6 (o + 1) 1 3 = a := by rw [up_off (by decide)]; exact h3
    refine x_105 hi1 (fun h12 => ?_) (fun h12 => ?_)
    · rw [e13] at h12
      obtain ⟨p1, p2, p3, p4, p5, p6⟩ := PR_open (w := 1) (t := a) hR ho1 h12 (by rw [hk]; decide) (.inl rfl) ha.1 (by omega)
      have e70 : nX_ (up_ Mx 1 6 (o + 1)) 70 = Mx 70 := XF_70 p2 (by decide) (by decide) (by decide)
      have hr1 : Rq dq 0 Mq 0 (br_ (ho_ (nx_ (up_ Mq 6 15 (o + 1))) 1 a)) := Rq_272 hgo fun K Qt hk9 => q_272r (a := a) (o := o) hER.2.2.1 ha.1 h12 hgo hKQ hER.2.2.2.2.1 ho6.1 ho1 (by omega) (by omega) (by omega) (by omega) hk9
      have hSS : b = 1 → ES (Mx 70) 0 (o + 1) (a + 1) ≠ none := fun h => (gb_ne (hS h)).2
      refine hE n' hn' b F _ _ (a + 1) _ _ 0 (c :: cm) f fm cc cd _ _ p1 p4 p5 (fun _ => rfl) (fun h => by rw [e70]; exact hSS h) ?_ (fun h Mx' hw => hQ h Mx' (XW_tr p2 p3 hr1 hw))
      intro s Mx1 Mq1 Ms a1 c' y t1 bd1 l hP hs hB hS4 hc01 hNX
      rw [e70] at hS4
      have hERm := hP.2.2.2.1
      have em70 : Mx1 70 (Mx1 1 3) = Mx 70 a1 := by rw [EP_70 hP, e70]
      have hm3 : Mx1 1 3 = a1 := hERm.2.1
      have hES4 : ES (Mx 70) 6 o a = tS (Mx 70) 241 a1 := by rw [hES]; exact gb_eq h12 hS4
      refine x_121 (ER_iX hERm) (by decide) (by decide) (fun hkk h12b => ?_) (fun hkk => ?_) (fun hkk h12b => ?_)
      · rw [em70] at hkk
        replace hkk : Mx 70 a1 = 241 := hkk
        rw [hm3] at h12b
        have hkk' : nX_ (up_ Mx 1 6 (o + 1)) 70 a1 = 241 := by rw [e70]; exact hkk
        have hPP := EP_par hR ⟨ho6.1, ho1⟩ p2 p3 (by rw [nX_1 (by decide), up_off (by decide)]) p6 hP hs h12b hkk'
        have e6 : nX_ Mx1 1 6 = o + 1 := by rw [nX_1 (by decide)]; exact hERm.2.2.2.1
        have ew : w32 (nX_ Mx1 1 6 - 1) = o := by rw [e6, w32_id (by omega) (by omega)]; omega
        rw [ew]
        rw [hn'] at hK
        refine ri_i (hK s _ _ (a1 + 1) y t1 bd1 l hPP hs (fun M' hex => ?_) ?_)
        · refine Rq_close (w := 1) (t := a) (.inl rfl) p1 hr1 hP hB h12b (by rw [if_pos rfl]; exact hkk') ho6.1 (fun _ Kv Qt hk9 => ?_) (fun h => absurd h (by decide))
          have hpl : Ms 150 a = Mx 71 a := pl_at hT (QF_tr p3 hP.2.2.1) hER.1
          rw [hpl]
          have h116 : cl5_ Ms (o + 1) 6 116 = ws.length := (cl5_QE (o := o + 1) hP.2.2.2.2.1).2.2.1
          have hwl := hL.2.2.2.2.2.2.1
          exact q_278 (by rw [h116]; omega) (by rw [h116]; omega) hP.2.2.2.2.2.1 (Ex9_l hex (by omega) hk9)
        · rw [hES4]; unfold tS gS; rw [if_pos hkk, if_pos h12b]
      · rw [em70] at hkk
        replace hkk : Mx 70 a1 ≠ 241 := hkk
        rw [hm3]
        have hb : b = 0 := by
          rcases hb01 with h | h
          · exact h
          · have := hS h
            rw [← hES, hES4] at this
            exact absurd (by unfold tS; rw [if_neg hkk]) this
        exact hQ hb _ (XW_close (w := 1) (t := a) hb (.inl rfl) p1 p2 p3 hr1 hP hB hNX (by rw [if_pos rfl, e70]; exact hkk))
      · rw [em70] at hkk
        replace hkk : Mx 70 a1 = 241 := hkk
        rw [hm3] at h12b ⊢
        have hb : b = 0 := by
          rcases hb01 with h | h
          · exact h
          · have := hS h
            rw [← hES, hES4] at this
            exact absurd (by unfold tS gS; rw [if_pos hkk, if_neg (by omega)]) this
        exact hQ hb _ (XW_closer (w := 1) (t := a) hb (.inl rfl) p1 p2 p3 hr1 hP hB h12b (by rw [if_pos rfl, e70]; exact hkk))
    · rw [e13] at h12 ⊢
      have hb : b = 0 := by
        rcases hb01 with h | h
        · exact h
        · exact absurd (gb_ne (hS h)).1 (by omega)
      exact fail _ hb (XF_tr oX_XF fl_XF) fl_4 (by rw [fl_5, up_ne (by decide)]) (by rw [fl_7, up_off (by decide)]) (.inr h12)
  · rw [h8] at ho1
    rw [if_pos ho1] at hES
    have hb : b = 0 := by
      rcases hb01 with h | h
      · exact h
      · exact absurd hES (hS h)
    rw [h3]
    exact fail _ hb fl_XF fl_4 fl_5 fl_7 (.inl ho1)
end PX
end T87_er
