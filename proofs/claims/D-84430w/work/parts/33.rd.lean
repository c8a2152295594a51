/-! Q's small steps, each by the way that it goes -/
/-- stopped; going; going for the first time without a fault -/
def sp_ (M : mm_) : Prop := 0 < M 6 13 ∧ M 6 16 = 0
def go_ (M : mm_) : Prop := M 6 13 ≤ 0 ∨ M 6 16 ≠ 0
def ok_ (M : mm_) : Prop := M 6 13 = 0 ∧ M 6 16 = 0
def bf_ (M : mm_) (k p : Int) : mm_ := up_ (up_ M 6 13 k) 6 14 p
def nx_ (M : mm_) : mm_ := up_ M 6 12 (M 6 12 + 1)
def in9_ (M : mm_) : Prop := 0 ≤ M 6 12 ∧ M 6 12 < 1202
theorem ok_go {M : mm_} (h : ok_ M) : go_ M := .inl (by rw [h.1]; omega)
theorem cmp9 {x y : Int} : ((if x < y then (-1 : Int) else if x = y then 0 else 1) = 0) ↔ x = y := by
  split
  · lia
  · split <;> omega
section QH
variable {d : Nat} {M : mm_} {K : Int → mm_ → Prop} {Kv : mm_ → Prop} {Qt : qt_} {x k p : Int}
theorem q_227s (hs : sp_ M) (h : K 1 M) : Tr_ wd0 pg0 (d + 1) 227 [.inr (.inr 6)] M (ri_ K) Qt := t_227 fun V hV hW => b_227_0 (Tr_mono _) hV hW M (by
  rw [if_neg (by have := hs.1; omega)]
  intro _
  rw [if_pos hs.2]
  exact ⟨.inr rfl, ri_i h⟩)
theorem q_227g (hs : go_ M) (h : K 0 M) : Tr_ wd0 pg0 (d + 1) 227 [.inr (.inr 6)] M (ri_ K) Qt := t_227 fun V hV hW => b_227_0 (Tr_mono _) hV hW M (by
  by_cases h1 : M 6 13 ≤ 0
  · rw [if_pos h1]; exact ⟨.inl rfl, ri_i h⟩
  · rw [if_neg h1]
    intro _
    rw [if_neg (by rcases hs with h2 | h2; exact absurd h2 h1; exact h2)]
    exact ⟨.inl rfl, ri_i h⟩)
theorem q_229t (hi : in9_ M) (h1 : M 149 (M 6 12) = 4) (h2 : M 151 (M 6 12) = x) (h : K 1 M) : Tr_ wd0 pg0 (d + 1) 229 [.inr (.inr 6), .inl x] M (ri_ K) Qt := t_229 fun V hV hW => b_229_0 (Tr_mono _) hV hW x M (by
  rw [if_pos h1, if_pos (cmp9.mpr h2)]
  exact ⟨hi, hi, .inr rfl, ri_i h⟩)
theorem q_229f (hi : in9_ M) (h1 : ¬ (M 149 (M 6 12) = 4 ∧ M 151 (M 6 12) = x)) (h : K 0 M) : Tr_ wd0 pg0 (d + 1) 229 [.inr (.inr 6), .inl x] M (ri_ K) Qt := t_229 fun V hV hW => b_229_0 (Tr_mono _) hV hW x M (by
  refine ⟨hi, ?_⟩
  by_cases h2 : M 149 (M 6 12) = 4
  · rw [if_pos h2, if_neg (fun h3 => h1 ⟨h2, cmp9.mp h3⟩)]
    exact ⟨hi, .inl rfl, ri_i h⟩
  · rw [if_neg h2]
    exact ⟨.inl rfl, ri_i h⟩)
theorem q_237t (hi : in9_ M) (h1 : M 149 (M 6 12) = 3) (h2 : M 151 (M 6 12) = x) (h : K 1 M) : Tr_ wd0 pg0 (d + 1) 237 [.inr (.inr 6), .inl x] M (ri_ K) Qt := t_237 fun V hV hW => b_237_0 (Tr_mono _) hV hW x M (by
  rw [if_pos h1, if_pos (cmp9.mpr h2)]
  exact ⟨hi, hi, .inr rfl, ri_i h⟩)
theorem q_237f (hi : in9_ M) (h1 : ¬ (M 149 (M 6 12) = 3 ∧ M 151 (M 6 12) = x)) (h : K 0 M) : Tr_ wd0 pg0 (d + 1) 237 [.inr (.inr 6), .inl x] M (ri_ K) Qt := t_237 fun V hV hW => b_237_0 (Tr_mono _) hV hW x M (by
  refine ⟨hi, ?_⟩
  by_cases h2 : M 149 (M 6 12) = 3
  · rw [if_pos h2, if_neg (fun h3 => h1 ⟨h2, cmp9.mp h3⟩)]
    exact ⟨hi, .inl rfl, ri_i h⟩
  · rw [if_neg h2]
    exact ⟨.inl rfl, ri_i h⟩)
theorem q_231o (h0 : M 6 13 = 0) (h : Kv (bf_ M k p)) : Tr_ wd0 pg0 (d + 1) 231 [.inr (.inr 6), .inl k, .inl p] M (rv_ Kv) Qt := t_231 fun V hV hW => b_231_0 (Tr_mono _) hV hW k p M (by
  rw [if_pos h0]; exact rv_i h)
theorem q_231n (h0 : M 6 13 ≠ 0) (h : Kv M) : Tr_ wd0 pg0 (d + 1) 231 [.inr (.inr 6), .inl k, .inl p] M (rv_ Kv) Qt := t_231 fun V hV hW => b_231_0 (Tr_mono _) hV hW k p M (by
  rw [if_neg h0]; exact rv_i h)
theorem bf_13 : bf_ M k p 6 13 = k := by unfold bf_; rw [up_off (by decide), up_at]
theorem bf_14 : bf_ M k p 6 14 = p := by unfold bf_; rw [up_at]
theorem bf_6 {i : Int} (h1 : i ≠ 13) (h2 : i ≠ 14) : bf_ M k p 6 i = M 6 i := by unfold bf_; rw [up_off h2, up_off h1]
theorem bf_ne {r : Nat} (h1 : r ≠ 6) : bf_ M k p r = M r := by unfold bf_; rw [up_ne h1, up_ne h1]
theorem bf_sp (h : M 6 16 = 0) (hk : 0 < k) : sp_ (bf_ M k p) := ⟨by rw [bf_13]; exact hk, by rw [bf_6 (by decide) (by decide)]; exact h⟩
theorem nx_12 : nx_ M 6 12 = M 6 12 + 1 := by unfold nx_; rw [up_at]
theorem nx_6 {i : Int} (h1 : i ≠ 12) : nx_ M 6 i = M 6 i := by unfold nx_; rw [up_off h1]
theorem nx_ne {r : Nat} (h1 : r ≠ 6) : nx_ M r = M r := by unfold nx_; rw [up_ne h1]
theorem nx_go (h : go_ M) : go_ (nx_ M) := by unfold go_; rw [nx_6 (by decide), nx_6 (by decide)]; exact h
theorem nx_ok (h : ok_ M) : ok_ (nx_ M) := by unfold ok_; rw [nx_6 (by decide), nx_6 (by decide)]; exact h
theorem q_234o (hi : in9_ M) (h0 : M 6 13 = 0) (h : Kv (bf_ M 1 (M 150 (M 6 12)))) : Tr_ wd0 pg0 (d + 2) 234 [.inr (.inr 6)] M (rv_ Kv) Qt := t_234 fun V hV hW => b_234_0 (Tr_mono _) hV hW M ⟨hi, q_231o h0 (rv_i h)⟩
theorem q_234n (hi : in9_ M) (h0 : M 6 13 ≠ 0) (h : Kv M) : Tr_ wd0 pg0 (d + 2) 234 [.inr (.inr 6)] M (rv_ Kv) Qt := t_234 fun V hV hW => b_234_0 (Tr_mono _) hV hW M ⟨hi, q_231n h0 (rv_i h)⟩
theorem q_230g (hs : go_ M) (h0 : 0 ≤ M 6 12) (h1 : M 6 12 < 1200) (h : Kv (nx_ M)) : Tr_ wd0 pg0 (d + 2) 230 [.inr (.inr 6)] M (rv_ Kv) Qt := t_230 fun V hV hW => b_230_0 (Tr_mono _) hV hW M (by
  rw [if_neg (by omega)]
  refine q_227g hs ?_
  rw [if_pos rfl, w32_id (by omega) (by omega)]
  exact rv_i h)
theorem q_230r (hs : ok_ M) (h1 : M 6 12 = 1200) (h : Kv (bf_ M 2 (M 150 (M 6 12)))) : Tr_ wd0 pg0 (d + 2) 230 [.inr (.inr 6)] M (rv_ Kv) Qt := t_230 fun V hV hW => b_230_0 (Tr_mono _) hV hW M (by
  rw [if_pos h1]
  refine ⟨by omega, q_231o hs.1 ?_⟩
  refine q_227s (bf_sp hs.2 (by decide)) ?_
  rw [if_neg (by decide)]
  exact rv_i h)
theorem q_230s (hs : sp_ M) (hi : in9_ M) (h : Kv M) : Tr_ wd0 pg0 (d + 2) 230 [.inr (.inr 6)] M (rv_ Kv) Qt := t_230 fun V hV hW => b_230_0 (Tr_mono _) hV hW M (by
  by_cases h1 : M 6 12 = 1200
  · rw [if_pos h1]
    refine ⟨hi, q_231n (by have := hs.1; (clear hs hi h hV hW h1; omega)) ?_⟩
    refine q_227s hs ?_
    rw [if_neg (by decide)]
    exact rv_i h
  · rw [if_neg h1]
    refine q_227s hs ?_
    rw [if_neg (by decide)]
    exact rv_i h)
theorem q_228t (hs : go_ M) (h0 : 0 ≤ M 6 12) (h3 : M 6 12 < 1200) (h1 : M 149 (M 6 12) = 4) (h2 : M 151 (M 6 12) = x) (h : K 1 (nx_ M)) : Tr_ wd0 pg0 (d + 3) 228 [.inr (.inr 6), .inl x] M (ri_ K) Qt := t_228 fun V hV hW => b_228_0 (Tr_mono _) hV hW x M (by
  refine q_227g hs ?_
  rw [if_pos rfl]
  refine q_229t ⟨h0, by (clear hs h1 h2 h hV hW; omega)⟩ h1 h2 ?_
  rw [if_neg (by decide), if_neg (by decide)]
  exact q_230g hs h0 h3 ⟨.inr rfl, ri_i h⟩)
theorem q_228r (hs : ok_ M) (h3 : M 6 12 = 1200) (h1 : M 149 (M 6 12) = 4) (h2 : M 151 (M 6 12) = x) (h : K 1 (bf_ M 2 (M 150 (M 6 12)))) : Tr_ wd0 pg0 (d + 3) 228 [.inr (.inr 6), .inl x] M (ri_ K) Qt := t_228 fun V hV hW => b_228_0 (Tr_mono _) hV hW x M (by
  refine q_227g (ok_go hs) ?_
  rw [if_pos rfl]
  refine q_229t ⟨by omega, by omega⟩ h1 h2 ?_
  rw [if_neg (by decide), if_neg (by decide)]
  exact q_230r hs h3 ⟨.inr rfl, ri_i h⟩)
theorem q_228f (hs : go_ M) (hi : in9_ M) (h1 : ¬ (M 149 (M 6 12) = 4 ∧ M 151 (M 6 12) = x)) (h : K 0 M) : Tr_ wd0 pg0 (d + 3) 228 [.inr (.inr 6), .inl x] M (ri_ K) Qt := t_228 fun V hV hW => b_228_0 (Tr_mono _) hV hW x M (by
  refine q_227g hs ?_
  rw [if_pos rfl]
  refine q_229f hi h1 ?_
  rw [if_pos rfl, if_pos rfl]
  exact ⟨.inl rfl, ri_i h⟩)
theorem q_228s (hs : sp_ M) (h : K 0 M) : Tr_ wd0 pg0 (d + 3) 228 [.inr (.inr 6), .inl x] M (ri_ K) Qt := t_228 fun V hV hW => b_228_0 (Tr_mono _) hV hW x M (by
  refine q_227s hs ?_
  rw [if_neg (by decide), if_pos rfl]
  exact ⟨.inl rfl, ri_i h⟩)
theorem q_242t (hs : go_ M) (h0 : 0 ≤ M 6 12) (h3 : M 6 12 < 1200) (h1 : M 149 (M 6 12) = 3) (h2 : M 151 (M 6 12) = x) (h : K 1 (nx_ M)) : Tr_ wd0 pg0 (d + 3) 242 [.inr (.inr 6), .inl x] M (ri_ K) Qt := t_242 fun V hV hW => b_242_0 (Tr_mono _) hV hW x M (by
  refine q_227g hs ?_
  rw [if_pos rfl]
  refine q_237t ⟨h0, by omega⟩ h1 h2 ?_
  rw [if_neg (by decide), if_neg (by decide)]
  exact q_230g hs h0 h3 ⟨.inr rfl, ri_i h⟩)
theorem q_242r (hs : ok_ M) (h3 : M 6 12 = 1200) (h1 : M 149 (M 6 12) = 3) (h2 : M 151 (M 6 12) = x) (h : K 1 (bf_ M 2 (M 150 (M 6 12)))) : Tr_ wd0 pg0 (d + 3) 242 [.inr (.inr 6), .inl x] M (ri_ K) Qt := t_242 fun V hV hW => b_242_0 (Tr_mono _) hV hW x M (by
  refine q_227g (ok_go hs) ?_
  rw [if_pos rfl]
  refine q_237t ⟨by omega, by omega⟩ h1 h2 ?_
  rw [if_neg (by decide), if_neg (by decide)]
  exact q_230r hs h3 ⟨.inr rfl, ri_i h⟩)
theorem q_242f (hs : go_ M) (hi : in9_ M) (h1 : ¬ (M 149 (M 6 12) = 3 ∧ M 151 (M 6 12) = x)) (h : K 0 M) : Tr_ wd0 pg0 (d + 3) 242 [.inr (.inr 6), .inl x] M (ri_ K) Qt := t_242 fun V hV hW => b_242_0 (Tr_mono _) hV hW x M (by
  refine q_227g hs ?_
  rw [if_pos rfl]
  refine q_237f hi h1 ?_
  rw [if_pos rfl, if_pos rfl]
  exact ⟨.inl rfl, ri_i h⟩)
theorem q_242s (hs : sp_ M) (h : K 0 M) : Tr_ wd0 pg0 (d + 3) 242 [.inr (.inr 6), .inl x] M (ri_ K) Qt := t_242 fun V hV hW => b_242_0 (Tr_mono _) hV hW x M (by
  refine q_227s hs ?_
  rw [if_neg (by decide), if_pos rfl]
  exact ⟨.inl rfl, ri_i h⟩)
theorem q_244g (hs : go_ M) (h0 : 0 ≤ M 6 12) (h3 : M 6 12 < 1200) (h1 : M 149 (M 6 12) = 3) (h2 : M 151 (M 6 12) = x) (h : Kv (nx_ M)) : Tr_ wd0 pg0 (d + 3) 244 [.inr (.inr 6), .inl x] M (rv_ Kv) Qt := t_244 fun V hV hW => b_244_0 (Tr_mono _) hV hW x M (by
  refine q_227g hs ?_
  rw [if_pos rfl]
  refine q_237t ⟨h0, by omega⟩ h1 h2 ?_
  rw [if_neg (by decide)]
  exact q_230g hs h0 h3 (rv_i h))
theorem q_244r (hs : ok_ M) (h3 : M 6 12 = 1200) (h1 : M 149 (M 6 12) = 3) (h2 : M 151 (M 6 12) = x) (h : Kv (bf_ M 2 (M 150 (M 6 12)))) : Tr_ wd0 pg0 (d + 3) 244 [.inr (.inr 6), .inl x] M (rv_ Kv) Qt := t_244 fun V hV hW => b_244_0 (Tr_mono _) hV hW x M (by
  refine q_227g (ok_go hs) ?_
  rw [if_pos rfl]
  refine q_237t ⟨by omega, by omega⟩ h1 h2 ?_
  rw [if_neg (by decide)]
  exact q_230r hs h3 (rv_i h))
theorem q_244w (hs : ok_ M) (hi : in9_ M) (h1 : ¬ (M 149 (M 6 12) = 3 ∧ M 151 (M 6 12) = x)) (h : Kv (bf_ M 1 (M 150 (M 6 12)))) : Tr_ wd0 pg0 (d + 3) 244 [.inr (.inr 6), .inl x] M (rv_ Kv) Qt := t_244 fun V hV hW => b_244_0 (Tr_mono _) hV hW x M (by
  refine q_227g (ok_go hs) ?_
  rw [if_pos rfl]
  refine q_237f hi h1 ?_
  rw [if_pos rfl]
  exact q_234o hi hs.1 (rv_i h))
theorem q_244s (hs : sp_ M) (h : Kv M) : Tr_ wd0 pg0 (d + 3) 244 [.inr (.inr 6), .inl x] M (rv_ Kv) Qt := t_244 fun V hV hW => b_244_0 (Tr_mono _) hV hW x M (by
  refine q_227s hs ?_
  rw [if_neg (by decide)]
  exact rv_i h)
theorem q_250g (hs : go_ M) (h0 : 0 ≤ M 6 12) (h3 : M 6 12 < 1200) (h1 : M 149 (M 6 12) = 4) (h2 : M 151 (M 6 12) = x) (h : Kv (nx_ M)) : Tr_ wd0 pg0 (d + 3) 250 [.inr (.inr 6), .inl x] M (rv_ Kv) Qt := t_250 fun V hV hW => b_250_0 (Tr_mono _) hV hW x M (by
  refine q_227g hs ?_
  rw [if_pos rfl]
  refine q_229t ⟨h0, by omega⟩ h1 h2 ?_
  rw [if_neg (by decide)]
  exact q_230g hs h0 h3 (rv_i h))
theorem q_250r (hs : ok_ M) (h3 : M 6 12 = 1200) (h1 : M 149 (M 6 12) = 4) (h2 : M 151 (M 6 12) = x) (h : Kv (bf_ M 2 (M 150 (M 6 12)))) : Tr_ wd0 pg0 (d + 3) 250 [.inr (.inr 6), .inl x] M (rv_ Kv) Qt := t_250 fun V hV hW => b_250_0 (Tr_mono _) hV hW x M (by
  refine q_227g (ok_go hs) ?_
  rw [if_pos rfl]
  refine q_229t ⟨by omega, by omega⟩ h1 h2 ?_
  rw [if_neg (by decide)]
  exact q_230r hs h3 (rv_i h))
theorem q_250w (hs : ok_ M) (hi : in9_ M) (h1 : ¬ (M 149 (M 6 12) = 4 ∧ M 151 (M 6 12) = x)) (h : Kv (bf_ M 1 (M 150 (M 6 12)))) : Tr_ wd0 pg0 (d + 3) 250 [.inr (.inr 6), .inl x] M (rv_ Kv) Qt := t_250 fun V hV hW => b_250_0 (Tr_mono _) hV hW x M (by
  refine q_227g (ok_go hs) ?_
  rw [if_pos rfl]
  refine q_229f hi h1 ?_
  rw [if_pos rfl]
  exact q_234o hi hs.1 (rv_i h))
theorem q_250s (hs : sp_ M) (h : Kv M) : Tr_ wd0 pg0 (d + 3) 250 [.inr (.inr 6), .inl x] M (rv_ Kv) Qt := t_250 fun V hV hW => b_250_0 (Tr_mono _) hV hW x M (by
  refine q_227s hs ?_
  rw [if_neg (by decide)]
  exact rv_i h)
theorem q_233g (hs : go_ M) (h0 : 0 ≤ M 6 12) (h3 : M 6 12 < 1200) (h1 : M 149 (M 6 12) = 1) (h : K (M 6 12) (nx_ M)) : Tr_ wd0 pg0 (d + 3) 233 [.inr (.inr 6)] M (ri_ K) Qt := t_233 fun V hV hW => b_233_0 (Tr_mono _) hV hW M (by
  refine q_227g hs ?_
  rw [if_pos rfl, if_pos h1]
  exact ⟨by omega, q_230g hs h0 h3 (ri_i h)⟩)
theorem q_233r (hs : ok_ M) (h3 : M 6 12 = 1200) (h1 : M 149 (M 6 12) = 1) (h : K (M 6 12) (bf_ M 2 (M 150 (M 6 12)))) : Tr_ wd0 pg0 (d + 3) 233 [.inr (.inr 6)] M (ri_ K) Qt := t_233 fun V hV hW => b_233_0 (Tr_mono _) hV hW M (by
  refine q_227g (ok_go hs) ?_
  rw [if_pos rfl, if_pos h1]
  exact ⟨by omega, q_230r hs h3 (ri_i h)⟩)
theorem q_233w (hs : ok_ M) (hi : in9_ M) (h1 : M 149 (M 6 12) ≠ 1) (h : K (M 6 12) (bf_ M 1 (M 150 (M 6 12)))) : Tr_ wd0 pg0 (d + 3) 233 [.inr (.inr 6)] M (ri_ K) Qt := t_233 fun V hV hW => b_233_0 (Tr_mono _) hV hW M (by
  refine q_227g (ok_go hs) ?_
  rw [if_pos rfl, if_neg h1]
  exact ⟨hi, q_234o hi hs.1 (ri_i h)⟩)
theorem q_233s (hs : sp_ M) (h : K (M 6 12) M) : Tr_ wd0 pg0 (d + 3) 233 [.inr (.inr 6)] M (ri_ K) Qt := t_233 fun V hV hW => b_233_0 (Tr_mono _) hV hW M (by
  refine q_227s hs ?_
  rw [if_neg (by decide)]
  exact ri_i h)
theorem q_249g (hs : go_ M) (h0 : 0 ≤ M 6 12) (h3 : M 6 12 < 1200) (h1 : M 149 (M 6 12) = 2) (h : K (w32 (M 151 (M 6 12))) (nx_ M)) : Tr_ wd0 pg0 (d + 3) 249 [.inr (.inr 6)] M (ri_ K) Qt := t_249 fun V hV hW => b_249_0 (Tr_mono _) hV hW M (by
  refine q_227g hs ?_
  rw [if_pos rfl, if_pos h1, if_pos h1]
  exact ⟨by omega, by omega, by omega, q_230g hs h0 h3 (ri_i h)⟩)
theorem q_249r (hs : ok_ M) (h3 : M 6 12 = 1200) (h1 : M 149 (M 6 12) = 2) (h : K (w32 (M 151 (M 6 12))) (bf_ M 2 (M 150 (M 6 12)))) : Tr_ wd0 pg0 (d + 3) 249 [.inr (.inr 6)] M (ri_ K) Qt := t_249 fun V hV hW => b_249_0 (Tr_mono _) hV hW M (by
  refine q_227g (ok_go hs) ?_
  rw [if_pos rfl, if_pos h1, if_pos h1]
  exact ⟨by omega, by omega, by omega, q_230r hs h3 (ri_i h)⟩)
theorem q_249w (hs : ok_ M) (hi : in9_ M) (h1 : M 149 (M 6 12) ≠ 2) (h : K 0 (bf_ M 1 (M 150 (M 6 12)))) : Tr_ wd0 pg0 (d + 3) 249 [.inr (.inr 6)] M (ri_ K) Qt := t_249 fun V hV hW => b_249_0 (Tr_mono _) hV hW M (by
  refine q_227g (ok_go hs) ?_
  rw [if_pos rfl, if_neg h1, if_neg h1]
  exact ⟨hi, hi, q_234o hi hs.1 (ri_i h)⟩)
theorem q_249s (hs : sp_ M) (h : K 0 M) : Tr_ wd0 pg0 (d + 3) 249 [.inr (.inr 6)] M (ri_ K) Qt := t_249 fun V hV hW => b_249_0 (Tr_mono _) hV hW M (by
  refine q_227s hs ?_
  rw [if_neg (by decide)]
  exact ri_i h)
theorem q_248g (hs : go_ M) (h0 : 0 ≤ M 6 12) (h3 : M 6 12 < 1200) (h1 : M 149 (M 6 12) = 2) (h2 : w32 (M 151 (M 6 12)) ≤ x) (h : K (w32 (M 151 (M 6 12))) (nx_ M)) : Tr_ wd0 pg0 (d + 4) 248 [.inr (.inr 6), .inl x] M (ri_ K) Qt := t_248 fun V hV hW => b_248_0 (Tr_mono _) hV hW x M ⟨by omega, by
  refine q_249g hs h0 h3 h1 ?_
  refine q_227g (nx_go hs) ?_
  rw [if_pos rfl, if_pos h2]
  exact ri_i h⟩
theorem q_248b (hs : ok_ M) (h0 : 0 ≤ M 6 12) (h3 : M 6 12 < 1200) (h1 : M 149 (M 6 12) = 2) (h2 : ¬ w32 (M 151 (M 6 12)) ≤ x) (h : K (w32 (M 151 (M 6 12))) (bf_ (nx_ M) 2 (M 150 (M 6 12)))) : Tr_ wd0 pg0 (d + 4) 248 [.inr (.inr 6), .inl x] M (ri_ K) Qt := t_248 fun V hV hW => b_248_0 (Tr_mono _) hV hW x M ⟨by omega, by
  refine q_249g (ok_go hs) h0 h3 h1 ?_
  refine q_227g (nx_go (ok_go hs)) ?_
  rw [if_pos rfl, if_neg h2]
  exact q_231o (by rw [nx_6 (by decide)]; exact hs.1) (ri_i h)⟩
theorem q_248r (hs : ok_ M) (h3 : M 6 12 = 1200) (h1 : M 149 (M 6 12) = 2) (h : K (w32 (M 151 (M 6 12))) (bf_ M 2 (M 150 (M 6 12)))) : Tr_ wd0 pg0 (d + 4) 248 [.inr (.inr 6), .inl x] M (ri_ K) Qt := t_248 fun V hV hW => b_248_0 (Tr_mono _) hV hW x M ⟨by omega, by
  refine q_249r hs h3 h1 ?_
  refine q_227s (bf_sp hs.2 (by decide)) ?_
  rw [if_neg (by decide)]
  exact ri_i h⟩
theorem q_248w (hs : ok_ M) (hi : in9_ M) (h1 : M 149 (M 6 12) ≠ 2) (h : K 0 (bf_ M 1 (M 150 (M 6 12)))) : Tr_ wd0 pg0 (d + 4) 248 [.inr (.inr 6), .inl x] M (ri_ K) Qt := t_248 fun V hV hW => b_248_0 (Tr_mono _) hV hW x M ⟨hi, by
  refine q_249w hs hi h1 ?_
  refine q_227s (bf_sp hs.2 (by decide)) ?_
  rw [if_neg (by decide)]
  exact ri_i h⟩
theorem q_248s (hs : sp_ M) (hi : in9_ M) (h : K 0 M) : Tr_ wd0 pg0 (d + 4) 248 [.inr (.inr 6), .inl x] M (ri_ K) Qt := t_248 fun V hV hW => b_248_0 (Tr_mono _) hV hW x M ⟨hi, by
  refine q_249s hs ?_
  refine q_227s hs ?_
  rw [if_neg (by decide)]
  exact ri_i h⟩
theorem q_240g (h0 : 0 ≤ M 6 15) (h1 : M 6 15 < 12) (h : Kv (up_ M 6 15 (M 6 15 + 1))) : Tr_ wd0 pg0 (d + 2) 240 [.inr (.inr 6)] M (rv_ Kv) Qt := t_240 fun V hV hW => b_240_0 (Tr_mono _) hV hW M (by
  rw [w32_id (by (clear h hV hW; omega)) (by omega), if_pos (by omega)]
  exact rv_i h)
theorem q_240r (hs : ok_ M) (hi : in9_ M) (h1 : M 6 15 = 12) (h : Kv (bf_ (up_ M 6 15 13) 2 (M 150 (M 6 12)))) : Tr_ wd0 pg0 (d + 2) 240 [.inr (.inr 6)] M (rv_ Kv) Qt := t_240 fun V hV hW => b_240_0 (Tr_mono _) hV hW M (by
  rw [h1, if_neg (by decide)]
  exact ⟨hi, q_231o (by rw [up_off (by decide)]; exact hs.1) (rv_i h)⟩)
theorem q_239g (hs : go_ M) (h0 : 0 ≤ M 6 12) (h3 : M 6 12 < 1200) (h1 : M 149 (M 6 12) = 3) (h2 : M 151 (M 6 12) = x) (h4 : 0 ≤ M 6 15) (h5 : M 6 15 < 12) (h : Kv (nx_ (up_ M 6 15 (M 6 15 + 1)))) : Tr_ wd0 pg0 (d + 3) 239 [.inr (.inr 6), .inl x] M (rv_ Kv) Qt := t_239 fun V hV hW => b_239_0 (Tr_mono _) hV hW x M (by
  refine q_227g hs ?_
  rw [if_pos rfl]
  refine q_237t ⟨h0, by omega⟩ h1 h2 ?_
  rw [if_neg (by decide)]
  refine q_240g h4 h5 ?_
  refine q_230g ?_ (by rw [up_off (by decide)]; exact h0) (by rw [up_off (by decide)]; exact h3) (rv_i h)
  unfold go_; rw [up_off (by decide), up_off (by decide)]; exact hs)
theorem q_239o (hs : ok_ M) (hi : in9_ M) (h1 : M 149 (M 6 12) = 3) (h2 : M 151 (M 6 12) = x) (h5 : M 6 15 = 12) (h : Kv (bf_ (up_ M 6 15 13) 2 (M 150 (M 6 12)))) : Tr_ wd0 pg0 (d + 3) 239 [.inr (.inr 6), .inl x] M (rv_ Kv) Qt := t_239 fun V hV hW => b_239_0 (Tr_mono _) hV hW x M (by
  refine q_227g (ok_go hs) ?_
  rw [if_pos rfl]
  refine q_237t hi h1 h2 ?_
  rw [if_neg (by decide)]
  refine q_240r hs hi h5 ?_
  refine q_230s (bf_sp (by rw [up_off (by decide)]; exact hs.2) (by decide)) (by unfold in9_; rw [bf_6 (by decide) (by decide), up_off (by decide)]; exact hi) (rv_i h))
theorem q_239r (hs : ok_ M) (h3 : M 6 12 = 1200) (h1 : M 149 (M 6 12) = 3) (h2 : M 151 (M 6 12) = x) (h4 : 0 ≤ M 6 15) (h5 : M 6 15 < 12) (h : Kv (bf_ (up_ M 6 15 (M 6 15 + 1)) 2 (M 150 (M 6 12)))) : Tr_ wd0 pg0 (d + 3) 239 [.inr (.inr 6), .inl x] M (rv_ Kv) Qt := t_239 fun V hV hW => b_239_0 (Tr_mono _) hV hW x M (by
  refine q_227g (ok_go hs) ?_
  rw [if_pos rfl]
  refine q_237t ⟨by omega, by omega⟩ h1 h2 ?_
  rw [if_neg (by decide)]
  refine q_240g h4 h5 ?_
  refine q_230r ?_ (by rw [up_off (by decide)]; exact h3) ?_
  · unfold ok_; rw [up_off (by decide), up_off (by decide)]; exact hs
  · rw [up_off (by decide), up_ne (by decide)]; exact rv_i h)
theorem q_239w (hs : ok_ M) (hi : in9_ M) (h1 : ¬ (M 149 (M 6 12) = 3 ∧ M 151 (M 6 12) = x)) (h : Kv (bf_ M 1 (M 150 (M 6 12)))) : Tr_ wd0 pg0 (d + 3) 239 [.inr (.inr 6), .inl x] M (rv_ Kv) Qt := t_239 fun V hV hW => b_239_0 (Tr_mono _) hV hW x M (by
  refine q_227g (ok_go hs) ?_
  rw [if_pos rfl]
  refine q_237f hi h1 ?_
  rw [if_pos rfl]
  exact q_234o hi hs.1 (rv_i h))
theorem q_239s (hs : sp_ M) (h : Kv M) : Tr_ wd0 pg0 (d + 3) 239 [.inr (.inr 6), .inl x] M (rv_ Kv) Qt := t_239 fun V hV hW => b_239_0 (Tr_mono _) hV hW x M (by
  refine q_227s hs ?_
  rw [if_neg (by decide)]
  exact rv_i h)
theorem q_243g (hs : go_ M) (h0 : 0 ≤ M 6 12) (h3 : M 6 12 < 1200) (h1 : M 149 (M 6 12) = 3) (h2 : M 151 (M 6 12) = x) (h4 : 0 < M 6 15) (h5 : M 6 15 ≤ 13) (h : Kv (up_ (nx_ M) 6 15 (M 6 15 - 1))) : Tr_ wd0 pg0 (d + 4) 243 [.inr (.inr 6), .inl x] M (rv_ Kv) Qt := t_243 fun V hV hW => b_243_0 (Tr_mono _) hV hW x M (by
  refine q_244g hs h0 h3 h1 h2 ?_
  refine q_227g (nx_go hs) ?_
  rw [if_pos rfl, nx_6 (by decide), w32_id (by omega) (by omega)]
  exact rv_i h)
theorem q_243r (hs : ok_ M) (h3 : M 6 12 = 1200) (h1 : M 149 (M 6 12) = 3) (h2 : M 151 (M 6 12) = x) (h : Kv (bf_ M 2 (M 150 (M 6 12)))) : Tr_ wd0 pg0 (d + 4) 243 [.inr (.inr 6), .inl x] M (rv_ Kv) Qt := t_243 fun V hV hW => b_243_0 (Tr_mono _) hV hW x M (by
  refine q_244r hs h3 h1 h2 ?_
  refine q_227s (bf_sp hs.2 (by decide)) ?_
  rw [if_neg (by decide)]
  exact rv_i h)
theorem q_243w (hs : ok_ M) (hi : in9_ M) (h1 : ¬ (M 149 (M 6 12) = 3 ∧ M 151 (M 6 12) = x)) (h : Kv (bf_ M 1 (M 150 (M 6 12)))) : Tr_ wd0 pg0 (d + 4) 243 [.inr (.inr 6), .inl x] M (rv_ Kv) Qt := t_243 fun V hV hW => b_243_0 (Tr_mono _) hV hW x M (by
  refine q_244w hs hi h1 ?_
  refine q_227s (bf_sp hs.2 (by decide)) ?_
  rw [if_neg (by decide)]
  exact rv_i h)
theorem q_243s (hs : sp_ M) (h : Kv M) : Tr_ wd0 pg0 (d + 4) 243 [.inr (.inr 6), .inl x] M (rv_ Kv) Qt := t_243 fun V hV hW => b_243_0 (Tr_mono _) hV hW x M (by
  refine q_244s hs ?_
  refine q_227s hs ?_
  rw [if_neg (by decide)]
  exact rv_i h)
/-- a note of Q -/
def nt_ (M : mm_) (k p : Int) : mm_ := if M 6 16 = 0 then M else if M 6 13 = 0 ∨ p < M 6 14 ∨ p = M 6 14 ∧ k < M 6 13 then bf_ M k p else M
theorem q_236 (h : Kv (nt_ M k p)) : Tr_ wd0 pg0 (d + 1) 236 [.inr (.inr 6), .inl k, .inl p] M (rv_ Kv) Qt := t_236 fun V hV hW => b_236_0 (Tr_mono _) hV hW k p M (by
  intro _
  unfold nt_ at h
  by_cases h1 : M 6 16 = 0
  · rw [if_pos h1] at h ⊢; exact rv_i h
  · rw [if_neg h1] at h ⊢
    by_cases h2 : M 6 13 = 0
    · rw [if_pos h2]; rw [if_pos (.inl h2)] at h; exact rv_i h
    · rw [if_neg h2]
      by_cases h3 : p < M 6 14
      · rw [if_pos h3]; rw [if_pos (.inr (.inl h3))] at h; exact rv_i h
      · rw [if_neg h3]
        by_cases h4 : p = M 6 14
        · rw [if_pos h4]
          by_cases h5 : k < M 6 13
          · rw [if_pos h5]; rw [if_pos (.inr (.inr ⟨h4, h5⟩))] at h; exact rv_i h
          · rw [if_neg h5]; rw [if_neg (by omega)] at h; exact rv_i h
        · rw [if_neg h4]; rw [if_neg (by (clear h hV hW h1; lia))] at h; exact rv_i h)
end QH
/-! X's small steps of reading, each with all its ways -/
def flX_ (M : mm_) (k t : Int) : mm_ := up_ (up_ M 1 4 k) 1 5 (M 71 t)
def nX_ (M : mm_) : mm_ := up_ M 1 3 (M 1 3 + 1)
def iX_ (M : mm_) : Prop := 0 ≤ M 1 3 ∧ M 1 3 ≤ 1200
section XH
variable {d : Nat} {M : mm_} {K : Int → mm_ → Prop} {Kr : Nat → mm_ → Prop} {Kv : mm_ → Prop} {Qt : qt_} {x k p : Int}
theorem nX_3 : nX_ M 1 3 = M 1 3 + 1 := by unfold nX_; rw [up_at]
theorem nX_1 {i : Int} (h1 : i ≠ 3) : nX_ M 1 i = M 1 i := by unfold nX_; rw [up_off h1]
theorem nX_ne {r : Nat} (h1 : r ≠ 1) : nX_ M r = M r := by unfold nX_; rw [up_ne h1]
theorem x_103 (hi : iX_ M) (ht : M 70 (M 1 3) = x → K 1 M) (hf : M 70 (M 1 3) ≠ x → K 0 M) : Tr_ wd0 pg0 (d + 1) 103 [.inr (.inr 1), .inl x] M (ri_ K) Qt := t_103 fun V hV hW => b_103_0 (Tr_mono _) hV hW x M (by
  refine ⟨⟨hi.1, by have := hi.2; (clear hi ht hf hV hW; omega)⟩, ?_⟩
  split
  · rename_i h; exact ⟨.inr rfl, ri_i (ht h)⟩
  · rename_i h; exact ⟨.inl rfl, ri_i (hf h)⟩)
theorem x_117 (hi : iX_ M) (h0 : 0 ≤ x) (h1 : x < 1000) (ht : M 70 (M 1 3) = 200 + x → K 1 M) (hf : M 70 (M 1 3) ≠ 200 + x → K 0 M) : Tr_ wd0 pg0 (d + 1) 117 [.inr (.inr 1), .inl x] M (ri_ K) Qt := t_117 fun V hV hW => b_117_0 (Tr_mono _) hV hW x M (by
  refine ⟨⟨hi.1, by have := hi.2; (clear hi h0 h1 ht hf hV hW; omega)⟩, ?_⟩
  rw [w32_id (by (clear hi ht hf hV hW; omega)) (by omega)]
  split
  · rename_i h; exact ⟨.inr rfl, ri_i (ht h)⟩
  · rename_i h; exact ⟨.inl rfl, ri_i (hf h)⟩)
theorem x_106 (h0 : 0 ≤ p) (h1 : p < 1202) (h : Kr 8 (flX_ M k p)) : Tr_ wd0 pg0 (d + 1) 106 [.inr (.inr 1), .inl k, .inl p] M (rf_r Kr) Qt := t_106 fun V hV hW => b_106_0 (Tr_mono _) hV hW k p M ⟨⟨h0, h1⟩, rf_i h⟩
theorem x_109 (hi : iX_ M) (h : Kr 8 (flX_ M 1 (M 1 3))) : Tr_ wd0 pg0 (d + 2) 109 [.inr (.inr 1)] M (rf_r Kr) Qt := t_109 fun V hV hW => b_109_0 (Tr_mono _) hV hW M (x_106 hi.1 (by have := hi.2; omega) (by
  rw [if_pos (by decide)]; exact rf_i h))
theorem x_110 (h0 : 0 ≤ p) (h1 : p < 1202) (hn : x = 0 → Kv M) (hy : x ≠ 0 → Qt 8 (flX_ M 2 p)) : Tr_ wd0 pg0 (d + 2) 110 [.inr (.inr 1), .inl x, .inl p] M (rv_ Kv) Qt := t_110 fun V hV hW => b_110_0 (Tr_mono _) hV hW x p M (by
  by_cases h : x = 0
  · rw [if_pos h]; exact rv_i (hn h)
  · rw [if_neg h]
    refine x_106 h0 h1 ?_
    rw [if_neg (by decide)]; exact hy h)
theorem x_105 (hi : iX_ M) (hg : M 1 3 < 1200 → Kv (nX_ M)) (hr : M 1 3 = 1200 → Qt 8 (flX_ M 2 (M 1 3))) : Tr_ wd0 pg0 (d + 2) 105 [.inr (.inr 1)] M (rv_ Kv) Qt := t_105 fun V hV hW => b_105_0 (Tr_mono _) hV hW M (by
  have h1 := hi.1
  have h2 := hi.2
  by_cases h : M 1 3 < 1200
  · rw [if_pos h, w32_id (by (clear hi hg hr hV hW; lia)) (by omega)]; exact rv_i (hg h)
  · rw [if_neg h]
    refine x_106 h1 (by omega) ?_
    rw [if_neg (by decide)]; exact hr (by omega))
theorem x_108 (hi : iX_ M) (hg : M 70 (M 1 3) = x → M 1 3 < 1200 → Kv (nX_ M)) (hw : M 70 (M 1 3) ≠ x → Qt 8 (flX_ M 1 (M 1 3))) (hr : M 70 (M 1 3) = x → M 1 3 = 1200 → Qt 8 (flX_ M 2 (M 1 3))) : Tr_ wd0 pg0 (d + 3) 108 [.inr (.inr 1), .inl x] M (rv_ Kv) Qt := t_108 fun V hV hW => b_108_0 (Tr_mono _) hV hW x M (x_103 hi (fun h => by
  rw [if_neg (by decide)]
  exact x_105 hi (fun h9 => rv_i (hg h h9)) (hr h)) (fun h => by
  rw [if_pos rfl]
  refine x_109 hi ?_
  rw [if_neg (by decide)]; exact hw h))
theorem x_121 (hi : iX_ M) (h0 : 0 ≤ x) (h1 : x < 1000) (hg : M 70 (M 1 3) = 200 + x → M 1 3 < 1200 → Kv (nX_ M)) (hw : M 70 (M 1 3) ≠ 200 + x → Qt 8 (flX_ M 1 (M 1 3))) (hr : M 70 (M 1 3) = 200 + x → M 1 3 = 1200 → Qt 8 (flX_ M 2 (M 1 3))) : Tr_ wd0 pg0 (d + 3) 121 [.inr (.inr 1), .inl x] M (rv_ Kv) Qt := t_121 fun V hV hW => b_121_0 (Tr_mono _) hV hW x M (x_117 hi h0 h1 (fun h => by
  rw [if_neg (by decide)]
  exact x_105 hi (fun h9 => rv_i (hg h h9)) (hr h)) (fun h => by
  rw [if_pos rfl]
  refine x_109 hi ?_
  rw [if_neg (by decide)]; exact hw h))
theorem x_107 (hi : iX_ M) (hg : M 70 (M 1 3) = 100 → M 1 3 < 1200 → K (M 1 3) (nX_ M)) (hw : M 70 (M 1 3) ≠ 100 → Qt 8 (flX_ M 1 (M 1 3))) (hr : M 70 (M 1 3) = 100 → M 1 3 = 1200 → Qt 8 (flX_ M 2 (M 1 3))) : Tr_ wd0 pg0 (d + 4) 107 [.inr (.inr 1)] M (ri_ K) Qt := t_107 fun V hV hW => b_107_0 (Tr_mono _) hV hW M (x_108 hi (fun h h9 => ri_i (hg h h9)) hw hr)
theorem x_125 (hi : iX_ M) (hg : M 70 (M 1 3) = 101 → M 1 3 < 1200 → K (M 73 (M 1 3)) (nX_ M)) (hw : M 70 (M 1 3) ≠ 101 → Qt 8 (flX_ M 1 (M 1 3))) (hr : M 70 (M 1 3) = 101 → M 1 3 = 1200 → Qt 8 (flX_ M 2 (M 1 3))) : Tr_ wd0 pg0 (d + 4) 125 [.inr (.inr 1)] M (ri_ K) Qt := t_125 fun V hV hW => b_125_0 (Tr_mono _) hV hW M ⟨⟨hi.1, by have := hi.2; omega⟩, x_108 hi (fun h h9 => ri_i (hg h h9)) hw hr⟩
theorem x_118 (hi : iX_ M) (h0 : 0 ≤ M 1 6) (h1 : M 1 6 ≤ 12) (hg : M 1 6 < 12 → Kv (up_ M 1 6 (M 1 6 + 1))) (hr : M 1 6 = 12 → Qt 8 (flX_ M 2 (M 1 3))) : Tr_ wd0 pg0 (d + 2) 118 [.inr (.inr 1)] M (rv_ Kv) Qt := t_118 fun V hV hW => b_118_0 (Tr_mono _) hV hW M (by
  by_cases h : M 1 6 = 12
  · rw [if_pos h]
    refine x_106 hi.1 (by have := hi.2; omega) ?_
    rw [if_neg (by decide)]; exact hr h
  · rw [if_neg h, w32_id (by omega) (by omega)]; exact rv_i (hg (by omega)))
theorem x_120 (hi : iX_ M) (h : K (M 70 (M 1 3)) M) : Tr_ wd0 pg0 (d + 1) 120 [.inr (.inr 1)] M (ri_ K) Qt := t_120 fun V hV hW => b_120_0 (Tr_mono _) hV hW M ⟨⟨hi.1, by have := hi.2; omega⟩, ri_i h⟩
theorem x_139 (hi : iX_ M) (h : K (M 71 (M 1 3)) M) : Tr_ wd0 pg0 (d + 1) 139 [.inr (.inr 1)] M (ri_ K) Qt := t_139 fun V hV hW => b_139_0 (Tr_mono _) hV hW M ⟨⟨hi.1, by have := hi.2; omega⟩, ri_i h⟩
theorem x_119 (hi : iX_ M) (hg : 28 ≤ M 70 (M 1 3) → M 70 (M 1 3) ≤ 30 → x = 0 → M 1 3 < 1200 → K (M 70 (M 1 3) - 28) (nX_ M)) (hw : ¬ (28 ≤ M 70 (M 1 3) ∧ M 70 (M 1 3) ≤ 30) → Qt 8 (flX_ M 1 (M 1 3))) (hr : 28 ≤ M 70 (M 1 3) → M 70 (M 1 3) ≤ 30 → x ≠ 0 ∨ M 1 3 = 1200 → Qt 8 (flX_ M 2 (M 1 3))) : Tr_ wd0 pg0 (d + 3) 119 [.inr (.inr 1), .inl x] M (ri_ K) Qt := t_119 fun V hV hW => b_119_0 (Tr_mono _) hV hW x M (x_120 hi (by
  by_cases h1 : M 70 (M 1 3) < 28
  · rw [if_pos h1]
    refine x_109 hi ?_
    rw [if_neg (by decide)]; exact hw (by omega)
  · rw [if_neg h1]
    by_cases h2 : M 70 (M 1 3) ≤ 30
    · rw [if_pos h2]
      refine x_110 hi.1 (by have := hi.2; omega) (fun h3 => ?_) (fun h3 => hr (by omega) h2 (.inl h3))
      refine x_105 hi (fun h4 => ?_) (fun h4 => hr (by omega) h2 (.inr h4))
      rw [w32_id (by omega) (by omega)]
      exact ri_i (hg (by omega) h2 h3 h4)
    · rw [if_neg h2]
      refine x_109 hi ?_
      rw [if_neg (by decide)]; exact hw (by omega)))
theorem x_124 (hi : iX_ M) (hg : M 70 (M 1 3) = 101 → M 73 (M 1 3) ≤ x → M 1 3 < 1200 → K (M 73 (M 1 3)) (nX_ M)) (hw : M 70 (M 1 3) ≠ 101 → Qt 8 (flX_ M 1 (M 1 3))) (hr : M 70 (M 1 3) = 101 → ¬ M 73 (M 1 3) ≤ x ∨ M 1 3 = 1200 → Qt 8 (flX_ M 2 (M 1 3))) : Tr_ wd0 pg0 (d + 5) 124 [.inr (.inr 1), .inl x] M (ri_ K) Qt := t_124 fun V hV hW => b_124_0 (Tr_mono _) hV hW x M (by
  have h1 := hi.1
  have h2 := hi.2
  refine x_103 hi (fun h => ?_) (fun h => ?_)
  · rw [if_neg (by decide)]
    refine ⟨by omega, ?_⟩
    by_cases h3 : M 73 (M 1 3) ≤ x
    · rw [if_pos h3]
      refine x_110 h1 (by (clear hi hg hw hr hV hW h h3; omega)) (fun _ => ?_) (fun h4 => absurd rfl h4)
      exact x_125 hi (fun _ h5 => ri_i (hg h h3 h5)) (fun h4 => absurd h h4) (fun _ h5 => hr h (.inr h5))
    · rw [if_neg h3]
      exact x_110 h1 (by omega) (fun h4 => absurd h4 (by decide)) (fun _ => hr h (.inl h3))
  · rw [if_pos rfl]
    refine x_109 hi ?_
    rw [if_neg (by decide)]; exact hw h)
/-- a note of X -/
def nt1_ (M : mm_) (k t : Int) : mm_ := if M 1 4 = 0 ∨ M 71 t < M 1 5 ∨ M 71 t = M 1 5 ∧ k < M 1 4 then up_ (up_ (up_ M 1 7 (M 1 7 + 1)) 1 4 k) 1 5 (M 71 t) else up_ M 1 7 (M 1 7 + 1)
theorem x_116 (h0 : 0 ≤ p) (h1 : p < 1202) (h2 : 0 ≤ M 1 7) (h3 : M 1 7 < 2147483647) (h : Kv (nt1_ M k p)) : Tr_ wd0 pg0 (d + 1) 116 [.inr (.inr 1), .inl k, .inl p] M (rv_ Kv) Qt := t_116 fun V hV hW => b_116_0 (Tr_mono _) hV hW k p M (by
  refine ⟨⟨h0, h1⟩, ?_⟩
  rw [w32_id (by omega) (by omega)]
  unfold nt1_ at h
  by_cases a1 : M 1 4 = 0
  · rw [if_pos a1]; rw [if_pos (.inl a1)] at h; exact rv_i h
  · rw [if_neg a1]
    by_cases a2 : M 1 5 < M 71 p
    · rw [if_pos a2]; rw [if_neg (by omega)] at h; exact rv_i h
    · rw [if_neg a2]
      by_cases a3 : M 1 5 = M 71 p
      · rw [if_pos a3]
        by_cases a4 : M 1 4 ≤ k
        · rw [if_pos a4]; rw [if_neg (by omega)] at h; exact rv_i h
        · rw [if_neg a4]; rw [if_pos (by omega)] at h; exact rv_i h
      · rw [if_neg a3]; rw [if_pos (by omega)] at h; exact rv_i h)
end XH
