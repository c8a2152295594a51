/-! TOKENS -/
def by_ (f : Int → Int) (n k : Int) : Int := if k < n then f k % 256 else -1
def sm_ (c : Int) : Int := if 97 ≤ c ∧ c ≤ 122 then 1 else 0
def dg_ (c : Int) : Int := if 48 ≤ c ∧ c ≤ 57 then 1 else 0
section TK
variable {d : Nat} {M : mm_} {K : Int → mm_ → Prop} {Kv : mm_ → Prop} {Qt : qt_}
theorem s_195 {x : Int} (h : K (sm_ x) M) : Tr_ wd0 pg0 (d + 1) 195 [.inl x] M (ri_ K) Qt := t_195 fun V hV hW => b_195_0 (Tr_mono d) hV hW x M (by
  unfold sm_ at h
  split
  · rw [if_neg (by omega)] at h; exact ⟨.inl rfl, ri_i h⟩
  · split
    · rw [if_pos (by omega)] at h; exact ⟨.inr rfl, ri_i h⟩
    · rw [if_neg (by omega)] at h; exact ⟨.inl rfl, ri_i h⟩)
theorem s_197 {x : Int} (h : K (dg_ x) M) : Tr_ wd0 pg0 (d + 1) 197 [.inl x] M (ri_ K) Qt := t_197 fun V hV hW => b_197_0 (Tr_mono d) hV hW x M (by
  unfold dg_ at h
  split
  · rw [if_neg (by omega)] at h; exact ⟨.inl rfl, ri_i h⟩
  · split
    · rw [if_pos (by omega)] at h; exact ⟨.inr rfl, ri_i h⟩
    · rw [if_neg (by omega)] at h; exact ⟨.inl rfl, ri_i h⟩)
theorem s_193a {x : Int} (h0 : 0 ≤ x) (hn : M 2 5 ≤ 5000) (h : K (by_ (M 69) (M 2 5) x) M) : Tr_ wd0 pg0 (d + 1) 193 [.inr (.inr 2), .inl x] M (ri_ K) Qt := t_193a fun V hV hW => b_193a_0 (Tr_mono d) hV hW x M (by
  unfold by_ at h
  split
  · rename_i h1
    rw [if_pos h1] at h
    exact ⟨by omega, fun h2 => ri_i (by rw [an255 h2.1 h2.2]; exact h)⟩
  · rename_i h1
    rw [if_neg h1] at h
    exact ri_i h)
end TK
theorem up_up {M : mm_} {r : Nat} {i v w : Int} : up_ (up_ M r i v) r i w = up_ M r i w := by
  funext r' j
  simp only [ua_]
  split <;> rename_i h1
  · split
    · rfl
    · simp only [*, if_true, if_false]
  · rfl
theorem up_id {M : mm_} {r : Nat} {i : Int} : up_ M r i (M r i) = M := by
  funext r' j
  simp only [ua_]
  split <;> rename_i h1
  · split <;> rename_i h2
    · rw [h1, h2]
    · rw [h1]
  · rfl
theorem up_id' {M : mm_} {r : Nat} {i v : Int} (h : M r i = v) : up_ M r i v = M := by rw [← h]; exact up_id
/-- behind a comment -/
def cm_ (f : Int → Int) (n a : Int) : Int := if a < n ∧ f a ≠ 10 then cm_ f n (a + 1) else a
termination_by (n - a).toNat
decreasing_by omega
theorem cm_ge (f : Int → Int) (n a : Int) : a ≤ cm_ f n a := by
  unfold cm_
  split
  · have := cm_ge f n (a + 1); omega
  · omega
termination_by (n - a).toNat
decreasing_by omega
theorem cm_le (f : Int → Int) (n a : Int) (h : a ≤ n) : cm_ f n a ≤ n := by
  unfold cm_
  split
  · exact cm_le f n (a + 1) (by omega)
  · omega
termination_by (n - a).toNat
decreasing_by omega
/-- behind blanks and comments -/
def bk_ (f : Int → Int) (n a : Int) : Int :=
  if a < n then (if f a = 35 then bk_ f n (cm_ f n (a + 1)) else if f a = 9 ∨ f a = 10 ∨ f a = 13 ∨ f a = 32 then bk_ f n (a + 1) else a) else a
termination_by (n - a).toNat
decreasing_by
  · have := cm_ge f n (a + 1); omega
  · omega
section TK
variable {d : Nat} {K : Int → mm_ → Prop} {Kv : mm_ → Prop} {Qr : qr_} {Qt : qt_} {V : vv_}
theorem l_192a_21 (hV : Cl_ wd0 (Tr_ wd0 pg0 d) V Qr Qt m_192) (hW : Wk_ V) {x1 x2 : Int} : ∀ (k : Nat) (M : mm_), (M 2 5 - M 2 7).toNat ≤ k → 0 ≤ M 2 7 → M 2 5 ≤ 5000 → V 59 [rr 2, ii x1, ii x2] [] (up_ M 2 7 (cm_ (M 69) (M 2 5) (M 2 7))) → V 21 [rr 2, ii x1, ii x2] [] M := by
  intro k
  induction k with
  | zero =>
    intro M hk h0 h5 h
    refine b_192a_21 (Tr_mono d) hV hW x1 x2 M ?_
    rw [if_neg (by omega)]
    unfold cm_ at h
    rw [if_neg (by omega), up_id] at h
    exact h
  | succ k ih =>
    intro M hk h0 h5 h
    refine b_192a_21 (Tr_mono d) hV hW x1 x2 M ?_
    unfold cm_ at h
    split
    · refine ⟨by omega, fun _ => ?_⟩
      split
      · rename_i h1 h9 h2
        rw [if_neg (by omega), up_id] at h
        exact h
      · rename_i h1 h9 h2
        rw [if_pos ⟨h1, h2⟩] at h
        refine ih _ ?_ ?_ ?_ ?_ <;> simp only [ua_, if_true, if_false, reduceIte, Int.reduceEq, Nat.reduceEqDiff] <;> (try rw [w32_id (by omega) (by omega)])
        · (clear hV hW ih h0 h5 h h1 h9; omega)
        · omega
        · omega
        · rw [up_up]; exact h
    · rename_i h1
      rw [if_neg (by (clear hV hW ih hk h0 h5 h; omega)), up_id] at h
      exact h
theorem b9_ {c : Int} (h1 : -128 ≤ c) (h2 : c ≤ 127) (k : Int) (h3 : 0 ≤ k) (h4 : k ≤ 127) : c % 256 = k ↔ c = k := by omega
theorem l_192a_2 (hV : Cl_ wd0 (Tr_ wd0 pg0 (d + 1)) V Qr Qt m_192) (hW : Wk_ V) : ∀ (k : Nat) (M : mm_), (M 2 5 - M 2 7).toNat < k → 0 ≤ M 2 7 → M 2 7 ≤ M 2 5 → M 2 5 ≤ 5000 → (∀ i, 0 ≤ i → i < 5000 → -128 ≤ M 69 i ∧ M 69 i ≤ 127) → Qr [] (up_ M 2 7 (bk_ (M 69) (M 2 5) (M 2 7))) → V 2 [rr 2, ii 1, none] [] M := by
  intro k
  induction k with
  | zero => intro M hk; (clear hV hW; lia)
  | succ k ih =>
    intro M hk h0 h7 h5 hb h
    have h2out : ∀ M', Qr [] M' → V 2 [rr 2, ii 0, none] [] M' := fun M' h' => b_192a_2 (Tr_mono _) hV hW 0 M' (by rw [if_pos rfl]; exact h')
    refine b_192a_2 (Tr_mono _) hV hW 1 M ?_
    rw [if_neg (by decide)]
    refine s_193a h0 h5 ?_
    unfold by_
    unfold bk_ at h
    by_cases ha : M 2 7 < M 2 5
    · have hb1 := hb (M 2 7) h0 (by omega)
      rw [if_pos ha]
      rw [if_pos ha] at h
      split
      · rename_i h9'
        have h9 : M 69 (M 2 7) = 35 := by (clear hV hW ih hk h0 h7 h5 hb h2out h ha; lia)
        rw [if_pos h9] at h
        have hc : cm_ (M 69) (M 2 5) (M 2 7) = cm_ (M 69) (M 2 5) (M 2 7 + 1) := by
          rw [cm_, if_pos ⟨ha, by (clear hV hW ih hk h0 h7 h5 hb h2out h ha h9; omega)⟩]
        have hg := cm_ge (M 69) (M 2 5) (M 2 7 + 1)
        have hl := cm_le (M 69) (M 2 5) (M 2 7 + 1) (by omega)
        refine l_192a_21 hV hW _ M (Nat.le_refl _) h0 h5 ?_
        rw [hc]
        refine b_192a_59 (Tr_mono _) hV hW _ _ _ ?_
        simp only [h9, Int.reduceMod, Int.reduceEq, if_false, if_true, reduceIte]
        refine b_192a_95 (Tr_mono _) hV hW _ _ _ ?_
        have hgo : V 2 [rr 2, ii 1, none] [] (up_ M 2 7 (cm_ (M 69) (M 2 5) (M 2 7 + 1))) := by
          refine ih _ ?_ ?_ ?_ ?_ ?_ ?_ <;> simp only [ua_, if_true, if_false, reduceIte, Int.reduceEq, Nat.reduceEqDiff]
          · omega
          · omega
          · omega
          · omega
          · exact hb
          · rw [up_up]; exact h
        simp only [Int.reduceEq, if_false, if_true, reduceIte, ite_self]
        exact hgo
      · rename_i h9'
        have h9 : ¬ M 69 (M 2 7) = 35 := by (clear hV hW ih hk h0 h7 h5 hb h2out h ha hb1; lia)
        rw [if_neg h9] at h
        refine b_192a_59 (Tr_mono _) hV hW _ _ _ ?_
        have hgo : M 69 (M 2 7) = 9 ∨ M 69 (M 2 7) = 10 ∨ M 69 (M 2 7) = 13 ∨ M 69 (M 2 7) = 32 → V 95 [rr 2, ii 1, ii (M 69 (M 2 7) % 256)] [] M := by
          intro hx
          rw [if_pos hx] at h
          refine b_192a_95 (Tr_mono _) hV hW _ _ _ ?_
          rw [if_neg (by decide), if_pos ha, if_neg (by omega), w32_id (by omega) (by omega)]
          refine ih _ ?_ ?_ ?_ ?_ ?_ ?_ <;> simp only [ua_, if_true, if_false, reduceIte, Int.reduceEq, Nat.reduceEqDiff]
          · (clear hV hW ih h0 h7 h5 hb h2out h hb1; lia)
          · omega
          · omega
          · omega
          · exact hb
          · rw [up_up]; exact h
        split
        · exact hgo (by (clear hV hW ih hk h0 h7 h5 hb h2out h ha h9' h9 hgo; omega))
        · split
          · exact hgo (by (clear hV hW ih hk h0 h7 h5 hb h2out h ha h9' h9 hgo; lia))
          · split
            · exact hgo (by (clear hV hW ih hk h0 h7 h5 hb h2out h ha h9' h9 hgo; omega))
            · split
              · exact hgo (by omega)
              · rw [if_neg (by (clear hV hW ih hk h0 h7 h5 hb h2out h ha hb1 h9' h9 hgo; lia)), up_id] at h
                refine b_192a_95 (Tr_mono _) hV hW _ _ _ ?_
                rw [if_pos rfl]
                exact h2out _ h
    · rw [if_neg ha] at h ⊢
      rw [if_neg (by decide)]
      rw [up_id] at h
      refine b_192a_59 (Tr_mono _) hV hW _ _ _ ?_
      simp only [Int.reduceNeg, Int.reduceEq, if_false, reduceIte]
      refine b_192a_95 (Tr_mono _) hV hW _ _ _ ?_
      rw [if_pos rfl]
      exact h2out _ h
theorem s_192a {M : mm_} (h0 : 0 ≤ M 2 7) (h7 : M 2 7 ≤ M 2 5) (h5 : M 2 5 ≤ 5000) (hb : ∀ i, 0 ≤ i → i < 5000 → -128 ≤ M 69 i ∧ M 69 i ≤ 127) (h : Kv (up_ M 2 7 (bk_ (M 69) (M 2 5) (M 2 7)))) : Tr_ wd0 pg0 (d + 2) 192 [.inr (.inr 2)] M (rv_ Kv) Qt := t_192a fun V hV hW => b_192a_0 (Tr_mono _) hV hW M (l_192a_2 hV hW _ M (Nat.lt_succ_self _) h0 h7 h5 hb (rv_i h))
end TK
/-! tokens, Q's side -/
def bq_ (f : Int → Int) (n k : Int) : Int := if k < n then f k % 256 else 0
def cd_ (c : Int) : Int := if 97 ≤ c ∧ c ≤ 122 then c - 96 else if 48 ≤ c ∧ c ≤ 57 then c - 21 else if c = 95 then 37 else 0
section TQ
variable {d : Nat} {M : mm_} {K : Int → mm_ → Prop} {Kv : mm_ → Prop} {Qr : qr_} {Qt : qt_} {V : vv_}
theorem s_212 {x : Int} (h : K (sm_ x) M) : Tr_ wd0 pg0 (d + 1) 212 [.inl x] M (ri_ K) Qt := t_212 fun V hV hW => b_212_0 (Tr_mono d) hV hW x M (by
  unfold sm_ at h
  split
  · rw [if_neg (by (clear h hV hW; omega))] at h; exact ⟨.inl rfl, ri_i h⟩
  · split
    · rw [if_pos (by omega)] at h; exact ⟨.inr rfl, ri_i h⟩
    · rw [if_neg (by omega)] at h; exact ⟨.inl rfl, ri_i h⟩)
theorem s_213 {x : Int} (h : K (dg_ x) M) : Tr_ wd0 pg0 (d + 1) 213 [.inl x] M (ri_ K) Qt := t_213 fun V hV hW => b_213_0 (Tr_mono d) hV hW x M (by
  unfold dg_ at h
  split
  · rw [if_neg (by omega)] at h; exact ⟨.inl rfl, ri_i h⟩
  · split
    · rw [if_pos (by omega)] at h; exact ⟨.inr rfl, ri_i h⟩
    · rw [if_neg (by (clear h hV hW; omega))] at h; exact ⟨.inl rfl, ri_i h⟩)
theorem s_221 {x : Int} (h0 : 0 ≤ x) (hn : M 6 4 ≤ 5000) (h : K (bq_ (M 146) (M 6 4) x) M) : Tr_ wd0 pg0 (d + 1) 221 [.inr (.inr 6), .inl x] M (ri_ K) Qt := t_221 fun V hV hW => b_221_0 (Tr_mono d) hV hW x M (by
  unfold bq_ at h
  split
  · rename_i h1
    rw [if_pos h1] at h
    exact ⟨by omega, fun h2 => ri_i (by rw [an255 h2.1 h2.2]; exact h)⟩
  · rename_i h1
    rw [if_neg h1] at h
    exact ri_i h)
theorem s_211 {x : Int} (h1 : -1 ≤ x) (h2 : x ≤ 65535) (h : K (cd_ x) M) : Tr_ wd0 pg0 (d + 2) 211 [.inl x] M (ri_ K) Qt := t_211 fun V hV hW => b_211_0 (Tr_mono _) hV hW x M (by
  unfold cd_ at h
  refine s_212 ?_
  unfold sm_
  by_cases h3 : 97 ≤ x ∧ x ≤ 122
  · rw [if_pos h3] at h ⊢
    rw [if_neg (by decide)]
    refine ri_i ?_
    have : w32 (w32 (x - 97) + 1) = x - 96 := by unfold w32; omega
    rw [this]; exact h
  · rw [if_neg h3] at h ⊢
    rw [if_pos rfl]
    refine s_213 ?_
    unfold dg_
    by_cases h4 : 48 ≤ x ∧ x ≤ 57
    · rw [if_pos h4] at h ⊢
      rw [if_neg (by decide)]
      refine ri_i ?_
      have : w32 (w32 (x - 48) + 27) = x - 21 := by unfold w32; (clear h hV hW h3; omega)
      rw [this]; exact h
    · rw [if_neg h4] at h ⊢
      rw [if_pos rfl]
      split <;> rename_i h5
      · rw [if_pos h5] at h; exact ri_i h
      · rw [if_neg h5] at h; exact ri_i h)
theorem s_224 {k p v : Int} (h0 : 0 ≤ M 6 11) (h1 : M 6 11 < 1202) (h : Kv (up_ (up_ (up_ (up_ M 149 (M 6 11) k) 150 (M 6 11) p) 151 (M 6 11) v) 6 11 (M 6 11 + 1))) : Tr_ wd0 pg0 (d + 1) 224 [.inr (.inr 6), .inl k, .inl p, .inr (.inl v)] M (rv_ Kv) Qt := t_224 fun V hV hW => b_224_0 (Tr_mono _) hV hW k p v M ⟨⟨h0, h1⟩, ⟨h0, h1⟩, ⟨h0, h1⟩, rv_i (by rw [w32_id (by omega) (by omega)]; exact h)⟩
theorem l_220_30 (hV : Cl_ wd0 (Tr_ wd0 pg0 (d + 1)) V Qr Qt m_220) (hW : Wk_ V) (h5 : M 6 4 ≤ 5000) (hb : ∀ i, 0 ≤ i → i < 5000 → -128 ≤ M 146 i ∧ M 146 i ≤ 127) {x1 x3 x4 : Int} : ∀ (k : Nat) (a : Int), (M 6 4 - a).toNat ≤ k → 0 ≤ a → V 4 [rr 6, ii x1, ii (cm_ (M 146) (M 6 4) a), ii x3, none] [] M → V 30 [rr 6, ii x1, ii a, ii x3, ii x4] [] M := by
  intro k
  induction k with
  | zero =>
    intro a hk h0 h
    refine b_220_30 (Tr_mono _) hV hW x1 a x3 x4 M ?_
    rw [if_neg (by omega)]
    unfold cm_ at h
    rw [if_neg (by omega)] at h
    exact h
  | succ k ih =>
    intro a hk h0 h
    refine b_220_30 (Tr_mono _) hV hW x1 a x3 x4 M ?_
    unfold cm_ at h
    split
    · rename_i h1
      have hb1 := hb a h0 (by omega)
      refine s_221 h0 h5 ?_
      unfold bq_
      rw [if_pos h1]
      split
      · rename_i h2
        rw [if_neg (by omega)] at h
        exact h
      · rename_i h2
        rw [if_pos (by omega)] at h
        rw [w32_id (by omega) (by omega)]
        exact ih _ (by (clear hV hW h5 hb ih h0 h h1 hb1; omega)) (by omega) h
    · rename_i h1
      rw [if_neg (by omega)] at h
      exact h
theorem l_220_4 (hV : Cl_ wd0 (Tr_ wd0 pg0 (d + 1)) V Qr Qt m_220) (hW : Wk_ V) (h5 : M 6 4 ≤ 5000) (hb : ∀ i, 0 ≤ i → i < 5000 → -128 ≤ M 146 i ∧ M 146 i ≤ 127) {x1 : Int} : ∀ (k : Nat) (a : Int), (M 6 4 - a).toNat < k → 0 ≤ a → Qr [.inl (bk_ (M 146) (M 6 4) a)] M → V 4 [rr 6, ii x1, ii a, ii 1, none] [] M := by
  intro k
  induction k with
  | zero => intro a hk; (clear hV hW hb; lia)
  | succ k ih =>
    intro a hk h0 h
    refine b_220_4 (Tr_mono _) hV hW x1 a 1 M ?_
    rw [if_neg (by decide)]
    unfold bk_ at h
    split
    · rename_i h1
      rw [if_pos h1] at h
      have hb1 := hb a h0 (by omega)
      refine s_221 h0 h5 ?_
      unfold bq_
      rw [if_pos h1]
      have hgo : M 146 a = 9 ∨ M 146 a = 10 ∨ M 146 a = 13 ∨ M 146 a = 32 → V 4 [rr 6, ii x1, ii (w32 (a + 1)), ii 1, none] [] M := by
        intro hx
        rw [if_neg (by (clear hV hW h5 hb ih hk h0 h h1 hb1; lia)), if_pos hx] at h
        rw [w32_id (by omega) (by omega)]
        exact ih _ (by omega) (by omega) h
      split
      · rename_i h9
        have h8 : M 146 a = 35 := by (clear hV hW h5 hb ih hk h0 h h1 hgo; lia)
        rw [if_pos h8] at h
        refine l_220_30 hV hW h5 hb _ a (Nat.le_refl _) h0 ?_
        have hg := cm_ge (M 146) (M 6 4) (a + 1)
        rw [cm_, if_pos ⟨h1, by (clear hV hW h5 hb ih hk h0 h h1 hgo h8 hg; omega)⟩]
        exact ih _ (by (clear hV hW hb ih h h8; lia)) (by (clear hV hW hb ih hk h hb1 hgo h9 h8; lia)) h
      · split
        · exact hgo (by (clear hV hW h5 hb ih hk h0 h h1 hgo; lia))
        · split
          · exact hgo (by (clear hV hW h5 hb ih hk h0 h h1 hgo; lia))
          · split
            · exact hgo (by (clear hV hW h5 hb ih hk h0 h h1 hgo; lia))
            · split
              · exact hgo (by omega)
              · rw [if_neg (by (clear hV hW h5 hb ih hk h0 h h1 hb1 hgo; lia)), if_neg (by (clear hV hW h5 hb ih hk h0 h h1 hb1 hgo; lia))] at h
                refine b_220_4 (Tr_mono _) hV hW x1 a 0 M ?_
                rw [if_pos rfl]
                exact h
    · rename_i h1
      rw [if_neg h1] at h
      exact h
theorem s_220 (h5 : M 6 4 ≤ 5000) (hb : ∀ i, 0 ≤ i → i < 5000 → -128 ≤ M 146 i ∧ M 146 i ≤ 127) {a : Int} (h0 : 0 ≤ a) (h : K (bk_ (M 146) (M 6 4) a) M) : Tr_ wd0 pg0 (d + 2) 220 [.inr (.inr 6), .inl a] M (ri_ K) Qt := t_220 fun V hV hW => b_220_0 (Tr_mono _) hV hW a M (l_220_4 hV hW h5 hb _ a (Nat.lt_succ_self _) h0 (ri_i h))
end TQ
/-! words and names -/
def alL : List Int := [32, 115, 105, 103, 110, 97, 108, 32, 114, 111, 117, 116, 101, 32, 112, 114, 111, 99, 101, 115, 115, 32, 118, 97, 114, 32, 116, 105, 109, 101, 114, 32, 115, 116, 97, 114, 116, 32, 115, 116, 97, 116, 101, 32, 105, 110, 112, 117, 116, 32, 115, 97, 118, 101, 32, 119, 104, 101, 110, 32, 110, 111, 110, 101, 32, 110, 101, 120, 116, 32, 115, 116, 111, 112, 32, 106, 111, 105, 110, 32, 111, 117, 116, 112, 117, 116, 32, 115, 101, 116, 32, 114, 101, 115, 101, 116, 32, 99, 114, 101, 97, 116, 101, 32, 100, 101, 99, 105, 100, 101, 32, 101, 108, 115, 101, 32, 101, 110, 100, 32, 116, 111, 32, 118, 105, 97, 32, 119, 105, 116, 104, 32, 100, 101, 108, 97, 121, 32, 101, 110, 118, 32, 105, 102, 32, 112, 114, 105, 111, 32, 105, 110, 116, 32, 98, 111, 111, 108, 32, 112, 105, 100, 32, 116, 114, 117, 101, 32, 102, 97, 108, 115, 101, 32, 110, 117, 108, 108, 32, 115, 101, 108, 102, 32, 115, 101, 110, 100, 101, 114, 32, 112, 97, 114, 101, 110, 116, 32, 111, 102, 102, 115, 112, 114, 105, 110, 103, 32, 110, 111, 119, 32, 97, 99, 116, 105, 118, 101, 32, 119, 97, 105, 116, 105, 110, 103, 32, 110, 111, 116, 32, 97, 110, 100, 32, 111, 114, 32, 99, 104, 97, 114, 116, 32, 105, 110, 115, 116, 32, 97, 108, 116, 32, 111, 112, 116, 32]
def sgL : List Int := [40, 41, 91, 93, 44, 59, 58, 42, 43, 47, 37, 61, 60, 62, 45]
def wpL : List Int := [1, 8, 14, 22, 26, 32, 38, 44, 50, 55, 60, 65, 70, 75, 80, 87, 91, 97, 104, 111, 116, 120, 123, 127, 132, 138, 142, 145, 150, 154, 159, 163, 168, 174, 179, 184, 191, 198, 208, 212, 219, 227, 231, 235, 238, 244, 249, 253, 257]
def whL : List Int := [1524638786, 38386617, 49632664785, 31824, 42215548, 40717172, 40717233, 19558354, 1044853, 1273812, 790405, 776360, 1072034, 570736, 1233436738, 27646, 37834454, 275514521, 327544121, 292415, 7756, 775, 32111, 1275820, 8632295, 7774, 348, 904301, 13548, 131986, 23450, 1124235, 12583743, 799000, 1050250, 1516668064, 1270843292, 65922981022895, 20809, 86601853, 69350649199, 20806, 1980, 588, 6696532, 514806, 1920, 22288]
def pAl (i : Int) : Int := alL.getD i.toNat 0
def pSg (i : Int) : Int := sgL.getD i.toNat 0
def pWp (w : Nat) : Int := wpL.getD w 0
def pWh (w : Nat) : Int := whL.getD w 0
/-- what does not change: the letters of the strings -/
def RO_ (M : mm_) : Prop := M 1001 1 = 0 ∧ M 1002 1 = 0 ∧ (∀ i, 0 ≤ i → i < 257 → M 1011 i = pAl i) ∧ (∀ i, 0 ≤ i → i < 15 → M 1012 i = pSg i)
/-- the number of a name -/
def hs_ (f : Int → Int) (a : Int) : Nat → Int
  | 0 => 0
  | m + 1 => 38 * hs_ f a m + cd_ (f (a + m) % 256)
theorem cd_r (c : Int) : 0 ≤ cd_ c ∧ cd_ c ≤ 37 := by
  unfold cd_
  split
  · omega
  · split
    · omega
    · split <;> omega
theorem cd_inj {c c' : Int} (h : 0 < cd_ c) (h2 : cd_ c = cd_ c') : c = c' := by
  revert h2 h
  unfold cd_
  intro h h2
  split at h
  all_goals split at h2
  all_goals (try split at h2)
  all_goals (try split at h2)
  all_goals (try split at h2)
  all_goals (try split at h2)
  all_goals omega
theorem hs_nn {f : Int → Int} {a : Int} (m : Nat) : 0 ≤ hs_ f a m := by
  induction m with
  | zero => exact Int.le_refl _
  | succ m ih => have := (cd_r (f (a + m) % 256)).1; unfold hs_; omega
theorem hs_pos {f : Int → Int} {a : Int} {m : Nat} (h : ∀ j : Nat, j < m + 1 → 0 < cd_ (f (a + j) % 256)) : 0 < hs_ f a (m + 1) := by
  have := hs_nn (f := f) (a := a) m
  have := h m (by omega)
  unfold hs_; omega
theorem hs_inj {f g : Int → Int} {a b : Int} : ∀ (m m' : Nat), (∀ j : Nat, j < m → 0 < cd_ (f (a + j) % 256)) → (∀ j : Nat, j < m' → 0 < cd_ (g (b + j) % 256)) → hs_ f a m = hs_ g b m' → m = m' ∧ ∀ j : Nat, j < m → f (a + j) % 256 = g (b + j) % 256
  | 0, 0, _, _, _ => ⟨rfl, fun j h => by omega⟩
  | 0, m' + 1, _, hg, h => by have := hs_pos hg; rw [← h] at this; exact absurd this (by simp [hs_])
  | m + 1, 0, hf, _, h => by have := hs_pos hf; rw [h] at this; exact absurd this (by simp [hs_])
  | m + 1, m' + 1, hf, hg, h => by
    have h1 := cd_r (f (a + m) % 256)
    have h2 := cd_r (g (b + m') % 256)
    have h3 := hf m (by omega)
    have h4 := hg m' (by omega)
    unfold hs_ at h
    have h5 : cd_ (f (a + m) % 256) = cd_ (g (b + m') % 256) := by omega
    have h6 : hs_ f a m = hs_ g b m' := by (clear hf hg h1 h2 h3 h4; lia)
    obtain ⟨h7, h8⟩ := hs_inj m m' (fun j hj => hf j (by omega)) (fun j hj => hg j (by omega)) h6
    subst h7
    refine ⟨rfl, fun j hj => ?_⟩
    by_cases hj2 : j < m
    · exact h8 j hj2
    · have : j = m := by omega
      subst this
      exact cd_inj h3 h5
theorem hs_eq {f g : Int → Int} {a b : Int} : ∀ (m : Nat), (∀ j : Nat, j < m → f (a + j) % 256 = g (b + j) % 256) → hs_ f a m = hs_ g b m
  | 0, _ => rfl
  | m + 1, h => by
    unfold hs_
    rw [hs_eq m (fun j hj => h j (by omega)), h m (by omega)]
/-- the first word of a number, from one on; 48 without one -/
def pWi (v : Int) : Nat → Nat → Nat
  | 0, w => w
  | k + 1, w => if pWh w = v then w else pWi v k (w + 1)
theorem w_ok : ∀ w : Fin 48, hs_ pAl (pWp w.val) (pWp (w.val + 1) - 1 - pWp w.val).toNat = pWh w.val ∧ 1 ≤ pWp w.val ∧ pWp w.val < pWp (w.val + 1) - 1 ∧ pWp (w.val + 1) ≤ 257 ∧ pAl (pWp (w.val + 1) - 1) = 32 ∧ (∀ j : Fin 10, pWp w.val + j.val < pWp (w.val + 1) - 1 → 0 < cd_ (pAl (pWp w.val + j.val) % 256) ∧ 48 ≤ pAl (pWp w.val + j.val) ∧ pAl (pWp w.val + j.val) ≤ 122) ∧ pWp (w.val + 1) - 1 - pWp w.val ≤ 10 := by decide +kernel
/-! X's words -/
section TW
variable {d : Nat} {M : mm_} {K : Int → mm_ → Prop} {Kv : mm_ → Prop} {Qr : qr_} {Qt : qt_} {V : vv_}
theorem s_420a (hr : RO_ M) (h : K 257 M) : Tr_ wd0 pg0 (d + 2) 420 [.inr (.inr 1001)] M (ri_ K) Qt := t_420a fun V hV hW => b_420a_0 (Tr_mono _) hV hW M (t_421a fun V hV hW => b_421a_0 (Tr_mono _) hV hW M (by
  rw [if_neg (by decide), hr.1]
  exact ⟨by omega, ri_i (ri_i (by have : sr_ 257 0 = 257 := by decide
                                  rw [this]; exact h))⟩))
theorem s_423a (hr : RO_ M) (h : K 1 M) : Tr_ wd0 pg0 (d + 1) 423 [.inr (.inr 1001)] M (ri_ K) Qt := t_423a fun V hV hW => b_423a_0 (Tr_mono _) hV hW M (by
  rw [if_neg (by decide), if_pos hr.1]
  exact ⟨.inr rfl, ri_i h⟩)
theorem s_431 {x : Int} (h0 : 0 ≤ x) (h1 : x ≤ 255) (h : K 1 M) : Tr_ wd0 pg0 (d + 1) 431 [.inl x] M (ri_ K) Qt := t_431 fun V hV hW => b_431_0 (Tr_mono _) hV hW x M (by
  rw [if_neg (by omega), if_pos h1]
  exact ⟨.inr rfl, ri_i h⟩)
theorem l_432a (hV : Cl_ wd0 (Tr_ wd0 pg0 d) V Qr Qt m_432) (hW : Wk_ V) {x1 x2 x4 e : Int} (he : e < 257) (h2 : M 1011 e = x4) (h : Qr [.inl e] M) : ∀ (k : Nat) (a : Int), (e - a).toNat ≤ k → 0 ≤ a → a ≤ e → (∀ i, a ≤ i → i < e → M 1011 i ≠ x4) → V 7 [rr 1011, ii x1, ii x2, ii 257, ii x4, ii a] [] M := by
  intro k
  induction k with
  | zero =>
    intro a hk h0 ha h1
    have : a = e := by (clear hV hW h2 h h1; lia)
    subst this
    refine b_432a_7 (Tr_mono _) hV hW x1 x2 257 x4 a M ?_
    rw [if_pos he, if_pos h2]
    exact ⟨by omega, h⟩
  | succ k ih =>
    intro a hk h0 ha h1
    refine b_432a_7 (Tr_mono _) hV hW x1 x2 257 x4 a M ?_
    rw [if_pos (by omega)]
    refine ⟨by omega, ?_⟩
    by_cases h3 : a = e
    · subst h3; rw [if_pos h2]; exact h
    · rw [if_neg (h1 a (by omega) (by omega)), w32_id (by omega) (by omega)]
      exact ih _ (by omega) (by omega) (by omega) (fun i h4 h5 => h1 i (by omega) h5)
theorem s_422a (hr : RO_ M) {a e : Int} (h0 : 0 ≤ a) (ha : a ≤ e) (he : e < 257) (h1 : ∀ i, a ≤ i → i < e → pAl i ≠ 32) (h2 : pAl e = 32) (h : K e M) : Tr_ wd0 pg0 (d + 4) 422 [.inr (.inr 1001), .inl 32, .inl a] M (ri_ K) Qt := t_422a fun V hV hW => b_422a_0 (Tr_mono _) hV hW 32 a M (s_423a hr (by
  rw [if_neg (by decide)]
  refine s_420a hr ?_
  refine t_430a fun V hV hW => b_430a_0 (Tr_mono _) hV hW 32 a 257 M (s_431 (by omega) (by omega) ?_)
  rw [if_neg (by decide), if_neg (show ¬ a < 0 by omega), if_neg (show ¬ (257 : Int) < 257 by omega), if_pos (by omega)]
  refine t_432a fun V hV hW => b_432a_0 (Tr_mono _) hV hW 32 a 257 M ?_
  have hi : ib_ 32 = 32 := by decide
  rw [hi]
  exact l_432a hV hW he (by rw [hr.2.2.1 e (by omega) he]; exact h2) (ri_i (ri_i (ri_i h))) _ a (Nat.le_refl _) h0 ha (fun i h4 h5 => by rw [hr.2.2.1 i (by omega) (by omega)]; exact h1 i h4 h5)))
theorem s_425 (hr : RO_ M) {x : Int} (h0 : 0 ≤ x) (h1 : x < 257) (hc : 0 ≤ pAl x ∧ pAl x ≤ 127) (h : K (pAl x) M) : Tr_ wd0 pg0 (d + 4) 425 [.inr (.inr 1001), .inl x] M (ri_ K) Qt := t_425 fun V hV hW => b_425_0 (Tr_mono _) hV hW x M (s_423a hr (by
  rw [if_neg (by decide)]
  refine t_433 fun V hV hW => b_433_0 (Tr_mono _) hV hW x M (t_426 fun V hV hW => b_426_0 (Tr_mono _) hV hW x 257 M (t_437 fun V hV hW => b_437_0 (Tr_mono _) hV hW x 257 M ?_))
  rw [if_neg (by omega), if_pos h1]
  refine ri_i (rv_i ?_)
  have h9 : ic_ (an_ (M 1011 x) 255) = pAl x := by
    rw [hr.2.2.1 x h0 h1, an255 (by omega) (by omega)]
    unfold ic_
    omega
  rw [h9]
  exact ⟨⟨h0, h1⟩, by (clear hr h0 h1 h hV hW; omega), ri_i ⟨by omega, ri_i h⟩⟩))
end TW
/-! X's words, their loops -/
theorem cd_by {f : Int → Int} {n a : Int} (h : 0 < cd_ (by_ f n a)) : a < n := by
  unfold by_ at h
  split at h
  · assumption
  · exact absurd h (by decide)
/-- where a name ends -/
def ne_ (f : Int → Int) (n a : Int) : Int := if h : 0 < cd_ (by_ f n a) then ne_ f n (a + 1) else a
termination_by (n - a).toNat
decreasing_by have := cd_by h; omega
theorem ne_ge (f : Int → Int) (n a : Int) : a ≤ ne_ f n a := by
  unfold ne_
  split
  · rename_i h
    have := cd_by h
    have := ne_ge f n (a + 1); (clear h; omega)
  · omega
termination_by (n - a).toNat
decreasing_by omega
theorem ne_le (f : Int → Int) (n a : Int) (h : a ≤ n) : ne_ f n a ≤ n := by
  unfold ne_
  split
  · rename_i h
    have := cd_by h
    exact ne_le f n (a + 1) (by omega)
  · omega
termination_by (n - a).toNat
decreasing_by omega
theorem ne_in (f : Int → Int) (n a : Int) : ∀ i, a ≤ i → i < ne_ f n a → 0 < cd_ (f i % 256) ∧ i < n := by
  intro i h1 h2
  unfold ne_ at h2
  split at h2
  · rename_i h
    have h3 := cd_by h
    by_cases h4 : i = a
    · subst h4
      unfold by_ at h
      rw [if_pos h3] at h
      exact ⟨h, h3⟩
    · exact ne_in f n (a + 1) i (by omega) h2
  · omega
termination_by (n - a).toNat
decreasing_by omega
theorem cd_pos {c : Int} : 0 < cd_ c ↔ sm_ c = 1 ∨ dg_ c = 1 ∨ c = 95 := by
  unfold cd_ sm_ dg_
  constructor
  · intro h
    split at h
    · rename_i h1; left; rw [if_pos h1]
    · split at h
      · rename_i h1; right; left; rw [if_pos h1]
      · split at h
        · rename_i h1; right; right; exact h1
        · omega
  · intro h
    split
    · omega
    · split
      · omega
      · split
        · omega
        · rename_i h1 h2 h3
          rw [if_neg h1, if_neg h2] at h
          lia
section TV
variable {d : Nat} {M : mm_} {K : Int → mm_ → Prop} {Kv : mm_ → Prop} {Qr : qr_} {Qt : qt_} {V : vv_}
theorem l_196a_5 (hV : Cl_ wd0 (Tr_ wd0 pg0 (d + 1)) V Qr Qt m_196) (hW : Wk_ V) {x1 : Int} (hx : 0 ≤ x1) : ∀ (k : Nat) (M : mm_), (M 2 5 - M 2 7).toNat ≤ k → x1 ≤ M 2 7 → M 2 7 ≤ M 2 5 → M 2 5 ≤ 5000 →
    (ne_ (M 69) (M 2 5) (M 2 7) - x1 ≤ 10 → V 80 [rr 2, ii x1, ii (ne_ (M 69) (M 2 5) (M 2 7) - x1), ii 0, ii 1, none, none, none] [] (up_ M 2 7 (ne_ (M 69) (M 2 5) (M 2 7)))) →
    (10 < ne_ (M 69) (M 2 5) (M 2 7) - x1 → Qr [.inl 103] (up_ M 2 7 (ne_ (M 69) (M 2 5) (M 2 7)))) → V 5 [rr 2, ii x1, none, none, none, none, none, none] [] M := by
  intro k
  induction k with
  | zero =>
    intro M hk h1 h2 h5 ha hb
    have hn : ne_ (M 69) (M 2 5) (M 2 7) = M 2 7 := by
      unfold ne_
      rw [dif_neg (fun h => by have := cd_by h; omega)]
    rw [hn, up_id] at ha hb
    have hby : by_ (M 69) (M 2 5) (M 2 7) = -1 := by unfold by_; rw [if_neg (by (clear hV hW hx h2 h5; lia))]
    refine b_196a_5 (Tr_mono _) hV hW x1 M (s_193a (by (clear hV hW hk h2 h5 ha hb hby; lia)) h5 (s_195 ?_))
    rw [hby, if_pos (by decide)]
    refine s_193a (by omega) h5 (s_197 ?_)
    rw [hby, if_pos (by decide)]
    refine s_193a (by omega) h5 ?_
    rw [hby, if_neg (by decide), w32_id (by (clear hV hW hx hk h2 h5 ha hb hby; lia)) (by omega)]
    split
    · exact ha (by omega)
    · exact hb (by (clear hV hW hx hk h1 h2 h5 ha hb hby; omega))
  | succ k ih =>
    intro M hk h1 h2 h5 ha hb
    have hgo : 0 < cd_ (by_ (M 69) (M 2 5) (M 2 7)) → V 5 [rr 2, ii x1, none, none, none, none, none, none] [] (up_ M 2 7 (w32 (M 2 7 + 1))) := by
      intro hc
      have hl := cd_by hc
      have hn : ne_ (M 69) (M 2 5) (M 2 7) = ne_ (M 69) (M 2 5) (M 2 7 + 1) := by rw [ne_, dif_pos hc]
      rw [hn] at ha hb
      rw [w32_id (by (clear hV hW ih hk h2 h5 ha hb hc hl hn; omega)) (by (clear hV hW hx ih hk h1 h2 ha hb hc hn; omega))]
      refine ih _ ?_ ?_ ?_ ?_ ?_ ?_ <;> simp only [ua_, if_true, if_false, reduceIte, Int.reduceEq, Nat.reduceEqDiff, up_up]
      · omega
      · (clear hV hW hx ih hk h2 h5 ha hb hc hl hn; omega)
      · (clear hV hW hx ih hk h1 h2 h5 ha hb hc hn; omega)
      · omega
      · exact ha
      · exact hb
    have hnp := @cd_pos (by_ (M 69) (M 2 5) (M 2 7))
    refine b_196a_5 (Tr_mono _) hV hW x1 M (s_193a (by (clear hV hW ih hk h2 h5 ha hb hgo hnp; lia)) h5 (s_195 ?_))
    split
    · rename_i h6
      refine s_193a (by omega) h5 (s_197 ?_)
      split
      · rename_i h7
        refine s_193a (by omega) h5 ?_
        split
        · rename_i h8
          exact hgo (hnp.mpr (.inr (.inr h8)))
        · rename_i h8
          have hc : ¬ 0 < cd_ (by_ (M 69) (M 2 5) (M 2 7)) := fun h => by have := hnp.mp h; (clear hV hW hx ih hk h1 h2 h5 ha hb hgo hnp h; lia)
          have hn : ne_ (M 69) (M 2 5) (M 2 7) = M 2 7 := by rw [ne_, dif_neg hc]
          rw [hn, up_id] at ha hb
          rw [w32_id (by (clear hV hW hx ih hk h2 h5 ha hb hgo hnp h6 h7 h8 hc; omega)) (by (clear hV hW ih hk h1 ha hb hgo hnp h6 h7 h8 hc; omega))]
          split
          · exact ha (by omega)
          · exact hb (by (clear hV hW hx ih hk h1 h2 h5 ha hb hgo hnp h6 h7 h8 hc; omega))
      · rename_i h7
        exact hgo (hnp.mpr (.inr (.inl (by revert h7; unfold dg_; split <;> simp))))
    · rename_i h6
      exact hgo (hnp.mpr (.inl (by revert h6; unfold sm_; split <;> simp)))
end TV
/-! X's words, found -/
theorem pAl_r {i : Int} (h0 : 0 ≤ i) (h1 : i < 257) : 0 ≤ pAl i ∧ pAl i ≤ 127 := by
  have h : ∀ k : Fin 257, 0 ≤ pAl k.val ∧ pAl k.val ≤ 127 := by decide +kernel
  have := h ⟨i.toNat, by omega⟩
  have h2 : ((i.toNat : Nat) : Int) = i := by (clear h this; lia)
  simp only [h2] at this
  exact this
theorem w_len {w : Nat} (hw : w < 48) : 1 ≤ pWp w ∧ pWp w < pWp (w + 1) - 1 ∧ pWp (w + 1) ≤ 257 ∧ pAl (pWp (w + 1) - 1) = 32 ∧ pWp (w + 1) - 1 - pWp w ≤ 10 := by
  have := w_ok ⟨w, hw⟩
  exact ⟨this.2.1, this.2.2.1, this.2.2.2.1, this.2.2.2.2.1, this.2.2.2.2.2.2⟩
theorem w_chr {w : Nat} (hw : w < 48) {j : Int} (h0 : 0 ≤ j) (h1 : pWp w + j < pWp (w + 1) - 1) : 0 < cd_ (pAl (pWp w + j) % 256) ∧ 48 ≤ pAl (pWp w + j) ∧ pAl (pWp w + j) ≤ 122 := by
  have h2 := w_len hw
  have := (w_ok ⟨w, hw⟩).2.2.2.2.2.1 ⟨j.toNat, by omega⟩
  have h3 : ((j.toNat : Nat) : Int) = j := by (clear hw h1 h2 this; lia)
  simp only [h3] at this
  exact this h1
theorem w_hash {w : Nat} (hw : w < 48) : hs_ pAl (pWp w) (pWp (w + 1) - 1 - pWp w).toNat = pWh w := (w_ok ⟨w, hw⟩).1
theorem w_no32 {w : Nat} (hw : w < 48) : ∀ i, pWp w ≤ i → i < pWp (w + 1) - 1 → pAl i ≠ 32 := by
  intro i h1 h2
  have := w_chr hw (j := i - pWp w) (by omega) (by omega)
  have h3 : pWp w + (i - pWp w) = i := by (clear hw h1 h2 this; lia)
  rw [h3] at this
  (clear hw h1 h2 h3; omega)
/-- a word is a text's piece if and only if their numbers are the same -/
theorem w_is {f : Int → Int} {a n : Int} {w : Nat} (hw : w < 48) (hn : 0 ≤ n) (hf : ∀ i, a ≤ i → i < a + n → 0 < cd_ (f i % 256)) (hb : ∀ i, a ≤ i → i < a + n → -128 ≤ f i ∧ f i ≤ 127) :
    pWh w = hs_ f a n.toNat ↔ (pWp (w + 1) - 1 - pWp w = n ∧ ∀ j, 0 ≤ j → j < n → pAl (pWp w + j) = f (a + j)) := by
  rw [← w_hash hw]
  have hl := w_len hw
  constructor
  · intro h
    obtain ⟨h1, h2⟩ := hs_inj _ _ (fun j hj => (w_chr hw (by (clear hw hn hf hb hl h hj; lia)) (by omega)).1) (fun j hj => hf _ (by (clear hw hn hf hb hl h hj; lia)) (by (clear hw hn hf hb hl h; omega))) h
    refine ⟨by (clear hw hf hb h h2; omega), fun j h3 h4 => ?_⟩
    have h5 := h2 j.toNat (by omega)
    have h6 : ((j.toNat : Nat) : Int) = j := by (clear hw hn hf hb hl h h1 h2 h4 h5; lia)
    rw [h6] at h5
    have h7 := w_chr hw h3 (by omega)
    have h8 := hb (a + j) (by (clear hw hn hf hb hl h h1 h2 h4 h5 h7; lia)) (by (clear hw hn hf hb hl h h1 h2 h3 h5 h7; omega))
    (clear hw hn hf hb hl h h1 h2 h3 h4 h6; lia)
  · intro h
    rw [h.1]
    exact hs_eq _ fun j hj => by rw [h.2 j (by omega) (by omega)]
section TU
variable {d : Nat} {M : mm_} {K : Int → mm_ → Prop} {Kv : mm_ → Prop} {Qr : qr_} {Qt : qt_} {V : vv_}
theorem l_196a_120 (hr : RO_ M) (hV : Cl_ wd0 (Tr_ wd0 pg0 (d + 4)) V Qr Qt m_196) (hW : Wk_ V) {x1 n w k e : Int} (hx : 0 ≤ x1) (hn : x1 + n ≤ 5000) (hw : 0 ≤ w ∧ w < 48) (hk : 1 ≤ k) (he : e < 257) (hen : e - k = n) (h80 : V 80 [rr 2, ii x1, ii n, ii (w + 1), ii (e + 1), none, none, none] [] M ∨ ∀ j, 0 ≤ j → j < n → pAl (k + j) = M 69 (x1 + j)) (hq : (∀ j, 0 ≤ j → j < n → pAl (k + j) = M 69 (x1 + j)) → Qr [.inl w] M) :
    ∀ (c : Nat) (i : Int), (n - i).toNat ≤ c → 0 ≤ i → i ≤ n → (∀ j, 0 ≤ j → j < i → pAl (k + j) = M 69 (x1 + j)) → V 120 [rr 2, ii x1, ii n, ii w, ii k, ii e, ii 1, ii i] [] M := by
  intro c
  induction c with
  | zero =>
    intro i hc h0 hi hj
    have : i = n := by (clear hr hV hW hx hn hw h80 hq hj; lia)
    subst this
    refine b_196a_120 (Tr_mono _) hV hW x1 i w k e 1 i M ?_
    rw [if_neg (by omega), if_neg (by decide)]
    exact hq hj
  | succ c ih =>
    intro i hc h0 hi hj
    refine b_196a_120 (Tr_mono _) hV hW x1 n w k e 1 i M ?_
    by_cases h1 : i < n
    · rw [if_pos h1, if_neg (by decide), w32_id (x := k + i) (by (clear hr hV hW hw he h80 hq ih hc hi hj; lia)) (by omega), w32_id (x := x1 + i) (by omega) (by omega)]
      refine s_425 hr (by (clear hr hV hW hw he h80 hq ih hc hi hj; lia)) (by (clear hr hV hW hx hn hw hk h80 hq ih hc h0 hi hj; omega)) (pAl_r (by omega) (by omega)) ⟨by (clear hr hV hW hw hk he h80 hq ih hc hi hj; lia), fun hb => ?_⟩
      rw [w32_id (x := i + 1) (by omega) (by omega)]
      split
      · rename_i h2
        refine ih _ (by (clear hr hV hW hx hn hw hk he h80 hq ih h0 hi hj h1 hb h2; omega)) (by (clear hr hV hW hx hn hw hk he hen h80 hq ih hc hi hj h1 hb h2; lia)) (by (clear hr hV hW hx hn hw hk he h80 hq ih hc h0 hi hj hb h2; omega)) (fun j h3 h4 => ?_)
        by_cases h5 : j = i
        · subst h5; exact h2
        · exact hj j h3 (by (clear hr hV hW hx hn hw hk he hen h80 hq ih hc h0 hi hj h1 hb h2 h3; omega))
      · rename_i h2
        refine b_196a_120 (Tr_mono _) hV hW x1 n w k e 0 (i + 1) M ?_
        simp only [if_true, reduceIte, ite_self]
        rw [w32_id (x := w + 1) (by (clear hr hV hW hx hn hk he hen h80 hq ih hc h0 hi hj h1 hb h2; omega)) (by omega), w32_id (x := e + 1) (by (clear hr hV hW hx hn hw he h80 hq ih hc hi hj hb h2; lia)) (by omega)]
        rcases h80 with h80 | h80
        · exact h80
        · exact absurd (h80 i h0 h1) h2
    · have : i = n := by (clear hr hV hW hx hn hw hk he h80 hq ih hc h0 hj; omega)
      subst this
      rw [if_neg (by omega), if_neg (by decide)]
      exact hq hj
theorem l_196a_80 (hr : RO_ M) (hV : Cl_ wd0 (Tr_ wd0 pg0 (d + 4)) V Qr Qt m_196) (hW : Wk_ V) {x1 n : Int} (hx : 0 ≤ x1) (h0 : 0 < n) (hn : x1 + n ≤ 5000) (hf : ∀ i, x1 ≤ i → i < x1 + n → 0 < cd_ (M 69 i % 256)) (hb : ∀ i, x1 ≤ i → i < x1 + n → -128 ≤ M 69 i ∧ M 69 i ≤ 127) :
    ∀ (c w : Nat), w + c = 48 → Qr [.inl (if pWi (hs_ (M 69) x1 n.toNat) c w < 48 then (pWi (hs_ (M 69) x1 n.toNat) c w : Int) else 100)] M → V 80 [rr 2, ii x1, ii n, ii (w : Int), ii (pWp w), none, none, none] [] M := by
  intro c
  induction c with
  | zero =>
    intro w hw h
    have hw : w = 48 := by omega
    subst hw
    refine b_196a_80 (Tr_mono _) hV hW x1 n _ _ M (s_420a hr ?_)
    have : pWp 48 = 257 := by decide
    rw [this, if_neg (by decide)]
    exact h
  | succ c ih =>
    intro w hw h
    have hw8 : w < 48 := by omega
    have hl := w_len hw8
    have hi := w_is hw8 (Int.le_of_lt h0) hf hb
    unfold pWi at h
    refine b_196a_80 (Tr_mono _) hV hW x1 n _ _ M (s_420a hr ?_)
    rw [if_pos (by (clear hr hV hW hx h0 hn hf hb ih hw hw8 hi h; omega))]
    refine s_422a hr (e := pWp (w + 1) - 1) (by (clear hr hV hW hx h0 hn hf hb ih hw hw8 hi h; omega)) (by (clear hr hV hW hx h0 hn hf hb ih hw hw8 hi h; omega)) (by (clear hr hV hW hx h0 hn hf hb ih hw hw8 hi h; omega)) (w_no32 hw8) hl.2.2.2.1 ?_
    rw [w32_id (by (clear hr hV hW hx h0 hn hf hb ih hw hw8 hi h; omega)) (by omega)]
    have hnext : pWh w ≠ hs_ (M 69) x1 n.toNat → V 80 [rr 2, ii x1, ii n, ii ((w : Int) + 1), ii (pWp (w + 1) - 1 + 1), none, none, none] [] M := by
      intro hne
      rw [if_neg hne] at h
      have := ih (w + 1) (by (clear hr hV hW hx h0 hn hf hb ih hw8 hl hi h hne; lia)) h
      have h9 : pWp (w + 1) - 1 + 1 = pWp (w + 1) := by (clear hr hV hW hx h0 hn hf hb ih hw hw8 hl hi h hne this; lia)
      rw [h9]
      exact this
    split
    · rename_i h1
      refine l_196a_120 hr hV hW hx hn (by omega) (by (clear hr hV hW hx h0 hn hf hb ih hw hw8 hi h hnext h1; omega)) (by omega) h1 ?_ ?_ _ 0 (Nat.le_refl _) (by omega) (by omega) (fun j h3 h4 => by omega)
      · by_cases h2 : pWh w = hs_ (M 69) x1 n.toNat
        · exact .inr (hi.mp h2).2
        · exact .inl (hnext h2)
      · intro h2
        rw [if_pos (hi.mpr ⟨h1, h2⟩), if_pos hw8] at h
        exact h
    · rename_i h1
      have hne : pWh w ≠ hs_ (M 69) x1 n.toNat := fun h2 => h1 (hi.mp h2).1
      refine b_196a_120 (Tr_mono _) hV hW x1 n _ _ _ 0 0 M ?_
      simp only [if_true, reduceIte, ite_self]
      rw [w32_id (by omega) (by omega), w32_id (by omega) (by (clear hr hV hW hx h0 hn hf hb ih hw hw8 hi h hnext h1 hne; omega))]
      exact hnext hne
end TU
/-- what a piece that begins with a letter is, by X's numbers -/
def wk_ (f : Int → Int) (a e : Int) : Int := if e - a ≤ 10 then (if pWi (hs_ f a (e - a).toNat) 48 0 < 48 then (pWi (hs_ f a (e - a).toNat) 48 0 : Int) else 100) else 103
/-- where a number ends -/
theorem dg_by {f : Int → Int} {n a : Int} (h : dg_ (by_ f n a) = 1) : a < n := by
  unfold by_ at h
  split at h
  · assumption
  · exact absurd h (by decide)
def ue_ (f : Int → Int) (n a : Int) : Int := if h : dg_ (by_ f n a) = 1 then ue_ f n (a + 1) else a
termination_by (n - a).toNat
decreasing_by have := dg_by h; omega
theorem ue_ge (f : Int → Int) (n a : Int) : a ≤ ue_ f n a := by
  unfold ue_
  split
  · rename_i h
    have := dg_by h
    have := ue_ge f n (a + 1); omega
  · omega
termination_by (n - a).toNat
decreasing_by omega
theorem ue_le (f : Int → Int) (n a : Int) (h : a ≤ n) : ue_ f n a ≤ n := by
  unfold ue_
  split
  · rename_i h
    have := dg_by h
    exact ue_le f n (a + 1) (by omega)
  · omega
termination_by (n - a).toNat
decreasing_by omega
/-- the value of the first digits, nine at the most, on top of another one -/
def uv_ (f : Int → Int) (a : Int) : Nat → Int
  | 0 => 0
  | m + 1 => if m < 9 then 10 * uv_ f a m + (f (a + m) % 256 - 48) else uv_ f a m
theorem uv_r {f : Int → Int} {a : Int} : ∀ (m : Nat), (∀ j : Nat, j < m → dg_ (f (a + j) % 256) = 1) → 0 ≤ uv_ f a m ∧ (uv_ f a m : Int) < 10 ^ (min m 9)
  | 0, _ => by simp [uv_]
  | m + 1, h => by
    have ih := uv_r m (fun j hj => h j (by omega))
    have h1 := h m (by omega)
    unfold uv_
    have h2 : 48 ≤ f (a + m) % 256 ∧ f (a + m) % 256 ≤ 57 := by
      unfold dg_ at h1
      split at h1
      · assumption
      · omega
    split
    · rename_i h3
      have h4 : min (m + 1) 9 = min m 9 + 1 := by (clear h ih h1 h2; lia)
      rw [h4, Int.pow_succ]
      omega
    · rename_i h3
      have h4 : min (m + 1) 9 = min m 9 := by (clear h ih h1 h2; lia)
      rw [h4]
      exact ih
section TX
variable {d : Nat} {M : mm_} {K : Int → mm_ → Prop} {Kv : mm_ → Prop} {Qr : qr_} {Qt : qt_} {V : vv_}
theorem RO_up {r : Nat} {i v : Int} (hr : RO_ M) (h : r < 1000) : RO_ (up_ M r i v) := by
  have h1 : ∀ q, 1000 ≤ q → up_ M r i v q = M q := fun q hq => up_ne (by omega)
  unfold RO_
  rw [h1 1001 (by omega), h1 1002 (by omega), h1 1011 (by omega), h1 1012 (by (clear hr h h1; lia))]
  exact hr
theorem s_196a (hr : RO_ M) (h0 : 0 ≤ M 2 7) (h5 : M 2 5 ≤ 5000) (hb : ∀ i, 0 ≤ i → i < 5000 → -128 ≤ M 69 i ∧ M 69 i ≤ 127) (hc : 0 < cd_ (by_ (M 69) (M 2 5) (M 2 7))) (h : K (wk_ (M 69) (M 2 7) (ne_ (M 69) (M 2 5) (M 2 7))) (up_ M 2 7 (ne_ (M 69) (M 2 5) (M 2 7)))) : Tr_ wd0 pg0 (d + 5) 196 [.inr (.inr 2)] M (ri_ K) Qt := t_196a fun V hV hW => b_196a_0 (Tr_mono _) hV hW M (by
  have hl := cd_by hc
  have hg : M 2 7 + 1 ≤ ne_ (M 69) (M 2 5) (M 2 7) := by
    rw [ne_, dif_pos hc]; exact ne_ge _ _ _
  have hle := ne_le (M 69) (M 2 5) (M 2 7) (by omega)
  have hin := ne_in (M 69) (M 2 5) (M 2 7)
  unfold wk_ at h
  refine l_196a_5 hV hW h0 _ M (Nat.le_refl _) (by omega) (by omega) h5 (fun h10 => ?_) (fun h10 => ?_)
  · rw [if_pos h10] at h
    have hM : (up_ M 2 7 (ne_ (M 69) (M 2 5) (M 2 7))) 69 = M 69 := up_ne (by decide)
    have hw : pWp 0 = 1 := by decide
    have := l_196a_80 (RO_up hr (by decide)) hV hW (M := up_ M 2 7 (ne_ (M 69) (M 2 5) (M 2 7))) (x1 := M 2 7) (n := ne_ (M 69) (M 2 5) (M 2 7) - M 2 7) h0 (by omega) (by omega) (fun i h1 h2 => by rw [hM]; exact (hin i h1 (by omega)).1) (fun i h1 h2 => by rw [hM]; exact hb i (by omega) (by omega)) 48 0 rfl (by rw [hM]; exact ri_i h)
    rw [hw] at this
    exact this
  · rw [if_neg (by omega)] at h
    exact ri_i h)
end TX
/-- what a piece that begins with a digit is -/
def uk_ (f : Int → Int) (n a e : Int) : Int := if e - a ≤ 9 then (if 0 < cd_ (by_ f n e) then 103 else 101) else 103
section TN
variable {d : Nat} {M : mm_} {K : Int → mm_ → Prop} {Kv : mm_ → Prop} {Qr : qr_} {Qt : qt_} {V : vv_}
theorem sm01 (c : Int) : sm_ c = 0 ∨ sm_ c = 1 := by unfold sm_; split <;> simp
theorem dg01 (c : Int) : dg_ c = 0 ∨ dg_ c = 1 := by unfold dg_; split <;> simp
theorem ue_in (f : Int → Int) (n a : Int) : ∀ i, a ≤ i → i < ue_ f n a → dg_ (f i % 256) = 1 ∧ i < n := by
  intro i h1 h2
  unfold ue_ at h2
  split at h2
  · rename_i h
    have h3 := dg_by h
    by_cases h4 : i = a
    · subst h4
      unfold by_ at h
      rw [if_pos h3] at h
      exact ⟨h, h3⟩
    · exact ue_in f n (a + 1) i (by omega) h2
  · omega
termination_by (n - a).toNat
decreasing_by omega
theorem ue_end (f : Int → Int) (n a : Int) : dg_ (by_ f n (ue_ f n a)) = 0 := by
  rw [ue_]
  split
  · rename_i h
    have := dg_by h
    exact ue_end f n (a + 1)
  · rename_i h
    rcases dg01 (by_ f n a) with h1 | h1
    · exact h1
    · exact absurd h1 h
termination_by (n - a).toNat
decreasing_by omega
theorem l_198a (hV : Cl_ wd0 (Tr_ wd0 pg0 (d + 1)) V Qr Qt m_198) (hW : Wk_ V) {x1 : Int} (hx : 0 ≤ x1) : ∀ (k : Nat) (M : mm_), (M 2 5 - M 2 7).toNat < k → x1 ≤ M 2 7 → M 2 7 ≤ M 2 5 → M 2 5 ≤ 5000 → 0 ≤ M 2 6 → M 2 6 < 1202 →
    (∀ i, x1 ≤ i → i < M 2 7 → dg_ (M 69 i % 256) = 1) →
    Qr [.inl (uk_ (M 69) (M 2 5) x1 (ue_ (M 69) (M 2 5) (M 2 7)))] (up_ (up_ M 2 7 (ue_ (M 69) (M 2 5) (M 2 7))) 73 (M 2 6) (uv_ (M 69) x1 (ue_ (M 69) (M 2 5) (M 2 7) - x1).toNat)) → V 7 [rr 2, ii x1, ii (uv_ (M 69) x1 (M 2 7 - x1).toNat)] [] M := by
  intro k
  induction k with
  | zero => intro M hk; omega
  | succ k ih =>
    intro M hk h1 h2 h5 h6 h7 hd h
    refine b_198a_7 (Tr_mono _) hV hW x1 _ M (s_193a (by omega) h5 (s_197 ?_))
    rcases dg01 (by_ (M 69) (M 2 5) (M 2 7)) with h8 | h8
    · have hn : ue_ (M 69) (M 2 5) (M 2 7) = M 2 7 := by rw [ue_, dif_neg (by omega)]
      rw [hn, up_id] at h
      rw [if_pos h8]
      refine ⟨⟨h6, h7⟩, ?_⟩
      rw [w32_id (by (clear hV hW hx ih hk h2 h5 h6 h7 hd h h8; lia)) (by (clear hV hW ih hk h1 h6 h7 hd h h8; omega))]
      unfold uk_ at h
      have hcp := @cd_pos (by_ (M 69) (M 2 5) (M 2 7))
      have e5 : ∀ v, (up_ M 73 (M 2 6) v) 2 = M 2 := fun v => up_ne (by decide)
      have e9 : ∀ v, (up_ M 73 (M 2 6) v) 69 = M 69 := fun v => up_ne (by decide)
      split
      · rename_i h9
        rw [if_pos h9] at h
        refine s_193a (by (clear hV hW ih hk h2 h5 h6 h7 hd h h8 hcp e5 e9; lia)) (by rw [e5]; exact h5) (s_195 ?_)
        rw [e5, e9]
        rcases sm01 (by_ (M 69) (M 2 5) (M 2 7)) with h10 | h10
        · rw [if_pos h10]
          refine s_193a (by omega) (by rw [e5]; exact h5) ?_
          rw [e5, e9]
          split
          · rename_i h11
            rw [if_pos (hcp.mpr (.inr (.inr h11)))] at h
            exact h
          · rename_i h11
            rw [if_neg (fun hc => by have := hcp.mp hc; (clear hV hW hx ih hk h1 h2 h5 h6 h7 hd h hn hcp e5 e9 h9 hc; lia))] at h
            exact h
        · rw [if_neg (by (clear hV hW hx ih hk h1 h2 h5 h6 h7 hd h h8 hn hcp e5 e9 h9; lia))]
          rw [if_pos (hcp.mpr (.inl h10))] at h
          exact h
      · rename_i h9
        rw [if_neg h9] at h
        exact h
    · have hl := dg_by h8
      have hn : ue_ (M 69) (M 2 5) (M 2 7) = ue_ (M 69) (M 2 5) (M 2 7 + 1) := by rw [ue_, dif_pos h8]
      rw [hn] at h
      rw [if_neg (by (clear hV hW hx ih hk h1 h2 h5 h6 h7 hd h hl hn; lia))]
      have h8' := h8
      unfold by_ at h8'
      rw [if_pos hl] at h8'
      have hdr : 48 ≤ M 69 (M 2 7) % 256 ∧ M 69 (M 2 7) % 256 ≤ 57 := by
        unfold dg_ at h8'
        split at h8'
        · assumption
        · (clear hV hW hx ih hk h1 h2 h5 h6 h7 hd h h8 hl hn; omega)
      have hm : (M 2 7 + 1 - x1).toNat = (M 2 7 - x1).toNat + 1 := by (clear hV hW hx ih hk h2 h5 h6 h7 hd h h8 hl hn h8' hdr; lia)
      have hcast : (((M 2 7 - x1).toNat : Nat) : Int) = M 2 7 - x1 := by omega
      have hv := uv_r (f := M 69) (a := x1) (M 2 7 - x1).toNat (fun j hj => hd _ (by (clear hV hW hx ih hk h1 h2 h5 h6 h7 hd h h8 hl hn h8' hdr hm hcast hj; lia)) (by (clear hV hW hx ih hk h1 h2 h5 h6 h7 hd h h8 hl hn h8' hdr hm; omega)))
      have hgo : V 7 [rr 2, ii x1, ii (uv_ (M 69) x1 (M 2 7 + 1 - x1).toNat)] [] (up_ M 2 7 (w32 (M 2 7 + 1))) := by
        rw [w32_id (by (clear hV hW ih hk h2 h5 h6 h7 hd h h8 hl hn h8' hdr hm hv; omega)) (by (clear hV hW hx ih hk h1 h2 h6 h7 hd h h8 hn h8' hdr hm hcast hv; omega))]
        have := ih (up_ M 2 7 (M 2 7 + 1))
        simp only [ua_, if_true, if_false, reduceIte, Int.reduceEq, Nat.reduceEqDiff, up_up] at this
        refine this (by (clear hV hW hx ih h2 hd h h8 hn h8' hdr hm hv; lia)) (by omega) (by omega) h5 h6 h7 (fun i h9 h10 => ?_) h
        by_cases h11 : i = M 2 7
        · rw [h11]; exact h8'
        · exact hd i h9 (by (clear hV hW hx ih hk h1 h2 h5 h6 h7 hd h h8 hl hn h8' hdr hm hcast hv this h9; omega))
      rw [hm] at hgo
      unfold uv_ at hgo
      rw [w32_id (x := M 2 7 - x1) (by (clear hV hW hx ih hk h2 h5 h6 h7 hd h h8 hl hn h8' hdr hm hv hgo; omega)) (by (clear hV hW ih hk h1 h2 h6 h7 hd h h8 hn h8' hdr hm hv hgo; omega))]
      split
      · rename_i h9
        rw [if_pos (by (clear hV hW hx ih hk h2 h5 h6 h7 hd h h8 hl hn h8' hdr hm hv hgo; omega)), hcast] at hgo
        refine s_193a (by (clear hV hW ih hk h2 h5 h6 h7 hd h h8 hl hn h8' hdr hm hv hgo; lia)) h5 ?_
        have hby : by_ (M 69) (M 2 5) (M 2 7) = M 69 (M 2 7) % 256 := by unfold by_; rw [if_pos hl]
        rw [hby]
        have hx1 : x1 + (M 2 7 - x1) = M 2 7 := by omega
        rw [hx1] at hgo
        have hp : (10 : Int) ^ (min (M 2 7 - x1).toNat 9) ≤ 100000000 := (by decide : ∀ m : Fin 9, (10 : Int) ^ m.val ≤ 100000000) ⟨min (M 2 7 - x1).toNat 9, by (clear hV hW hx ih hk h2 h5 h6 h7 hd h h8 hl hn h8' hdr hm hv hgo hby hx1; omega)⟩
        have hw : w32 (w32 (w32 (10 * uv_ (M 69) x1 (M 2 7 - x1).toNat) + M 69 (M 2 7) % 256) - 48) = 10 * uv_ (M 69) x1 (M 2 7 - x1).toNat + (M 69 (M 2 7) % 256 - 48) := by
          unfold w32; (clear hV hW hx ih hk h1 h2 h5 h6 h7 hd h h8 hl hn h8' hm hcast hgo h9 hx1; omega)
        rw [hw]
        exact hgo
      · rename_i h9
        rw [if_neg (by (clear hV hW hx ih hk h1 h2 h5 h6 h7 hd h h8 hl hn h8' hdr hm hv hgo; omega))] at hgo
        exact hgo
theorem s_198a (h0 : 0 ≤ M 2 7) (h2 : M 2 7 ≤ M 2 5) (h5 : M 2 5 ≤ 5000) (h6 : 0 ≤ M 2 6) (h7 : M 2 6 < 1202) (h : K (uk_ (M 69) (M 2 5) (M 2 7) (ue_ (M 69) (M 2 5) (M 2 7))) (up_ (up_ M 2 7 (ue_ (M 69) (M 2 5) (M 2 7))) 73 (M 2 6) (uv_ (M 69) (M 2 7) (ue_ (M 69) (M 2 5) (M 2 7) - M 2 7).toNat))) : Tr_ wd0 pg0 (d + 2) 198 [.inr (.inr 2)] M (ri_ K) Qt := t_198a fun V hV hW => b_198a_0 (Tr_mono _) hV hW M (by
  have := l_198a hV hW h0 _ M (Nat.lt_succ_self _) (Int.le_refl _) h2 h5 h6 h7 (fun i h8 h9 => by (clear h0 h2 h5 h6 h7 h hV hW; omega)) (ri_i h)
  have h8 : (M 2 7 - M 2 7).toNat = 0 := by (clear h0 h2 h5 h6 h7 h hV hW this; lia)
  rw [h8] at this
  exact this)
end TN
/-! X's signs, and the kind of a token -/
/-- the kind of a sign of two, 0 without one -/
def tw_ (c e : Int) : Int := if c = 58 ∧ e = 61 then 110 else if c = 47 ∧ e = 61 then 111 else if c = 60 ∧ e = 61 then 112 else if c = 62 ∧ e = 61 then 113 else if c = 45 ∧ e = 62 then 114 else if c = 46 ∧ e = 46 then 115 else -1
/-- kind and end of the token at a -/
def tkk_ (f : Int → Int) (n a : Int) : Int × Int :=
  if ¬ a < n then (102, a) else if sm_ (by_ f n a) = 1 then (wk_ f a (ne_ f n a), ne_ f n a) else if dg_ (by_ f n a) = 1 then (uk_ f n a (ue_ f n a), ue_ f n a)
  else if tw_ (by_ f n a) (by_ f n (a + 1)) = -1 then (if by_ f n a ∈ sgL then 200 + by_ f n a else 103, a + 1) else (tw_ (by_ f n a) (by_ f n (a + 1)), a + 2)
theorem by_r {f : Int → Int} {n a : Int} : -1 ≤ by_ f n a ∧ by_ f n a ≤ 255 := by unfold by_; split <;> lia
section TK4
variable {d : Nat} {M : mm_} {K : Int → mm_ → Prop} {Kv : mm_ → Prop} {Qr : qr_} {Qt : qt_} {V : vv_}
theorem s_420b (hr : RO_ M) (h : K 15 M) : Tr_ wd0 pg0 (d + 2) 420 [.inr (.inr 1002)] M (ri_ K) Qt := t_420b fun V hV hW => b_420b_0 (Tr_mono _) hV hW M (t_421b fun V hV hW => b_421b_0 (Tr_mono _) hV hW M (by
  rw [if_neg (by decide), hr.2.1]
  exact ⟨by omega, ri_i (ri_i (by have : sr_ 15 0 = 15 := by decide
                                  rw [this]; exact h))⟩))
theorem s_423b (hr : RO_ M) (h : K 1 M) : Tr_ wd0 pg0 (d + 1) 423 [.inr (.inr 1002)] M (ri_ K) Qt := t_423b fun V hV hW => b_423b_0 (Tr_mono _) hV hW M (by
  rw [if_neg (by decide), if_pos hr.2.1]
  exact ⟨.inr rfl, ri_i h⟩)
theorem l_432b (hV : Cl_ wd0 (Tr_ wd0 pg0 d) V Qr Qt m_432) (hW : Wk_ V) {x1 x2 x4 : Int} (hf : ∀ e, 0 ≤ e → e < 15 → M 1012 e = x4 → Qr [.inl e] M) (hn : (∀ e, 0 ≤ e → e < 15 → M 1012 e ≠ x4) → Qr [.inl (-1)] M) : ∀ (k : Nat) (a : Int), (15 - a).toNat ≤ k → 0 ≤ a → a ≤ 15 → (∀ i, 0 ≤ i → i < a → M 1012 i ≠ x4) → V 7 [rr 1012, ii x1, ii x2, ii 15, ii x4, ii a] [] M := by
  intro k
  induction k with
  | zero =>
    intro a hk h0 ha h1
    have : a = 15 := by omega
    subst this
    refine b_432b_7 (Tr_mono _) hV hW x1 x2 15 x4 15 M ?_
    rw [if_neg (by decide)]
    exact hn h1
  | succ k ih =>
    intro a hk h0 ha h1
    refine b_432b_7 (Tr_mono _) hV hW x1 x2 15 x4 a M ?_
    split
    · refine ⟨by omega, ?_⟩
      split
      · rename_i h2 h3
        exact hf a h0 h2 h3
      · rename_i h2 h3
        rw [w32_id (by omega) (by omega)]
        refine ih _ (by omega) (by omega) (by omega) (fun i h4 h5 => ?_)
        by_cases h6 : i = a
        · rw [h6]; exact h3
        · exact h1 i h4 (by omega)
    · have : a = 15 := by omega
      subst this
      exact hn h1
theorem sg_mem {c : Int} : (∃ e : Int, (0 ≤ e ∧ e < 15) ∧ pSg e = c) ↔ c ∈ sgL := by
  constructor
  · rintro ⟨e, ⟨h0, h1⟩, h2⟩
    rw [← h2]
    have h : ∀ k : Fin 15, pSg k.val ∈ sgL := by decide +kernel
    have := h ⟨e.toNat, by (clear h2 h; omega)⟩
    have h3 : ((e.toNat : Nat) : Int) = e := by omega
    simp only [h3] at this
    exact this
  · intro h
    obtain ⟨i, hi, h2⟩ := List.getElem_of_mem h
    have h9 : sgL.length = 15 := rfl
    refine ⟨i, by omega, ?_⟩
    unfold pSg
    rw [Int.toNat_natCast, List.getD_eq_getElem?_getD, List.getElem?_eq_getElem hi, h2]
    rfl
theorem sg_r {e : Int} (h0 : 0 ≤ e) (h1 : e < 15) : 0 ≤ pSg e ∧ pSg e ≤ 127 := by
  have h : ∀ k : Fin 15, 0 ≤ pSg k.val ∧ pSg k.val ≤ 127 := by decide +kernel
  have := h ⟨e.toNat, by omega⟩
  have h3 : ((e.toNat : Nat) : Int) = e := by omega
  simp only [h3] at this
  exact this
theorem s_427 (hr : RO_ M) {c : Int} (h0 : 0 ≤ c) (h1 : c ≤ 255) (h : ∀ v, (v < 0 ↔ ¬ c ∈ sgL) → K v M) : Tr_ wd0 pg0 (d + 5) 427 [.inr (.inr 1002), .inl c] M (ri_ K) Qt := t_427 fun V hV hW => b_427_0 (Tr_mono _) hV hW c M (t_422b fun V hV hW => b_422b_0 (Tr_mono _) hV hW c 0 M (s_423b hr (by
  rw [if_neg (by decide)]
  refine s_420b hr ?_
  refine t_430b fun V hV hW => b_430b_0 (Tr_mono _) hV hW c 0 15 M (s_431 h0 h1 ?_)
  rw [if_neg (by decide), if_neg (show ¬ (0 : Int) < 0 by omega), if_neg (show ¬ (15 : Int) < 15 by omega), if_pos (by (clear hr h0 h1 h hV hW; omega))]
  refine t_432b fun V hV hW => b_432b_0 (Tr_mono _) hV hW c 0 15 M ?_
  have hib : ∀ e, 0 ≤ e → e < 15 → (M 1012 e = ib_ c ↔ pSg e = c) := by
    intro e h2 h3
    rw [hr.2.2.2 e h2 h3]
    have := sg_r h2 h3
    unfold ib_
    (clear hr h hV hW h2 h3; omega)
  refine l_432b hV hW (fun e h2 h3 h4 => ?_) (fun h2 => ?_) _ 0 (Nat.le_refl _) (by omega) (by omega) (fun i h2 h3 => by omega)
  · refine ri_i (ri_i (ri_i (ri_i (h e ⟨fun h5 => by omega, fun h5 => absurd (sg_mem.mp ⟨e, ⟨h2, h3⟩, (hib e h2 h3).mp h4⟩) h5⟩))))
  · refine ri_i (ri_i (ri_i (ri_i (h (-1) ⟨fun _ h5 => ?_, fun _ => by omega⟩))))
    obtain ⟨e, ⟨h6, h7⟩, h8⟩ := sg_mem.mpr h5
    exact h2 e h6 h7 ((hib e h6 h7).mpr h8))))
end TK4
/-- memory behind the token at hand -/
def tkm_ (M : mm_) : mm_ := if dg_ (by_ (M 69) (M 2 5) (M 2 7)) = 1 then up_ (up_ M 2 7 (tkk_ (M 69) (M 2 5) (M 2 7)).2) 73 (M 2 6) (uv_ (M 69) (M 2 7) (ue_ (M 69) (M 2 5) (M 2 7) - M 2 7).toNat) else up_ M 2 7 (tkk_ (M 69) (M 2 5) (M 2 7)).2
section TK5
variable {d : Nat} {M : mm_} {K : Int → mm_ → Prop} {Kv : mm_ → Prop} {Qr : qr_} {Qt : qt_} {V : vv_}
theorem l_194a_164 (hr : RO_ M) (hV : Cl_ wd0 (Tr_ wd0 pg0 (d + 5)) V Qr Qt m_194) (hW : Wk_ V) {c e : Int} (h0 : 0 ≤ c) (h1 : c ≤ 255) (h7 : 0 ≤ M 2 7) (h8 : M 2 7 ≤ 5001) (h : tw_ c e = -1 → Qr [.inl (if c ∈ sgL then 200 + c else 103)] M) (h2 : tw_ c e ≠ -1 → Qr [.inl (tw_ c e)] (up_ M 2 7 (M 2 7 + 1))) : V 164 [rr 2, ii c, ii e, ii (tw_ c e), none] [] M := by
  refine b_194a_164 (Tr_mono _) hV hW c e _ M ?_
  split
  · rename_i h3
    have hic : ic_ c = c := by unfold ic_; omega
    rw [hic]
    refine s_427 hr h0 h1 (fun v hv => ?_)
    have := h h3
    split
    · rename_i h4
      rw [if_neg (hv.mp h4)] at this
      exact this
    · rename_i h4
      rw [if_pos (Classical.byContradiction fun h5 => h4 (hv.mpr h5))] at this
      rw [w32_id (by (clear hr hV hW h7 h8 h h2 h3 hv this h4; lia)) (by omega)]
      exact this
  · rename_i h3
    rw [w32_id (by omega) (by omega)]
    exact h2 h3
theorem l_194a_two (hV : Cl_ wd0 (Tr_ wd0 pg0 (d + 5)) V Qr Qt m_194) (hW : Wk_ V) {c e : Int} (h : V 164 [rr 2, ii c, ii e, ii (tw_ c e), none] [] M) : (if c = 58 then
         (if e = 61 then
          V 164 [rr 2, ii c, ii e, ii 110, none] [] M
         else
          (if c = 47 then
           (if e = 61 then
            V 164 [rr 2, ii c, ii e, ii 111, none] [] M
           else
            V 94 [rr 2, ii c, ii e, none, none] [] M)
          else
           V 94 [rr 2, ii c, ii e, none, none] [] M))
        else
         (if c = 47 then
          (if e = 61 then
           V 164 [rr 2, ii c, ii e, ii 111, none] [] M
          else
           V 94 [rr 2, ii c, ii e, none, none] [] M)
         else
          V 94 [rr 2, ii c, ii e, none, none] [] M)) := by
  unfold tw_ at h
  have h128 : ¬ (c = 58 ∧ e = 61) → ¬ (c = 47 ∧ e = 61) → ¬ (c = 60 ∧ e = 61) → ¬ (c = 62 ∧ e = 61) → V 128 [rr 2, ii c, ii e, none, none] [] M := by
    intro h1 h2 h3 h4
    rw [if_neg h1, if_neg h2, if_neg h3, if_neg h4] at h
    refine b_194a_128 (Tr_mono _) hV hW c e M ?_
    by_cases h5 : c = 45 <;> by_cases h6 : c = 46 <;> by_cases h7 : e = 62 <;> by_cases h8 : e = 46 <;> simp_all
  have h94 : ¬ (c = 58 ∧ e = 61) → ¬ (c = 47 ∧ e = 61) → V 94 [rr 2, ii c, ii e, none, none] [] M := by
    intro h1 h2
    rw [if_neg h1, if_neg h2] at h
    refine b_194a_94 (Tr_mono _) hV hW c e M ?_
    by_cases h5 : c = 60 <;> by_cases h6 : c = 62 <;> by_cases h7 : e = 61 <;> simp_all
  by_cases h5 : c = 58 <;> by_cases h6 : c = 47 <;> by_cases h7 : e = 61 <;> simp_all
theorem s_194a (hr : RO_ M) (h0 : 0 ≤ M 2 7) (h2 : M 2 7 ≤ M 2 5) (h5 : M 2 5 ≤ 5000) (h6 : 0 ≤ M 2 6) (h7 : M 2 6 < 1202) (hb : ∀ i, 0 ≤ i → i < 5000 → -128 ≤ M 69 i ∧ M 69 i ≤ 127) (h : K (tkk_ (M 69) (M 2 5) (M 2 7)).1 (tkm_ M)) : Tr_ wd0 pg0 (d + 6) 194 [.inr (.inr 2)] M (ri_ K) Qt := t_194a fun V hV hW => b_194a_0 (Tr_mono _) hV hW M (s_193a h0 h5 (by
  unfold tkm_ at h
  have ht : tkk_ (M 69) (M 2 5) (M 2 7) = tkk_ (M 69) (M 2 5) (M 2 7) := rfl
  conv at ht => rhs; unfold tkk_
  by_cases h1 : M 2 7 < M 2 5
  · have hby : by_ (M 69) (M 2 5) (M 2 7) = M 69 (M 2 7) % 256 := by unfold by_; rw [if_pos h1]
    rw [if_neg (show ¬ by_ (M 69) (M 2 5) (M 2 7) = -1 by (clear hr h0 h2 h5 h6 h7 hb h hV hW ht h1; lia))]
    rw [if_neg (by omega)] at ht
    refine s_195 ?_
    rcases sm01 (by_ (M 69) (M 2 5) (M 2 7)) with h8 | h8
    · rw [if_pos h8]
      rw [if_neg (by omega)] at ht
      refine s_197 ?_
      rcases dg01 (by_ (M 69) (M 2 5) (M 2 7)) with h9 | h9
      · rw [if_pos h9]
        rw [if_neg (by omega)] at ht
        rw [if_neg (by omega)] at h
        rw [w32_id (by omega) (by omega)]
        have e7 : ∀ v, (up_ M 2 7 v) 2 7 = v := fun v => up_at
        have e5 : ∀ v, (up_ M 2 7 v) 2 5 = M 2 5 := fun v => up_off (by decide)
        have e9 : ∀ v, (up_ M 2 7 v) 69 = M 69 := fun v => up_ne (by decide)
        refine s_193a (by omega) (by rw [e5]; exact h5) ?_
        rw [e5, e9]
        refine l_194a_two hV hW (l_194a_164 (RO_up hr (by decide)) hV hW (by (clear hr h0 h2 h5 h6 h7 hb h hV hW ht h1 h8 h9 e7 e5 e9; lia)) (by omega) (by rw [e7]; omega) (by rw [e7]; omega) (fun h10 => ?_) (fun h10 => ?_))
        · rw [if_pos h10] at ht
          rw [ht] at h
          exact ri_i h
        · rw [if_neg h10] at ht
          rw [ht] at h
          rw [e7, up_up]
          have : M 2 7 + 1 + 1 = M 2 7 + 2 := by omega
          rw [this]
          exact ri_i h
      · rw [if_neg (by (clear hr h0 h2 h5 h6 h7 hb h hV hW ht h1 hby h8; lia))]
        rw [if_pos h9] at ht
        rw [if_pos h9, ht] at h
        exact s_198a h0 h2 h5 h6 h7 (ri_i h)
    · rw [if_neg (by omega)]
      have h9 : dg_ (by_ (M 69) (M 2 5) (M 2 7)) = 0 := by
        unfold sm_ at h8
        unfold dg_
        split at h8
        · rw [if_neg (by (clear hr h0 h2 h5 h6 h7 hb h hV hW ht h1 h8; lia))]
        · omega
      rw [if_pos h8] at ht
      rw [if_neg (by omega), ht] at h
      exact s_196a hr h0 h5 hb (cd_pos.mpr (.inl h8)) (ri_i h)
  · have hby : by_ (M 69) (M 2 5) (M 2 7) = -1 := by unfold by_; rw [if_neg h1]
    rw [if_pos hby]
    rw [if_pos h1] at ht
    rw [ht, hby, if_neg (by decide), up_id] at h
    exact ri_i h))
end TK5
/-! Q's names -/
theorem cd_bq {f : Int → Int} {n a : Int} : cd_ (bq_ f n a) = cd_ (by_ f n a) := by
  unfold bq_ by_
  split
  · rfl
  · decide
theorem hs_lt {f : Int → Int} {a : Int} : ∀ m : Nat, hs_ f a m < 38 ^ m
  | 0 => by simp [hs_]
  | m + 1 => by
    have ih := hs_lt (f := f) (a := a) m
    have := cd_r (f (a + m) % 256)
    unfold hs_
    rw [Int.pow_succ]
    omega
section QN
variable {d : Nat} {M : mm_} {K : Int → mm_ → Prop} {Kv : mm_ → Prop} {Qr : qr_} {Qt : qt_} {V : vv_}
theorem bq_r {f : Int → Int} {n a : Int} : 0 ≤ bq_ f n a ∧ bq_ f n a ≤ 255 := by unfold bq_; split <;> omega
theorem l_223_4 (hV : Cl_ wd0 (Tr_ wd0 pg0 (d + 2)) V Qr Qt m_223) (hW : Wk_ V) (h5 : M 6 4 ≤ 5000) {x1 : Int} (hx : 0 ≤ x1) :
    ∀ (k : Nat) (a : Int), (M 6 4 - a).toNat < k → x1 ≤ a → a ≤ M 6 4 → V 48 [rr 6, ii x1, ii (ne_ (M 146) (M 6 4) a), jj (hs_ (M 146) x1 (min 10 (ne_ (M 146) (M 6 4) a - x1).toNat)), none, ii 0] [] M → V 4 [rr 6, ii x1, ii a, jj (hs_ (M 146) x1 (min 10 (a - x1).toNat)), none, none] [] M := by
  intro k
  induction k with
  | zero => intro a hk; (clear hV hW; lia)
  | succ k ih =>
    intro a hk h0 h1 h
    have hr1 := bq_r (f := M 146) (n := M 6 4) (a := a)
    refine b_223_4 (Tr_mono _) hV hW x1 a _ M (s_221 (by omega) h5 (s_211 (by omega) (by omega) ?_))
    rw [cd_bq]
    split
    · rename_i h2
      have hn : ne_ (M 146) (M 6 4) a = a := by rw [ne_, dif_neg (by omega)]
      rw [hn] at h
      exact h
    · rename_i h2
      have hc : 0 < cd_ (by_ (M 146) (M 6 4) a) := by omega
      have hl := cd_by hc
      have hn : ne_ (M 146) (M 6 4) a = ne_ (M 146) (M 6 4) (a + 1) := by rw [ne_, dif_pos hc]
      rw [hn] at h
      have hgo := ih (a + 1) (by omega) (by omega) (by omega) h
      rw [w32_id (x := a - x1) (by (clear hV hW h5 hx ih hk h1 h hr1 h2 hc hl hn hgo; omega)) (by omega), w32_id (x := a + 1) (by omega) (by omega)]
      split
      · rename_i h3
        refine s_221 (by omega) h5 (s_211 (by omega) (by omega) ?_)
        rw [cd_bq]
        have hm : min 10 (a + 1 - x1).toNat = (a - x1).toNat + 1 := by (clear hV hW h5 hx ih hk h1 h hr1 h2 hc hl hn hgo; lia)
        have hm' : min 10 (a - x1).toNat = (a - x1).toNat := by (clear hV hW h5 hx ih hk h1 h hr1 h2 hc hl hn hgo hm; lia)
        rw [hm] at hgo
        rw [hm']
        unfold hs_ at hgo
        have hx1 : x1 + (((a - x1).toNat : Nat) : Int) = a := by (clear hV hW h5 hx ih hk h1 h hr1 h2 hc hl hn hm hgo; omega)
        rw [hx1] at hgo
        have hby : by_ (M 146) (M 6 4) a = M 146 a % 256 := by unfold by_; rw [if_pos hl]
        rw [hby]
        have hlt := hs_lt (f := M 146) (a := x1) (a - x1).toNat
        have hnn := hs_nn (f := M 146) (a := x1) (a - x1).toNat
        have hp : (38 : Int) ^ (a - x1).toNat ≤ 165216101262848 := (by decide : ∀ m : Fin 10, (38 : Int) ^ m.val ≤ 165216101262848) ⟨(a - x1).toNat, by (clear hV hW h5 hx ih hk h1 h hr1 h2 hc hl hn hm hgo hby hlt hnn; omega)⟩
        have hcr := cd_r (M 146 a % 256)
        have hw : w64 (w64 (38 * hs_ (M 146) x1 (a - x1).toNat) + cd_ (M 146 a % 256)) = 38 * hs_ (M 146) x1 (a - x1).toNat + cd_ (M 146 a % 256) := by
          unfold w64; (clear hV hW h5 hx ih hk h0 h1 h hr1 h2 hc hl hn h3 hm hm' hgo hx1 hby; lia)
        rw [hw]
        exact hgo
      · rename_i h3
        have hm : min 10 (a + 1 - x1).toNat = min 10 (a - x1).toNat := by (clear hV hW h5 hx ih hk h0 h1 h hr1 h2 hc hl hn hgo; lia)
        rw [hm] at hgo
        exact hgo
end QN
/-- the model's words -/
def Wd_ (M : mm_) : Prop := ∀ w : Nat, w < 48 → M 148 w = pWh w
section QM
variable {d : Nat} {M : mm_} {K : Int → mm_ → Prop} {Kv : mm_ → Prop} {Qr : qr_} {Qt : qt_} {V : vv_}
theorem pWi_le (v : Int) : ∀ (c w : Nat), w ≤ pWi v c w ∧ pWi v c w ≤ w + c
  | 0, w => by unfold pWi; omega
  | c + 1, w => by
    have := pWi_le v c (w + 1)
    unfold pWi
    split <;> omega
theorem l_223_48 (hw : Wd_ M) (hV : Cl_ wd0 (Tr_ wd0 pg0 (d + 2)) V Qr Qt m_223) (hW : Wk_ V) {x1 e v : Int} (hx : 0 ≤ x1) (he : x1 ≤ e) (he2 : e ≤ 5000) (h : V 81 [rr 6, ii x1, ii e, jj v, none, ii (if e - x1 ≤ 10 then (pWi v 48 0 : Int) else 48)] [] M) :
    ∀ (c w : Nat), w + c = 48 → (e - x1 ≤ 10 → pWi v 48 0 = pWi v c w) → V 48 [rr 6, ii x1, ii e, jj v, none, ii (w : Int)] [] M := by
  intro c
  induction c with
  | zero =>
    intro w hc hp
    have : w = 48 := by omega
    subst this
    refine b_223_48 (Tr_mono _) hV hW x1 e v _ M ?_
    rw [if_neg (by decide)]
    split at h
    · rename_i h1
      rw [hp h1] at h
      exact h
    · exact h
  | succ c ih =>
    intro w hc hp
    refine b_223_48 (Tr_mono _) hV hW x1 e v _ M ?_
    rw [if_pos (by omega), hw w (by omega), w32_id (x := e - x1) (by omega) (by omega), w32_id (x := (w : Int) + 1) (by omega) (by omega)]
    refine ⟨by omega, ?_⟩
    by_cases h1 : pWh w = v
    · rw [if_pos (by rw [if_neg (by omega), if_pos h1])]
      split
      · rename_i h2
        have h3 : pWi v 48 0 = w := by rw [hp h2, pWi, if_pos h1]
        rw [if_pos h2, h3] at h
        exact h
      · rename_i h2
        exact ih (w + 1) (by omega) (fun h4 => absurd h4 h2)
    · rw [if_neg (by split <;> decide)]
      refine ih (w + 1) (by omega) (fun h4 => ?_)
      rw [hp h4, pWi, if_neg h1]
/-- a token by Q's numbers: its kind, its value -/
def qk_ (f : Int → Int) (a e : Int) : Int × Int := if e - a ≤ 10 then (if pWi (hs_ f a (e - a).toNat) 48 0 < 48 then (4, (pWi (hs_ f a (e - a).toNat) 48 0 : Int)) else (1, hs_ f a (e - a).toNat)) else (5, 0)
/-- one token more -/
def tok_ (M : mm_) (k p v : Int) : mm_ := up_ (up_ (up_ (up_ M 149 (M 6 11) k) 150 (M 6 11) p) 151 (M 6 11) v) 6 11 (M 6 11 + 1)
theorem s_223 (hw : Wd_ M) (h5 : M 6 4 ≤ 5000) (h6 : 0 ≤ M 6 11) (h7 : M 6 11 < 1202) {a : Int} (ha : 0 ≤ a) (ha2 : a ≤ M 6 4) (h : K (ne_ (M 146) (M 6 4) a) (tok_ M (qk_ (M 146) a (ne_ (M 146) (M 6 4) a)).1 a (qk_ (M 146) a (ne_ (M 146) (M 6 4) a)).2)) : Tr_ wd0 pg0 (d + 3) 223 [.inr (.inr 6), .inl a] M (ri_ K) Qt := t_223 fun V hV hW => b_223_0 (Tr_mono _) hV hW a M (by
  have hg := ne_ge (M 146) (M 6 4) a
  have hl := ne_le (M 146) (M 6 4) a ha2
  have hz : (0 : Int) = hs_ (M 146) a (min 10 (a - a).toNat) := by
    have : min 10 (a - a).toNat = 0 := by (clear hw h5 h6 h7 ha ha2 h hV hW hg hl; lia)
    rw [this]; rfl
  rw [hz]
  refine l_223_4 hV hW h5 ha _ a (Nat.lt_succ_self _) (Int.le_refl _) ha2 ?_
  refine l_223_48 hw hV hW ha hg (by omega) ?_ 48 0 rfl (fun _ => rfl)
  unfold qk_ at h
  refine b_223_81 (Tr_mono _) hV hW a _ _ _ M ?_
  rw [w32_id (by omega) (by omega)]
  by_cases h1 : ne_ (M 146) (M 6 4) a - a ≤ 10
  · have hm : min 10 (ne_ (M 146) (M 6 4) a - a).toNat = (ne_ (M 146) (M 6 4) a - a).toNat := by (clear hw h5 h6 h7 ha ha2 h hV hW hl hz; lia)
    rw [hm, if_pos h1, if_pos h1]
    simp only [if_pos h1] at h
    by_cases h2 : pWi (hs_ (M 146) a (ne_ (M 146) (M 6 4) a - a).toNat) 48 0 < 48
    · rw [if_pos (by omega)]
      simp only [if_pos h2] at h
      exact s_224 h6 h7 (ri_i h)
    · rw [if_neg (by (clear hw h5 h6 h7 ha ha2 hV hW hg hl hz h1 hm h; omega))]
      simp only [if_neg h2] at h
      exact s_224 h6 h7 (ri_i h)
  · rw [if_neg h1]
    simp only [if_neg h1] at h
    exact s_224 h6 h7 (ri_i h))
end QM
/-! Q's numbers -/
theorem dg_bq {f : Int → Int} {n a : Int} : dg_ (bq_ f n a) = dg_ (by_ f n a) := by
  unfold bq_ by_
  split
  · rfl
  · decide
section QU
variable {d : Nat} {M : mm_} {K : Int → mm_ → Prop} {Kv : mm_ → Prop} {Qr : qr_} {Qt : qt_} {V : vv_}
/-- a number by Q's numbers -/
def qu_ (f : Int → Int) (n a e : Int) : Int := if e - a ≤ 9 then (if 0 < cd_ (by_ f n e) then 5 else 2) else 5
theorem l_225 (hV : Cl_ wd0 (Tr_ wd0 pg0 (d + 2)) V Qr Qt m_225) (hW : Wk_ V) (h5 : M 6 4 ≤ 5000) (h6 : 0 ≤ M 6 11) (h7 : M 6 11 < 1202) {x1 : Int} (hx : 0 ≤ x1)
    (h : Qr [.inl (ue_ (M 146) (M 6 4) x1)] (tok_ M (qu_ (M 146) (M 6 4) x1 (ue_ (M 146) (M 6 4) x1)) x1 (uv_ (M 146) x1 (ue_ (M 146) (M 6 4) x1 - x1).toNat))) :
    ∀ (k : Nat) (a : Int), (M 6 4 - a).toNat < k → x1 ≤ a → a ≤ M 6 4 → ue_ (M 146) (M 6 4) a = ue_ (M 146) (M 6 4) x1 → (∀ i, x1 ≤ i → i < a → dg_ (M 146 i % 256) = 1) → V 4 [rr 6, ii x1, ii a, jj (uv_ (M 146) x1 (a - x1).toNat), none, none] [] M := by
  intro k
  induction k with
  | zero => intro a hk; (clear hV hW h6 h7 h; lia)
  | succ k ih =>
    intro a hk h0 h1 hu hd
    have hr1 := bq_r (f := M 146) (n := M 6 4) (a := a)
    refine b_225_4 (Tr_mono _) hV hW x1 a _ M (s_221 (by omega) h5 (s_213 ?_))
    rw [dg_bq, w32_id (x := a - x1) (by omega) (by omega)]
    rcases dg01 (by_ (M 146) (M 6 4) a) with h8 | h8
    · have hn : ue_ (M 146) (M 6 4) a = a := by rw [ue_, dif_neg (by omega)]
      rw [← hu, hn] at h
      unfold qu_ at h
      rw [if_pos h8]
      split
      · rename_i h9
        rw [if_pos (show a - x1 ≤ 9 by (clear hV hW h5 h6 h7 hx ih h hk h1 hd hr1 h8; lia))] at h
        refine s_221 (by (clear hV hW h5 h6 h7 ih h hk h1 hd hr1 h8; lia)) h5 (s_211 (by omega) (by omega) ?_)
        rw [cd_bq]
        have hcr := cd_r (by_ (M 146) (M 6 4) a)
        split
        · rename_i h10
          rw [if_neg (by omega)] at h
          rw [if_neg (by decide)]
          exact s_224 h6 h7 h
        · rename_i h10
          rw [if_pos (by (clear hV hW h5 h6 h7 hx ih h hk h0 h1 hu hd hr1 h8 hn h9; omega))] at h
          rw [if_pos rfl]
          exact s_224 h6 h7 h
      · rename_i h9
        rw [if_neg (by (clear hV hW h5 h6 h7 hx ih h hk h0 h1 hd hr1 h8; omega))] at h
        rw [if_pos rfl]
        exact s_224 h6 h7 h
    · have hl := dg_by h8
      have hn : ue_ (M 146) (M 6 4) a = ue_ (M 146) (M 6 4) (a + 1) := by rw [ue_, dif_pos h8]
      rw [if_neg (by omega)]
      have h8' := h8
      unfold by_ at h8'
      rw [if_pos hl] at h8'
      have hdr : 48 ≤ M 146 a % 256 ∧ M 146 a % 256 ≤ 57 := by
        unfold dg_ at h8'
        split at h8'
        · assumption
        · omega
      have hm : (a + 1 - x1).toNat = (a - x1).toNat + 1 := by (clear hV hW h5 h6 h7 hx h ih hk h1 hu hd hr1 h8 hl hn h8' hdr; lia)
      have hcast : (((a - x1).toNat : Nat) : Int) = a - x1 := by (clear hV hW h5 h6 h7 hx h ih hk h1 hu hd hr1 h8 hl hn h8' hdr hm; lia)
      have hv := uv_r (f := M 146) (a := x1) (a - x1).toNat (fun j hj => hd _ (by (clear hV hW h5 h6 h7 hx h ih hk h0 h1 hu hd hr1 h8 hl hn h8' hdr hm hcast hj; lia)) (by (clear hV hW h5 h6 h7 hx h ih hk h0 h1 hu hd hr1 h8 hl hn h8' hdr hm; omega)))
      have hgo := ih (a + 1) (by (clear hV hW h5 h6 h7 hx h ih h1 hu hd hr1 h8 hn h8' hdr hm hv; lia)) (by (clear hV hW h5 h6 h7 hx h ih hk h1 hu hd hr1 h8 hl hn h8' hdr hm hv; lia)) (by omega) (by rw [← hn]; exact hu) (fun i h9 h10 => by
        by_cases h11 : i = a
        · rw [h11]; exact h8'
        · exact hd i h9 (by (clear hV hW h5 h6 h7 hx h ih hk h0 h1 hu hd hr1 h8 hl hn h8' hdr hm hcast hv h9; omega)))
      rw [hm] at hgo
      unfold uv_ at hgo
      rw [w32_id (x := a + 1) (by (clear hV hW h5 h6 h7 h ih hk h1 hu hd hr1 h8 hl hn h8' hdr hm hv hgo; lia)) (by omega)]
      split
      · rename_i h9
        rw [if_pos (by (clear hV hW h5 h6 h7 hx h ih hk h1 hu hd hr1 h8 hl hn h8' hdr hm hv hgo; omega)), hcast] at hgo
        refine s_221 (by (clear hV hW h5 h6 h7 h ih hk h1 hu hd hr1 h8 hl hn h8' hdr hm hv hgo; lia)) h5 ?_
        have hby : bq_ (M 146) (M 6 4) a = M 146 a % 256 := by unfold bq_; rw [if_pos hl]
        rw [hby]
        have hx1 : x1 + (a - x1) = a := by omega
        rw [hx1] at hgo
        have hp : (10 : Int) ^ (min (a - x1).toNat 9) ≤ 100000000 := (by decide : ∀ m : Fin 9, (10 : Int) ^ m.val ≤ 100000000) ⟨min (a - x1).toNat 9, by (clear hV hW h5 h6 h7 hx h ih hk h1 hu hd hr1 h8 hl hn h8' hdr hm hv hgo hby hx1; omega)⟩
        have hw : w64 (w64 (w64 (10 * uv_ (M 146) x1 (a - x1).toNat) + M 146 a % 256) - 48) = 10 * uv_ (M 146) x1 (a - x1).toNat + (M 146 a % 256 - 48) := by
          unfold w64; (clear hV hW h5 h6 h7 hx h ih hk h0 h1 hu hd hr1 h8 hl hn h8' hm hcast hgo h9 hby hx1; omega)
        rw [hw]
        exact hgo
      · rename_i h9
        rw [if_neg (by (clear hV hW h5 h6 h7 hx h ih hk h0 h1 hu hd hr1 h8 hl hn h8' hdr hm hv hgo; omega))] at hgo
        exact hgo
theorem s_225 (h5 : M 6 4 ≤ 5000) (h6 : 0 ≤ M 6 11) (h7 : M 6 11 < 1202) {a : Int} (ha : 0 ≤ a) (ha2 : a ≤ M 6 4) (h : K (ue_ (M 146) (M 6 4) a) (tok_ M (qu_ (M 146) (M 6 4) a (ue_ (M 146) (M 6 4) a)) a (uv_ (M 146) a (ue_ (M 146) (M 6 4) a - a).toNat))) : Tr_ wd0 pg0 (d + 3) 225 [.inr (.inr 6), .inl a] M (ri_ K) Qt := t_225 fun V hV hW => b_225_0 (Tr_mono _) hV hW a M (by
  have := l_225 hV hW h5 h6 h7 ha (ri_i h) _ a (Nat.lt_succ_self _) (Int.le_refl _) ha2 rfl (fun i h8 h9 => by omega)
  have h8 : (a - a).toNat = 0 := by (clear h5 h6 h7 ha ha2 h hV hW this; lia)
  rw [h8] at this
  exact this)
end QU
/-! Q's token at a place: kind, value, end -/
def qo_ (f : Int → Int) (n a : Int) : Int × Int × Int :=
  if sm_ (by_ f n a) = 1 then ((qk_ f a (ne_ f n a)).1, (qk_ f a (ne_ f n a)).2, ne_ f n a) else if dg_ (by_ f n a) = 1 then (qu_ f n a (ue_ f n a), uv_ f a (ue_ f n a - a).toNat, ue_ f n a)
  else if tw_ (by_ f n a) (by_ f n (a + 1)) = -1 then (if by_ f n a ∈ sgL then 3 else 5, by_ f n a, a + 1) else (3, tw_ (by_ f n a) (by_ f n (a + 1)) + 146, a + 2)
section QO
variable {d : Nat} {M : mm_} {K : Int → mm_ → Prop} {Kv : mm_ → Prop} {Qr : qr_} {Qt : qt_} {V : vv_}
theorem tw_bq {c : Int} {f : Int → Int} {n a : Int} : tw_ c (bq_ f n a) = tw_ c (by_ f n a) := by
  unfold bq_ by_
  split
  · rfl
  · unfold tw_; simp
theorem l_222_two (hV : Cl_ wd0 (Tr_ wd0 pg0 (d + 3)) V Qr Qt m_222) (hW : Wk_ V) {a c e : Int} (h : V 151 [rr 6, ii a, ii c, ii e, ii (if tw_ c e = -1 then 0 else tw_ c e + 146), none] [] M) : (if c = 58 then
        (if e = 61 then
         V 151 [rr 6, ii a, ii c, ii e, ii 256, none] [] M
        else
         (if c = 47 then
          (if e = 61 then
           V 151 [rr 6, ii a, ii c, ii e, ii 257, none] [] M
          else
           V 76 [rr 6, ii a, ii c, ii e, none, none] [] M)
         else
          V 76 [rr 6, ii a, ii c, ii e, none, none] [] M))
       else
        (if c = 47 then
         (if e = 61 then
          V 151 [rr 6, ii a, ii c, ii e, ii 257, none] [] M
         else
          V 76 [rr 6, ii a, ii c, ii e, none, none] [] M)
        else
         V 76 [rr 6, ii a, ii c, ii e, none, none] [] M)) := by
  unfold tw_ at h
  have h128 : ¬ (c = 58 ∧ e = 61) → ¬ (c = 47 ∧ e = 61) → ¬ (c = 60 ∧ e = 61) → ¬ (c = 62 ∧ e = 61) → V 112 [rr 6, ii a, ii c, ii e, none, none] [] M := by
    intro h1 h2 h3 h4
    simp only [if_neg h1, if_neg h2, if_neg h3, if_neg h4] at h
    refine b_222_112 (Tr_mono _) hV hW a c e M ?_
    by_cases h5 : c = 45 <;> by_cases h6 : c = 46 <;> by_cases h7 : e = 62 <;> by_cases h8 : e = 46 <;> simp_all
  have h94 : ¬ (c = 58 ∧ e = 61) → ¬ (c = 47 ∧ e = 61) → V 76 [rr 6, ii a, ii c, ii e, none, none] [] M := by
    intro h1 h2
    simp only [if_neg h1, if_neg h2] at h
    refine b_222_76 (Tr_mono _) hV hW a c e M ?_
    by_cases h5 : c = 60 <;> by_cases h6 : c = 62 <;> by_cases h7 : e = 61 <;> simp_all
  by_cases h5 : c = 58 <;> by_cases h6 : c = 47 <;> by_cases h7 : e = 61 <;> simp_all
end QO
section QP
variable {d : Nat} {M : mm_} {K : Int → mm_ → Prop} {Kv : mm_ → Prop} {Qr : qr_} {Qt : qt_} {V : vv_}
theorem l_222_151 (hV : Cl_ wd0 (Tr_ wd0 pg0 (d + 3)) V Qr Qt m_222) (hW : Wk_ V) (h6 : 0 ≤ M 6 11) (h7 : M 6 11 < 1202) {a c e t : Int} (ha : 0 ≤ a) (ha2 : a ≤ 5000) (h : t ≤ 0 → Qr [.inl (a + 1)] (tok_ M (if c ∈ sgL then 3 else 5) a c)) (h2 : 0 < t → Qr [.inl (a + 2)] (tok_ M 3 a t)) : V 151 [rr 6, ii a, ii c, ii e, ii t, none] [] M := by
  refine b_222_151 (Tr_mono _) hV hW a c e t M ?_
  have h259 : c ∈ sgL → t ≤ 0 → V 259 [rr 6, ii a, ii c, ii e, ii t, none] [] M := by
    intro h1 h3
    have := h h3
    rw [if_pos h1] at this
    refine b_222_259 (Tr_mono _) hV hW a c e t M ?_
    rw [if_neg (by decide), w32_id (by omega) (by omega)]
    exact s_224 h6 h7 this
  have hm : c ∈ sgL ↔ c = 40 ∨ c = 41 ∨ c = 91 ∨ c = 93 ∨ c = 44 ∨ c = 59 ∨ c = 58 ∨ c = 42 ∨ c = 43 ∨ c = 47 ∨ c = 37 ∨ c = 61 ∨ c = 60 ∨ c = 62 ∨ c = 45 := by
    unfold sgL
    simp only [List.mem_cons, List.mem_nil_iff, or_false, List.not_mem_nil]
  by_cases h1 : t ≤ 0
  · rw [if_pos h1]
    by_cases h3 : c ∈ sgL
    · have h4 := h259 h3 h1
      have h5 := hm.mp h3
      rcases h5 with h5 | h5 | h5 | h5 | h5 | h5 | h5 | h5 | h5 | h5 | h5 | h5 | h5 | h5 | h5 <;> subst h5 <;> exact h4
    · have h4 := h h1
      rw [if_neg h3] at h4
      rw [hm] at h3
      rw [if_neg (by (clear hV hW h6 h7 ha ha2 h h2 h259 hm h1 h4; lia)), if_neg (by (clear hV hW h6 h7 ha ha2 h h2 h259 hm h1 h4; lia)), if_neg (by (clear hV hW h6 h7 ha ha2 h h2 h259 hm h1 h4; lia)), if_neg (by (clear hV hW h6 h7 ha ha2 h h2 h259 hm h1 h4; lia)), if_neg (by (clear hV hW h6 h7 ha ha2 h h2 h259 hm h1 h4; lia)), if_neg (by (clear hV hW h6 h7 ha ha2 h h2 h259 hm h1 h4; lia)), if_neg (by (clear hV hW h6 h7 ha ha2 h h2 h259 hm h1 h4; lia)), if_neg (by (clear hV hW h6 h7 ha ha2 h h2 h259 hm h1 h4; lia)), if_neg (by (clear hV hW h6 h7 ha ha2 h h2 h259 hm h1 h4; lia)), if_neg (by (clear hV hW h6 h7 ha ha2 h h2 h259 hm h1 h4; lia)), if_neg (by (clear hV hW h6 h7 ha ha2 h h2 h259 hm h1 h4; lia)), if_neg (by (clear hV hW h6 h7 ha ha2 h h2 h259 hm h1 h4; lia)), if_neg (by (clear hV hW h6 h7 ha ha2 h h2 h259 hm h1 h4; lia)), if_neg (by omega), if_neg (by omega), if_pos rfl, w32_id (by omega) (by omega)]
      exact s_224 h6 h7 h4
  · rw [if_neg h1, w32_id (by omega) (by omega)]
    exact s_224 h6 h7 (h2 (by omega))
end QP
section QQ
variable {d : Nat} {M : mm_} {K : Int → mm_ → Prop} {Kv : mm_ → Prop} {Qr : qr_} {Qt : qt_} {V : vv_}
theorem tw_r (c e : Int) : tw_ c e = -1 ∨ 110 ≤ tw_ c e := by
  unfold tw_
  repeat' split
  all_goals omega
theorem s_222 (hw : Wd_ M) (h5 : M 6 4 ≤ 5000) (h6 : 0 ≤ M 6 11) (h7 : M 6 11 < 1202) {a : Int} (ha : 0 ≤ a) (ha2 : a < M 6 4) (h : K (qo_ (M 146) (M 6 4) a).2.2 (tok_ M (qo_ (M 146) (M 6 4) a).1 a (qo_ (M 146) (M 6 4) a).2.1)) : Tr_ wd0 pg0 (d + 4) 222 [.inr (.inr 6), .inl a] M (ri_ K) Qt := t_222 fun V hV hW => b_222_0 (Tr_mono _) hV hW a M (s_221 ha h5 (by
  have hby : bq_ (M 146) (M 6 4) a = by_ (M 146) (M 6 4) a := by unfold bq_ by_; rw [if_pos ha2, if_pos ha2]
  have hr1 := bq_r (f := M 146) (n := M 6 4) (a := a)
  rw [hby] at hr1 ⊢
  have ht : qo_ (M 146) (M 6 4) a = qo_ (M 146) (M 6 4) a := rfl
  conv at ht => rhs; unfold qo_
  refine s_212 ?_
  rcases sm01 (by_ (M 146) (M 6 4) a) with h8 | h8
  · rw [if_pos h8]
    rw [if_neg (by omega)] at ht
    refine s_213 ?_
    rcases dg01 (by_ (M 146) (M 6 4) a) with h9 | h9
    · rw [if_pos h9]
      rw [if_neg (by omega)] at ht
      rw [w32_id (by omega) (by omega)]
      refine s_221 (by omega) h5 ?_
      refine l_222_two hV hW (l_222_151 hV hW h6 h7 ha (by omega) (fun h10 => ?_) (fun h10 => ?_))
      · rw [tw_bq] at h10
        rcases tw_r (by_ (M 146) (M 6 4) a) (by_ (M 146) (M 6 4) (a + 1)) with h11 | h11
        · rw [if_pos h11] at ht
          rw [ht] at h
          exact ri_i h
        · rw [if_neg (by omega)] at h10
          omega
      · rw [tw_bq] at h10 ⊢
        rcases tw_r (by_ (M 146) (M 6 4) a) (by_ (M 146) (M 6 4) (a + 1)) with h11 | h11
        · rw [if_pos h11] at h10
          omega
        · rw [if_neg (by omega)] at ht ⊢
          rw [ht] at h
          exact ri_i h
    · rw [if_neg (by omega)]
      rw [if_pos h9] at ht
      rw [ht] at h
      exact s_225 h5 h6 h7 ha (by omega) (ri_i h)
  · rw [if_neg (by omega)]
    rw [if_pos h8] at ht
    rw [ht] at h
    exact s_223 hw h5 h6 h7 ha (by omega) (ri_i h)))
end QQ
/-! two names of X's tokens -/
section AL
variable {d : Nat} {M : mm_} {K : Int → mm_ → Prop} {Kv : mm_ → Prop} {Qr : qr_} {Qt : qt_} {V : vv_}
theorem l_199a (hV : Cl_ wd0 (Tr_ wd0 pg0 d) V Qr Qt m_199) (hW : Wk_ V) {x y : Int} (hx : 0 ≤ x ∧ x < 1202) (hy : 0 ≤ y ∧ y < 1202) (h1 : 0 ≤ M 71 x) (h2 : M 71 x ≤ M 72 x) (h3 : M 72 x ≤ 5000) (h4 : 0 ≤ M 71 y) (h5 : M 71 y ≤ M 72 y) (h6 : M 72 y ≤ 5000) (he : M 72 x - M 71 x = M 72 y - M 71 y)
    (ht : (∀ j, 0 ≤ j → j < M 72 x - M 71 x → M 69 (M 71 x + j) = M 69 (M 71 y + j)) → Qr [.inl 1] M) (hf : (¬ ∀ j, 0 ≤ j → j < M 72 x - M 71 x → M 69 (M 71 x + j) = M 69 (M 71 y + j)) → Qr [.inl 0] M) :
    ∀ (c : Nat) (k : Int), (M 72 x - M 71 x - k).toNat ≤ c → 0 ≤ k → k ≤ M 72 x - M 71 x → (∀ j, 0 ≤ j → j < k → M 69 (M 71 x + j) = M 69 (M 71 y + j)) → V 38 [rr 2, ii x, ii y, ii 1, ii k] [] M := by
  intro c
  induction c with
  | zero =>
    intro k hc h0 hk hj
    refine b_199a_38 (Tr_mono _) hV hW x y 1 k M ⟨hx, hx, ?_⟩
    rw [w32_id (by omega) (by (clear hV hW hx hy h2 h4 h5 h6 ht hf hc h0 hk hj; omega)), if_neg (by (clear hV hW hx hy h4 h5 h6 ht hf hk hj; lia))]
    exact ⟨.inr rfl, ht (fun j h7 h8 => hj j h7 (by (clear hV hW hx hy h4 h5 h6 ht hf hj h7; omega)))⟩
  | succ c ih =>
    intro k hc h0 hk hj
    refine b_199a_38 (Tr_mono _) hV hW x y 1 k M ⟨hx, hx, ?_⟩
    rw [w32_id (by (clear hV hW hx hy h1 h3 h4 h5 h6 ht hf ih hc h0 hk hj; lia)) (by omega)]
    by_cases h7 : k < M 72 x - M 71 x
    · rw [if_pos h7, if_neg (by decide), w32_id (x := M 71 x + k) (by (clear hV hW hx hy h2 h3 h4 h5 h6 ht hf ih hc hk hj h7; lia)) (by omega), w32_id (x := M 71 y + k) (by omega) (by omega), w32_id (x := k + 1) (by omega) (by omega)]
      refine ⟨hx, by (clear hV hW hx hy h2 h4 h5 h6 ht hf ih hc hk hj; lia), fun _ => ⟨hy, by (clear hV hW hx hy h5 ht hf ih hc hk hj; omega), fun _ => ?_⟩⟩
      by_cases h8 : M 69 (M 71 x + k) = M 69 (M 71 y + k)
      · rw [if_pos h8]
        refine ih _ (by (clear hV hW hx hy h1 h2 h3 h4 h5 h6 ht hf ih h0 hk hj h7 h8; omega)) (by (clear hV hW hx hy h1 h2 h3 h4 h5 h6 he ht hf ih hc hk hj h7 h8; omega)) (by (clear hV hW hx hy h1 h2 h3 h4 h5 h6 ht hf ih hc h0 hk hj h8; omega)) (fun j h9 h10 => ?_)
        by_cases h11 : j = k
        · rw [h11]; exact h8
        · exact hj j h9 (by (clear hV hW hx hy h1 h2 h3 h4 h5 h6 he ht hf ih hc h0 hk hj h7 h8 h9; omega))
      · rw [if_neg h8]
        refine b_199a_38 (Tr_mono _) hV hW x y 0 (k + 1) M ⟨hx, hx, ?_⟩
        have hq := hf (fun h9 => h8 (h9 k h0 h7))
        rw [if_pos rfl]
        split
        · exact ⟨.inl rfl, hq⟩
        · exact ⟨.inl rfl, hq⟩
    · rw [if_neg h7]
      exact ⟨.inr rfl, ht (fun j h8 h9 => hj j h8 (by (clear hV hW hx hy h1 h2 h3 h4 h5 h6 ht hf ih hc h0 hj h8; omega)))⟩
theorem s_199a {x y : Int} (hx : 0 ≤ x ∧ x < 1202) (hy : 0 ≤ y ∧ y < 1202) (h1 : 0 ≤ M 71 x) (h2 : M 71 x ≤ M 72 x) (h3 : M 72 x ≤ 5000) (h4 : 0 ≤ M 71 y) (h5 : M 71 y ≤ M 72 y) (h6 : M 72 y ≤ 5000)
    (ht : M 72 x - M 71 x = M 72 y - M 71 y → (∀ j, 0 ≤ j → j < M 72 x - M 71 x → M 69 (M 71 x + j) = M 69 (M 71 y + j)) → K 1 M) (hf : ¬ (M 72 x - M 71 x = M 72 y - M 71 y ∧ ∀ j, 0 ≤ j → j < M 72 x - M 71 x → M 69 (M 71 x + j) = M 69 (M 71 y + j)) → K 0 M) : Tr_ wd0 pg0 (d + 1) 199 [.inr (.inr 2), .inl x, .inl y] M (ri_ K) Qt := t_199a fun V hV hW => b_199a_0 (Tr_mono _) hV hW x y M (by
  refine ⟨hx, hx, hy, hy, ?_⟩
  rw [w32_id (by omega) (by omega), w32_id (by omega) (by (clear hx hy h1 h2 h3 h5 ht hf hV hW; omega))]
  by_cases he : M 72 x - M 71 x = M 72 y - M 71 y
  · rw [if_pos he]
    exact l_199a hV hW hx hy h1 h2 h3 h4 h5 h6 he (fun h => ri_i (ht he h)) (fun h => ri_i (hf (fun h9 => h h9.2))) _ 0 (Nat.le_refl _) (by omega) (by omega) (fun j h7 h8 => by omega)
  · rw [if_neg he]
    refine b_199a_38 (Tr_mono _) hV hW x y 0 0 M ⟨hx, hx, ?_⟩
    have hq : ri_ K [.inl 0] M := ri_i (hf (fun h9 => he h9.1))
    rw [if_pos rfl]
    split
    · exact ⟨.inl rfl, hq⟩
    · exact ⟨.inl rfl, hq⟩)
end AL
/-! all tokens of a text -/
/-- where the tokens of a text begin -/
def ps_ (f : Int → Int) (n : Int) : Nat → Int
  | 0 => bk_ f n 0
  | i + 1 => bk_ f n (tkk_ f n (ps_ f n i)).2
theorem bk_ge (f : Int → Int) (n a : Int) : a ≤ bk_ f n a := by
  unfold bk_
  split
  · split
    · have h1 := cm_ge f n (a + 1)
      have := bk_ge f n (cm_ f n (a + 1)); omega
    · split
      · have := bk_ge f n (a + 1); omega
      · omega
  · omega
termination_by (n - a).toNat
decreasing_by
  · omega
  · omega
theorem bk_le (f : Int → Int) (n a : Int) (h : a ≤ n) : bk_ f n a ≤ n := by
  unfold bk_
  split
  · split
    · have h1 := cm_ge f n (a + 1)
      exact bk_le f n _ (cm_le f n (a + 1) (by omega))
    · split
      · exact bk_le f n (a + 1) (by omega)
      · omega
  · omega
termination_by (n - a).toNat
decreasing_by
  · omega
  · omega
theorem tk_end {f : Int → Int} {n a : Int} (h : a ≤ n) : a ≤ (tkk_ f n a).2 ∧ (tkk_ f n a).2 ≤ n ∧ (a < n → a < (tkk_ f n a).2) := by
  unfold tkk_
  split
  · exact ⟨Int.le_refl _, h, fun h1 => absurd h1 (by assumption)⟩
  · split
    · rename_i h1 h2
      have hc : 0 < cd_ (by_ f n a) := cd_pos.mpr (.inl h2)
      have h3 := ne_ge f n (a + 1)
      have h4 := ne_le f n a h
      have h5 : ne_ f n a = ne_ f n (a + 1) := by rw [ne_, dif_pos hc]
      simp only []
      (clear h h1 h2 hc; lia)
    · split
      · rename_i h1 h2 h3
        have h4 := ue_ge f n (a + 1)
        have h5 := ue_le f n a h
        have h6 : ue_ f n a = ue_ f n (a + 1) := by rw [ue_, dif_pos h3]
        simp only []
        omega
      · split
        · simp only []; omega
        · rename_i h1 h2 h3 h4
          have h5 : a + 1 < n := by
            refine Classical.byContradiction fun h6 => h4 ?_
            have : by_ f n (a + 1) = -1 := by unfold by_; rw [if_neg h6]
            rw [this]; unfold tw_; simp
          simp only []
          omega
/-! X reads all tokens -/
def cp_ (g f : Int → Int) (k : Int) : Int → Int := fun i => if 0 ≤ i ∧ i < k then g i else f i
theorem up_wr {M : mm_} {r : Nat} {f : Int → Int} {i v : Int} : up_ (wr_ M r f) r i v = wr_ M r (su_ f i v) := by
  rw [uw_, wr_same, wr_wr]
theorem cp_su {g f : Int → Int} {k : Int} (h : 0 ≤ k) : su_ (cp_ g f k) k (g k) = cp_ g f (k + 1) := by
  funext i
  unfold su_ cp_
  by_cases h1 : i = k
  · rw [if_pos h1, if_pos (by omega), h1]
  · rw [if_neg h1]
    by_cases h2 : 0 ≤ i ∧ i < k
    · rw [if_pos h2, if_pos (by (clear h h1; omega))]
    · rw [if_neg h2, if_neg (by omega)]
theorem cp_0 {g f : Int → Int} : cp_ g f 0 = f := by
  funext i; unfold cp_; rw [if_neg (by omega)]
section RD
variable {d : Nat} {M : mm_} {K : Int → mm_ → Prop} {Kv : mm_ → Prop} {Qr : qr_} {Qt : qt_} {V : vv_}
theorem l_191a_2 (hV : Cl_ wd0 (Tr_ wd0 pg0 d) V Qr Qt m_191) (hW : Wk_ V) {n : Int} (hn : n ≤ 5000) (hb : ∀ i, 0 ≤ i → i < 5000 → -128 ≤ M 9 i ∧ M 9 i ≤ 127)
    (h : V 39 [rr 2, rr 9, ii n, ii 1] [] (up_ (up_ (up_ (wr_ M 69 (cp_ (M 9) (M 69) n)) 2 5 n) 2 6 0) 2 7 0)) : ∀ (c : Nat) (k : Int), (n - k).toNat ≤ c → 0 ≤ k → k ≤ n → V 2 [rr 2, rr 9, ii n, ii k] [] (wr_ M 69 (cp_ (M 9) (M 69) k)) := by
  intro c
  induction c with
  | zero =>
    intro k hc h0 hk
    have : k = n := by (clear hV hW hb h; lia)
    subst this
    refine b_191a_2 (Tr_mono _) hV hW k k _ ?_
    rw [if_neg (by omega)]
    exact h
  | succ c ih =>
    intro k hc h0 hk
    refine b_191a_2 (Tr_mono _) hV hW n k _ ?_
    by_cases h1 : k < n
    · rw [if_pos h1]
      have e9 : (wr_ M 69 (cp_ (M 9) (M 69) k)) 9 = M 9 := wr_ne (by decide)
      rw [e9]
      refine ⟨by omega, fun h2 => ⟨⟨by omega, h2⟩, ?_⟩⟩
      rw [up_wr, cp_su h0, w32_id (by omega) (by omega)]
      exact ih (k + 1) (by omega) (by omega) (by omega)
    · rw [if_neg h1]
      have : k = n := by (clear hV hW hn hb h ih hc h0; lia)
      subst this
      exact h
end RD
/-- the kind of the i-th token, and its end -/
def kd_ (f : Int → Int) (n : Int) (i : Nat) : Int := (tkk_ f n (ps_ f n i)).1
def en9_ (f : Int → Int) (n : Int) (i : Nat) : Int := (tkk_ f n (ps_ f n i)).2
/-- X's tokens so far -/
def TX_ (M : mm_) (f : Int → Int) (n : Int) (m : Nat) : Prop := ∀ i : Nat, i < m → M 71 i = ps_ f n i ∧ M 70 i = kd_ f n i ∧ M 72 i = en9_ f n i ∧ (dg_ (by_ f n (ps_ f n i)) = 1 → M 73 i = uv_ f (ps_ f n i) (ue_ f n (ps_ f n i) - ps_ f n i).toNat)
/-- nothing else has changed -/
def Fr_ (L : List Nat) (M M' : mm_) : Prop := ∀ r, r ∉ L → M' r = M r
theorem ps_r (f : Int → Int) (n : Int) (hn : 0 ≤ n) : ∀ i, 0 ≤ ps_ f n i ∧ ps_ f n i ≤ n
  | 0 => ⟨bk_ge f n 0, bk_le f n 0 hn⟩
  | i + 1 => by
    have ih := ps_r f n hn i
    have h1 := tk_end (f := f) ih.2
    have h2 := bk_ge f n (tkk_ f n (ps_ f n i)).2
    have h3 := bk_le f n _ h1.2.1
    unfold ps_
    (clear hn; omega)
section RD
variable {d : Nat} {K : Int → mm_ → Prop} {Kv : mm_ → Prop} {Qr : qr_} {Qt : qt_} {V : vv_}
theorem l_191a_39 (hV : Cl_ wd0 (Tr_ wd0 pg0 (d + 6)) V Qr Qt m_191) (hW : Wk_ V) {n : Int} {f : Int → Int} {M0 : mm_} (hn0 : 0 ≤ n) (hn : n ≤ 5000) (hb : ∀ i, 0 ≤ i → i < 5000 → -128 ≤ f i ∧ f i ≤ 127)
    (hq : ∀ M' (m : Nat), Fr_ [2, 70, 71, 72, 73] M0 M' → M' 2 5 = n → TX_ M' f n m → (∀ j : Nat, j + 1 < m → kd_ f n j ≠ 102) → 1 ≤ m → m ≤ 1202 → (kd_ f n (m - 1) = 102 ∨ m = 1202) → Qr [] M') :
    ∀ (c m : Nat) (M : mm_), 1202 - m ≤ c → m ≤ 1201 → Fr_ [2, 70, 71, 72, 73] M0 M → M 2 6 = m → M 2 5 = n → M 69 = f → RO_ M → 0 ≤ M 2 7 → M 2 7 ≤ n → bk_ f n (M 2 7) = ps_ f n m → TX_ M f n m → (∀ j : Nat, j < m → kd_ f n j ≠ 102) → V 39 [rr 2, rr 9, ii n, ii 1] [] M := by
  intro c
  induction c with
  | zero => intro m M h1 h2; omega
  | succ c ih =>
    intro m M hc hm hF h6 h5 h69 hr h7 h7n hps hT hk
    subst h69
    have hpr := ps_r (M 69) n hn0 m
    have hte := tk_end (f := M 69) hpr.2
    refine b_191a_39 (Tr_mono _) hV hW n 1 M ?_
    rw [if_neg (by decide)]
    refine s_192a h7 (by (clear hV hW hn0 hn hc hm hF h6 hr h7 hb hq ih hps hT hk hpr hte; lia)) (by omega) hb ?_
    rw [h5, hps]
    -- memory behind the blanks
    generalize hM1 : up_ M 2 7 (ps_ (M 69) n m) = M1
    have a26 : M1 2 6 = m := by rw [← hM1, up_off (by decide)]; exact h6
    have a25 : M1 2 5 = n := by rw [← hM1, up_off (by decide)]; exact h5
    have a27 : M1 2 7 = ps_ (M 69) n m := by rw [← hM1, up_at]
    have ane : ∀ r, r ≠ 2 → M1 r = M r := fun r h => by rw [← hM1, up_ne h]
    rw [a26, a27]
    refine ⟨by (clear hV hW hn0 hn hc hF h5 hr h7 h7n hb hq ih hps hT hk hpr hte hM1 a25 a27 ane; lia), ?_⟩
    generalize hM2 : up_ M1 71 (m : Int) (ps_ (M 69) n m) = M2
    have b2 : M2 2 = M1 2 := by rw [← hM2, up_ne (by decide)]
    have b71 : M2 71 m = ps_ (M 69) n m := by rw [← hM2, up_at]
    have b71' : ∀ i, i ≠ (m : Int) → M2 71 i = M 71 i := fun i h => by rw [← hM2, up_off h, ane 71 (by decide)]
    have bne : ∀ r, r ≠ 2 → r ≠ 71 → M2 r = M r := fun r h h' => by rw [← hM2, up_ne h', ane r h]
    have b69 : M2 69 = M 69 := bne 69 (by decide) (by decide)
    have hro : RO_ M2 := by
      rw [← hM2, ← hM1]; exact RO_up (RO_up hr (by decide)) (by decide)
    refine s_194a hro (by rw [b2, a27]; (clear hV hW hn0 hn hc hm hF h6 h5 hr h7 h7n hb hq ih hps hT hk hte hM1 a26 a25 ane hM2 b2 b71' bne b69 hro; lia)) (by rw [b2, a27, a25]; (clear hV hW hn0 hn hc hm hF h6 hr h7 h7n hb hq ih hps hT hk hte hM1 a26 ane hM2 b2 b71' bne b69 hro; lia)) (by rw [b2, a25]; exact hn) (by rw [b2, a26]; (clear hV hW hn0 hn hc hF h5 hr h7 h7n hb hq ih hps hT hk hpr hte hM1 a25 a27 ane hM2 b2 b71 b71' bne b69 hro; lia)) (by rw [b2, a26]; (clear hV hW hn0 hn hc hF h5 hr h7 h7n hb hq ih hps hT hk hpr hte hM1 a25 a27 ane hM2 b2 b71 b71' bne b69 hro; lia)) (by rw [b69]; exact hb) ?_
    rw [b69, b2, a25, a27]
    have hkd : (tkk_ (M 69) n (ps_ (M 69) n m)).1 = kd_ (M 69) n m := rfl
    rw [hkd]
    generalize hM3 : tkm_ M2 = M3
    have c27 : M3 2 7 = en9_ (M 69) n m := by
      rw [← hM3]; unfold tkm_; split
      · rw [up_ne (by decide), up_at, b69, b2, a25, a27]; rfl
      · rw [up_at, b69, b2, a25, a27]; rfl
    have c2 : ∀ i, i ≠ 7 → M3 2 i = M1 2 i := by
      intro i h
      rw [← hM3]; unfold tkm_; split
      · rw [up_ne (by decide), up_off h, b2]
      · rw [up_off h, b2]
    have cne : ∀ r, r ≠ 2 → r ≠ 73 → M3 r = M2 r := by
      intro r h h'
      rw [← hM3]; unfold tkm_; split
      · rw [up_ne h', up_ne h]
      · rw [up_ne h]
    have c73 : dg_ (by_ (M 69) n (ps_ (M 69) n m)) = 1 → M3 73 m = uv_ (M 69) (ps_ (M 69) n m) (ue_ (M 69) n (ps_ (M 69) n m) - ps_ (M 69) n m).toNat := by
      intro h
      rw [← hM3]; unfold tkm_
      rw [if_pos (by rw [b69, b2, a25, a27]; exact h), b69, b2, a25, a26, a27, up_at]
    have c73' : ∀ i, i ≠ (m : Int) → M3 73 i = M 73 i := by
      intro i h
      rw [← hM3]; unfold tkm_; split
      · rw [b2, a26, up_off h, up_ne (by decide), bne 73 (by decide) (by decide)]
      · rw [up_ne (by decide), bne 73 (by decide) (by decide)]
    rw [c2 6 (by decide), a26]
    refine ⟨by (clear hV hW hn0 hn hc hF h5 hr h7 h7n hb hq ih hps hT hk hpr hte hM1 a25 a27 ane hM2 b2 b71 b71' bne b69 hro hkd hM3 c27 c2 cne c73 c73'; lia), by omega, by omega, ?_⟩
    rw [up_at, c27, w32_id (by (clear hV hW hn0 hn hc hF h5 hr h7 h7n hb hq ih hps hT hk hpr hte hM1 a25 a27 ane hM2 b2 b71 b71' bne b69 hro hkd hM3 c27 c2 cne c73 c73'; lia)) (by (clear hV hW hn0 hn hc hF h5 hr h7 h7n hb hq ih hps hT hk hpr hte hM1 a25 a27 ane hM2 b2 b71 b71' bne b69 hro hkd hM3 c27 c2 cne c73 c73'; lia))]
    generalize hM4 : up_ (up_ (up_ M3 70 (m : Int) (kd_ (M 69) n m)) 72 (m : Int) (en9_ (M 69) n m)) 2 6 ((m : Int) + 1) = M4
    have d26 : M4 2 6 = m + 1 := by rw [← hM4, up_at]
    have d25 : M4 2 5 = n := by rw [← hM4, up_off (by decide), up_ne (by decide), up_ne (by decide), c2 5 (by decide)]; exact a25
    have d27 : M4 2 7 = en9_ (M 69) n m := by rw [← hM4, up_off (by decide), up_ne (by decide), up_ne (by decide)]; exact c27
    have dne : ∀ r, r ∉ [2, 70, 71, 72, 73] → M4 r = M r := by
      intro r h
      simp only [List.mem_cons, List.not_mem_nil, or_false, not_or] at h
      rw [← hM4, up_ne h.1, up_ne h.2.2.2.1, up_ne h.2.1, cne r h.1 h.2.2.2.2, bne r h.1 h.2.2.1]
    have dF : Fr_ [2, 70, 71, 72, 73] M0 M4 := fun r h => by rw [dne r h]; exact hF r h
    have dT : TX_ M4 (M 69) n (m + 1) := by
      intro i hi
      by_cases h : i = m
      · subst h
        refine ⟨?_, ?_, ?_, ?_⟩
        · rw [← hM4, up_ne (by decide), up_ne (by decide), up_ne (by decide), cne 71 (by decide) (by decide)]; exact b71
        · rw [← hM4, up_ne (by decide), up_ne (by decide), up_at]
        · rw [← hM4, up_ne (by decide), up_at]
        · intro h9
          rw [← hM4, up_ne (by decide), up_ne (by decide), up_ne (by decide)]; exact c73 h9
      · have hne : (i : Int) ≠ (m : Int) := by (clear hV hW hn0 hn hc hm hF h5 hr h7 h7n hb hq ih hps hT hk hpr hte hM1 a25 a27 ane hM2 b2 b71 b71' bne b69 hro hkd hM3 c27 c2 cne c73 c73' hM4 d25 d27 dne dF hi; lia)
        have := hT i (by (clear hV hW hn0 hn hc hm hF h5 hr h7 h7n hb hq ih hps hT hk hpr hte hM1 a25 a27 ane hM2 b2 b71 b71' bne b69 hro hkd hM3 c27 c2 cne c73 c73' hM4 d25 d27 dne dF h; lia))
        refine ⟨?_, ?_, ?_, ?_⟩
        · rw [← hM4, up_ne (by decide), up_ne (by decide), up_ne (by decide), cne 71 (by decide) (by decide), b71' _ hne]; exact this.1
        · rw [← hM4, up_ne (by decide), up_ne (by decide), up_off hne, cne 70 (by decide) (by decide), bne 70 (by decide) (by decide)]; exact this.2.1
        · rw [← hM4, up_ne (by decide), up_off hne, up_ne (by decide), cne 72 (by decide) (by decide), bne 72 (by decide) (by decide)]; exact this.2.2.1
        · intro h9
          rw [← hM4, up_ne (by decide), up_ne (by decide), up_ne (by decide), c73' _ hne]; exact this.2.2.2 h9
    have hout : (kd_ (M 69) n m = 102 ∨ m = 1201) → V 39 [rr 2, rr 9, ii n, ii 0] [] M4 := by
      intro h
      refine b_191a_39 (Tr_mono _) hV hW n 0 M4 ?_
      rw [if_pos rfl]
      refine hq M4 (m + 1) dF d25 dT (fun j hj => hk j (by (clear hV hW hn0 hn hc hm hF h5 hr h7 h7n hb hq ih hps hT hk hpr hte hM1 a25 a27 ane hM2 b2 b71 b71' bne b69 hro hkd hM3 c27 c2 cne c73 c73' hM4 d25 d27 dne dF dT h; lia))) (by (clear hV hW hn0 hn hc hF h5 hr h7 h7n hb hq ih hps hT hk hpr hte hM1 a25 a27 ane hM2 b2 b71 b71' bne b69 hro hkd hM3 c27 c2 cne c73 c73' hM4 d25 d27 dne dF dT h; lia)) (by (clear hV hW hn0 hn hc hF h5 hr h7 h7n hb hq ih hps hT hk hpr hte hM1 a25 a27 ane hM2 b2 b71 b71' bne b69 hro hkd hM3 c27 c2 cne c73 c73' hM4 d25 d27 dne dF dT h; lia)) ?_
      rcases h with h | h
      · exact .inl h
      · exact .inr (by (clear hV hW hn0 hn hc hm hF h5 hr h7 h7n hb hq ih hps hT hk hpr hte hM1 a25 a27 ane hM2 b2 b71 b71' bne b69 hro hkd hM3 c27 c2 cne c73 c73' hM4 d25 d27 dne dF dT; lia))
    split
    · rename_i h
      exact hout (.inl h)
    · rename_i h
      split
      · rename_i h'
        refine ih (m + 1) M4 (by (clear hV hW hn0 hn hF h5 hr h7 h7n hb hq ih hps hT hk hpr hM1 a25 a27 ane hM2 b2 b71 b71' bne b69 hro hkd hM3 c27 c2 cne c73' hM4 d25 d27 dne dF dT; lia)) (by (clear hV hW hn0 hn hc hF h5 hr h7 h7n hb hq ih hps hT hk hpr hte hM1 a25 a27 ane hM2 b2 b71 b71' bne b69 hro hkd hM3 c27 c2 cne c73 c73' hM4 d25 d27 dne dF dT hout h; lia)) dF (by rw [d26]; (clear hV hW hn0 hn hc hm hF h6 h5 hr h7 h7n hb hq ih hps hT hk hpr hte hM1 a26 a25 a27 ane hM2 b2 b71 b71' bne b69 hro hkd hM3 c27 c2 cne c73 c73' hM4 d26 d25 d27 dne dF dT hout h h'; lia)) d25 (dne 69 (by decide)) ?_ ?_ ?_ ?_ dT ?_
        · unfold RO_
          rw [dne 1001 (by decide), dne 1002 (by decide), dne 1011 (by decide), dne 1012 (by decide)]
          exact hr
        · rw [d27]; unfold en9_; (clear hV hW hn0 hn hc hm hF h6 h5 hr h7 h7n hb hq ih hps hT hk hM1 a26 a25 ane hM2 b2 b71' bne b69 hro hkd hM3 c27 c2 cne c73 c73' hM4 d26 d25 d27 dne dF dT hout h h'; lia)
        · rw [d27]; unfold en9_; (clear hV hW hn0 hn hc hm hF h6 hr h7 h7n hb hq ih hps hT hk hpr hM1 a26 a27 ane hM2 b2 b71 b71' bne b69 hro hkd hM3 c27 c2 cne c73 c73' hM4 d26 d27 dne dF dT hout h h'; omega)
        · rw [d27]; rfl
        · intro j hj
          by_cases h9 : j = m
          · rw [h9]; exact h
          · exact hk j (by (clear hV hW hn0 hn hc hm hF h5 hr h7 h7n hb hq ih hps hT hk hpr hte hM1 a25 a27 ane hM2 b2 b71 b71' bne b69 hro hkd hM3 c27 c2 cne c73 c73' hM4 d25 d27 dne dF dT hout h h'; lia))
      · rename_i h'
        exact hout (.inr (by (clear hV hW hn0 hn hc hF h5 hr h7 h7n hb hq ih hps hT hk hpr hte hM1 a25 a27 ane hM2 b2 b71 b71' bne b69 hro hkd hM3 c27 c2 cne c73 c73' hM4 d25 d27 dne dF dT hout h; lia)))
end RD
/-! X.read and Q.toText -/
section RD
variable {d : Nat} {K : Int → mm_ → Prop} {Kv : mm_ → Prop} {Qr : qr_} {Qt : qt_} {V : vv_}
theorem Fr_tr {L : List Nat} {M M1 M2 : mm_} (h1 : Fr_ L M M1) (h2 : Fr_ L M1 M2) : Fr_ L M M2 := fun r h => (h2 r h).trans (h1 r h)
theorem Fr_rf {L : List Nat} {M : mm_} : Fr_ L M M := fun _ _ => rfl
theorem Fr_up {L : List Nat} {M M1 : mm_} {r : Nat} {i v : Int} (h : Fr_ L M M1) (hr : r ∈ L) : Fr_ L M (up_ M1 r i v) := fun r' h' => by
  have : r' ≠ r := fun e => h' (e ▸ hr)
  rw [up_ne this]; exact h r' h'
theorem Fr_wr {L : List Nat} {M M1 : mm_} {r : Nat} {f : Int → Int} (h : Fr_ L M M1) (hr : r ∈ L) : Fr_ L M (wr_ M1 r f) := fun r' h' => by
  have : r' ≠ r := fun e => h' (e ▸ hr)
  rw [wr_ne this]; exact h r' h'
theorem Fr_sub {L L' : List Nat} {M M1 : mm_} (h : Fr_ L M M1) (hs : ∀ r, r ∈ L → r ∈ L') : Fr_ L' M M1 := fun r h' => h r fun h2 => h' (hs r h2)
theorem s_191a {n : Int} {M : mm_} (hn0 : 0 ≤ n) (hn : n ≤ 5000) (hro : RO_ M) (hb : ∀ i, 0 ≤ i → i < 5000 → -128 ≤ M 9 i ∧ M 9 i ≤ 127) (hb2 : ∀ i, 0 ≤ i → i < 5000 → -128 ≤ M 69 i ∧ M 69 i ≤ 127)
    (hq : ∀ M' (m : Nat), Fr_ [2, 69, 70, 71, 72, 73] M M' → M' 69 = cp_ (M 9) (M 69) n → M' 2 5 = n → TX_ M' (M' 69) n m → (∀ j : Nat, j + 1 < m → kd_ (M' 69) n j ≠ 102) → 1 ≤ m → m ≤ 1202 → (kd_ (M' 69) n (m - 1) = 102 ∨ m = 1202) → Kv M') :
    Tr_ wd0 pg0 (d + 7) 191 [.inr (.inr 2), .inr (.inr 9), .inl n] M (rv_ Kv) Qt := t_191a fun V hV hW => b_191a_0 (Tr_mono _) hV hW n M (by
  have h1 := l_191a_2 (M := M) hV hW (n := n) hn hb (by
    refine l_191a_39 (f := cp_ (M 9) (M 69) n) (M0 := wr_ M 69 (cp_ (M 9) (M 69) n)) hV hW hn0 hn ?_ ?_ 1202 0 _ (by omega) (by omega) ?_ ?_ ?_ ?_ ?_ ?_ ?_ ?_ ?_ ?_
    · intro i h0 h9
      unfold cp_
      split
      · exact hb i h0 h9
      · exact hb2 i h0 h9
    · intro M' m hF h5 hT hk h1 h2 h3
      have e69 : M' 69 = cp_ (M 9) (M 69) n := by rw [hF 69 (by decide), wr_same]
      refine rv_i (hq M' m (fun r h => ?_) e69 h5 (by rw [e69]; exact hT) (by rw [e69]; exact hk) h1 h2 (by rw [e69]; exact h3))
      simp only [List.mem_cons, List.not_mem_nil, or_false, not_or] at h
      rw [hF r (by simp only [List.mem_cons, List.not_mem_nil, or_false, not_or]; exact ⟨h.1, h.2.2⟩), wr_ne h.2.1]
    · exact Fr_up (Fr_up (Fr_up Fr_rf (by decide)) (by decide)) (by decide)
    · rw [up_off (by decide), up_at]; rfl
    · rw [up_off (by decide), up_off (by decide), up_at]
    · rw [up_ne (by decide), up_ne (by decide), up_ne (by decide), wr_same]
    · refine RO_up (RO_up (RO_up ?_ (by decide)) (by decide)) (by decide)
      unfold RO_
      rw [wr_ne (by decide), wr_ne (by decide), wr_ne (by decide), wr_ne (by decide)]
      exact hro
    · rw [up_at]; omega
    · rw [up_at]; omega
    · rw [up_at]; rfl
    · intro i hi; omega
    · intro j hj; omega) n.toNat 0 (by (clear hro hb hb2 hq hV hW; lia)) (Int.le_refl _) hn0
  rw [cp_0, wr_id] at h1
  exact h1)
theorem l_217 (hV : Cl_ wd0 (Tr_ wd0 pg0 d) V Qr Qt m_217) (hW : Wk_ V) {n : Int} {M : mm_} (hn : n ≤ 5000) (hb : ∀ i, 0 ≤ i → i < 5000 → -128 ≤ M 145 i ∧ M 145 i ≤ 127)
    (h : Qr [] (up_ (up_ (wr_ M 146 (cp_ (M 145) (M 146) n)) 6 4 n) 6 3 0)) : ∀ (c : Nat) (k : Int), (n - k).toNat ≤ c → 0 ≤ k → k ≤ n → V 2 [rr 6, ii n, ii k] [] (wr_ M 146 (cp_ (M 145) (M 146) k)) := by
  intro c
  induction c with
  | zero =>
    intro k hc h0 hk
    have : k = n := by omega
    subst this
    refine b_217_2 (Tr_mono _) hV hW k k _ ?_
    rw [if_neg (by omega)]
    exact h
  | succ c ih =>
    intro k hc h0 hk
    refine b_217_2 (Tr_mono _) hV hW n k _ ?_
    by_cases h1 : k < n
    · rw [if_pos h1]
      have e9 : (wr_ M 146 (cp_ (M 145) (M 146) k)) 145 = M 145 := wr_ne (by decide)
      rw [e9]
      refine ⟨by omega, fun h2 => ⟨⟨by omega, h2⟩, ?_⟩⟩
      rw [up_wr, cp_su h0, w32_id (by omega) (by omega)]
      exact ih (k + 1) (by omega) (by omega) (by omega)
    · rw [if_neg h1]
      have : k = n := by omega
      subst this
      exact h
theorem s_217 {n : Int} {M : mm_} (hn0 : 0 ≤ n) (hn : n ≤ 5000) (hb : ∀ i, 0 ≤ i → i < 5000 → -128 ≤ M 145 i ∧ M 145 i ≤ 127)
    (h : Kv (up_ (up_ (wr_ M 146 (cp_ (M 145) (M 146) n)) 6 4 n) 6 3 0)) : Tr_ wd0 pg0 (d + 1) 217 [.inr (.inr 6), .inl n] M (rv_ Kv) Qt := t_217 fun V hV hW => b_217_0 (Tr_mono _) hV hW n M (by
  have h1 := l_217 (M := M) hV hW (n := n) hn hb (rv_i h) n.toNat 0 (by omega) (Int.le_refl _) hn0
  rw [cp_0, wr_id] at h1
  exact h1)
end RD
/-! Q.cut -/
/-- Q's tokens so far -/
def TQ_ (M : mm_) (f : Int → Int) (n : Int) (m : Nat) : Prop := ∀ i : Nat, i < m → M 150 i = ps_ f n i ∧ (ps_ f n i < n → M 149 i = (qo_ f n (ps_ f n i)).1 ∧ M 151 i = (qo_ f n (ps_ f n i)).2.1) ∧ (¬ ps_ f n i < n → M 149 i = 0 ∧ M 151 i = 0)
theorem qo_end {f : Int → Int} {n a : Int} (h : a < n) : (qo_ f n a).2.2 = (tkk_ f n a).2 := by
  unfold qo_ tkk_
  rw [if_neg (show ¬ ¬ a < n from fun h9 => h9 h)]
  by_cases h1 : sm_ (by_ f n a) = 1
  · rw [if_pos h1, if_pos h1]
  · rw [if_neg h1, if_neg h1]
    by_cases h2 : dg_ (by_ f n a) = 1
    · rw [if_pos h2, if_pos h2]
    · rw [if_neg h2, if_neg h2]
      by_cases h3 : tw_ (by_ f n a) (by_ f n (a + 1)) = -1
      · rw [if_pos h3, if_pos h3]
      · rw [if_neg h3, if_neg h3]
theorem TQ_tok {M : mm_} {f : Int → Int} {n : Int} {m : Nat} {k p v : Int} (h6 : M 6 11 = m) (hT : TQ_ M f n m) (hp : p = ps_ f n m) (h1 : ps_ f n m < n → k = (qo_ f n (ps_ f n m)).1 ∧ v = (qo_ f n (ps_ f n m)).2.1) (h2 : ¬ ps_ f n m < n → k = 0 ∧ v = 0) : TQ_ (tok_ M k p v) f n (m + 1) := by
  intro i hi
  unfold tok_
  rw [h6]
  by_cases h : i = m
  · subst h
    have e150 : up_ (up_ (up_ (up_ M 149 (i : Int) k) 150 (i : Int) p) 151 (i : Int) v) 6 11 ((i : Int) + 1) 150 i = p := by rw [up_ne (by decide), up_ne (by decide), up_at]
    have e149 : up_ (up_ (up_ (up_ M 149 (i : Int) k) 150 (i : Int) p) 151 (i : Int) v) 6 11 ((i : Int) + 1) 149 i = k := by rw [up_ne (by decide), up_ne (by decide), up_ne (by decide), up_at]
    have e151 : up_ (up_ (up_ (up_ M 149 (i : Int) k) 150 (i : Int) p) 151 (i : Int) v) 6 11 ((i : Int) + 1) 151 i = v := by rw [up_ne (by decide), up_at]
    rw [e150, e149, e151]
    exact ⟨hp, h1, h2⟩
  · have hne : (i : Int) ≠ (m : Int) := by (clear h6 hT hp h1 h2 hi; lia)
    have := hT i (by (clear h6 hT hp h1 h2 h; omega))
    have e150 : up_ (up_ (up_ (up_ M 149 (m : Int) k) 150 (m : Int) p) 151 (m : Int) v) 6 11 ((m : Int) + 1) 150 i = M 150 i := by rw [up_ne (by decide), up_ne (by decide), up_off hne, up_ne (by decide)]
    have e149 : up_ (up_ (up_ (up_ M 149 (m : Int) k) 150 (m : Int) p) 151 (m : Int) v) 6 11 ((m : Int) + 1) 149 i = M 149 i := by rw [up_ne (by decide), up_ne (by decide), up_ne (by decide), up_off hne]
    have e151 : up_ (up_ (up_ (up_ M 149 (m : Int) k) 150 (m : Int) p) 151 (m : Int) v) 6 11 ((m : Int) + 1) 151 i = M 151 i := by rw [up_ne (by decide), up_off hne, up_ne (by decide), up_ne (by decide)]
    rw [e150, e149, e151]
    exact this
/-- what is said of the tokens of a text that Q has cut: so many, all but the latest lie within the text and are good -/
def QT_ (M' : mm_) (f : Int → Int) (n : Int) (m : Nat) : Prop := TQ_ M' f n m ∧ (∀ j : Nat, j + 1 < m → ps_ f n j < n ∧ (qo_ f n (ps_ f n j)).1 ≠ 5) ∧ 1 ≤ m ∧ m ≤ 1201 ∧ (¬ ps_ f n (m - 1) < n ∨ (qo_ f n (ps_ f n (m - 1))).1 = 5 ∨ m = 1201)
section CU
variable {d : Nat} {K : Int → mm_ → Prop} {Kv : mm_ → Prop} {Qr : qr_} {Qt : qt_} {V : vv_}
theorem l_219_9 (hV : Cl_ wd0 (Tr_ wd0 pg0 (d + 4)) V Qr Qt m_219) (hW : Wk_ V) {n : Int} {f : Int → Int} {M0 : mm_} (hn0 : 0 ≤ n) (hn : n ≤ 5000) (hb : ∀ i, 0 ≤ i → i < 5000 → -128 ≤ f i ∧ f i ≤ 127) (hw0 : Wd_ M0) (h0 : M0 146 = f)
    (hq : ∀ M' (m : Nat), Fr_ [6, 149, 150, 151] M0 M' → (∀ j, j ≠ 11 → M' 6 j = M0 6 j) → M' 6 11 = m → QT_ M' f n m → Qr [] M') :
    ∀ (c m : Nat) (M : mm_) (k : Int), 1202 - m ≤ c → m ≤ 1201 → Fr_ [6, 149, 150, 151] M0 M → (∀ j, j ≠ 11 → M 6 j = M0 6 j) → M 6 11 = m → M 6 4 = n → 0 ≤ k → k ≤ n → bk_ f n k = ps_ f n m → TQ_ M f n m → (∀ j : Nat, j < m → ps_ f n j < n ∧ (qo_ f n (ps_ f n j)).1 ≠ 5) → V 9 [rr 6, ii k, ii 0] [] M := by
  intro c
  induction c with
  | zero => intro m M k h1 h2; (clear hV hW hn0 hn hb hw0 h0 hq; omega)
  | succ c ih =>
    intro m M k hc hm hF hj h6 h4 hk0 hkn hps hT hg
    have e146 : M 146 = f := by rw [hF 146 (by decide)]; exact h0
    have hw : Wd_ M := by unfold Wd_; rw [hF 148 (by decide)]; exact hw0
    have hpr := ps_r f n hn0 m
    refine b_219_9 (Tr_mono _) hV hW k 0 M ?_
    rw [if_pos rfl, h6]
    by_cases h1 : (m : Int) ≤ 1200
    · rw [if_pos h1]
      refine s_220 (by rw [h4]; exact hn) (by rw [e146]; exact hb) hk0 ?_
      rw [e146, h4, hps]
      by_cases h2 : ps_ f n m < n
      · rw [if_pos h2]
        refine s_222 hw (by rw [h4]; exact hn) (by rw [h6]; (clear hV hW hn0 hn hb hw0 h0 hq ih hc hF hj h4 hk0 hkn hps hT hg e146 hw hpr h2; lia)) (by rw [h6]; omega) hpr.1 (by rw [h4]; exact h2) ?_
        rw [e146, h4]
        have hT' := TQ_tok (p := ps_ f n m) (k := (qo_ f n (ps_ f n m)).1) (v := (qo_ f n (ps_ f n m)).2.1) h6 hT rfl (fun _ => ⟨rfl, rfl⟩) (fun h => absurd h2 h)
        generalize hM1 : tok_ M (qo_ f n (ps_ f n m)).1 (ps_ f n m) (qo_ f n (ps_ f n m)).2.1 = M1 at hT'
        have c11 : M1 6 11 = ((m + 1 : Nat) : Int) := by rw [← hM1]; unfold tok_; rw [up_at, h6]; omega
        have cj : ∀ j, j ≠ 11 → M1 6 j = M0 6 j := fun j h => by rw [← hM1]; unfold tok_; rw [up_off h, up_ne (by decide), up_ne (by decide), up_ne (by decide)]; exact hj j h
        have cF : Fr_ [6, 149, 150, 151] M0 M1 := by rw [← hM1]; exact Fr_up (Fr_up (Fr_up (Fr_up hF (by decide)) (by decide)) (by decide)) (by decide)
        have h149 := ((hT' m (by (clear hV hW hn0 hn hb hw0 h0 hq ih hc hm hF hj h6 h4 hk0 hkn hps hT hg e146 hw hpr h1 h2 hM1 hT' c11 cj cF; lia))).2.1 h2).1
        rw [c11, w32_id (by (clear hV hW hn0 hn hb hw0 h0 hq ih hc hF hj h4 hk0 hkn hps hT hg e146 hw hpr h2 hM1 hT' cj cF h149; lia)) (by omega)]
        have em : (((m + 1 : Nat) : Int) - 1) = (m : Int) := by omega
        rw [em, h149]
        refine ⟨by (clear hV hW hn0 hn hb hw0 h0 hq ih hc hF hj h4 hk0 hkn hps hT hg e146 hw hpr h2 hM1 hT' cj cF h149 em; lia), ?_⟩
        by_cases h3 : (qo_ f n (ps_ f n m)).1 = 5
        · rw [if_pos h3]
          refine b_219_9 (Tr_mono _) hV hW _ 1 M1 ?_
          rw [if_neg (by decide), if_neg (by decide)]
          refine hq M1 (m + 1) cF cj c11 ⟨hT', fun j hj2 => hg j (by (clear hV hW hn0 hn hb hw0 h0 hq ih hc hm hF hj h4 hk0 hkn hps hT hg e146 hw hpr h1 h2 hM1 hT' cj cF h149 em h3; omega)), by (clear hV hW hn0 hn hb hw0 h0 hq ih hc hF hj h4 hk0 hkn hps hT hg e146 hw hpr h2 hM1 hT' cj cF h149 em h3; lia), by (clear hV hW hn0 hn hb hw0 h0 hq ih hc hF hj h4 hk0 hkn hps hT hg e146 hw hpr h2 hM1 hT' cj cF h149 em h3; lia), .inr (.inl h3)⟩
        · rw [if_neg h3]
          refine ih (m + 1) M1 _ (by (clear hV hW hn0 hn hb hw0 h0 hq ih hF hj h4 hk0 hkn hps hT hg e146 hw hpr h2 hM1 hT' cj cF h149 em; lia)) (by omega) cF cj c11 (by rw [cj 4 (by decide), ← hj 4 (by decide)]; exact h4) ?_ ?_ ?_ hT' ?_
          · rw [qo_end h2]; have := tk_end (f := f) hpr.2; omega
          · rw [qo_end h2]; have := tk_end (f := f) hpr.2; (clear hV hW hn0 hn hb hw0 h0 hq ih hc hm hF hj h6 hk0 hkn hps hT hg e146 hw hpr h1 h2 hM1 hT' c11 cj cF h149 em h3; omega)
          · rw [qo_end h2]; rfl
          · intro j hj2
            by_cases h9 : j = m
            · rw [h9]; exact ⟨h2, h3⟩
            · exact hg j (by (clear hV hW hn0 hn hb hw0 h0 hq ih hc hm hF hj h4 hk0 hkn hps hT hg e146 hw hpr h1 h2 hM1 hT' cj cF h149 em h3; lia))
      · rw [if_neg h2, if_pos rfl, h6, if_pos h1]
        refine s_224 (by rw [h6]; omega) (by rw [h6]; omega) ?_
        have e : ps_ f n m = n := by omega
        have hT' := TQ_tok (p := n) (k := 0) (v := 0) h6 hT e.symm (fun h => absurd h h2) (fun _ => ⟨rfl, rfl⟩)
        refine hq _ (m + 1) ?_ ?_ ?_ ⟨hT', fun j hj2 => hg j (by (clear hV hW hn0 hn hb hw0 h0 hq ih hc hm hF hj h4 hk0 hkn hps hT hg e146 hw hpr h1 h2 e hT'; omega)), by (clear hV hW hn0 hn hb hw0 h0 hq ih hc hF hj h4 hk0 hkn hps hT hg e146 hw hpr h2 e hT'; lia), by (clear hV hW hn0 hn hb hw0 h0 hq ih hc hF hj h4 hk0 hkn hps hT hg e146 hw hpr h2 e hT'; lia), .inl h2⟩
        · exact Fr_up (Fr_up (Fr_up (Fr_up hF (by decide)) (by decide)) (by decide)) (by decide)
        · intro j h; rw [up_off h, up_ne (by decide), up_ne (by decide), up_ne (by decide)]; exact hj j h
        · rw [up_at, h6]; omega
    · rw [if_neg h1, if_pos rfl, if_neg h1]
      have e : m = 1201 := by (clear hV hW hn0 hn hb hw0 h0 hq ih hc hF hj h4 hk0 hkn hps hT hg e146 hw hpr; lia)
      exact hq M m hF hj h6 ⟨hT, fun j hj2 => hg j (by omega), by omega, by omega, .inr (.inr e)⟩
theorem s_219 {M : mm_} (hn0 : 0 ≤ M 6 4) (hn : M 6 4 ≤ 5000) (hw : Wd_ M) (hb : ∀ i, 0 ≤ i → i < 5000 → -128 ≤ M 146 i ∧ M 146 i ≤ 127)
    (hq : ∀ M' (m : Nat), Fr_ [6, 149, 150, 151] M M' → (∀ j, j ≠ 11 → M' 6 j = M 6 j) → M' 6 11 = m → QT_ M' (M 146) (M 6 4) m → Kv M') :
    Tr_ wd0 pg0 (d + 5) 219 [.inr (.inr 6)] M (rv_ Kv) Qt := t_219 fun V hV hW => b_219_0 (Tr_mono _) hV hW M (by
  refine l_219_9 (M0 := up_ M 6 11 0) (f := M 146) (n := M 6 4) hV hW hn0 hn hb (by unfold Wd_; rw [up_ne (by decide)]; exact hw) (by rw [up_ne (by decide)]) ?_ 1202 0 _ 0 (by omega) (by omega) Fr_rf (fun _ _ => rfl) (by rw [up_at]; rfl) (by rw [up_off (by decide)]) (Int.le_refl _) hn0 rfl (fun i hi => absurd hi (by omega)) (fun i hi => absurd hi (by omega))
  intro M' m hF hj h11 hQ
  exact rv_i (hq M' m (Fr_tr (Fr_up Fr_rf (by decide)) hF) (fun j h => by rw [hj j h, up_off h]) h11 hQ))
end CU
/-! X's tokens against Q's -/
/-- a kind of X against a kind and value of Q -/
def KQ (k t v : Int) : Prop := (k = 100 ∧ t = 1) ∨ (k = 101 ∧ t = 2) ∨ (k = 102 ∧ t = 0) ∨ (k = 103 ∧ t = 5) ∨ (0 ≤ k ∧ k < 48 ∧ t = 4 ∧ v = k) ∨ (110 ≤ k ∧ k ≤ 115 ∧ t = 3 ∧ v = k + 146) ∨ (237 ≤ k ∧ k ≤ 293 ∧ t = 3 ∧ v = k - 200)
/-- a token that reading may come to -/
def gd_ (M : mm_) (i : Int) : Prop := 0 ≤ i ∧ i ≤ 1200 ∧ ∀ j, 0 ≤ j → j < i → M 70 j ≠ 102 ∧ M 70 j ≠ 103
/-- two tokens of X are like -/
def lk9_ (M : mm_) (x y : Int) : Prop := M 72 x - M 71 x = M 72 y - M 71 y ∧ ∀ j, 0 ≤ j → j < M 72 x - M 71 x → M 69 (M 71 x + j) = M 69 (M 71 y + j)
/-- the tokens of X and Q -/
def Tks (Mx Mq : mm_) : Prop := ∀ i, gd_ Mx i → KQ (Mx 70 i) (Mq 149 i) (Mq 151 i) ∧ Mx 71 i = Mq 150 i ∧ (Mx 70 i = 101 → Mq 151 i = Mx 73 i ∧ 0 ≤ Mx 73 i ∧ Mx 73 i < 1000000000) ∧ (0 ≤ Mx 71 i ∧ Mx 71 i ≤ Mx 72 i ∧ Mx 72 i ≤ 5000) ∧ (∀ j, gd_ Mx j → j < i → Mx 71 j < Mx 71 i) ∧ (Mx 70 i = 100 → Mx 72 i - Mx 71 i ≤ 10 ∧ 0 < Mq 151 i) ∧ (∀ j, gd_ Mx j → Mx 70 i = 100 → Mx 70 j = 100 → (lk9_ Mx i j ↔ Mq 151 i = Mq 151 j))
theorem sgr {c : Int} (h : c ∈ sgL) : 37 ≤ c ∧ c ≤ 93 := by
  simp only [sgL, List.mem_cons, List.not_mem_nil, or_false] at h
  omega
/-! texts that agree up to their end -/
def Ag_ (f g : Int → Int) (n : Int) : Prop := ∀ i, 0 ≤ i → i < n → f i = g i
section AG
variable {f g : Int → Int} {n : Int}
theorem by_ag (h : Ag_ f g n) {k : Int} (hk : 0 ≤ k) : by_ f n k = by_ g n k := by
  unfold by_
  split
  · rw [h k hk (by assumption)]
  · rfl
theorem cm_ag (h : Ag_ f g n) (a : Int) (ha : 0 ≤ a) : cm_ f n a = cm_ g n a := by
  rw [cm_, cm_.eq_def g]
  by_cases h1 : a < n
  · rw [h a ha h1]
    split
    · exact cm_ag h (a + 1) (by omega)
    · rfl
  · rw [if_neg (by omega), if_neg (by omega)]
termination_by (n - a).toNat
decreasing_by omega
theorem bk_ag (h : Ag_ f g n) (a : Int) (ha : 0 ≤ a) : bk_ f n a = bk_ g n a := by
  rw [bk_, bk_.eq_def g]
  by_cases h1 : a < n
  · rw [if_pos h1, if_pos h1, h a ha h1]
    have h8 := cm_ge g n (a + 1)
    rw [cm_ag h (a + 1) (by omega)]
    split
    · exact bk_ag h _ (by omega)
    · split
      · exact bk_ag h _ (by omega)
      · rfl
  · rw [if_neg h1, if_neg h1]
termination_by (n - a).toNat
decreasing_by
  · omega
  · (clear h; omega)
theorem ne_ag (h : Ag_ f g n) (a : Int) (ha : 0 ≤ a) : ne_ f n a = ne_ g n a := by
  rw [ne_, ne_.eq_def g]
  by_cases h1 : 0 < cd_ (by_ f n a)
  · have h2 := cd_by h1
    rw [dif_pos h1, dif_pos (by rw [← by_ag h ha]; exact h1)]
    exact ne_ag h (a + 1) (by omega)
  · rw [dif_neg h1, dif_neg (by rw [← by_ag h ha]; exact h1)]
termination_by (n - a).toNat
decreasing_by omega
theorem dg_by9 {a : Int} (h1 : dg_ (by_ f n a) = 1) : a < n := by
  refine cd_by (f := f) (cd_pos.mpr (.inr (.inl h1)))
theorem ue_ag (h : Ag_ f g n) (a : Int) (ha : 0 ≤ a) : ue_ f n a = ue_ g n a := by
  rw [ue_, ue_.eq_def g]
  by_cases h1 : dg_ (by_ f n a) = 1
  · have h2 := dg_by9 h1
    rw [dif_pos h1, dif_pos (by rw [← by_ag h ha]; exact h1)]
    exact ue_ag h (a + 1) (by omega)
  · rw [dif_neg h1, dif_neg (by rw [← by_ag h ha]; exact h1)]
termination_by (n - a).toNat
decreasing_by (clear h h1; omega)
theorem hs_ag (h : Ag_ f g n) {a : Int} (ha : 0 ≤ a) (m : Nat) (hm : a + m ≤ n) : hs_ f a m = hs_ g a m := hs_eq m fun j hj => by rw [h (a + j) (by (clear h hm hj; lia)) (by omega)]
theorem uv_ag (h : Ag_ f g n) {a : Int} (ha : 0 ≤ a) : ∀ m : Nat, a + m ≤ n → uv_ f a m = uv_ g a m
  | 0, _ => rfl
  | m + 1, hm => by
    unfold uv_
    rw [uv_ag h ha m (by (clear h ha; omega)), h (a + m) (by omega) (by omega)]
theorem wk_ag (h : Ag_ f g n) {a : Int} (ha : 0 ≤ a) (h2 : a ≤ n) : wk_ f a (ne_ f n a) = wk_ g a (ne_ g n a) ∧ qk_ f a (ne_ f n a) = qk_ g a (ne_ g n a) := by
  have h3 := ne_le f n a h2
  have h4 := ne_ge f n a
  rw [← ne_ag h a ha]
  unfold wk_ qk_
  rw [hs_ag h ha (ne_ f n a - a).toNat (by omega)]
  exact ⟨rfl, rfl⟩
theorem tkk_ag (h : Ag_ f g n) {a : Int} (ha : 0 ≤ a) : tkk_ f n a = tkk_ g n a := by
  unfold tkk_
  by_cases h1 : a < n
  · rw [(wk_ag h ha (by omega)).1, ue_ag h a ha, ne_ag h a ha, by_ag h ha, by_ag h (show 0 ≤ a + 1 by omega)]
    have : uk_ f n a (ue_ g n a) = uk_ g n a (ue_ g n a) := by
      have := ue_ge g n a
      unfold uk_; rw [by_ag h (show 0 ≤ ue_ g n a by omega)]
    rw [this]
  · rw [if_pos h1, if_pos h1]
theorem qo_ag (h : Ag_ f g n) {a : Int} (ha : 0 ≤ a) (h1 : a < n) : qo_ f n a = qo_ g n a := by
  unfold qo_
  have h5 := ue_ge f n a
  have h6 := ue_le f n a (by omega)
  rw [(wk_ag h ha (by omega)).2, uv_ag h ha (ue_ f n a - a).toNat (by omega), ue_ag h a ha, ne_ag h a ha, by_ag h ha, by_ag h (show 0 ≤ a + 1 by omega)]
  have : qu_ f n a (ue_ g n a) = qu_ g n a (ue_ g n a) := by
    have := ue_ge g n a
    unfold qu_; rw [by_ag h (show 0 ≤ ue_ g n a by omega)]
  rw [this]
theorem ps_ag (h : Ag_ f g n) (hn : 0 ≤ n) : ∀ i, ps_ f n i = ps_ g n i
  | 0 => bk_ag h 0 (Int.le_refl _)
  | i + 1 => by
    have h1 := ps_r g n hn i
    have h2 := tk_end (f := g) h1.2
    unfold ps_
    rw [ps_ag h hn i, tkk_ag h h1.1, bk_ag h _ (by omega)]
end AG
theorem twr (c e : Int) : tw_ c e = -1 ∨ (110 ≤ tw_ c e ∧ tw_ c e ≤ 115) := by
  unfold tw_
  repeat' split
  all_goals omega
/-- kinds of a place -/
theorem kq_at {f : Int → Int} {n a : Int} (h : a < n) : KQ (tkk_ f n a).1 (qo_ f n a).1 (qo_ f n a).2.1 := by
  unfold tkk_ qo_
  rw [if_neg (show ¬ ¬ a < n from fun h9 => h9 h)]
  by_cases h1 : sm_ (by_ f n a) = 1
  · rw [if_pos h1, if_pos h1]
    unfold wk_ qk_ KQ
    by_cases h2 : ne_ f n a - a ≤ 10
    · rw [if_pos h2, if_pos h2]
      by_cases h3 : pWi (hs_ f a (ne_ f n a - a).toNat) 48 0 < 48
      · rw [if_pos h3, if_pos h3]; exact .inr (.inr (.inr (.inr (.inl ⟨by omega, by omega, rfl, rfl⟩))))
      · rw [if_neg h3, if_neg h3]; simp
    · rw [if_neg h2, if_neg h2]; simp
  · rw [if_neg h1, if_neg h1]
    by_cases h2 : dg_ (by_ f n a) = 1
    · rw [if_pos h2, if_pos h2]
      unfold uk_ qu_ KQ
      by_cases h3 : ue_ f n a - a ≤ 9
      · rw [if_pos h3, if_pos h3]
        by_cases h4 : 0 < cd_ (by_ f n (ue_ f n a))
        · rw [if_pos h4, if_pos h4]; simp
        · rw [if_neg h4, if_neg h4]; simp
      · rw [if_neg h3, if_neg h3]; simp
    · rw [if_neg h2, if_neg h2]
      by_cases h3 : tw_ (by_ f n a) (by_ f n (a + 1)) = -1
      · rw [if_pos h3, if_pos h3]
        by_cases h4 : by_ f n a ∈ sgL
        · have := sgr h4
          rw [if_pos h4, if_pos h4]; exact .inr (.inr (.inr (.inr (.inr (.inr ⟨by omega, by omega, rfl, by show by_ f n a = 200 + by_ f n a - 200; omega⟩)))))
        · rw [if_neg h4, if_neg h4]; unfold KQ; simp
      · rw [if_neg h3, if_neg h3]
        have h5 := twr (by_ f n a) (by_ f n (a + 1))
        exact .inr (.inr (.inr (.inr (.inr (.inl ⟨by omega, by omega, rfl, rfl⟩)))))
theorem kd_102 {f : Int → Int} {n a : Int} : (tkk_ f n a).1 = 102 ↔ ¬ a < n := by
  constructor
  · intro h h1
    have := kq_at (f := f) h1
    rw [h] at this
    unfold KQ at this
    have h0 : (qo_ f n a).1 = 0 := by omega
    unfold qo_ qk_ qu_ at h0
    by_cases h2 : sm_ (by_ f n a) = 1
    · rw [if_pos h2] at h0; simp only [] at h0; split at h0
      · split at h0 <;> simp at h0
      · simp at h0
    · rw [if_neg h2] at h0
      by_cases h3 : dg_ (by_ f n a) = 1
      · rw [if_pos h3] at h0; simp only [] at h0; split at h0
        · split at h0 <;> simp at h0
        · simp at h0
      · rw [if_neg h3] at h0; split at h0
        · simp only [] at h0; split at h0 <;> simp at h0
        · simp at h0
  · intro h
    unfold tkk_; rw [if_pos h]
theorem ps_lt {f : Int → Int} {n : Int} (hn : 0 ≤ n) {i : Nat} (h : kd_ f n i ≠ 102) : ps_ f n i < ps_ f n (i + 1) := by
  have h1 : ps_ f n i < n := by
    refine Classical.byContradiction fun h2 => h ?_
    exact kd_102.mpr h2
  have h2 := ps_r f n hn i
  have h3 := tk_end (f := f) h2.2
  have h4 := bk_ge f n (tkk_ f n (ps_ f n i)).2
  have := h3.2.2 h1
  show ps_ f n i < bk_ f n (tkk_ f n (ps_ f n i)).2
  omega
theorem ps_mono {f : Int → Int} {n : Int} (hn : 0 ≤ n) {j : Nat} : ∀ i : Nat, j < i → (∀ k : Nat, k < i → kd_ f n k ≠ 102) → ps_ f n j < ps_ f n i
  | 0, h, _ => absurd h (by omega)
  | i + 1, h, hk => by
    have h1 := ps_lt hn (hk i (by omega))
    by_cases h2 : j = i
    · rw [h2]; exact h1
    · have := ps_mono hn (j := j) i (by omega) (fun k h => hk k (by omega)); omega
/-- a name: its bytes, its number -/
theorem nm_at {f : Int → Int} {n a : Int} (h : (tkk_ f n a).1 = 100) : sm_ (by_ f n a) = 1 ∧ a < n ∧ (tkk_ f n a).2 = ne_ f n a ∧ ne_ f n a - a ≤ 10 ∧ (qo_ f n a).2.1 = hs_ f a (ne_ f n a - a).toNat := by
  have h0 : a < n := Classical.byContradiction fun h1 => by rw [kd_102.mpr h1] at h; omega
  have hk := kq_at (f := f) h0
  rw [h] at hk
  have hq : (qo_ f n a).1 = 1 := by unfold KQ at hk; omega
  unfold qo_ at hq
  by_cases h1 : sm_ (by_ f n a) = 1
  · rw [if_pos h1] at hq
    simp only [] at hq
    unfold tkk_ qo_
    rw [if_neg (show ¬ ¬ a < n from fun h9 => h9 h0), if_pos h1, if_pos h1]
    unfold qk_ at hq ⊢
    by_cases h2 : ne_ f n a - a ≤ 10
    · rw [if_pos h2] at hq ⊢
      by_cases h3 : pWi (hs_ f a (ne_ f n a - a).toNat) 48 0 < 48
      · rw [if_pos h3] at hq; simp at hq
      · rw [if_neg h3]; exact ⟨h1, h0, rfl, h2, rfl⟩
    · rw [if_neg h2] at hq; simp at hq
  · rw [if_neg h1] at hq
    by_cases h3 : dg_ (by_ f n a) = 1
    · rw [if_pos h3] at hq; simp only [] at hq; unfold qu_ at hq; split at hq
      · split at hq <;> simp at hq
      · simp at hq
    · rw [if_neg h3] at hq; split at hq
      · simp only [] at hq; split at hq <;> simp at hq
      · simp at hq
theorem nu_at {f : Int → Int} {n a : Int} (h : (tkk_ f n a).1 = 101) : dg_ (by_ f n a) = 1 ∧ a < n ∧ (qo_ f n a).2.1 = uv_ f a (ue_ f n a - a).toNat := by
  have h0 : a < n := Classical.byContradiction fun h1 => by rw [kd_102.mpr h1] at h; omega
  have hk := kq_at (f := f) h0
  rw [h] at hk
  have hq : (qo_ f n a).1 = 2 := by unfold KQ at hk; omega
  unfold qo_ at hq
  by_cases h1 : sm_ (by_ f n a) = 1
  · rw [if_pos h1] at hq; simp only [] at hq; unfold qk_ at hq; split at hq
    · split at hq <;> simp at hq
    · simp at hq
  · rw [if_neg h1] at hq
    by_cases h3 : dg_ (by_ f n a) = 1
    · unfold qo_; rw [if_neg h1, if_pos h3]; exact ⟨h3, h0, rfl⟩
    · rw [if_neg h3] at hq; split at hq
      · simp only [] at hq; split at hq <;> simp at hq
      · simp at hq
theorem cd_w {c : Int} (h : sm_ c = 1) : 0 < cd_ c := cd_pos.mpr (.inl h)
/-- a token of X that reading may come to is one of Q -/
theorem Tks_i {Mx Mq : mm_} {g : Int → Int} {n : Int} {m m' : Nat} (hn0 : 0 ≤ n) (hn : n ≤ 5000) (hb : ∀ i, 0 ≤ i → i < 5000 → -128 ≤ Mx 69 i ∧ Mx 69 i ≤ 127) (hag : Ag_ g (Mx 69) n) (hT : TX_ Mx (Mx 69) n m) (hm1 : 1 ≤ m) (hm2 : kd_ (Mx 69) n (m - 1) = 102 ∨ m = 1202) (hQ : QT_ Mq g n m') : Tks Mx Mq := by
  have hps : ∀ i, ps_ g n i = ps_ (Mx 69) n i := ps_ag hag hn0
  have hX : ∀ i : Nat, (i : Int) ≤ 1200 → (∀ j : Int, 0 ≤ j → j < i → Mx 70 j ≠ 102 ∧ Mx 70 j ≠ 103) → i < m := by
    intro i hi hj
    refine Classical.byContradiction fun h => ?_
    rcases hm2 with h1 | h1
    · have h2 := (hT (m - 1) (by omega)).2.1
      have := (hj ((m - 1 : Nat) : Int) (by omega) (by omega)).1
      rw [h2, h1] at this
      exact this rfl
    · omega
  have hK : ∀ i : Nat, (i : Int) ≤ 1200 → (∀ j : Int, 0 ≤ j → j < i → Mx 70 j ≠ 102 ∧ Mx 70 j ≠ 103) → ∀ k : Nat, k < i → kd_ (Mx 69) n k ≠ 102 ∧ kd_ (Mx 69) n k ≠ 103 := by
    intro i hi hj k hk
    have h1 := hX i hi hj
    have h2 := (hT k (by omega)).2.1
    have := hj k (by omega) (by omega)
    rw [h2] at this
    exact this
  have hqq : ∀ i : Nat, (i : Int) ≤ 1200 → (∀ j : Int, 0 ≤ j → j < i → Mx 70 j ≠ 102 ∧ Mx 70 j ≠ 103) → i < m' := by
    intro i hi hj
    refine Classical.byContradiction fun h => ?_
    obtain ⟨h1, h2, h3, h4, h5⟩ := hQ
    have h6 := hK i hi hj (m' - 1) (by omega)
    rw [hps] at h5
    have h7 : ps_ (Mx 69) n (m' - 1) < n := Classical.byContradiction fun h8 => h6.1 (kd_102.mpr h8)
    rcases h5 with h5 | h5 | h5
    · exact h5 h7
    · have h8 := kq_at (f := Mx 69) h7
      rw [qo_ag hag (ps_r (Mx 69) n hn0 _).1 h7] at h5
      rw [h5] at h8
      unfold KQ at h8
      have : (tkk_ (Mx 69) n (ps_ (Mx 69) n (m' - 1))).1 = 103 := by omega
      exact h6.2 this
    · omega
  have hY : ∀ i : Nat, gd_ Mx i → Mx 71 i = ps_ (Mx 69) n i ∧ Mx 70 i = kd_ (Mx 69) n i ∧ Mx 72 i = en9_ (Mx 69) n i ∧ (dg_ (by_ (Mx 69) n (ps_ (Mx 69) n i)) = 1 → Mx 73 i = uv_ (Mx 69) (ps_ (Mx 69) n i) (ue_ (Mx 69) n (ps_ (Mx 69) n i) - ps_ (Mx 69) n i).toNat) ∧ Mq 150 i = ps_ (Mx 69) n i ∧ KQ (kd_ (Mx 69) n i) (Mq 149 i) (Mq 151 i) ∧ (ps_ (Mx 69) n i < n → Mq 151 i = (qo_ (Mx 69) n (ps_ (Mx 69) n i)).2.1) ∧ (∀ k : Nat, k < i → kd_ (Mx 69) n k ≠ 102) := by
    intro i hi
    have h1 := hT i (hX i hi.2.1 hi.2.2)
    have h2 := hQ.1 i (hqq i hi.2.1 hi.2.2)
    rw [hps] at h2
    refine ⟨h1.1, h1.2.1, h1.2.2.1, h1.2.2.2, h2.1, ?_, ?_, fun k hk => (hK i hi.2.1 hi.2.2 k hk).1⟩
    · by_cases h3 : ps_ (Mx 69) n i < n
      · have h4 := h2.2.1 h3
        rw [qo_ag hag (ps_r (Mx 69) n hn0 _).1 h3] at h4
        rw [h4.1, h4.2]; exact kq_at h3
      · rw [(h2.2.2 h3).1]
        have : kd_ (Mx 69) n i = 102 := kd_102.mpr h3
        rw [this]; exact .inr (.inr (.inl ⟨rfl, rfl⟩))
    · intro h3
      have h4 := h2.2.1 h3
      rw [qo_ag hag (ps_r (Mx 69) n hn0 _).1 h3] at h4
      exact h4.2
  intro i hi
  obtain ⟨i', rfl⟩ := Int.eq_ofNat_of_zero_le hi.1
  have h := hY i' hi
  have hp := ps_r (Mx 69) n hn0 i'
  have ht := tk_end (f := Mx 69) hp.2
  refine ⟨by rw [h.2.1]; exact h.2.2.2.2.2.1, by rw [h.1, h.2.2.2.2.1], ?_, ?_, ?_, ?_, ?_⟩
  · intro h1
    rw [h.2.1] at h1
    have h2 := nu_at h1
    have h3 := h.2.2.2.1 h2.1
    have hr := uv_r (f := Mx 69) (a := ps_ (Mx 69) n i') (ue_ (Mx 69) n (ps_ (Mx 69) n i') - ps_ (Mx 69) n i').toNat (fun j hj => (ue_in (Mx 69) n (ps_ (Mx 69) n i') _ (by omega) (by (clear hn0 hn hb hag hT hm1 hm2 hQ hps hX hK hqq hY hi hp ht h1 h2 h3; omega))).1)
    rw [h.2.2.2.2.2.2.1 h2.2.1, h2.2.2, h3]
    refine ⟨rfl, hr.1, Int.lt_of_lt_of_le hr.2 ?_⟩
    have : (10 : Int) ^ min (ue_ (Mx 69) n (ps_ (Mx 69) n i') - ps_ (Mx 69) n i').toNat 9 ≤ 10 ^ 9 := by
      exact_mod_cast Nat.pow_le_pow_right (by omega) (Nat.min_le_right _ _)
    omega
  · rw [h.1, h.2.2.1]
    unfold en9_
    omega
  · intro j hj hji
    obtain ⟨j', rfl⟩ := Int.eq_ofNat_of_zero_le hj.1
    rw [h.1, (hY j' hj).1]
    exact ps_mono hn0 i' (by omega) h.2.2.2.2.2.2.2
  · intro h1
    rw [h.2.1] at h1
    have h2 := nm_at h1
    refine ⟨by rw [h.1, h.2.2.1]; unfold en9_; rw [h2.2.2.1]; omega, ?_⟩
    rw [h.2.2.2.2.2.2.1 h2.2.1, h2.2.2.2.2]
    have h3 : ps_ (Mx 69) n i' + 1 ≤ ne_ (Mx 69) n (ps_ (Mx 69) n i') := by
      rw [ne_, dif_pos (cd_w h2.1)]; exact ne_ge _ _ _
    obtain ⟨q, hq⟩ : ∃ q : Nat, (ne_ (Mx 69) n (ps_ (Mx 69) n i') - ps_ (Mx 69) n i').toNat = q + 1 := ⟨(ne_ (Mx 69) n (ps_ (Mx 69) n i') - ps_ (Mx 69) n i').toNat - 1, by omega⟩
    rw [hq]
    exact hs_pos fun j hj => (ne_in (Mx 69) n (ps_ (Mx 69) n i') _ (by omega) (by omega)).1
  · intro j hj h1 h2
    obtain ⟨j', rfl⟩ := Int.eq_ofNat_of_zero_le hj.1
    have h' := hY j' hj
    rw [h.2.1] at h1
    rw [h'.2.1] at h2
    have hi2 := nm_at h1
    have hj2 := nm_at h2
    have hp' := ps_r (Mx 69) n hn0 j'
    rw [h.2.2.2.2.2.2.1 hi2.2.1, hi2.2.2.2.2, h'.2.2.2.2.2.2.1 hj2.2.1, hj2.2.2.2.2]
    unfold lk9_
    rw [h.1, h.2.2.1, h'.1, h'.2.2.1]
    unfold en9_
    rw [hi2.2.2.1, hj2.2.2.1]
    have hge := ne_ge (Mx 69) n (ps_ (Mx 69) n i')
    have hge' := ne_ge (Mx 69) n (ps_ (Mx 69) n j')
    have hle := ne_le (Mx 69) n (ps_ (Mx 69) n i') (by omega)
    have hle' := ne_le (Mx 69) n (ps_ (Mx 69) n j') (by (clear hn0 hn hb hag hT hm1 hm2 hQ hps hX hK hqq hY hi h hp ht h1 hj h2 hi2 hp' hge hge' hle; omega))
    constructor
    · rintro ⟨h3, h4⟩
      rw [h3]
      refine hs_eq _ fun k hk => ?_
      rw [h4 k (by omega) (by omega)]
    · intro h3
      have h4 := hs_inj (f := Mx 69) (g := Mx 69) _ _ (fun k hk => (ne_in (Mx 69) n (ps_ (Mx 69) n i') _ (by omega) (by (clear hn0 hn hb hag hT hm1 hm2 hQ hps hX hK hqq hY hi hp ht h1 hj h2 h' hi2 hj2 hp' hge hge' hle hle' h3; omega))).1) (fun k hk => (ne_in (Mx 69) n (ps_ (Mx 69) n j') _ (by (clear hn0 hn hb hag hT hm1 hm2 hQ hps hX hK hqq hY hi h hp ht h1 hj h2 h' hi2 hj2 hp' hge hge' hle hle' h3 hk; lia)) (by (clear hn0 hn hb hag hT hm1 hm2 hQ hps hX hK hqq hY hi h hp ht h1 hj h2 hi2 hj2 hp' hge hge' hle hle' h3; omega))).1) h3
      refine ⟨by omega, fun k h5 h6 => ?_⟩
      have h7 := h4.2 k.toNat (by (clear hn0 hn hb hag hT hm1 hm2 hQ hps hX hK hqq hY hi hp h1 hj h2 hp' hge hle hle' h3; lia))
      have e : ((k.toNat : Nat) : Int) = k := by (clear hn0 hn hb hag hT hm1 hm2 hQ hps hX hK hqq hY hi h hp ht h1 hj h2 h' hi2 hj2 hp' hge hge' hle hle' h3 h4 h6 h7; lia)
      rw [e] at h7
      have b1 := hb (ps_ (Mx 69) n i' + k) (by (clear hn0 hn hb hag hT hm1 hm2 hQ hps hX hK hqq hY hi ht h1 hj h2 h' hi2 hj2 hp' hge hge' hle hle' h3 h4 h6 h7; omega)) (by (clear hb hag hT hm1 hm2 hQ hps hX hK hqq hY hi h1 hj h2 h' hj2 hp' hge hge' hle hle' h3 h4 h5 h7; omega))
      have b2 := hb (ps_ (Mx 69) n j' + k) (by (clear hn0 hn hb hag hT hm1 hm2 hQ hps hX hK hqq hY hi h hp ht h1 hj h2 hi2 hj2 hge hge' hle hle' h3 h4 h6 h7 b1; omega)) (by omega)
      (clear hn0 hn hb hag hT hm1 hm2 hQ hps hX hK hqq hY hi h hp ht h1 hj h2 h' hi2 hj2 hp' hge hge' hle hle' h3 h4 h5 h6 e; lia)
