section T342_ev
/-! the run: what e's give (X 15 | Q 339) -/
def exX (M : mm_) (A : Int → Int) (n : Int) : mm_ := up_ (wr_ M 26 A) 0 45 n
def exQ (N : mm_) (B : Int → Int) (m e : Int) : mm_ := up_ (up_ (wr_ N 243 B) 6 148 m) 6 149 e
def BV (x : Int) : Prop := x = 0 ∨ x = 1
def R32 (x : Int) : Prop := -2147483648 ≤ x ∧ x < 2147483648
theorem R32_b [Inhabited fz_] {x : Int} (h : BV x) : R32 x := by unfold R32; rcases h with h | h <;> omega
theorem R32_w [Inhabited fz_] {x : Int} : R32 (w32 x) := by unfold R32 w32; omega
/-- a call throws X's 'wrong' -/
def Et_ (d n : Nat) (args : List pv_) (M M' : mm_) : Prop := ∀ (Qr : qr_) (Qt : qt_), Qt 7 M' → Tr_ wd0 pg0 d n args M Qr Qt
/-- within a method: from a place on it throws -/
def XT (d : Nat) (m : md_) (pc : Nat) (ls : lo_) (M M' : mm_) : Prop := ∀ (V : vv_) (Qr : qr_) (Qt : qt_), Cl_ wd0 (Tr_ wd0 pg0 d) V Qr Qt m → Wk_ V → Qt 7 M' → V pc ls [] M
/-- what a form of two makes of them -/
def bin (w a b : Int) : Int := if w = 20 then w32 (a + b) else if w = 21 then w32 (a - b) else if w = 22 then w32 (a * b) else if w = 23 then w32 (Int.tdiv a b) else if w = 24 then Int.tmod a b
  else if w = 25 then (if a = b then 1 else 0) else if w = 26 then (if a = b then 0 else 1) else if w = 27 then (if a < b then 1 else 0) else if w = 28 then (if a ≤ b then 1 else 0) else if w = 29 then (if a ≤ b then 0 else 1) else if w = 30 then (if a < b then 0 else 1)
  else if w = 31 then (if a = 0 then 0 else if b = 0 then 0 else 1) else (if a = 0 then (if b = 0 then 0 else 1) else 1)
section EVa
variable {z : Int} {M N : mm_} {A B : Int → Int} {n m e k t v w a b o i j : Int}
theorem exX_r [Inhabited fz_] {r : Nat} (h0 : r ≠ 0) (h : r ≠ 26) : exX M A n r = M r := by unfold exX; rw [up_ne h0, wr_ne h]
theorem exX_26 [Inhabited fz_] : exX M A n 26 = A := by unfold exX; rw [up_ne (by decide), wr_same]
theorem exX_0 [Inhabited fz_] (h : i ≠ 45) : exX M A n 0 i = M 0 i := by unfold exX; rw [upo h, wr_ne (by decide)]
theorem exX_45 [Inhabited fz_] : exX M A n 0 45 = n := by unfold exX; rw [up_at]
theorem exQ_r [Inhabited fz_] {r : Nat} (h0 : r ≠ 6) (h : r ≠ 243) : exQ N B m e r = N r := by unfold exQ; rw [up_ne h0, up_ne h0, wr_ne h]
theorem exQ_243 [Inhabited fz_] : exQ N B m e 243 = B := by unfold exQ; rw [up_ne (by decide), up_ne (by decide), wr_same]
theorem exQ_6 [Inhabited fz_] (h : i ≠ 148) (h' : i ≠ 149) : exQ N B m e 6 i = N 6 i := by unfold exQ; rw [upo h', upo h, wr_ne (by decide)]
theorem exQ_148 [Inhabited fz_] : exQ N B m e 6 148 = m := by unfold exQ; rw [upo (by decide), up_at]
theorem exQ_149 [Inhabited fz_] : exQ N B m e 6 149 = e := by unfold exQ; rw [up_at]
theorem exX_p [Inhabited fz_] : up_ (up_ (exX M A n) 26 i v) 0 45 j = exX M (su_ A i v) j := by
  funext r x; unfold exX; simp only [ua_, wr_at, su_]
  by_cases c : r = 0
  · subst c; simp only [if_true, show ¬ ((0 : Nat) = 26) by decide, if_false]; split <;> rfl
  · simp only [c, if_false]
    by_cases c2 : r = 26
    · subst c2; simp only [if_true, show ¬ ((26 : Nat) = 0) by decide, if_false]; rfl
    · simp only [c2, if_false]
theorem exX_o [Inhabited fz_] : up_ (exX M A n) 0 45 j = exX M A j := by
  funext r x; unfold exX; simp only [ua_]
  by_cases c : r = 0
  · subst c; simp only [if_true]; split <;> rfl
  · simp only [c, if_false]
theorem exQ_p [Inhabited fz_] : up_ (up_ (exQ N B m e) 243 i v) 6 148 j = exQ N (su_ B i v) j e := by
  funext r x; unfold exQ; simp only [ua_, wr_at, su_]
  by_cases c : r = 6
  · subst c; simp only [if_true, show ¬ ((6 : Nat) = 243) by decide, if_false]; split <;> split <;> first | rfl | omega
  · simp only [c, if_false]
    by_cases c2 : r = 243
    · subst c2; simp only [if_true, show ¬ ((243 : Nat) = 6) by decide, if_false]; rfl
    · simp only [c2, if_false]
theorem exQ_u [Inhabited fz_] : up_ (exQ N B m e) 243 i v = exQ N (su_ B i v) m e := by
  funext r x; unfold exQ; simp only [ua_, wr_at, su_]
  by_cases c : r = 6
  · subst c; simp only [if_true, show ¬ ((6 : Nat) = 243) by decide, if_false]
  · simp only [c, if_false]
    by_cases c2 : r = 243
    · subst c2; simp only [if_true, show ¬ ((243 : Nat) = 6) by decide, if_false]; rfl
    · simp only [c2, if_false]
theorem exQ_o [Inhabited fz_] : up_ (exQ N B m e) 6 148 j = exQ N B j e := by
  funext r x; unfold exQ; simp only [ua_]
  by_cases c : r = 6
  · subst c; simp only [if_true]; split <;> split <;> first | rfl | omega
  · simp only [c, if_false]
theorem exQ_e [Inhabited fz_] : up_ (exQ N B m e) 6 149 j = exQ N B m j := by
  funext r x; unfold exQ; simp only [ua_]
  by_cases c : r = 6
  · subst c; simp only [if_true]; split <;> rfl
  · simp only [c, if_false]
theorem RU_ex [Inhabited fz_] (h : RU z M N) : RU z (exX M A n) (exQ N B m e) := by
  obtain ⟨h1, h2, h3, h4, h5⟩ := h
  have x : ∀ r : Nat, r ≠ 0 → r ≠ 26 → exX M A n r = M r := fun r => exX_r
  have q : ∀ r : Nat, r ≠ 6 → r ≠ 243 → exQ N B m e r = N r := fun r => exQ_r
  refine ⟨RI_c h1 ⟨exX_0 (by decide), exX_0 (by decide)⟩ (fun r hr => x r (fun c => by rw [c] at hr; revert hr; decide) (fun c => by rw [c] at hr; revert hr; decide)) (q 239 (by decide) (by decide)) (exQ_6 (by decide) (by decide)) (fun r hr => q r (fun c => by rw [c] at hr; revert hr; decide) (fun c => by rw [c] at hr; revert hr; decide)), RRt_c h2 (x 21 (by decide) (by decide)) (x 22 (by decide) (by decide)) (q 239 (by decide) (by decide)) (exQ_6 (by decide) (by decide)), RSC_c h3 (fun i hi => exX_0 (fun c => by rw [c] at hi; revert hi; decide)) (fun i hi => exQ_6 (fun c => by rw [c] at hi; revert hi; decide) (fun c => by rw [c] at hi; revert hi; decide)), ROU_c h4 (fun i hi => exX_0 (fun c => by rw [c] at hi; revert hi; decide)) (x 24 (by decide) (by decide)) (fun i hi => exQ_6 (fun c => by rw [c] at hi; revert hi; decide) (fun c => by rw [c] at hi; revert hi; decide)) (q 241 (by decide) (by decide)), REV_c h5 (fun i hi => exX_0 (fun c => by rw [c] at hi; revert hi; decide)) (x 23 (by decide) (by decide)) (fun i hi => exQ_6 (fun c => by rw [c] at hi; revert hi; decide) (fun c => by rw [c] at hi; revert hi; decide)) (q 240 (by decide) (by decide))⟩
theorem x_16 [Inhabited fz_] (hn : 0 ≤ n ∧ n < 64) : Ex_ 1 16 [.inr (.inr 0), .inl v] (exX M A n) [] (exX M (su_ A n v) (n + 1)) := fun Qr Qt hq => t_16 fun V hV hW => b_16_0 (Tr_mono _) hV hW _ _ (by
  rw [exX_45, w32_id (by omega) (by omega), exX_p]; exact ⟨hn, hq⟩)
theorem x_18 [Inhabited fz_] (hn : 1 ≤ n ∧ n ≤ 64) : Ex_ 1 18 [.inr (.inr 0)] (exX M A n) [.inl (A (n - 1))] (exX M A (n - 1)) := fun Qr Qt hq => t_18 fun V hV hW => b_18_0 (Tr_mono _) hV hW _ (by
  rw [exX_45, w32_id (by omega) (by omega), exX_o, exX_26]; exact ⟨by omega, hq⟩)
theorem x_19 [Inhabited fz_] : Ex_ 1 19 [.inr (.inr 0), .inl v] M [.inr (.inr 7)] (up_ M 0 49 v) := fun Qr Qt hq => t_19 fun V hV hW => b_19_0 (Tr_mono _) hV hW _ _ hq
theorem q_341 [Inhabited fz_] (hn : 0 ≤ m ∧ m < 1202) : Ex_ 1 341 [.inr (.inr 6), .inl v] (exQ N B m e) [] (exQ N (su_ B m v) (m + 1) e) := fun Qr Qt hq => t_341 fun V hV hW => b_341_0 (Tr_mono _) hV hW _ _ (by
  rw [exQ_148, w32_id (by omega) (by omega), exQ_p]; exact ⟨hn, hq⟩)
/-- whether a timer is active -/
theorem j_17 [Inhabited fz_] (h : RU z M N) (hk : 0 ≤ k ∧ k < M 0 7) (e46 : M 0 46 = k) (ht : 0 ≤ t ∧ t < 3) : ∃ v, BV v ∧ Ex_ 2 17 [.inr (.inr 0), .inl t] M [.inl v] M ∧ Ex_ 2 342 [.inr (.inr 6), .inl k, .inl t] N [.inl v] N := by
  have n12 := h.1.1
  have hB : sB k = 2 + 56 * k := rfl
  have j := h.1.2.2.1 k hk.1 hk.2
  have tm := (j.2.2.2.1 t ht.1 ht.2).1
  have jq := j.2.2.2.2
  have lp : ∀ (n : Nat) (i x : Int), BV x → 0 ≤ i → M 14 k ≤ i + n → ∃ v, BV v ∧ (∀ (V : vv_) (Qr : qr_) (Qt : qt_), Cl_ wd0 (Tr_ wd0 pg0 1) V Qr Qt m_17 → Wk_ V → Qr [.inl v] M → V 16 [rr 0, ii t, ii x, ii i] [] M) ∧ (∀ (V : vv_) (Qr : qr_) (Qt : qt_), Cl_ wd0 (Tr_ wd0 pg0 1) V Qr Qt m_342 → Wk_ V → Qr [.inl v] N → V 29 [rr 6, ii k, ii t, ii (sB k), ii x, ii i] [] N) := by
    intro n
    induction n with
    | zero =>
      intro i x hx i0 hi
      refine ⟨x, hx, fun V Qr Qt hV hW g => b_17_16 (Tr_mono _) hV hW _ _ _ _ ⟨by omega, ?_⟩, fun V Qr Qt hV hW g => b_342_29 (Tr_mono _) hV hW _ _ _ _ _ _ ?_⟩
      · rw [e46, if_neg (by omega)]; exact ⟨hx, g⟩
      · rw [w32_id (x := sB k + 25) (by omega) (by omega), jq.1.2.2, if_neg (by omega)]; exact ⟨by omega, hx, g⟩
    | succ n ih =>
      intro i x hx i0 hi
      by_cases c : i < M 14 k
      · rcases hx with rfl | rfl
        · have q := jq.2.1 (5 * i) (by omega) (by omega)
          obtain ⟨v, b, x1, q1⟩ := ih (i + 1) (if M 15 (30 * k + 5 * i) = 100 + t then 1 else 0) (by split; exact .inr rfl; exact .inl rfl) (by omega) (by omega)
          refine ⟨v, b, fun V Qr Qt hV hW g => b_17_16 (Tr_mono _) hV hW _ _ _ _ ⟨by omega, ?_⟩, fun V Qr Qt hV hW g => b_342_29 (Tr_mono _) hV hW _ _ _ _ _ _ ?_⟩
          · rw [e46, if_pos c, if_pos rfl]
            refine x_9 (by omega) (by omega) _ _ (ri_i ⟨by omega, ?_⟩)
            have g' := x1 V Qr Qt hV hW g
            rw [w32_id (x := i + 1) (by omega) (by omega), w32_id (x := 100 + t) (by omega) (by omega)]
            by_cases c2 : M 15 (30 * k + 5 * i) = 100 + t
            · rw [if_pos c2] at g' ⊢; exact g'
            · rw [if_neg c2] at g' ⊢; exact g'
          · rw [w32_id (x := sB k + 25) (by omega) (by omega), jq.1.2.2, if_pos c, if_pos rfl]
            have g' := q1 V Qr Qt hV hW g
            rw [w32_id (x := 5 * i) (by omega) (by omega), w32_id (x := sB k + 25 + 1) (by omega) (by omega), w32_id (x := sB k + 25 + 1 + 5 * i) (by omega) (by omega), w32_id (x := i + 1) (by omega) (by omega), w32_id (x := 100 + t) (by omega) (by omega), show sB k + 25 + 1 + 5 * i = sB k + 26 + 5 * i by omega, ← q]
            refine ⟨by omega, by omega, ?_⟩
            by_cases c2 : M 15 (30 * k + 5 * i) = 100 + t
            · rw [if_pos c2] at g' ⊢; exact g'
            · rw [if_neg c2] at g' ⊢; exact g'
        · obtain ⟨v, b, x1, q1⟩ := ih (i + 1) 1 (.inr rfl) (by omega) (by omega)
          refine ⟨1, .inr rfl, fun V Qr Qt hV hW g => b_17_16 (Tr_mono _) hV hW _ _ _ _ ⟨by omega, ?_⟩, ?_⟩
          · rw [e46, if_pos c, if_neg (by decide)]; exact ⟨.inr rfl, g⟩
          · have lq : ∀ (n : Nat) (i : Int), 0 ≤ i → i ≤ M 14 k → M 14 k ≤ i + n → (∀ (V : vv_) (Qr : qr_) (Qt : qt_), Cl_ wd0 (Tr_ wd0 pg0 1) V Qr Qt m_342 → Wk_ V → Qr [.inl 1] N → V 29 [rr 6, ii k, ii t, ii (sB k), ii 1, ii i] [] N) := by
              intro n
              induction n with
              | zero =>
                intro i i0 i1 hi V Qr Qt hV hW g
                refine b_342_29 (Tr_mono _) hV hW _ _ _ _ _ _ ?_
                rw [w32_id (x := sB k + 25) (by omega) (by omega), jq.1.2.2, if_neg (by omega)]; exact ⟨by omega, .inr rfl, g⟩
              | succ n ih2 =>
                intro i i0 i1 hi V Qr Qt hV hW g
                by_cases c : i < M 14 k
                · have g' := ih2 (i + 1) (by omega) (by omega) (by omega) V Qr Qt hV hW g
                  refine b_342_29 (Tr_mono _) hV hW _ _ _ _ _ _ ?_
                  rw [w32_id (x := sB k + 25) (by omega) (by omega), jq.1.2.2, if_pos c, if_neg (by decide), w32_id (x := i + 1) (by omega) (by omega)]
                  exact ⟨by omega, g'⟩
                · refine b_342_29 (Tr_mono _) hV hW _ _ _ _ _ _ ?_
                  rw [w32_id (x := sB k + 25) (by omega) (by omega), jq.1.2.2, if_neg (by omega)]; exact ⟨by omega, .inr rfl, g⟩
            exact lq (n + 1) i i0 (by omega) hi
      · refine ⟨x, hx, fun V Qr Qt hV hW g => b_17_16 (Tr_mono _) hV hW _ _ _ _ ⟨by omega, ?_⟩, fun V Qr Qt hV hW g => b_342_29 (Tr_mono _) hV hW _ _ _ _ _ _ ?_⟩
        · rw [e46, if_neg (by omega)]; exact ⟨hx, g⟩
        · rw [w32_id (x := sB k + 25) (by omega) (by omega), jq.1.2.2, if_neg (by omega)]; exact ⟨by omega, hx, g⟩
  have bt : BV (M 16 (3 * k + t)) := by rcases tm with ⟨e, _⟩ | ⟨e, _⟩ <;> rw [e]; exact .inr rfl; exact .inl rfl
  obtain ⟨v, b, x1, q1⟩ := lp 6 0 (M 16 (3 * k + t)) bt (by decide) (by omega)
  refine ⟨v, b, fun Qr Qt hq => t_17 fun V hV hW => b_17_0 (Tr_mono _) hV hW _ _ ?_, fun Qr Qt hq => t_342 fun V hV hW => b_342_0 (Tr_mono _) hV hW _ _ _ (q_323 (by omega) _ _ (ri_i ?_))⟩
  · rw [e46, w32_id (x := 3 * k) (by omega) (by omega), w32_id (x := 3 * k + t) (by omega) (by omega)]
    exact ⟨by omega, fun _ => x1 V Qr Qt hV hW hq⟩
  · rw [w32_id (x := sB k + 22) (by omega) (by omega), w32_id (x := sB k + 22 + t) (by omega) (by omega)]
    refine ⟨by omega, ?_⟩
    have g' := q1 V Qr Qt hV hW hq
    rcases tm with ⟨e, e1, e2⟩ | ⟨e, e2⟩
    · rw [if_neg (by omega)]; rw [e] at g'; exact g'
    · rw [if_pos (by omega)]; rw [e] at g'; exact g'
end EVa
end T342_ev
section T343_bi
/-! the run: forms of two -/
section BIa
variable {z : Int} {M N : mm_} {A B : Int → Int} {n m e k t v w a b o i j : Int}
/-- X's step of a form of two -/
def oX (w : Int) : Int := if w < 25 then w - 10 else if w < 31 then w - 6 else w - 14
theorem anb [Inhabited fz_] (ha : BV a) (hb : BV b) : an_ a b = (if a = 0 then 0 else if b = 0 then 0 else 1) ∧ or_ a b = (if a = 0 then (if b = 0 then 0 else 1) else 1) := by
  rcases ha with rfl | rfl <;> rcases hb with rfl | rfl
  · exact ⟨an_nat (a := 0) (b := 0) (by decide) (by decide), or_nat (a := 0) (b := 0) (by decide) (by decide)⟩
  · exact ⟨an_nat (a := 0) (b := 1) (by decide) (by decide), or_nat (a := 0) (b := 1) (by decide) (by decide)⟩
  · exact ⟨an_nat (a := 1) (b := 0) (by decide) (by decide), or_nat (a := 1) (b := 0) (by decide) (by decide)⟩
  · exact ⟨an_nat (a := 1) (b := 1) (by decide) (by decide), or_nat (a := 1) (b := 1) (by decide) (by decide)⟩
theorem w13 [Inhabited fz_] (h : 20 ≤ w ∧ w ≤ 32) : w = 20 ∨ w = 21 ∨ w = 22 ∨ w = 23 ∨ w = 24 ∨ w = 25 ∨ w = 26 ∨ w = 27 ∨ w = 28 ∨ w = 29 ∨ w = 30 ∨ w = 31 ∨ w = 32 := by omega
theorem x_20 [Inhabited fz_] (h : 20 ≤ w ∧ w ≤ 32) (hz : w = 23 ∨ w = 24 → b ≠ 0) (hb : 31 ≤ w → BV a ∧ BV b) : Ex_ 2 20 [.inr (.inr 0), .inl (oX w), .inl a, .inl b] M [.inl (bin w a b)] M := fun Qr Qt hq => t_20 fun V hV hW => b_20_0 (Tr_mono _) hV hW _ _ _ _ (by
  unfold bin at hq
  rcases w13 h with e | e | e | e | e | e | e | e | e | e | e | e | e <;> subst e <;> unfold oX <;> simp only [Int.reduceLT, Int.reduceSub, Int.reduceEq, if_true, if_false] at hq ⊢
  · exact hq
  · exact hq
  · exact hq
  · rw [if_neg (hz (.inl rfl))]; exact ⟨hz (.inl rfl), hq⟩
  · rw [if_neg (hz (.inr rfl))]; exact ⟨hz (.inr rfl), hq⟩
  · split <;> simp only [*, if_true, if_false] at hq <;> exact hq
  · split <;> simp only [*, if_true, if_false] at hq <;> exact hq
  · split <;> simp only [*, if_true, if_false] at hq <;> exact hq
  · split <;> simp only [*, if_true, if_false] at hq <;> exact hq
  · split <;> simp only [*, if_true, if_false] at hq <;> exact hq
  · split <;> simp only [*, if_true, if_false] at hq <;> exact hq
  · obtain ⟨p, q⟩ := hb (by decide); rw [(anb p q).1]; exact hq
  · obtain ⟨p, q⟩ := hb (by decide); rw [(anb p q).2]; exact hq)
theorem x_20e [Inhabited fz_] (h : w = 23 ∨ w = 24) (hb : b = 0) : Et_ 2 20 [.inr (.inr 0), .inl (oX w), .inl a, .inl b] M (up_ M 0 49 2) := fun Qr Qt hq => t_20 fun V hV hW => b_20_0 (Tr_mono _) hV hW _ _ _ _ (by
  rcases h with e | e <;> subst e <;> unfold oX <;> simp only [Int.reduceLT, Int.reduceSub, Int.reduceEq, if_true, if_false]
  · rw [if_pos hb]; exact x_19 _ _ (rf_i (by rw [if_neg (by decide)]; exact hq))
  · rw [if_pos hb]; exact x_19 _ _ (rf_i (by rw [if_neg (by decide)]; exact hq)))
theorem q_344 [Inhabited fz_] (h : 25 ≤ w ∧ w ≤ 32) : Ex_ 1 344 [.inl w, .inl a, .inl b] M [.inl (bin w a b)] M ∧ BV (bin w a b) := by
  constructor
  · exact fun Qr Qt hq => t_344 fun V hV hW => b_344_0 (Tr_mono _) hV hW _ _ _ _ (by
      unfold bin at hq
      rcases w13 ⟨by omega, h.2⟩ with e | e | e | e | e | e | e | e | e | e | e | e | e <;> subst e <;> first | omega | skip
      all_goals simp only [Int.reduceEq, if_true, if_false] at hq ⊢
      all_goals (repeat' split)
      all_goals simp only [*, if_true, if_false] at hq
      all_goals first | exact ⟨.inl rfl, hq⟩ | exact ⟨.inr rfl, hq⟩)
  · unfold bin BV
    rcases w13 ⟨by omega, h.2⟩ with e | e | e | e | e | e | e | e | e | e | e | e | e <;> subst e <;> first | omega | skip
    all_goals simp only [Int.reduceEq, if_true, if_false]
    all_goals (repeat' split)
    all_goals first | exact .inl rfl | exact .inr rfl
theorem bin_r [Inhabited fz_] (ha : R32 a) (h : 20 ≤ w ∧ w ≤ 32) : R32 (bin w a b) := by
  by_cases c : 25 ≤ w
  · exact R32_b (q_344 (M := fun _ _ => 0) ⟨c, h.2⟩).2
  · unfold bin
    have : w = 20 ∨ w = 21 ∨ w = 22 ∨ w = 23 ∨ w = 24 := by omega
    rcases this with e | e | e | e | e <;> subst e <;> simp only [Int.reduceEq, if_true, if_false]
    · exact R32_w
    · exact R32_w
    · exact R32_w
    · exact R32_w
    · unfold R32 at ha ⊢
      have e := Int.natAbs_tmod a b
      have l := Nat.mod_le a.natAbs b.natAbs
      have n := Int.neg_tmod a b
      have p := Int.tmod_nonneg (a := -a) b
      omega
theorem q_343 [Inhabited fz_] (h : 20 ≤ w ∧ w ≤ 32) (hz : w = 23 ∨ w = 24 → b ≠ 0) (hm : 1 ≤ m ∧ m ≤ 1202) : Ex_ 2 343 [.inr (.inr 6), .inl w, .inl a, .inl b] (exQ N B m 0) [] (exQ N (su_ B (m - 1) (bin w a b)) m 0) := fun Qr Qt hq => t_343 fun V hV hW => by
  have k22 : V 22 [rr 6, ii w, ii a, ii b] [] (exQ N B m 0) := b_343_22 (Tr_mono _) hV hW _ _ _ _ (by
    rw [exQ_148, w32_id (x := m - 1) (by omega) (by omega)]
    by_cases c : w < 25
    · rw [if_pos c]
      unfold bin at hq
      rcases w13 h with e | e | e | e | e | e | e | e | e | e | e | e | e <;> subst e <;> first | omega | skip
      all_goals simp only [Int.reduceEq, if_true, if_false] at hq ⊢
      all_goals rw [exQ_u]
      all_goals first | exact ⟨by omega, hq⟩ | exact ⟨hz (by decide), by omega, hq⟩
    · rw [if_neg c]
      have q := q_344 (M := exQ N B m 0) (a := a) (b := b) (w := w) (by omega)
      refine q.1 _ _ (ri_i ?_)
      rcases q.2 with e | e
      · rw [if_pos e, exQ_u]; rw [e] at hq; exact ⟨by omega, hq⟩
      · rw [if_neg (by omega), exQ_u]; rw [e] at hq; exact ⟨by omega, hq⟩)
  refine b_343_0 (Tr_mono _) hV hW _ _ _ _ ?_
  by_cases c : w = 23
  · rw [if_pos c, if_neg (hz (.inl c))]; exact k22
  · rw [if_neg c]
    by_cases c : w = 24
    · rw [if_pos c, if_neg (hz (.inr c))]; exact k22
    · rw [if_neg c]; exact k22
theorem q_343e [Inhabited fz_] (h : w = 23 ∨ w = 24) (hb : b = 0) : Ex_ 2 343 [.inr (.inr 6), .inl w, .inl a, .inl b] (exQ N B m 0) [] (exQ N B m 2) := fun Qr Qt hq => t_343 fun V hV hW => b_343_0 (Tr_mono _) hV hW _ _ _ _ (by
  rw [exQ_e]
  rcases h with e | e <;> subst e
  · rw [if_pos rfl, if_pos hb]; exact hq
  · rw [if_neg (by decide), if_pos rfl, if_pos hb]; exact hq)
end BIa
end T343_bi
section T344_es
/-! the run: one form of an e (X 15 | Q 340) -/
/-- the cells of BOOL variables hold 0 or 1 -/
def TYI (N : mm_) (k T : Int) : Prop := ∀ u, 0 ≤ u → u < N 171 T → N 182 (8 * T + u) = 2 → ∀ i, 0 ≤ i → i < (if 1 < N 183 (8 * T + u) then N 183 (8 * T + u) else 1) → BV (N 239 (sB k + 6 + (N 184 (8 * T + u) + i)))
def RG9 (N : mm_) : Prop := ∀ j, R32 (N 239 j)
def EVC [Inhabited fz_] (z : Int) (M N : mm_) (k T : Int) : Prop := RU z M N ∧ (0 ≤ k ∧ k < M 0 7) ∧ M 0 46 = k ∧ M 11 k = T ∧ PLr M N ∧ TYI N k T ∧ RG9 N
def TB (B : Int → Int) : List Int → Prop
  | [] => True
  | t :: r => ((t = 2 → BV (B r.length)) ∧ R32 (B r.length)) ∧ TB B r
def KS (p : Int) (A B : Int → Int) (s : List Int) : Prop := (∀ j, 0 ≤ j → j < s.length → A (p + j) = B j) ∧ TB B s
def lnX (o : Int) : Int := if o = 9 then 3 else if o = 0 then 2 else if o = 7 then 2 else if o = 8 then 2 else 1
section ESa
variable {z : Int} {M N : mm_} {A B A' B' : Int → Int} {n m e k t v w a b o i j c T p q : Int} {s r s' : List Int} {x : Int × Int}
theorem TB_su [Inhabited fz_] : ∀ (r : List Int), (r.length : Int) ≤ j → TB B r → TB (su_ B j v) r
  | [], _, _ => trivial
  | t :: r, h, hb => ⟨by
      simp only [List.length_cons] at h
      have := hb.1
      unfold su_; rw [if_neg (by omega)]; exact this, TB_su r (by simp only [List.length_cons] at h; omega) hb.2⟩
theorem sua [Inhabited fz_] : su_ A j v j = v := by unfold su_; rw [if_pos rfl]
theorem su_ne [Inhabited fz_] (h : i ≠ j) : su_ A j v i = A i := by unfold su_; rw [if_neg h]
theorem KS_push [Inhabited fz_] (h : KS p A B s) (hv : (t = 2 → BV v) ∧ R32 v) : KS p (su_ A (p + s.length) v) (su_ B s.length v) (t :: s) := by
  refine ⟨fun j j0 j1 => ?_, by rw [sua]; exact hv, TB_su s (Int.le_refl _) h.2⟩
  simp only [List.length_cons] at j1
  by_cases c : j = (s.length : Int)
  · rw [c, sua, sua]
  · rw [su_ne (by omega), su_ne c]; exact h.1 j j0 (by omega)
theorem KS_pop [Inhabited fz_] (h : KS p A B (t :: s)) : KS p A B s := ⟨fun j j0 j1 => h.1 j j0 (by simp only [List.length_cons]; omega), h.2.2⟩
theorem KS_at [Inhabited fz_] (h : KS p A B (t :: s)) : A (p + s.length) = B s.length := h.1 _ (by omega) (by simp only [List.length_cons]; omega)
theorem x_365 [Inhabited fz_] {V : vv_} {Qr : qr_} {Qt : qt_} {x1 : Int} (hV : Cl_ wd0 (Tr_ wd0 pg0 2) V Qr Qt m_15) (hW : Wk_ V) (hc : 0 ≤ c ∧ c ≤ 11900) (h : V 10 [rr 0, ii x1, rr 109, ii (c + lnX o), none, none] [] M) : V 365 [rr 0, ii x1, rr 109, ii c, ii o, none] [] M := b_15_365 (Tr_mono _) hV hW _ _ _ _ (by
  unfold lnX at h
  rw [w32_id (x := c + 3) (by omega) (by omega), w32_id (x := c + 2) (by omega) (by omega), w32_id (x := c + 1) (by omega) (by omega)]
  repeat' split
  all_goals simp only [*, if_true, if_false, Int.reduceEq] at h
  all_goals exact h)
/-- a step that puts a value on the stack -/
theorem es_p [Inhabited fz_] {x1 : Int} (hn : 0 ≤ n ∧ n < 64) (hc : 0 ≤ c ∧ c ≤ 11900)
    (hX : ∀ (V : vv_) (Qr : qr_) (Qt : qt_), Cl_ wd0 (Tr_ wd0 pg0 2) V Qr Qt m_15 → Wk_ V → Tr_ wd0 pg0 2 16 [.inr (.inr 0), .inl v] (exX M A n) (rv_ fun M1 => V 365 [rr 0, ii x1, rr 109, ii c, ii o, none] [] M1) Qt → V 10 [rr 0, ii x1, rr 109, ii c, none, none] [] (exX M A n)) :
    RC 2 m_15 10 [rr 0, ii x1, rr 109, ii c, none, none] (exX M A n) 10 [rr 0, ii x1, rr 109, ii (c + lnX o), none, none] (exX M (su_ A n v) (n + 1)) := fun V Qr Qt hV hW g => hX V Qr Qt hV hW (Ex_le (d := 1) (by decide) (x_16 hn) _ _ (rv_i (x_365 hV hW hc g)))
/-- what both say of a form -/
def ES1 (M N : mm_) (k p c : Int) (x : Int × Int) (A B : Int → Int) (s s' : List Int) : Prop :=
  (∃ A' B', (∀ x1, RC 2 m_15 10 [rr 0, ii x1, rr 109, ii c, none, none] (exX M A (p + s.length)) 10 [rr 0, ii x1, rr 109, ii (c + (en_1 (tbN N) x).length), none, none] (exX M A' (p + s'.length))) ∧ Ex_ 3 340 [.inr (.inr 6), .inl k, .inl x.1, .inl x.2] (exQ N B s.length 0) [] (exQ N B' s'.length 0) ∧ KS p A' B' s' ∧ ∀ j, j < p → A' j = A j)
  ∨ (∃ e A' n' B' m', (e = 1 ∨ e = 2) ∧ (0 ≤ m' ∧ m' ≤ 100) ∧ (∀ x1, XT 2 m_15 10 [rr 0, ii x1, rr 109, ii c, none, none] (exX M A (p + s.length)) (up_ (exX M A' n') 0 49 e)) ∧ Ex_ 3 340 [.inr (.inr 6), .inl k, .inl x.1, .inl x.2] (exQ N B s.length 0) [] (exQ N B' m' e))
/-- of one that puts a value -/
theorem ES1_p [Inhabited fz_] (hK : KS p A B s) (hl : s.length ≤ 57) (hp : 0 ≤ p ∧ p ≤ 6) (hc : 0 ≤ c ∧ c ≤ 11900) (hv : (t = 2 → BV v) ∧ R32 v) (ho : lnX o = (en_1 (tbN N) x).length)
    (hX : ∀ (x1 : Int) (V : vv_) (Qr : qr_) (Qt : qt_), Cl_ wd0 (Tr_ wd0 pg0 2) V Qr Qt m_15 → Wk_ V → Tr_ wd0 pg0 2 16 [.inr (.inr 0), .inl v] (exX M A (p + s.length)) (rv_ fun M1 => V 365 [rr 0, ii x1, rr 109, ii c, ii o, none] [] M1) Qt → V 10 [rr 0, ii x1, rr 109, ii c, none, none] [] (exX M A (p + s.length)))
    (hQ : ∀ (Qr : qr_) (Qt : qt_), Tr_ wd0 pg0 2 341 [.inr (.inr 6), .inl v] (exQ N B s.length 0) (rv_ fun M1 => Qr [] M1) Qt → Tr_ wd0 pg0 3 340 [.inr (.inr 6), .inl k, .inl x.1, .inl x.2] (exQ N B s.length 0) Qr Qt) : ES1 M N k p c x A B s (t :: s) := by
  refine .inl ⟨_, _, fun x1 => ?_, fun Qr Qt g => hQ Qr Qt (Ex_le (d := 1) (by decide) (q_341 (by omega)) _ _ (rv_i g)), KS_push hK hv, fun j hj => su_ne (by omega)⟩
  rw [← ho]
  have := es_p (x1 := x1) (n := p + s.length) (v := v) (by omega) hc (hX x1)
  rw [show ((t :: s).length : Int) = s.length + 1 by simp only [List.length_cons]; omega, ← Int.add_assoc]
  exact this
theorem swc_109 [Inhabited fz_] : swc M 142 = M 109 := swc_r (by decide) (by decide)
theorem stX_1 [Inhabited fz_] {y0 : Int} (h : stX M c [y0]) : M 142 c = y0 := (show M 142 c = M 142 (c + ((0 : Nat) : Int)) by rw [show c + ((0 : Nat) : Int) = c by omega]).trans h.1
theorem stX_2 [Inhabited fz_] {y0 y1 : Int} (h : stX M c [y1, y0]) : M 142 c = y0 ∧ M 142 (c + 1) = y1 := ⟨stX_1 h.2, h.1⟩
theorem stX_3 [Inhabited fz_] {y0 y1 y2 : Int} (h : stX M c [y2, y1, y0]) : M 142 c = y0 ∧ M 142 (c + 1) = y1 ∧ M 142 (c + 2) = y2 := ⟨stX_1 h.2.2, h.2.1, h.1⟩
end ESa
end T344_es
section T345_e1
/-! the run: one form of an e, by kinds -/
section E1a
variable {z : Int} {M N : mm_} {A B A' B' : Int → Int} {n m e k t v w a b o i j c T p q : Int} {s r s' : List Int} {x : Int × Int}
/-- a number -/
theorem ev_1 [Inhabited fz_] (hx : x.1 = 1) (hK : KS p A B s) (hl : s.length ≤ 57) (hp : 0 ≤ p ∧ p ≤ 6) (hc : 0 ≤ c ∧ c ≤ 11900) (hv : (t = 2 → BV x.2) ∧ 0 ≤ x.2 ∧ x.2 < 1000000000) (hC : EVC z M N k T) (hS : stX (swc M) c (en_1 (tbN N) x)) : ES1 M N k p c x A B s (t :: s) := by
  have en : en_1 (tbN N) x = [x.2, 0] := by unfold en_1; rw [if_pos hx]
  rw [en] at hS
  have h2 := stX_2 hS
  rw [swc_109] at h2
  have h12 := hC.1.1.1
  refine ES1_p (o := 0) hK hl hp hc ⟨hv.1, by unfold R32; omega⟩ (by rw [en]; rfl) (fun x1 V Qr Qt hV hW g => b_15_10 (Tr_mono _) hV hW _ _ _ ⟨by omega, ?_⟩) (fun Qr Qt g => t_340 fun V hV hW => b_340_0 (Tr_mono _) hV hW _ _ _ _ (Ex_le (d := 1) (by decide) (q_323 (by have := hC.2.1; omega)) _ _ (ri_i ?_)))
  · rw [exX_r (r := 109) (by decide) (by decide), h2.1, w32_id (x := c + 1) (by omega) (by omega), h2.2]
    simp only [Int.reduceLT, Int.reduceEq, if_true, if_false]
    exact ⟨by omega, g⟩
  · rw [hx]; simp only [Int.reduceEq, if_true, if_false]; exact g
theorem ev_5 [Inhabited fz_] (hx : x.1 = 5) (h2 : 0 ≤ x.2 ∧ x.2 ≤ 3) (hK : KS p A B s) (hl : s.length ≤ 57) (hp : 0 ≤ p ∧ p ≤ 6) (hc : 0 ≤ c ∧ c ≤ 11900) (hC : EVC z M N k T) (hS : stX (swc M) c (en_1 (tbN N) x)) : ES1 M N k p c x A B s (3 :: s) := by
  have en : en_1 (tbN N) x = [x.2 + 1] := by unfold en_1; rw [if_neg (by omega), if_pos hx]
  rw [en] at hS
  have hh := stX_1 hS
  rw [swc_109] at hh
  have h12 := hC.1.1.1
  have hk := hC.2.1
  have hB : sB k = 2 + 56 * k := rfl
  have e46 : exX M A (p + s.length) 0 46 = k := by rw [exX_0 (by decide)]; exact hC.2.2.1
  obtain ⟨i1, i2, i3, i4, i5, i6⟩ := (hC.1.1.2.2.1 k hk.1 hk.2).1
  have four : x.2 = 0 ∨ x.2 = 1 ∨ x.2 = 2 ∨ x.2 = 3 := by omega
  rcases four with h | h | h | h
  · rw [h] at hh
    refine ES1_p (o := 1) (v := M 10 k) hK hl hp hc ⟨fun e => absurd e (by decide), by rw [i1]; exact hC.2.2.2.2.2.2 _⟩ (by rw [en]; rfl) (fun x1 V Qr Qt hV hW g => b_15_10 (Tr_mono _) hV hW _ _ _ ⟨by omega, ?_⟩) (fun Qr Qt g => t_340 fun V hV hW => b_340_0 (Tr_mono _) hV hW _ _ _ _ (Ex_le (d := 1) (by decide) (q_323 (by omega)) _ _ (ri_i ?_)))
    · rw [exX_r (r := 109) (by decide) (by decide), hh, e46]
      simp only [Int.reduceAdd, Int.reduceLT, Int.reduceEq, if_true, if_false]
      rw [exX_r (r := 10) (by decide) (by decide)]
      exact ⟨by omega, g⟩
    · rw [hx, h]; simp only [Int.reduceEq, if_true, if_false]; rw [exQ_r (r := 239) (by decide) (by decide), ← i1]; exact ⟨by omega, g⟩
  · rw [h] at hh
    refine ES1_p (o := 2) (v := M 18 k) hK hl hp hc ⟨fun e => absurd e (by decide), by rw [i4]; exact hC.2.2.2.2.2.2 _⟩ (by rw [en]; rfl) (fun x1 V Qr Qt hV hW g => b_15_10 (Tr_mono _) hV hW _ _ _ ⟨by omega, ?_⟩) (fun Qr Qt g => t_340 fun V hV hW => b_340_0 (Tr_mono _) hV hW _ _ _ _ (Ex_le (d := 1) (by decide) (q_323 (by omega)) _ _ (ri_i ?_)))
    · rw [exX_r (r := 109) (by decide) (by decide), hh, e46]
      simp only [Int.reduceAdd, Int.reduceLT, Int.reduceEq, if_true, if_false]
      rw [exX_r (r := 18) (by decide) (by decide)]
      exact ⟨by omega, g⟩
    · rw [hx, h, w32_id (x := sB k + 2) (by omega) (by omega), w32_id (x := sB k + 2 + 1) (by omega) (by omega), show sB k + 2 + 1 = sB k + 3 by omega]; simp only [Int.reduceEq, if_true, if_false]; rw [exQ_r (r := 239) (by decide) (by decide), ← i4]; exact ⟨by omega, g⟩
  · rw [h] at hh
    refine ES1_p (o := 3) (v := M 19 k) hK hl hp hc ⟨fun e => absurd e (by decide), by rw [i5]; exact hC.2.2.2.2.2.2 _⟩ (by rw [en]; rfl) (fun x1 V Qr Qt hV hW g => b_15_10 (Tr_mono _) hV hW _ _ _ ⟨by omega, ?_⟩) (fun Qr Qt g => t_340 fun V hV hW => b_340_0 (Tr_mono _) hV hW _ _ _ _ (Ex_le (d := 1) (by decide) (q_323 (by omega)) _ _ (ri_i ?_)))
    · rw [exX_r (r := 109) (by decide) (by decide), hh, e46]
      simp only [Int.reduceAdd, Int.reduceLT, Int.reduceEq, if_true, if_false]
      rw [exX_r (r := 19) (by decide) (by decide)]
      exact ⟨by omega, g⟩
    · rw [hx, h, w32_id (x := sB k + 2) (by omega) (by omega), w32_id (x := sB k + 2 + 2) (by omega) (by omega), show sB k + 2 + 2 = sB k + 4 by omega]; simp only [Int.reduceEq, if_true, if_false]; rw [exQ_r (r := 239) (by decide) (by decide), ← i5]; exact ⟨by omega, g⟩
  · rw [h] at hh
    refine ES1_p (o := 4) (v := M 20 k) hK hl hp hc ⟨fun e => absurd e (by decide), by rw [i6]; exact hC.2.2.2.2.2.2 _⟩ (by rw [en]; rfl) (fun x1 V Qr Qt hV hW g => b_15_10 (Tr_mono _) hV hW _ _ _ ⟨by omega, ?_⟩) (fun Qr Qt g => t_340 fun V hV hW => b_340_0 (Tr_mono _) hV hW _ _ _ _ (Ex_le (d := 1) (by decide) (q_323 (by omega)) _ _ (ri_i ?_)))
    · rw [exX_r (r := 109) (by decide) (by decide), hh, e46]
      simp only [Int.reduceAdd, Int.reduceLT, Int.reduceEq, if_true, if_false]
      rw [exX_r (r := 20) (by decide) (by decide)]
      exact ⟨by omega, g⟩
    · rw [hx, h, w32_id (x := sB k + 2) (by omega) (by omega), w32_id (x := sB k + 2 + 3) (by omega) (by omega), show sB k + 2 + 3 = sB k + 5 by omega]; simp only [Int.reduceEq, if_true, if_false]; rw [exQ_r (r := 239) (by decide) (by decide), ← i6]; exact ⟨by omega, g⟩
theorem ev_8 [Inhabited fz_] (hx : x.1 = 8 ∨ x.1 = 9) (hK : KS p A B s) (hl : s.length ≤ 57) (hp : 0 ≤ p ∧ p ≤ 6) (hc : 0 ≤ c ∧ c ≤ 11900) (hC : EVC z M N k T) (hS : stX (swc M) c (en_1 (tbN N) x)) : ES1 M N k p c x A B s (1 :: s) := by
  have h12 := hC.1.1.1
  have hk := hC.2.1
  have hB : sB k = 2 + 56 * k := rfl
  have e46 : exX M A (p + s.length) 0 46 = k := by rw [exX_0 (by decide)]; exact hC.2.2.1
  rcases hx with hx | hx
  · have en : en_1 (tbN N) x = [5] := by unfold en_1; rw [if_neg (by omega), if_neg (by omega), if_pos hx]
    rw [en] at hS
    have hh := stX_1 hS
    rw [swc_109] at hh
    refine ES1_p (o := 5) (v := M 0 9) hK hl hp hc ⟨fun e => absurd e (by decide), by have := hC.1.2.2.1.2.1.2; unfold R32; omega⟩ (by rw [en]; rfl) (fun x1 V Qr Qt hV hW g => b_15_10 (Tr_mono _) hV hW _ _ _ ⟨by omega, ?_⟩) (fun Qr Qt g => t_340 fun V hV hW => b_340_0 (Tr_mono _) hV hW _ _ _ _ (Ex_le (d := 1) (by decide) (q_323 (by omega)) _ _ (ri_i ?_)))
    · rw [exX_r (r := 109) (by decide) (by decide), hh]
      simp only [Int.reduceAdd, Int.reduceLT, Int.reduceEq, if_true, if_false]
      rw [exX_0 (i := 9) (by decide)]
      exact g
    · rw [hx]; simp only [Int.reduceEq, if_true, if_false]; rw [exQ_6 (i := 128) (by decide) (by decide), ← hC.1.2.2.1.2.1.1]; exact g
  · have en : en_1 (tbN N) x = [6] := by unfold en_1; rw [if_neg (by omega), if_neg (by omega), if_neg (by omega), if_pos hx]
    rw [en] at hS
    have hh := stX_1 hS
    rw [swc_109] at hh
    refine ES1_p (o := 6) (v := M 14 k) hK hl hp hc ⟨fun e => absurd e (by decide), by have := (hC.1.1.2.2.1 k hk.1 hk.2).2.2.2.2.1; unfold R32; omega⟩ (by rw [en]; rfl) (fun x1 V Qr Qt hV hW g => b_15_10 (Tr_mono _) hV hW _ _ _ ⟨by omega, ?_⟩) (fun Qr Qt g => t_340 fun V hV hW => b_340_0 (Tr_mono _) hV hW _ _ _ _ (Ex_le (d := 1) (by decide) (q_323 (by omega)) _ _ (ri_i ?_)))
    · rw [exX_r (r := 109) (by decide) (by decide), hh, e46]
      simp only [Int.reduceAdd, Int.reduceLT, Int.reduceEq, if_true, if_false]
      rw [exX_r (r := 14) (by decide) (by decide)]
      exact ⟨by omega, g⟩
    · rw [hx, w32_id (x := sB k + 25) (by omega) (by omega)]; simp only [Int.reduceEq, if_true, if_false]; rw [exQ_r (r := 239) (by decide) (by decide), (hC.1.1.2.2.1 k hk.1 hk.2).2.2.2.2.1.2.2]; exact ⟨by omega, g⟩
theorem ev_10 [Inhabited fz_] (hx : x.1 = 10) (h2 : 0 ≤ x.2 ∧ x.2 < 3) (hK : KS p A B s) (hl : s.length ≤ 57) (hp : 0 ≤ p ∧ p ≤ 6) (hc : 0 ≤ c ∧ c ≤ 11900) (hC : EVC z M N k T) (hS : stX (swc M) c (en_1 (tbN N) x)) : ES1 M N k p c x A B s (2 :: s) := by
  have h12 := hC.1.1.1
  have hk := hC.2.1
  have hB : sB k = 2 + 56 * k := rfl
  have e46 : exX M A (p + s.length) 0 46 = k := by rw [exX_0 (by decide)]; exact hC.2.2.1
  have en : en_1 (tbN N) x = [x.2, 7] := by unfold en_1; rw [if_neg (by omega), if_neg (by omega), if_neg (by omega), if_neg (by omega), if_pos hx]
  rw [en] at hS
  have hh := stX_2 hS
  rw [swc_109] at hh
  obtain ⟨v, bv, xv, qv⟩ := j_17 (RU_ex (A := A) (B := B) (n := p + s.length) (m := s.length) (e := 0) hC.1) (by rw [exX_0 (by decide)]; exact hk) e46 h2
  refine ES1_p (o := 7) (v := v) hK hl hp hc ⟨fun _ => bv, R32_b bv⟩ (by rw [en]; rfl) (fun x1 V Qr Qt hV hW g => b_15_10 (Tr_mono _) hV hW _ _ _ ⟨by omega, ?_⟩) (fun Qr Qt g => t_340 fun V hV hW => b_340_0 (Tr_mono _) hV hW _ _ _ _ (Ex_le (d := 1) (by decide) (q_323 (by omega)) _ _ (ri_i ?_)))
  · rw [exX_r (r := 109) (by decide) (by decide), hh.1, w32_id (x := c + 1) (by omega) (by omega), hh.2]
    simp only [Int.reduceAdd, Int.reduceLT, Int.reduceEq, if_true, if_false]
    refine ⟨by omega, xv _ _ (ri_i ?_)⟩
    rcases bv with e | e
    · rw [if_pos e]; rw [e] at g; exact g
    · rw [if_neg (by omega)]; rw [e] at g; exact g
  · rw [hx]; simp only [Int.reduceEq, if_true, if_false]
    refine qv _ _ (ri_i ?_)
    rcases bv with e | e
    · rw [if_pos e]; rw [e] at g; exact g
    · rw [if_neg (by omega)]; rw [e] at g; exact g
theorem vr_b [Inhabited fz_] (hC : EVC z M N k T) (h2 : 8 * T ≤ x.2 ∧ x.2 < 8 * T + N 171 T) : (0 ≤ x.2 ∧ x.2 < 48) ∧ (0 ≤ N 184 x.2 ∧ N 184 x.2 + (if 1 < N 183 x.2 then N 183 x.2 else 1) ≤ 16) := by
  obtain ⟨hR, hk, _, hT, hP, _⟩ := hC
  have ty := (hR.1.2.2.1 k hk.1 hk.2).2.1.2.1
  rw [hT] at ty
  have p19 := hP.1.2.2
  rw [tbN_6 (by decide)] at p19
  have pt := hP.2.1 T ty.1 (by rw [tbN_6 (by decide)]; exact ty.2)
  unfold PTY at pt
  rw [tbN_r (q := 171) (by decide) (by decide), tbN_r (q := 172) (by decide) (by decide), tbN_r (q := 183) (by decide) (by decide), tbN_r (q := 184) (by decide) (by decide)] at pt
  have l8 := pt.2.2.1.2.1.2
  have l16 := pt.2.2.1.2.2.1.2
  have q := (pt.2.2.2.1 (x.2 - 8 * T) (by omega) (by omega))
  rw [show 8 * T + (x.2 - 8 * T) = x.2 by omega] at q
  have := q.2.2
  exact ⟨by omega, by omega, by omega⟩
theorem ev_11 [Inhabited fz_] (hx : x.1 = 11) (h2 : 8 * T ≤ x.2 ∧ x.2 < 8 * T + N 171 T) (hK : KS p A B s) (hl : s.length ≤ 57) (hp : 0 ≤ p ∧ p ≤ 6) (hc : 0 ≤ c ∧ c ≤ 11900) (hC : EVC z M N k T) (hS : stX (swc M) c (en_1 (tbN N) x)) : ES1 M N k p c x A B s (N 182 x.2 :: s) := by
  have h12 := hC.1.1.1
  have hk := hC.2.1
  have hB : sB k = 2 + 56 * k := rfl
  have e46 : exX M A (p + s.length) 0 46 = k := by rw [exX_0 (by decide)]; exact hC.2.2.1
  have en : en_1 (tbN N) x = [N 184 x.2, 8] := by unfold en_1; rw [if_neg (by omega), if_neg (by omega), if_neg (by omega), if_neg (by omega), if_neg (by omega), if_pos hx, tbN_r (by decide) (by decide)]
  rw [en] at hS
  have hh := stX_2 hS
  rw [swc_109] at hh
  obtain ⟨b1, b2, b3⟩ := vr_b hC h2
  have b4 : N 184 x.2 < 16 := by split at b3 <;> omega
  have cl := (hC.1.1.2.2.1 k hk.1 hk.2).2.2.1.1 (N 184 x.2) b2 b4
  refine ES1_p (o := 8) (v := M 13 (16 * k + N 184 x.2)) hK hl hp hc ⟨fun e => ?_, by rw [cl]; exact hC.2.2.2.2.2.2 _⟩ (by rw [en]; rfl) (fun x1 V Qr Qt hV hW g => b_15_10 (Tr_mono _) hV hW _ _ _ ⟨by omega, ?_⟩) (fun Qr Qt g => t_340 fun V hV hW => b_340_0 (Tr_mono _) hV hW _ _ _ _ (Ex_le (d := 1) (by decide) (q_323 (by omega)) _ _ (ri_i ?_)))
  · have := hC.2.2.2.2.2.1 (x.2 - 8 * T) (by omega) (by omega) (by rw [show 8 * T + (x.2 - 8 * T) = x.2 by omega]; exact e) 0 (by decide) (by split <;> omega)
    rw [show 8 * T + (x.2 - 8 * T) = x.2 by omega, Int.add_zero] at this
    rw [cl]; exact this
  · rw [exX_r (r := 109) (by decide) (by decide), hh.1, e46, w32_id (x := c + 1) (by omega) (by omega), hh.2]
    simp only [Int.reduceAdd, Int.reduceLT, Int.reduceEq, if_true, if_false]
    rw [exX_r (r := 13) (by decide) (by decide), w32_id (x := 16 * k) (by omega) (by omega), w32_id (x := 16 * k + N 184 x.2) (by omega) (by omega)]
    exact ⟨by omega, by omega, g⟩
  · rw [hx]; simp only [Int.reduceEq, if_true, if_false]
    rw [exQ_r (r := 239) (by decide) (by decide), exQ_r (r := 184) (by decide) (by decide), w32_id (x := sB k + 6) (by omega) (by omega), w32_id (x := sB k + 6 + N 184 x.2) (by omega) (by omega), ← cl]
    exact ⟨by omega, by omega, g⟩
end E1a
end T345_e1
section T346_e2
/-! the run: one form of an e, those that take from the stack -/
section E2a
variable {z : Int} {M N : mm_} {A B A' B' : Int → Int} {n m e k t v w a b o i j c T p q : Int} {s r s' : List Int} {x : Int × Int}
theorem KS_top [Inhabited fz_] {t0 : Int} (h : KS p A B (t0 :: r)) (hv : (t = 2 → BV v) ∧ R32 v) : KS p (su_ A (p + r.length) v) (su_ B r.length v) (t :: r) := KS_push (KS_pop h) hv
theorem lc [Inhabited fz_] {t0 : Int} : ((t0 :: r).length : Int) = r.length + 1 := by simp only [List.length_cons]; omega
theorem ev_12 [Inhabited fz_] {t0 : Int} (hx : x.1 = 12) (h2 : 8 * T ≤ x.2 ∧ x.2 < 8 * T + N 171 T) (h183 : 0 < N 183 x.2) (hK : KS p A B (t0 :: r)) (hl : (t0 :: r).length ≤ 58) (hp : 0 ≤ p ∧ p ≤ 6) (hc : 0 ≤ c ∧ c ≤ 11900) (hC : EVC z M N k T) (hS : stX (swc M) c (en_1 (tbN N) x)) : ES1 M N k p c x A B (t0 :: r) (N 182 x.2 :: r) := by
  have h12 := hC.1.1.1
  have hk := hC.2.1
  have hB : sB k = 2 + 56 * k := rfl
  have e46 : ∀ n, exX M A n 0 46 = k := fun n => by rw [exX_0 (by decide)]; exact hC.2.2.1
  have en : en_1 (tbN N) x = [N 183 x.2, N 184 x.2, 9] := by unfold en_1; rw [if_neg (by omega), if_neg (by omega), if_neg (by omega), if_neg (by omega), if_neg (by omega), if_neg (by omega), if_pos hx, tbN_r (by decide) (by decide), tbN_r (by decide) (by decide)]
  rw [en] at hS
  have hh := stX_3 hS
  rw [swc_109] at hh
  obtain ⟨b1, b2, b3⟩ := vr_b hC h2
  have hat := KS_at hK
  have hlr : (r.length : Int) ≤ 57 := by simp only [List.length_cons] at hl; omega
  unfold ES1
  rw [lc, lc, ← Int.add_assoc]
  have pp : ∀ (V : vv_) (Qt : qt_) (K : Int → mm_ → Prop), K (B r.length) (exX M A (p + r.length)) → Tr_ wd0 pg0 2 18 [.inr (.inr 0)] (exX M A (p + r.length + 1)) (ri_ K) Qt := fun V Qt K g => by
    have x18 := x_18 (M := M) (A := A) (n := p + r.length + 1) (by omega)
    rw [show p + (r.length : Int) + 1 - 1 = p + r.length by omega, hat] at x18
    exact Ex_le (d := 1) (by decide) x18 _ _ (ri_i g)
  by_cases c1 : B r.length < 0 ∨ N 183 x.2 ≤ B r.length
  · refine .inr ⟨1, A, p + r.length, B, r.length + 1, .inl rfl, by omega, fun x1 V Qr Qt hV hW g => b_15_10 (Tr_mono _) hV hW _ _ _ ⟨by omega, ?_⟩, fun Qr Qt g => t_340 fun V hV hW => b_340_0 (Tr_mono _) hV hW _ _ _ _ (Ex_le (d := 1) (by decide) (q_323 (by omega)) _ _ (ri_i ?_))⟩
    · rw [exX_r (r := 109) (by decide) (by decide), hh.1]
      simp only [Int.reduceAdd, Int.reduceLT, Int.reduceEq, if_true, if_false]
      refine pp V Qt _ ?_
      have fl : Tr_ wd0 pg0 2 19 [.inr (.inr 0), .inl 1] (exX M A (p + r.length)) (rf_r fun v22 M30 => if v22 = 1999 then False else Qt v22 M30) Qt := Ex_le (d := 1) (by decide) x_19 _ _ (rf_i (by rw [if_neg (by decide)]; exact g))
      by_cases c2 : B r.length < 0
      · rw [if_pos c2]; exact fl
      · rw [if_neg c2, exX_r (r := 109) (by decide) (by decide), w32_id (x := c + 2) (by omega) (by omega), hh.2.2, if_neg (by omega)]
        exact ⟨by omega, fl⟩
    · rw [hx]; simp only [Int.reduceEq, if_true, if_false]
      rw [exQ_148, exQ_243, w32_id (x := (r.length : Int) + 1 - 1) (by omega) (by omega), show (r.length : Int) + 1 - 1 = r.length by omega, exQ_e]
      refine ⟨by omega, ?_⟩
      by_cases c2 : B r.length < 0
      · rw [if_pos c2]; exact g
      · rw [if_neg c2, exQ_r (r := 183) (by decide) (by decide), if_neg (by omega)]
        exact ⟨by omega, by omega, g⟩
  · have c3 : B r.length < N 183 x.2 := by omega
    have c4 : 0 ≤ B r.length := by omega
    have b4 : N 184 x.2 + B r.length < 16 := by split at b3 <;> omega
    have cl := (hC.1.1.2.2.1 k hk.1 hk.2).2.2.1.1 (N 184 x.2 + B r.length) (by omega) b4
    refine .inl ⟨su_ A (p + r.length) (M 13 (16 * k + (N 184 x.2 + B r.length))), su_ B r.length (M 13 (16 * k + (N 184 x.2 + B r.length))), fun x1 V Qr Qt hV hW g => b_15_10 (Tr_mono _) hV hW _ _ _ ⟨by omega, ?_⟩, fun Qr Qt g => t_340 fun V hV hW => b_340_0 (Tr_mono _) hV hW _ _ _ _ (Ex_le (d := 1) (by decide) (q_323 (by omega)) _ _ (ri_i ?_)), KS_top hK ⟨fun e => ?_, by rw [cl]; exact hC.2.2.2.2.2.2 _⟩, fun j hj => su_ne (by omega)⟩
    · rw [exX_r (r := 109) (by decide) (by decide), hh.1]
      simp only [Int.reduceAdd, Int.reduceLT, Int.reduceEq, if_true, if_false]
      refine pp V Qt _ ?_
      rw [if_neg (by omega), exX_r (r := 109) (by decide) (by decide), w32_id (x := c + 2) (by omega) (by omega), hh.2.2, if_pos c3, w32_id (x := c + 1) (by omega) (by omega), hh.2.1, e46, w32_id (x := 16 * k) (by omega) (by omega), w32_id (x := 16 * k + N 184 x.2) (by omega) (by omega), w32_id (x := 16 * k + N 184 x.2 + B r.length) (by omega) (by omega), exX_r (r := 13) (by decide) (by decide), Int.add_assoc]
      exact ⟨by omega, by omega, by omega, Ex_le (d := 1) (by decide) (x_16 (by omega)) _ _ (rv_i (x_365 (o := 9) hV hW hc (by rw [en] at g; exact g)))⟩
    · rw [hx]; simp only [Int.reduceEq, if_true, if_false]
      rw [exQ_148, exQ_243, w32_id (x := (r.length : Int) + 1 - 1) (by omega) (by omega), show (r.length : Int) + 1 - 1 = r.length by omega, exQ_r (r := 183) (by decide) (by decide), exQ_r (r := 184) (by decide) (by decide), exQ_r (r := 239) (by decide) (by decide), if_neg (by omega), if_pos c3, w32_id (x := sB k + 6) (by omega) (by omega), w32_id (x := sB k + 6 + N 184 x.2) (by omega) (by omega), w32_id (x := sB k + 6 + N 184 x.2 + B r.length) (by omega) (by omega), Int.add_assoc (sB k + 6), ← cl, exQ_u]
      exact ⟨by omega, by omega, by omega, by omega, by omega, by omega, by omega, g⟩
    · have := hC.2.2.2.2.2.1 (x.2 - 8 * T) (by omega) (by omega) (by rw [show 8 * T + (x.2 - 8 * T) = x.2 by omega]; exact e) (B r.length) c4 (by rw [show 8 * T + (x.2 - 8 * T) = x.2 by omega]; split <;> omega)
      rw [show 8 * T + (x.2 - 8 * T) = x.2 by omega] at this
      rw [cl]; exact this
theorem ev_13 [Inhabited fz_] (hx : x.1 = 13 ∨ x.1 = 14) (hK : KS p A B (pw_ x.1 :: r)) (hl : (pw_ x.1 :: r).length ≤ 58) (hp : 0 ≤ p ∧ p ≤ 6) (hc : 0 ≤ c ∧ c ≤ 11900) (hC : EVC z M N k T) (hS : stX (swc M) c (en_1 (tbN N) x)) : ES1 M N k p c x A B (pw_ x.1 :: r) (pw_ x.1 :: r) := by
  have h12 := hC.1.1.1
  have hk := hC.2.1
  have en : en_1 (tbN N) x = [x.1 + 2] := by
    unfold en_1; rw [if_neg (by omega), if_neg (by omega), if_neg (by omega), if_neg (by omega), if_neg (by omega), if_neg (by omega), if_neg (by omega)]
    rcases hx with h | h
    · rw [if_pos h, h]; rfl
    · rw [if_neg (by omega), if_pos h, h]; rfl
  rw [en] at hS
  have hh := stX_1 hS
  rw [swc_109] at hh
  have hat := KS_at hK
  have hlr : (r.length : Int) ≤ 57 := by simp only [List.length_cons] at hl; omega
  have pp : ∀ (V : vv_) (Qt : qt_) (K : Int → mm_ → Prop), K (B r.length) (exX M A (p + r.length)) → Tr_ wd0 pg0 2 18 [.inr (.inr 0)] (exX M A (p + r.length + 1)) (ri_ K) Qt := fun V Qt K g => by
    have x18 := x_18 (M := M) (A := A) (n := p + r.length + 1) (by omega)
    rw [show p + (r.length : Int) + 1 - 1 = p + r.length by omega, hat] at x18
    exact Ex_le (d := 1) (by decide) x18 _ _ (ri_i g)
  unfold ES1
  rw [lc, ← Int.add_assoc, en]
  rcases hx with hx | hx
  · refine .inl ⟨su_ A (p + r.length) (w32 (-B r.length)), su_ B r.length (w32 (-B r.length)), fun x1 V Qr Qt hV hW g => b_15_10 (Tr_mono _) hV hW _ _ _ ⟨by omega, ?_⟩, fun Qr Qt g => t_340 fun V hV hW => b_340_0 (Tr_mono _) hV hW _ _ _ _ (Ex_le (d := 1) (by decide) (q_323 (by omega)) _ _ (ri_i ?_)), KS_top hK ⟨fun e => ?_, R32_w⟩, fun j hj => su_ne (by omega)⟩
    · rw [exX_r (r := 109) (by decide) (by decide), hh, hx]
      simp only [Int.reduceAdd, Int.reduceLT, Int.reduceEq, if_true, if_false]
      refine pp V Qt _ ?_
      exact Ex_le (d := 1) (by decide) (x_16 (by omega)) _ _ (rv_i (x_365 (o := 15) hV hW hc g))
    · rw [hx]; simp only [Int.reduceEq, if_true, if_false]
      rw [exQ_148, exQ_243, w32_id (x := (r.length : Int) + 1 - 1) (by omega) (by omega), show (r.length : Int) + 1 - 1 = r.length by omega, exQ_u]
      exact ⟨by omega, by omega, g⟩
    · rw [hx] at e; exact absurd e (by decide)
  · refine .inl ⟨su_ A (p + r.length) (w32 (1 - B r.length)), su_ B r.length (w32 (1 - B r.length)), fun x1 V Qr Qt hV hW g => b_15_10 (Tr_mono _) hV hW _ _ _ ⟨by omega, ?_⟩, fun Qr Qt g => t_340 fun V hV hW => b_340_0 (Tr_mono _) hV hW _ _ _ _ (Ex_le (d := 1) (by decide) (q_323 (by omega)) _ _ (ri_i ?_)), KS_top hK ⟨fun e => ?_, R32_w⟩, fun j hj => su_ne (by omega)⟩
    · rw [exX_r (r := 109) (by decide) (by decide), hh, hx]
      simp only [Int.reduceAdd, Int.reduceLT, Int.reduceEq, if_true, if_false]
      refine pp V Qt _ ?_
      exact Ex_le (d := 1) (by decide) (x_16 (by omega)) _ _ (rv_i (x_365 (o := 16) hV hW hc g))
    · rw [hx]; simp only [Int.reduceEq, if_true, if_false]
      rw [exQ_148, exQ_243, w32_id (x := (r.length : Int) + 1 - 1) (by omega) (by omega), show (r.length : Int) + 1 - 1 = r.length by omega, exQ_u]
      exact ⟨by omega, by omega, g⟩
    · have bb := hK.2.1.1 (by rw [hx]; rfl)
      rcases bb with e | e
      · rw [e]; exact .inr (w32_id (x := 1 - 0) (by decide) (by decide))
      · rw [e]; exact .inl (w32_id (x := 1 - 1) (by decide) (by decide))
theorem ev_b [Inhabited fz_] {t1 t2 : Int} (hx : 20 ≤ x.1 ∧ x.1 ≤ 32) (h31 : 31 ≤ x.1 → t1 = 2 ∧ t2 = 2) (hK : KS p A B (t1 :: t2 :: r)) (hl : (t1 :: t2 :: r).length ≤ 58) (hp : 0 ≤ p ∧ p ≤ 6) (hc : 0 ≤ c ∧ c ≤ 11900) (hC : EVC z M N k T) (hS : stX (swc M) c (en_1 (tbN N) x)) : ES1 M N k p c x A B (t1 :: t2 :: r) ((if x.1 < 25 then 1 else 2) :: r) := by
  have h12 := hC.1.1.1
  have hk := hC.2.1
  have en : en_1 (tbN N) x = [oX x.1] := by
    unfold en_1 oX; rw [if_neg (by omega), if_neg (by omega), if_neg (by omega), if_neg (by omega), if_neg (by omega), if_neg (by omega), if_neg (by omega), if_neg (by omega), if_neg (by omega)]
    repeat' split
    all_goals rfl
  rw [en] at hS
  have hh := stX_1 hS
  rw [swc_109] at hh
  have hat := KS_at hK
  have hat2 := KS_at (KS_pop hK)
  have hlr : (r.length : Int) ≤ 56 := by simp only [List.length_cons] at hl; omega
  have bb : 31 ≤ x.1 → BV (B r.length) ∧ BV (B (r.length + 1)) := fun h => ⟨hK.2.2.1.1 (h31 h).2, by have := hK.2.1.1 (h31 h).1; rw [lc] at this; exact this⟩
  rw [lc, ← Int.add_assoc] at hat
  have o13 := w13 hx
  unfold ES1
  rw [lc, lc, lc, ← Int.add_assoc, ← Int.add_assoc, en, show ([oX x.1].length : Int) = lnX (oX x.1) by
    have : oX x.1 ≠ 9 ∧ oX x.1 ≠ 0 ∧ oX x.1 ≠ 7 ∧ oX x.1 ≠ 8 := by unfold oX; (repeat' split) <;> omega
    unfold lnX; rw [if_neg this.1, if_neg this.2.1, if_neg this.2.2.1, if_neg this.2.2.2]; rfl]
  have pp : ∀ (V : vv_) (Qt : qt_) (K : Int → mm_ → Prop), K (B (r.length + 1)) (exX M A (p + r.length + 1)) → Tr_ wd0 pg0 2 18 [.inr (.inr 0)] (exX M A (p + r.length + 1 + 1)) (ri_ K) Qt := fun V Qt K g => by
    have x18 := x_18 (M := M) (A := A) (n := p + r.length + 1 + 1) (by omega)
    rw [show p + (r.length : Int) + 1 + 1 - 1 = p + r.length + 1 by omega, hat] at x18
    exact Ex_le (d := 1) (by decide) x18 _ _ (ri_i g)
  have pp2 : ∀ (V : vv_) (Qt : qt_) (K : Int → mm_ → Prop), K (B r.length) (exX M A (p + r.length)) → Tr_ wd0 pg0 2 18 [.inr (.inr 0)] (exX M A (p + r.length + 1)) (ri_ K) Qt := fun V Qt K g => by
    have x18 := x_18 (M := M) (A := A) (n := p + r.length + 1) (by omega)
    rw [show p + (r.length : Int) + 1 - 1 = p + r.length by omega, hat2] at x18
    exact Ex_le (d := 1) (by decide) x18 _ _ (ri_i g)
  have main : ∀ (x1 : Int) (V : vv_) (Qr : qr_) (Qt : qt_), Cl_ wd0 (Tr_ wd0 pg0 2) V Qr Qt m_15 → Wk_ V → Tr_ wd0 pg0 2 20 [.inr (.inr 0), .inl (oX x.1), .inl (B r.length), .inl (B (r.length + 1))] (exX M A (p + r.length)) (ri_ fun v20 M27 => Tr_ wd0 pg0 2 16 [.inr (.inr 0), .inl v20] M27 (rv_ fun M28 => V 365 [rr 0, ii x1, rr 109, ii c, ii (oX x.1), none] [] M28) Qt) Qt → V 10 [rr 0, ii x1, rr 109, ii c, none, none] [] (exX M A (p + r.length + 1 + 1)) := fun x1 V Qr Qt hV hW g => b_15_10 (Tr_mono _) hV hW _ _ _ ⟨by omega, by
    rw [exX_r (r := 109) (by decide) (by decide), hh]
    have o : oX x.1 = 10 ∨ oX x.1 = 11 ∨ oX x.1 = 12 ∨ oX x.1 = 13 ∨ oX x.1 = 14 ∨ (17 ≤ oX x.1 ∧ oX x.1 ≤ 24) := by unfold oX; (repeat' split) <;> omega
    have g2 := pp V Qt (fun v18 M25 => Tr_ wd0 pg0 2 18 [.inr (.inr 0)] M25 (ri_ fun v19 M26 => Tr_ wd0 pg0 2 20 [.inr (.inr 0), .inl (oX x.1), .inl v19, .inl v18] M26 (ri_ fun v20 M27 => Tr_ wd0 pg0 2 16 [.inr (.inr 0), .inl v20] M27 (rv_ fun M28 => V 365 [rr 0, ii x1, rr 109, ii c, ii (oX x.1), none] [] M28) Qt) Qt) Qt) (pp2 V Qt (fun v19 M26 => Tr_ wd0 pg0 2 20 [.inr (.inr 0), .inl (oX x.1), .inl v19, .inl (B (r.length + 1))] M26 (ri_ fun v20 M27 => Tr_ wd0 pg0 2 16 [.inr (.inr 0), .inl v20] M27 (rv_ fun M28 => V 365 [rr 0, ii x1, rr 109, ii c, ii (oX x.1), none] [] M28) Qt) Qt) g)
    generalize oX x.1 = y at *
    rw [if_pos (by omega), if_neg (by omega), if_neg (by omega), if_neg (by omega), if_neg (by omega), if_neg (by omega), if_neg (by omega), if_neg (by omega), if_neg (by omega), if_neg (by omega), if_neg (by omega)]
    rcases o with o | o | o | o | o | o
    · rw [if_pos o]; exact g2
    · rw [if_neg (by omega), if_pos o]; exact g2
    · rw [if_neg (by omega), if_neg (by omega), if_pos o]; exact g2
    · rw [if_neg (by omega), if_neg (by omega), if_neg (by omega), if_pos o]; exact g2
    · rw [if_neg (by omega), if_neg (by omega), if_neg (by omega), if_neg (by omega), if_pos o]; exact g2
    · rw [if_neg (by omega), if_neg (by omega), if_neg (by omega), if_neg (by omega), if_neg (by omega), if_neg (by omega), if_neg (by omega)]; exact g2⟩
  have mainQ : ∀ (Qr : qr_) (Qt : qt_), Tr_ wd0 pg0 2 343 [.inr (.inr 6), .inl x.1, .inl (B r.length), .inl (B (r.length + 1))] (exQ N B (r.length + 1) 0) (rv_ fun M2 => Qr [] M2) Qt → Tr_ wd0 pg0 3 340 [.inr (.inr 6), .inl k, .inl x.1, .inl x.2] (exQ N B (r.length + 1 + 1) 0) Qr Qt := fun Qr Qt g => t_340 fun V hV hW => b_340_0 (Tr_mono _) hV hW _ _ _ _ (Ex_le (d := 1) (by decide) (q_323 (by omega)) _ _ (ri_i (by
    rw [if_neg (by omega), if_neg (by omega), if_neg (by omega), if_neg (by omega), if_neg (by omega), if_neg (by omega), if_neg (by omega), if_neg (by omega), if_neg (by omega), if_neg (by omega), if_neg (by omega), if_neg (by omega), if_neg (by omega), if_neg (by omega), exQ_148, exQ_243, w32_id (x := (r.length : Int) + 1 + 1 - 1) (by omega) (by omega), show (r.length : Int) + 1 + 1 - 1 = r.length + 1 by omega, w32_id (x := (r.length : Int) + 1 - 1) (by omega) (by omega), show (r.length : Int) + 1 - 1 = r.length by omega, exQ_o]
    exact ⟨by omega, by omega, g⟩)))
  by_cases ce : (x.1 = 23 ∨ x.1 = 24) ∧ B (r.length + 1) = 0
  · exact .inr ⟨2, A, p + r.length, B, r.length + 1, .inr rfl, by omega, fun x1 V Qr Qt hV hW g => main x1 V Qr Qt hV hW (x_20e ce.1 ce.2 _ _ g), fun Qr Qt g => mainQ Qr Qt (q_343e ce.1 ce.2 _ _ (rv_i g))⟩
  · refine .inl ⟨su_ A (p + r.length) (bin x.1 (B r.length) (B (r.length + 1))), su_ B r.length (bin x.1 (B r.length) (B (r.length + 1))), fun x1 V Qr Qt hV hW g => main x1 V Qr Qt hV hW (x_20 hx (fun h => fun e => ce ⟨h, e⟩) bb _ _ (ri_i (Ex_le (d := 1) (by decide) (x_16 (by omega)) _ _ (rv_i (x_365 hV hW hc g))))), fun Qr Qt g => mainQ Qr Qt (q_343 hx (fun h => fun e => ce ⟨h, e⟩) (by omega) _ _ (rv_i (by rw [show (r.length : Int) + 1 - 1 = r.length by omega]; exact g))), KS_push (KS_pop (KS_pop hK)) ⟨fun e => ?_, bin_r hK.2.2.1.2 hx⟩, fun j hj => su_ne (by omega)⟩
    exact (q_344 (M := M) (by by_cases c : x.1 < 25; rw [if_pos c] at e; exact absurd e (by decide); omega)).2
end E2a
end T346_e2
section T347_el
/-! the run: an e (X 15 | Q 339) -/
section ELa
variable {z : Int} {M N : mm_} {A B A' B' : Int → Int} {n m e k t v w a b o i j c c' f fe T p q : Int} {s r s' : List Int} {x : Int × Int}
theorem T_b [Inhabited fz_] (hC : EVC z M N k T) : (0 ≤ T ∧ T < 6) ∧ N 173 T ≤ 3 := by
  obtain ⟨hR, hk, _, hT, hP, _⟩ := hC
  have ty := (hR.1.2.2.1 k hk.1 hk.2).2.1.2.1
  rw [hT] at ty
  have p19 := hP.1.2.2
  rw [tbN_6 (by decide)] at p19
  have pt := hP.2.1 T ty.1 (by rw [tbN_6 (by decide)]; exact ty.2)
  unfold PTY at pt
  rw [tbN_r (q := 173) (by decide) (by decide)] at pt
  exact ⟨by omega, by have := pt.2.2.1.2.2.2.1; omega⟩
theorem ev_x [Inhabited fz_] (hC : EVC z M N k T) (hts : ts_ (up_ (tbN N) 6 61 T) x s s') (hl : s'.length ≤ 58) (hs : s.length ≤ 58) (hp : 0 ≤ p ∧ p ≤ 6) (hc : 0 ≤ c ∧ c ≤ 11900) (hK : KS p A B s) (hS : stX (swc M) c (en_1 (tbN N) x)) : ES1 M N k p c x A B s s' ∧ x.1 ≠ 0 := by
  unfold ts_ at hts
  rw [up_at, up_ne (by decide), up_ne (by decide), up_ne (by decide), up_ne (by decide), tbN_r (q := 173) (by decide) (by decide), tbN_r (q := 171) (by decide) (by decide), tbN_r (q := 183) (by decide) (by decide), tbN_r (q := 182) (by decide) (by decide)] at hts
  rcases hts with ⟨h1, t, h2, h3, h4⟩ | ⟨h1, h2, h3, h4⟩ | ⟨h1, h4⟩ | ⟨h1, h2, h3, h4⟩ | ⟨h1, h2, h3, h5, h4⟩ | ⟨h1, h2, h3, h5, r, h6, h4⟩ | ⟨h1, r, h6, h4⟩ | ⟨h1, t, r, h6, h4⟩ | ⟨h1, h2, h7, h8, r, h6, h4⟩
  · subst h4; exact ⟨ev_1 h1 hK (by simp only [List.length_cons] at hl; omega) hp hc h3 hC hS, by omega⟩
  · subst h4; exact ⟨ev_5 h1 ⟨h2, h3⟩ hK (by simp only [List.length_cons] at hl; omega) hp hc hC hS, by omega⟩
  · subst h4; exact ⟨ev_8 h1 hK (by simp only [List.length_cons] at hl; omega) hp hc hC hS, by omega⟩
  · subst h4; exact ⟨ev_10 h1 ⟨h2, by have := (T_b hC).2; omega⟩ hK (by simp only [List.length_cons] at hl; omega) hp hc hC hS, by omega⟩
  · subst h4; exact ⟨ev_11 h1 ⟨h2, h3⟩ hK (by simp only [List.length_cons] at hl; omega) hp hc hC hS, by omega⟩
  · subst h4; subst h6; exact ⟨ev_12 h1 ⟨h2, h3⟩ h5 hK hs hp hc hC hS, by omega⟩
  · subst h4; subst h6; exact ⟨ev_13 h1 hK hs hp hc hC hS, by omega⟩
  · subst h4; subst h6
    have := ev_b (x := x) (by omega) (fun h => by omega) hK hs hp hc hC hS
    rw [if_neg (by omega)] at this
    exact ⟨this, by omega⟩
  · subst h4; subst h6
    exact ⟨ev_b (x := x) ⟨h1, h2⟩ (fun h => by unfold rw_; rw [if_pos (by omega)]; exact ⟨rfl, rfl⟩) hK hs hp hc hC hS, by omega⟩
theorem stX_ap [Inhabited fz_] : ∀ (l1 l2 : List Int), stX M c (l1 ++ l2) → stX M (c + l2.length) l1 ∧ stX M c l2
  | [], l2, h => ⟨trivial, h⟩
  | y :: l1, l2, h => by
    have ⟨a, b⟩ := stX_ap l1 l2 h.2
    refine ⟨⟨?_, a⟩, b⟩
    have := h.1
    rw [show l1.append l2 = l1 ++ l2 from rfl, List.length_append] at this
    rw [show c + (l2.length : Int) + (l1.length : Int) = c + ((l1.length + l2.length : Nat) : Int) by omega]; exact this
theorem ty_len [Inhabited fz_] {Mq : mm_} : ts_ Mq x s s' → (s'.length : Int) = s.length + (if x.1 ≤ 11 then 1 else if x.1 ≤ 14 then 0 else -1) := by
  intro h
  unfold ts_ at h
  rcases h with ⟨h1, t, h2, h3, h4⟩ | ⟨h1, h2, h3, h4⟩ | ⟨h1, h4⟩ | ⟨h1, h2, h3, h4⟩ | ⟨h1, h2, h3, h5, h4⟩ | ⟨h1, h2, h3, h5, r, h6, h4⟩ | ⟨h1, r, h6, h4⟩ | ⟨h1, t, r, h6, h4⟩ | ⟨h1, h2, h7, h8, r, h6, h4⟩
  · subst h4; rw [if_pos (by omega)]; simp only [List.length_cons]; omega
  · subst h4; rw [if_pos (by omega)]; simp only [List.length_cons]; omega
  · subst h4; rw [if_pos (by omega)]; simp only [List.length_cons]; omega
  · subst h4; rw [if_pos (by omega)]; simp only [List.length_cons]; omega
  · subst h4; rw [if_pos (by omega)]; simp only [List.length_cons]; omega
  · subst h4; subst h6; rw [if_neg (by omega), if_pos (by omega)]; simp only [List.length_cons]; omega
  · subst h4; subst h6; rw [if_neg (by omega), if_pos (by omega)]; simp only [List.length_cons]; omega
  · subst h4; subst h6; rw [if_neg (c := x.1 ≤ 11) (by omega), if_neg (c := x.1 ≤ 14) (by omega)]; simp only [List.length_cons]; omega
  · subst h4; subst h6; rw [if_neg (c := x.1 ≤ 11) (by omega), if_neg (c := x.1 ≤ 14) (by omega)]; simp only [List.length_cons]; omega
theorem ty_58 [Inhabited fz_] {Mq : mm_} {st : List Int} (h6 : st.length = 6) : ∀ (l : List (Int × Int)) (s s2 : List Int), ty_ Mq 64 l [] s → ty_ Mq 64 l st s2 → ty_ Mq 58 l [] s ∧ (s2.length : Int) = s.length + 6
  | [], s, s2, h, g => by
    have h : s = [] := h
    have g : s2 = st := g
    subst h; subst g
    exact ⟨rfl, by rw [h6]; rfl⟩
  | x :: l, s, s2, ⟨s1, a1, a2, a3⟩, ⟨s3, b1, b2, b3⟩ => by
    obtain ⟨i1, i2⟩ := ty_58 h6 l s1 s3 a1 b1
    have e1 := ty_len a2
    have e2 := ty_len b2
    exact ⟨⟨s1, i1, a2, by omega⟩, by omega⟩
theorem ty_d [Inhabited fz_] {Mq : mm_} {D : Int} (hD : 0 ≤ D) : ∀ (l : List (Int × Int)) (s : List Int), ty_ Mq D l [] s → (s.length : Int) ≤ D
  | [], s, h => by rw [show s = [] from h]; exact hD
  | x :: l, s, ⟨s1, a1, a2, a3⟩ => a3
/-- what both say of forms -/
theorem ev_l [Inhabited fz_] (hC : EVC z M N k T) (hp : 0 ≤ p ∧ p ≤ 6) (hc0 : 0 ≤ c) (hf0 : 0 ≤ f) : ∀ (l : List (Int × Int)) (s : List Int), ty_ (up_ (tbN N) 6 61 T) 58 l [] s → stF (tbN N) f l → stX (swc M) c (er_ (tbN N) l) → c + (er_ (tbN N) l).length ≤ 11900 → f + l.length ≤ 2900 →
    (∃ A' B', (∀ x1, RC 2 m_15 10 [rr 0, ii x1, rr 109, ii c, none, none] (exX M A p) 10 [rr 0, ii x1, rr 109, ii (c + (er_ (tbN N) l).length), none, none] (exX M A' (p + s.length))) ∧ (∀ x2, RC 3 m_339 12 [rr 6, ii k, ii x2, ii f] (exQ N B 0 0) 12 [rr 6, ii k, ii x2, ii (f + l.length)] (exQ N B' s.length 0)) ∧ KS p A' B' s ∧ ∀ j, j < p → A' j = A j)
    ∨ (∃ e A' n' B' m' i, (e = 1 ∨ e = 2) ∧ (0 ≤ m' ∧ m' ≤ 100) ∧ (0 ≤ i ∧ i ≤ 2900) ∧ (∀ x1, XT 2 m_15 10 [rr 0, ii x1, rr 109, ii c, none, none] (exX M A p) (up_ (exX M A' n') 0 49 e)) ∧ (∀ x2, RC 3 m_339 12 [rr 6, ii k, ii x2, ii f] (exQ N B 0 0) 12 [rr 6, ii k, ii x2, ii i] (exQ N B' m' e)))
  | [], s, ht, _, _, hc, hf => by
    have ht : s = [] := ht
    subst ht
    refine .inl ⟨A, B, fun x1 => ?_, fun x2 => ?_, ⟨fun j _ j1 => absurd j1 (Nat.not_lt_zero j), trivial⟩, fun _ _ => rfl⟩
    · rw [show c + ((er_ (tbN N) []).length : Int) = c from Int.add_zero c, show p + ((([] : List Int).length : Nat) : Int) = p from Int.add_zero p]; exact RC_rf
    · rw [show f + ((([] : List (Int × Int)).length : Nat) : Int) = f from Int.add_zero f]; exact RC_rf
  | x :: l, s, ⟨s1, t1, t2, t3⟩, hF, hX, hc, hf => by
    have hX : stX (swc M) c (en_1 (tbN N) x ++ er_ (tbN N) l) := hX
    have el : ((er_ (tbN N) (x :: l)).length : Int) = (er_ (tbN N) l).length + (en_1 (tbN N) x).length := by show (((en_1 (tbN N) x ++ er_ (tbN N) l).length : Nat) : Int) = _; rw [List.length_append]; omega
    obtain ⟨x1, x2⟩ := stX_ap _ _ hX
    obtain ⟨f1, f2, f3⟩ := hF
    rw [tbN_r (q := 227) (by decide) (by decide)] at f1
    rw [tbN_r (q := 228) (by decide) (by decide)] at f2
    simp only [List.length_cons] at hf
    rcases ev_l hC hp hc0 hf0 l s1 t1 f3 x2 (by omega) (by omega) with ⟨A1, B1, xr, qr, ks, lo⟩ | ⟨e, A1, n1, B1, m1, i1, he, hm, hi, xt, qt⟩
    · obtain ⟨es, hne⟩ := ev_x (c := c + (er_ (tbN N) l).length) hC t2 (by omega) (by have := ty_d (by decide) l s1 t1; omega) hp (by omega) ks x1
      have fl : f + ((x :: l).length : Int) = f + l.length + 1 := by simp only [List.length_cons]; omega
      have qs : ∀ (e m' : Int) (B' : Int → Int), Ex_ 3 340 [.inr (.inr 6), .inl k, .inl x.1, .inl x.2] (exQ N B1 s1.length 0) [] (exQ N B' m' e) → ∀ x2, RC 3 m_339 12 [rr 6, ii k, ii x2, ii f] (exQ N B 0 0) 12 [rr 6, ii k, ii x2, ii (f + l.length + 1)] (exQ N B' m' e) := fun e m' B' hq x2 => RC_tr (qr x2) (fun V Qr Qt hV hW g => b_339_12 (Tr_mono _) hV hW _ _ _ _ ⟨by omega, by
        rw [exQ_r (r := 227) (by decide) (by decide), exQ_r (r := 228) (by decide) (by decide), f1, f2, if_neg hne, exQ_149, if_pos rfl, w32_id (x := f + l.length + 1) (by omega) (by omega)]
        exact ⟨by omega, by omega, hq _ _ (rv_i g)⟩⟩)
      rcases es with ⟨A2, B2, y1, y2, y3, y4⟩ | ⟨e, A2, n2, B2, m2, he, hm, y1, y2⟩
      · refine .inl ⟨A2, B2, fun x1 => ?_, fun x2 => ?_, y3, fun j hj => (y4 j hj).trans (lo j hj)⟩
        · rw [el, ← Int.add_assoc]; exact RC_tr (xr x1) (y1 x1)
        · rw [fl]; exact qs 0 _ _ y2 x2
      · exact .inr ⟨e, A2, n2, B2, m2, f + l.length + 1, he, hm, by omega, fun x1 V Qr Qt hV hW g => xr x1 V Qr Qt hV hW (y1 x1 V Qr Qt hV hW g), qs e m2 B2 y2⟩
    · exact .inr ⟨e, A1, n1, B1, m1, i1, he, hm, hi, xt, qt⟩
/-- an e: X goes on behind it with its value on the stack, or throws; Q gives the value or the error -/
def EVR (M N : mm_) (k p c c' f t : Int) (A : Int → Int) : Prop :=
  (∃ A' B' v, (∀ x1, RC 2 m_15 10 [rr 0, ii x1, rr 109, ii c, none, none] (exX M A p) 10 [rr 0, ii x1, rr 109, ii c', none, none] (exX M A' (p + 1))) ∧ Ex_ 4 339 [.inr (.inr 6), .inl k, .inl f] N [.inl v] (exQ N B' 1 0) ∧ A' p = v ∧ ((t = 2 → BV v) ∧ R32 v) ∧ ∀ j, j < p → A' j = A j)
  ∨ (∃ e A' n' B' m' v, (e = 1 ∨ e = 2) ∧ (∀ x1, XT 2 m_15 10 [rr 0, ii x1, rr 109, ii c, none, none] (exX M A p) (up_ (exX M A' n') 0 49 e)) ∧ Ex_ 4 339 [.inr (.inr 6), .inl k, .inl f] N [.inl v] (exQ N B' m' e))
theorem exQ_0 [Inhabited fz_] : up_ (up_ N 6 148 0) 6 149 0 = exQ N (N 243) 0 0 := by unfold exQ; rw [wr_id]
theorem ev_e [Inhabited fz_] (hC : EVC z M N k T) (hE : EXP (swc M) (tbN N) T c c' f fe t) (hp : 0 ≤ p ∧ p ≤ 6) (hc : c' ≤ 11900) (hf : fe ≤ 2900) : EVR M N k p c c' f t A := by
  obtain ⟨l, e1, e2, e3, e4, e5, e6, e7, e8⟩ := hE
  obtain ⟨g1, _, g3⟩ := e1
  rw [tbN_r (q := 227) (by decide) (by decide)] at g1
  have t0 := e8 [] (by decide)
  have t6 := e8 [0, 0, 0, 0, 0, 0] (by decide)
  obtain ⟨ty, _⟩ := ty_58 (by rfl) l _ _ t0 t6
  have q0 : ∀ (Qr : qr_) (Qt : qt_), (∀ (V : vv_), Cl_ wd0 (Tr_ wd0 pg0 3) V Qr Qt m_339 → Wk_ V → V 12 [rr 6, ii k, ii f, ii f] [] (exQ N (N 243) 0 0)) → Tr_ wd0 pg0 4 339 [.inr (.inr 6), .inl k, .inl f] N Qr Qt := fun Qr Qt h => t_339 fun V hV hW => b_339_0 (Tr_mono _) hV hW _ _ _ (by rw [exQ_0]; exact h V hV hW)
  rcases ev_l (A := A) (B := N 243) hC hp e6 e5 l [t] ty g3 e2 (by omega) (by omega) with ⟨A', B', x1, q1, ks, lo⟩ | ⟨e, A', n', B', m', i, he, hm, hi, x1, q1⟩
  · refine .inl ⟨A', B', B' 0, fun y => ?_, fun Qr Qt g => q0 Qr Qt fun V hV hW => q1 f V Qr Qt hV hW ?_, ?_, ks.2.1, lo⟩
    · have := x1 y; rw [← e3] at this; exact this
    · have g9 : V 12 [rr 6, ii k, ii f, ii (f + l.length)] [] (exQ N B' 1 0) := by
        refine b_339_12 (Tr_mono _) hV hW _ _ _ _ ⟨by omega, ?_⟩
        rw [exQ_r (r := 227) (by decide) (by decide), g1, if_pos rfl, exQ_148, exQ_243, if_neg (by decide), w32_id (x := 1 - 1) (by decide) (by decide)]
        exact ⟨by decide, g⟩
      exact g9
    · have := ks.1 0 (Nat.le_refl 0) Nat.zero_lt_one
      rw [show p + ((0 : Nat) : Int) = p from Int.add_zero p] at this; exact this
  · have bt : ∃ v, ∀ (Qr : qr_) (Qt : qt_) (V : vv_), Cl_ wd0 (Tr_ wd0 pg0 3) V Qr Qt m_339 → Wk_ V → Qr [.inl v] (exQ N B' m' e) → V 12 [rr 6, ii k, ii f, ii i] [] (exQ N B' m' e) := by
      refine ⟨if m' ≤ 0 then 0 else B' (m' - 1), fun Qr Qt V hV hW g => b_339_12 (Tr_mono _) hV hW _ _ _ _ ⟨by omega, ?_⟩⟩
      rw [exQ_148, exQ_149, exQ_243, if_neg (c := e = 0) (by omega)]
      have : (if m' ≤ 0 then Qr [Sum.inl 0] (exQ N B' m' e) else (0 ≤ w32 (m' - 1) ∧ w32 (m' - 1) < 1202) ∧ Qr [Sum.inl (B' (w32 (m' - 1)))] (exQ N B' m' e)) := by
        by_cases c : m' ≤ 0
        · rw [if_pos c] at g ⊢; exact g
        · rw [if_neg c] at g ⊢; rw [w32_id (x := m' - 1) (by omega) (by omega)]; exact ⟨by omega, g⟩
      split <;> exact this
    obtain ⟨v, bt⟩ := bt
    exact .inr ⟨e, A', n', B', m', v, he, x1, fun Qr Qt g => q0 Qr Qt fun V hV hW => q1 f V Qr Qt hV hW (bt Qr Qt V hV hW g)⟩
end ELa
end T347_el
section T348_ty
/-! the run: BOOLs are 0 or 1 -/
def SGV (N : mm_) (sg : Int) (h : Int → Int) : Prop := ((0 ≤ sg ∧ sg < 20 ∧ sg < N 6 17) ∨ (100 ≤ sg ∧ sg < 103)) ∧ (sg < 20 → ∀ v, 0 ≤ v → v < 3 → v < N 156 sg → N 157 (3 * sg + v) = 2 → BV (h v)) ∧ ∀ v, 0 ≤ v → v < 3 → R32 (h v)
def TIN (N : mm_) (g : Int → Int) : Prop := (∀ u, 0 ≤ u → u < N 171 (g 1) → N 182 (8 * g 1 + u) = 2 → ∀ i, 0 ≤ i → i < (if 1 < N 183 (8 * g 1 + u) then N 183 (8 * g 1 + u) else 1) → 0 ≤ N 184 (8 * g 1 + u) + i → N 184 (8 * g 1 + u) + i < 16 → BV (g (6 + (N 184 (8 * g 1 + u) + i))))
  ∧ ∀ q, 0 ≤ q → q < 6 → q < g 25 → SGV N (g (26 + 5 * q)) (fun v => g (28 + 5 * q + v))
def TRO (N : mm_) (g : Int → Int) : Prop := ∀ q, 0 ≤ q → q < 6 → q < g 0 → SGV N (g (1 + 7 * q)) (fun v => g (5 + 7 * q + v))
def TYA (N : mm_) : Prop := (∀ k, 0 ≤ k → k < 12 → k < N 239 0 → TIN N (fun j => N 239 (sB k + j))) ∧ (∀ r, 0 ≤ r → r < 10 → r < N 6 18 → TRO N (fun j => N 239 (sR r + j))) ∧ RG9 N
/-- the tables that it reads -/
def TYT (N N' : mm_) : Prop := (∀ r : Nat, r ∈ [156, 157, 171, 182, 183, 184] → N' r = N r) ∧ N' 6 18 = N 6 18 ∧ N' 6 17 = N 6 17
section TYa
variable {z : Int} {M N N' N1 : mm_} {g g' h h' : Int → Int} {k r sg sn rc p a b c t T v : Int}
theorem TYT_rf [Inhabited fz_] : TYT N N := ⟨fun _ _ => rfl, rfl, rfl⟩
theorem TYT_tr [Inhabited fz_] (h : TYT N N1) (h' : TYT N1 N') : TYT N N' := ⟨fun r hr => (h'.1 r hr).trans (h.1 r hr), h'.2.1.trans h.2.1, h'.2.2.trans h.2.2⟩
theorem TYT_Q [Inhabited fz_] (h : QRF N N') : TYT N N' := ⟨fun r hr => h.1 r (fun e => by revert hr e; simp only [quL, List.mem_cons, List.not_mem_nil, or_false]; omega), h.2 18 (by decide), h.2 17 (by decide)⟩
theorem SGV_c [Inhabited fz_] (hs : SGV N sg h) (ht : TYT N N') (hh : ∀ v, 0 ≤ v → v < 3 → h' v = h v) : SGV N' sg h' := by
  unfold SGV at hs ⊢
  rw [ht.1 156 (by decide), ht.1 157 (by decide), ht.2.2]
  exact ⟨hs.1, fun e v v0 v3 v1 v2 => by rw [hh v v0 v3]; exact hs.2.1 e v v0 v3 v1 v2, fun v v0 v3 => by rw [hh v v0 v3]; exact hs.2.2 v v0 v3⟩
theorem TIN_c [Inhabited fz_] (hs : TIN N g) (ht : TYT N N') (hh : ∀ j, 0 ≤ j → j < 56 → g' j = g j) : TIN N' g' := by
  unfold TIN at hs ⊢
  rw [ht.1 171 (by decide), ht.1 182 (by decide), ht.1 183 (by decide), ht.1 184 (by decide), hh 1 (by decide) (by decide), hh 25 (by decide) (by decide)]
  exact ⟨fun u u0 u1 u2 i i0 i1 i2 i3 => by rw [hh _ (by omega) (by omega)]; exact hs.1 u u0 u1 u2 i i0 i1 i2 i3, fun q q0 q1 q2 => by
    rw [hh _ (by omega) (by omega)]; exact SGV_c (hs.2 q q0 q1 q2) ht (fun v v0 v1 => hh _ (by omega) (by omega))⟩
theorem TIN_q [Inhabited fz_] (hs : TIN N g) (ht : TYT N N') (h1 : g' 1 = g 1) (hc : ∀ i, 0 ≤ i → i < 16 → g' (6 + i) = g (6 + i)) (hq : ∀ q, 0 ≤ q → q < 6 → q < g' 25 → SGV N' (g' (26 + 5 * q)) (fun v => g' (28 + 5 * q + v))) : TIN N' g' := by
  unfold TIN at hs ⊢
  rw [ht.1 171 (by decide), ht.1 182 (by decide), ht.1 183 (by decide), ht.1 184 (by decide), h1]
  exact ⟨fun u u0 u1 u2 i i0 i1 i2 i3 => by rw [hc _ i2 i3]; exact hs.1 u u0 u1 u2 i i0 i1 i2 i3, hq⟩
theorem TRO_c [Inhabited fz_] (hs : TRO N g) (ht : TYT N N') (hh : ∀ j, 0 ≤ j → j < 43 → g' j = g j) : TRO N' g' := by
  unfold TRO at hs ⊢
  rw [hh 0 (by decide) (by decide)]
  exact fun q q0 q1 q2 => by rw [hh _ (by omega) (by omega)]; exact SGV_c (hs q q0 q1 q2) ht (fun v v0 v1 => hh _ (by omega) (by omega))
theorem TYA_c [Inhabited fz_] (hA : TYA N) (ht : TYT N N') (h : N' 239 = N 239) : TYA N' := by
  refine ⟨fun k k0 k1 k2 => ?_, fun r r0 r1 r2 => ?_, fun j => by rw [h]; exact hA.2.2 j⟩
  · rw [h] at k2 ⊢; exact TIN_c (hA.1 k k0 k1 k2) ht (fun _ _ _ => rfl)
  · rw [ht.2.1] at r2; rw [h]; exact TRO_c (hA.2.1 r r0 r1 r2) ht (fun _ _ _ => rfl)
theorem TYA_k [Inhabited fz_] (hA : TYA N) (ht : TYT N N') (hk : 0 ≤ k ∧ k < 12) (h : ∀ j, j < sB k ∨ sB k + 56 ≤ j → N' 239 j = N 239 j) (hi : TIN N' (fun j => N' 239 (sB k + j))) (hr : ∀ j, sB k ≤ j → j < sB k + 56 → R32 (N' 239 j)) : TYA N' := by
  have hB : ∀ k, sB k = 2 + 56 * k := fun _ => rfl
  have hR : ∀ k, sR k = 674 + 43 * k := fun _ => rfl
  have hBk := hB k
  refine ⟨fun i k0 k1 k2 => ?_, fun r r0 r1 r2 => ?_, fun j => ?_⟩
  · have := hB i
    by_cases c : i = k
    · rw [c]; exact hi
    · rw [h 0 (by omega)] at k2
      exact TIN_c (hA.1 i k0 k1 k2) ht (fun j j0 j1 => h _ (by omega))
  · have := hR r
    rw [ht.2.1] at r2; exact TRO_c (hA.2.1 r r0 r1 r2) ht (fun j j0 j1 => h _ (by omega))
  · by_cases c : sB k ≤ j ∧ j < sB k + 56
    · exact hr j c.1 c.2
    · rw [h j (by omega)]; exact hA.2.2 j
theorem TYA_r [Inhabited fz_] (hA : TYA N) (ht : TYT N N') (hr : 0 ≤ r ∧ r < 10) (h : ∀ j, j < sR r ∨ sR r + 43 ≤ j → N' 239 j = N 239 j) (hi : TRO N' (fun j => N' 239 (sR r + j))) (hw : ∀ j, sR r ≤ j → j < sR r + 43 → R32 (N' 239 j)) : TYA N' := by
  have hB : ∀ k, sB k = 2 + 56 * k := fun _ => rfl
  have hR : ∀ k, sR k = 674 + 43 * k := fun _ => rfl
  have hRr := hR r
  refine ⟨fun i k0 k1 k2 => ?_, fun i r0 r1 r2 => ?_, fun j => ?_⟩
  · have := hB i
    rw [h 0 (by omega)] at k2
    exact TIN_c (hA.1 i k0 k1 k2) ht (fun j j0 j1 => h _ (by omega))
  · have := hR i
    by_cases c : i = r
    · rw [c]; exact hi
    · rw [ht.2.1] at r2
      exact TRO_c (hA.2.1 i r0 r1 r2) ht (fun j j0 j1 => h _ (by omega))
  · by_cases c : sR r ≤ j ∧ j < sR r + 43
    · exact hw j c.1 c.2
    · rw [h j (by omega)]; exact hA.2.2 j
theorem TYA_ev [Inhabited fz_] (hA : TYA N) : TYA (evQ N p a b c) := TYA_c hA (TYT_Q QRF_ev) (EvQ_ev.1 239 (by decide) (by decide))
theorem TYA_lo [Inhabited fz_] (hA : TYA N) : TYA (loQ N p a b) := TYA_c hA (TYT_Q QRF_lo) (LoQ_lo.1 239 (by decide) (by decide))
theorem TYA_out [Inhabited fz_] (hA : TYA N) : TYA (outQ N sg sn) := TYA_c hA (TYT_Q QRF_out) (outQ_r (by decide) (by decide))
theorem TYA_q [Inhabited fz_] (hA : TYA N) (hk : 0 ≤ k ∧ k < 12) (h25 : 0 ≤ N 239 (sB k + 25) ∧ N 239 (sB k + 25) < 6) (h0 : k < N 239 0) (hs : SGV N sg (N 242)) (hsn : R32 sn) : TYA (qQ N k sg sn) := by
  have hP : qP N k = sB k + 26 + 5 * N 239 (sB k + 25) := rfl
  have ht := TYT_Q (N := N) (QRF_q (k := k) (sg := sg) (sn := sn))
  have at_ : ∀ j, j ≠ sB k + 25 → (j < qP N k ∨ qP N k + 5 ≤ j) → qQ N k sg sn 239 j = N 239 j := fun j h1 h2 => by
    unfold qQ; rw [upo h1, upo (by omega), upo (by omega), upo (by omega), upo (by omega), upo (by omega)]
  have e25 : qQ N k sg sn 239 (sB k + 25) = N 239 (sB k + 25) + 1 := by unfold qQ; rw [up_at]
  refine TYA_k hA ht hk (fun j hj => at_ j (by omega) (by omega)) ?_ (fun j j0 j1 => ?_)
  case refine_2 =>
    have a := hs.2.2 0 (by decide) (by decide)
    have b := hs.2.2 1 (by decide) (by decide)
    have c := hs.2.2 2 (by decide) (by decide)
    have d : R32 sg := by have := hs.1; unfold R32; omega
    have e : R32 (N 239 (sB k + 25) + 1) := by unfold R32; omega
    unfold qQ
    rw [ua_, if_pos rfl]
    split
    · exact e
    · rw [up5]
      repeat' split
      all_goals first | assumption | exact hA.2.2 j
  have g := hA.1 k hk.1 hk.2 h0
  have g1 : qQ N k sg sn 239 (sB k + 1) = N 239 (sB k + 1) := at_ _ (by omega) (by omega)
  refine TIN_q g ht g1 (fun i i0 i1 => at_ _ (by omega) (by omega)) (fun q q0 q1 q2 => ?_)
  rw [e25] at q2
  · by_cases c : q = N 239 (sB k + 25)
    · have p0 : sB k + (26 + 5 * q) = qP N k := by omega
      have s0 : qQ N k sg sn 239 (sB k + (26 + 5 * q)) = sg := by rw [p0]; unfold qQ; rw [upo (by omega), upo (by omega), upo (by omega), upo (by omega), upo (by omega), up_at]
      rw [s0]
      refine SGV_c hs ht (fun v v0 v1 => ?_)
      have three : v = 0 ∨ v = 1 ∨ v = 2 := by omega
      rcases three with e | e | e
      · rw [e, show sB k + (28 + 5 * q + 0) = qP N k + 2 by omega]; unfold qQ; rw [upo (by omega), upo (by omega), upo (by omega), up_at]
      · rw [e, show sB k + (28 + 5 * q + 1) = qP N k + 3 by omega]; unfold qQ; rw [upo (by omega), upo (by omega), up_at]
      · rw [e, show sB k + (28 + 5 * q + 2) = qP N k + 4 by omega]; unfold qQ; rw [upo (by omega), up_at]
    · rw [at_ (sB k + (26 + 5 * q)) (by omega) (by omega)]
      exact SGV_c (g.2 q q0 q1 (show q < N 239 (sB k + 25) by omega)) ht (fun v v0 v1 => at_ _ (by omega) (by omega))
theorem TYA_cm [Inhabited fz_] (h : RU z M N) (hA : TYA N) (hk : 0 ≤ k ∧ k < M 0 7) (hs : SGV N sg (N 242)) (hsn : R32 sn) : TYA (cmQ_ N k sg sn p) := by
  have n12 := h.1.1
  have j := (h.1.2.2.1 k hk.1 hk.2).2.2.2.2.1
  unfold cmQ_
  split
  · exact TYA_lo hA
  · exact TYA_q hA (by omega) (by omega) (by omega) hs hsn
theorem TYA_a [Inhabited fz_] (h : RU z M N) (hA : TYA N) (hs : SGV N sg (N 242)) (hsn : R32 sn) : TYA (aQ N sg sn rc) := by
  unfold aQ
  split
  · split
    · exact TYA_out (TYA_ev hA)
    · exact TYA_ev hA
  · split
    · exact TYA_lo hA
    · have n12 := h.1.1
      rename_i c
      have e : slQ N rc = fi_ (M 10) rc (M 0 7).toNat 0 := slQ_e h
      refine TYA_cm h hA ?_ hs hsn
      have := fi_rg (g := M 10) (v := rc) (n := (M 0 7).toNat)
      rw [e] at c ⊢
      omega
theorem shQ_QRF [Inhabited fz_] : QRF N (shQ N r) := by
  unfold shQ
  exact QRF_tr (QRF_tr (QRF_tr (QRF_up (by decide) (fun e => absurd e (by decide))) (QRF_up (by decide) (fun e => absurd e (by decide)))) (QRF_up (by decide) (fun e => absurd e (by decide)))) (QRF_wr (by decide) (by decide))
theorem TYA_sh [Inhabited fz_] (h : RU z M N) (hA : TYA N) (hr : 0 ≤ r ∧ r < N 6 18) (h1 : 0 < M 21 r) : TYA (shQ N r) ∧ SGV (shQ N r) (N 239 (sR r + 1)) (shQ N r 242) := by
  have h10 := h.2.1.1
  have b := (h.2.1.2.1 r hr.1 hr.2).1
  have hR : sR r = 674 + 43 * r := rfl
  have ht := TYT_Q (shQ_QRF (N := N) (r := r))
  have g := hA.2.1 r hr.1 (by omega) hr.2
  have e239 : shQ N r 239 = shF (N 239) (sR r) := by unfold shQ; rw [wr_same]
  have o1 : ∀ j, j < sR r ∨ sR r + 43 ≤ j → shF (N 239) (sR r) j = N 239 j := fun j hj => by
    unfold shF su_ flf cpf; rw [if_neg (by omega), if_neg (by omega), if_neg (by omega)]
  have o2 : shF (N 239) (sR r) (sR r) = N 239 (sR r) - 1 := by unfold shF su_; rw [if_pos rfl]
  have o3 : ∀ j, 1 ≤ j → j < 36 → shF (N 239) (sR r) (sR r + j) = N 239 (sR r + (j + 7)) := fun j j0 j1 => by
    unfold shF su_ flf cpf; rw [if_neg (by omega), if_neg (by omega), if_pos (by omega), show sR r + j + 7 = sR r + (j + 7) by omega]
  refine ⟨TYA_r hA ht ⟨hr.1, by omega⟩ (fun j hj => by rw [e239]; exact o1 j hj) (fun q q0 q1 q2 => ?_) (fun j j0 j1 => ?_), ?_⟩
  · have q2 : q < shQ N r 239 (sR r + 0) := q2
    rw [Int.add_zero, e239, o2] at q2
    show SGV _ (shQ N r 239 (sR r + (1 + 7 * q))) (fun v => shQ N r 239 (sR r + (5 + 7 * q + v)))
    rw [e239, o3 _ (by omega) (by omega), show 1 + 7 * q + 7 = 1 + 7 * (q + 1) by omega]
    refine SGV_c (g (q + 1) (by omega) (by omega) (show q + 1 < N 239 (sR r + 0) by rw [Int.add_zero]; omega)) ht (fun v v0 v1 => ?_)
    rw [o3 _ (by omega) (by omega), show 5 + 7 * q + v + 7 = 5 + 7 * (q + 1) + v by omega]
  · rw [e239]; unfold shF su_ flf cpf
    have z0 : R32 0 := by unfold R32; omega
    have z1 : R32 (N 239 (sR r) - 1) := by unfold R32; omega
    repeat' split
    all_goals first | assumption | exact hA.2.2 _
  · refine SGV_c (g 0 (by decide) (by decide) (show 0 < N 239 (sR r + 0) by rw [Int.add_zero]; omega)) ht (fun v v0 v1 => ?_)
    have three : v = 0 ∨ v = 1 ∨ v = 2 := by omega
    unfold shQ
    rw [wr_ne (by decide)]
    rcases three with e | e | e
    · rw [e, upo (by decide), upo (by decide), up_at]; rfl
    · rw [e, upo (by decide), up_at]; rfl
    · rw [e, up_at]; rfl
theorem TYA_l [Inhabited fz_] (h : RU z M N) (hA : TYA N) (hr : 0 ≤ r ∧ r < N 6 18) (h1 : 0 < M 21 r) : TYA (lQ N r) := TYA_a (RU_sh h hr h1) (TYA_sh h hA hr h1).1 (TYA_sh h hA hr h1).2 (hA.2.2 _)
theorem TYA_239 [Inhabited fz_] (hA : TYA N) (hk : 0 ≤ k ∧ k < 12) (i v : Int) (hi : (2 ≤ i ∧ i < 6) ∨ (22 ≤ i ∧ i < 25)) (h0 : k < N 239 0) (hv : R32 v) : TYA (up_ N 239 (sB k + i) v) := by
  have ht : TYT N (up_ N 239 (sB k + i) v) := ⟨fun r hr => up_ne (fun e => by rw [e] at hr; revert hr; decide), by rw [up_ne (by decide)], by rw [up_ne (by decide)]⟩
  refine TYA_k hA ht hk (fun j hj => upo (by omega)) (TIN_q (hA.1 k hk.1 hk.2 h0) ht (upo (by omega)) (fun i i0 i1 => upo (by omega)) (fun q q0 q1 q2 => ?_)) (fun j _ _ => by rw [ua_, if_pos rfl]; split; exact hv; exact hA.2.2 j)
  have q2 : q < up_ N 239 (sB k + i) v 239 (sB k + 25) := q2
  rw [upo (by omega)] at q2
  rw [upo (by omega)]
  exact SGV_c ((hA.1 k hk.1 hk.2 h0).2 q q0 q1 q2) ht (fun v v0 v1 => upo (by omega))
theorem TYA_g0 [Inhabited fz_] (hA : TYA N) : TYA (g0Q N) := TYA_c hA ⟨fun r hr => by unfold g0Q; rw [up_ne (fun e => by rw [e] at hr; revert hr; decide), up_ne (fun e => by rw [e] at hr; revert hr; decide), up_ne (fun e => by rw [e] at hr; revert hr; decide)], by unfold g0Q; rw [up_ne (by decide), up_ne (by decide), up_ne (by decide)]; exact ⟨rfl, rfl⟩⟩ (by unfold g0Q; rw [up_ne (by decide), up_ne (by decide), up_ne (by decide)])
theorem TYA_rg [Inhabited fz_] (h : RU z M N) (hA : TYA N) (hk : 0 ≤ k ∧ k < M 0 7) (ht : 0 ≤ t ∧ t < 3) : TYA (rgQ N k t) := by
  have n12 := h.1.1
  have j := (h.1.2.2.1 k hk.1 hk.2).2.2.2.2.1
  have s : SGV (g0Q (evQ (up_ N 239 (sB k + 22 + t) (-1)) 8 (N 239 (sB k)) (100 + t) (N 239 (sB k)))) (100 + t) (g0Q (evQ (up_ N 239 (sB k + 22 + t) (-1)) 8 (N 239 (sB k)) (100 + t) (N 239 (sB k))) 242) := ⟨by omega, fun e => by omega, fun v v0 v1 => by
    have three : v = 0 ∨ v = 1 ∨ v = 2 := by omega
    unfold g0Q
    rcases three with e | e | e <;> rw [e] <;> first | rw [up_at] | rw [upo (by decide), up_at] | rw [upo (by decide), upo (by decide), up_at]
    all_goals exact ⟨by decide, by decide⟩⟩
  have a : TYA (g0Q (evQ (up_ N 239 (sB k + 22 + t) (-1)) 8 (N 239 (sB k)) (100 + t) (N 239 (sB k)))) := TYA_g0 (TYA_ev (by rw [Int.add_assoc]; exact TYA_239 hA (by omega) (22 + t) (-1) (by omega) (by omega) ⟨by decide, by decide⟩))
  have e : ∀ i, i ≠ sB k + 22 + t → g0Q (evQ (up_ N 239 (sB k + 22 + t) (-1)) 8 (N 239 (sB k)) (100 + t) (N 239 (sB k))) 239 i = N 239 i := fun i hi => by
    unfold g0Q; rw [up_ne (by decide), up_ne (by decide), up_ne (by decide), EvQ_ev.1 239 (by decide) (by decide), upo hi]
  have hB : sB k = 2 + 56 * k := rfl
  unfold rgQ cmQ_
  split
  · exact TYA_lo a
  · rename_i c
    rw [e _ (by omega)] at c
    exact TYA_q a (by omega) (by rw [e _ (by omega)]; omega) (by rw [e _ (by omega)]; omega) s (hA.2.2 _)
theorem TYA_stp [Inhabited fz_] (h : RU z M N) (hA : TYA N) (hk : 0 ≤ k ∧ k < M 0 7) : TYA (stopQ N k) := by
  have n12 := h.1.1
  have hB : ∀ k, sB k = 2 + 56 * k := fun _ => rfl
  have hR : ∀ k, sR k = 674 + 43 * k := fun _ => rfl
  have hBk := hB k
  have ht := TYT_Q (QRF_stp (N := N) (k := k))
  have l := (ls_f (k := k) (p := N 239 (sB k)) (N 239 (sB k + 25)).toNat 0 N (evQ N 6 (N 239 (sB k)) (-1) 0)).2
  have l239 : lsQ k (N 239 (sB k)) (N 239 (sB k + 25)).toNat 0 (evQ N 6 (N 239 (sB k)) (-1) 0) 239 = N 239 := (l.1 239 (by decide) (by decide)).trans (EvQ_ev.1 239 (by decide) (by decide))
  have f : stopQ N k 239 = su_ (flf (cpf (N 239) (sB k) (sB (N 239 0 - 1)) 56) (sB (N 239 0 - 1)) (sB (N 239 0)) 0) 0 (N 239 0 - 1) := by
    unfold stopQ stpQ; rw [wr_same, l239]
  have hL := hB (N 239 0)
  have hL1 := hB (N 239 0 - 1)
  have f0 : stopQ N k 239 0 = N 239 0 - 1 := by rw [f]; unfold su_; rw [if_pos rfl]
  refine ⟨fun i i0 i1 i2 => ?_, fun r r0 r1 r2 => ?_, fun j => ?_⟩
  case refine_3 =>
    rw [f]; unfold su_ flf cpf
    have z0 : R32 0 := by unfold R32; omega
    have z1 : R32 (N 239 0 - 1) := by unfold R32; omega
    repeat' split
    all_goals first | assumption | exact hA.2.2 _
  · rw [f0] at i2
    have := hB i
    have h1 := hB (i + 1)
    by_cases c : i < k
    · refine TIN_c (hA.1 i i0 i1 (by omega)) ht (fun j j0 j1 => ?_)
      show stopQ N k 239 (sB i + j) = N 239 (sB i + j)
      rw [f]; unfold su_ flf cpf; rw [if_neg (by omega), if_neg (by omega), if_neg (by omega)]
    · refine TIN_c (hA.1 (i + 1) (by omega) (by omega) (by omega)) ht (fun j j0 j1 => ?_)
      show stopQ N k 239 (sB i + j) = N 239 (sB (i + 1) + j)
      rw [f]; unfold su_ flf cpf; rw [if_neg (by omega), if_neg (by omega), if_pos (by omega), show sB i + j + 56 = sB (i + 1) + j by omega]
  · have := hR r
    rw [ht.2.1] at r2
    refine TRO_c (hA.2.1 r r0 r1 r2) ht (fun j j0 j1 => ?_)
    show stopQ N k 239 (sR r + j) = N 239 (sR r + j)
    rw [f]; unfold su_ flf cpf; rw [if_neg (by omega), if_neg (by omega), if_neg (by omega)]
theorem TYA_mk [Inhabited fz_] (h : RU z M N) (hA : TYA N) (hn : M 0 7 < 12) (hT : 0 ≤ T ∧ T < 100) (h8 : M 0 8 < 2000000000) (hp : R32 p) : TYA (mkQ N T p) := by
  have n12 := h.1.1
  have hB : ∀ k, sB k = 2 + 56 * k := fun _ => rfl
  have hR : ∀ k, sR k = 674 + 43 * k := fun _ => rfl
  have hL := hB (N 239 0)
  have q0 : QRF N (mkQ0 N T p) := by
    have b : QRF N (mkB N T p) := by unfold mkB; exact QRF_tr (QRF_tr (QRF_wr (by decide) (by decide)) (QRF_up (by decide) (fun e => absurd e (by decide)))) (QRF_up (by decide) (fun e => absurd e (by decide)))
    unfold mkQ0; split
    · exact QRF_tr b (QRF_up (by decide) (fun _ => by decide))
    · exact b
  have ht := TYT_Q q0
  have f : mkQ0 N T p 239 = su_ (su_ (mkF (N 239) (sB (N 239 0)) T p) 0 (N 239 0 + 1)) 1 (N 239 1 + 1) := by
    have b : mkB N T p 239 = su_ (su_ (mkF (N 239) (sB (N 239 0)) T p) 0 (N 239 0 + 1)) 1 (N 239 1 + 1) := by
      unfold mkB
      funext i
      rw [ua_, if_pos rfl]
      unfold su_
      split
      · rfl
      · rw [ua_, if_pos rfl]; split
        · rfl
        · rw [wr_same]
    unfold mkQ0; split
    · rw [up_ne (by decide)]; exact b
    · exact b
  have fo : ∀ j, 2 ≤ j → j < sB (N 239 0) ∨ sB (N 239 0) + 56 ≤ j → mkQ0 N T p 239 j = N 239 j := fun j j2 hj => by
    rw [f]; unfold mkF su_ flf; rw [if_neg (by omega), if_neg (by omega), if_neg (by omega)]; dsimp only; rw [if_neg (by omega), if_neg (by omega), if_neg (by omega), if_neg (by omega), if_neg (by omega)]
  have fz : ∀ j, 6 ≤ j → j < 56 → ¬ (22 ≤ j ∧ j < 25) → mkQ0 N T p 239 (sB (N 239 0) + j) = 0 := fun j j0 j1 j2 => by
    rw [f]; unfold mkF su_ flf; rw [if_neg (by omega), if_neg (by omega), if_neg (by omega)]; dsimp only; rw [if_neg (by omega), if_neg (by omega), if_neg (by omega), if_neg (by omega), if_pos (by omega)]
  have f0 : mkQ0 N T p 239 0 = N 239 0 + 1 := by rw [f]; unfold su_; rw [if_neg (by decide), if_pos rfl]
  unfold mkQ
  have n8 := h.1.2.1
  refine TYA_ev ⟨fun i i0 i1 i2 => ?_, fun r r0 r1 r2 => ?_, fun j => ?_⟩
  case refine_3 =>
    have z0 : R32 0 := by unfold R32; omega
    have z1 : R32 (-1) := by unfold R32; omega
    have z2 : R32 (N 239 0 + 1) := by unfold R32; omega
    have z3 : R32 (N 239 1 + 1) := by unfold R32; omega
    have z4 : R32 (N 239 1) := hA.2.2 1
    have z5 : R32 T := by unfold R32; omega
    rw [f]; unfold mkF su_ flf
    split
    · exact z3
    · split
      · exact z2
      · split
        · exact z1
        · dsimp only
          repeat' split
          all_goals first | assumption | exact hA.2.2 _
  · have := hB i
    rw [f0] at i2
    by_cases c : i < N 239 0
    · exact TIN_c (hA.1 i i0 i1 c) ht (fun j j0 j1 => fo _ (by omega) (by omega))
    · rw [show i = N 239 0 by omega]
      refine ⟨fun u u0 u1 u2 i i0 i1 i2 i3 => .inl (fz _ (by omega) (by omega) (by omega)), fun q q0 q1 q2 => ?_⟩
      have q2 : q < mkQ0 N T p 239 (sB (N 239 0) + 25) := q2
      rw [fz 25 (by decide) (by decide) (by decide)] at q2
      omega
  · have := hR r
    rw [ht.2.1] at r2
    exact TRO_c (hA.2.1 r r0 r1 r2) ht (fun j j0 j1 => fo _ (by omega) (by omega))
end TYa
end T348_ty
