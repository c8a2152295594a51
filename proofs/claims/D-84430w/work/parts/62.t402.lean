section T402_li
/-! the search: is a state known? (X 46 | Q 388, 387, 383, 382) -/
/-- the last place below n where g is b -/
def lsi (g : Int → Int) (b : Int) : Nat → Int
  | 0 => -1
  | n + 1 => if g n = b then n else lsi g b n
def sumR (f : Int → Int) : Nat → Int → Int → Int
  | 0, _, v => v
  | n + 1, i, v => sumR f n (i + 1) (w32 (w32 (31 * v) + f i))
def smF (f : Int → Int) : Int := sumR f 1104 0 0
/-- row k of Q's states -/
def rwk (N : mm_) (k : Int) : Int → Int := fun i => if 0 ≤ i ∧ i < 1104 then N 245 (1104 * k + i) else 0
theorem rwk_i [Inhabited fz_] {N : mm_} {k i : Int} (h0 : 0 ≤ i) (h1 : i < 1104) : rwk N k i = N 245 (1104 * k + i) := by unfold rwk; rw [if_pos ⟨h0, h1⟩]
section LIa
variable {M N B : mm_} {f g : Int → Int} {a k x v b n : Int} {L K : List Int}
theorem lsi_lt [Inhabited fz_] : ∀ (n : Nat), lsi g b n = -1 ∨ (0 ≤ lsi g b n ∧ lsi g b n < n ∧ g (lsi g b n) = b)
  | 0 => .inl rfl
  | n + 1 => by
    unfold lsi
    by_cases c : g n = b
    · rw [if_pos c]; exact .inr ⟨by (clear c; lia), by omega, c⟩
    · rw [if_neg c]
      rcases lsi_lt n with e | ⟨e1, e2, e3⟩
      · exact .inl e
      · exact .inr ⟨e1, by omega, e3⟩
theorem lsi_no [Inhabited fz_] : ∀ (n : Nat) (i : Int), lsi g b n < i → i < n → g i ≠ b
  | 0, i, h, h1 => by unfold lsi at h; omega
  | n + 1, i, h, h1 => by
    unfold lsi at h
    by_cases c : g n = b
    · rw [if_pos c] at h; omega
    · rw [if_neg c] at h
      by_cases e : i = n
      · rw [e]; exact c
      · exact lsi_no n i h (by omega)
theorem lsi_cg [Inhabited fz_] {g' : Int → Int} : ∀ (n : Nat), (∀ i, 0 ≤ i → i < (n : Int) → g' i = g i) → lsi g' b n = lsi g b n
  | 0, _ => rfl
  | n + 1, h => by unfold lsi; rw [h n (by omega) (by omega), lsi_cg n (fun i i0 i1 => h i i0 (by omega))]
theorem an1023 [Inhabited fz_] (x : Int) : 0 ≤ an_ x 1023 ∧ an_ x 1023 < 1024 := by
  unfold an_
  have h : (Int32.ofInt x &&& Int32.ofInt 1023).toInt = ((Int32.ofInt x).toBitVec &&& 1023#32).toInt := by rfl
  rw [h]
  have h2 : ((Int32.ofInt x).toBitVec &&& 1023#32).toNat < 1024 := by
    rw [BitVec.toNat_and]
    exact Nat.lt_of_le_of_lt Nat.and_le_right (by decide)
  rw [BitVec.toInt_eq_toNat_of_lt (by omega)]
  omega
theorem sumR_cg [Inhabited fz_] : ∀ (n : Nat) (i v : Int), (∀ j, i ≤ j → j < i + n → f j = g j) → sumR f n i v = sumR g n i v
  | 0, _, _, _ => rfl
  | n + 1, i, v, h => by unfold sumR; rw [h i (Int.le_refl _) (by omega), sumR_cg n (i + 1) _ (fun j j0 j1 => h j (by omega) (by omega))]
theorem q_382 [Inhabited fz_] : Ex_ 1 382 [.inr (.inr 6)] N [.inl (smF (N 239))] N := fun Qr Qt g => t_382 fun V hV hW => b_382_0 (Tr_mono _) hV hW _ (by
  have l : ∀ (n : Nat) (i v : Int), i + n = 1104 → 0 ≤ i → Qr [.inl (sumR (N 239) n i v)] N → V 4 [rr 6, ii v, ii i] [] N := fun n => by
    induction n with
    | zero =>
      intro i v hi i0 g
      refine b_382_4 (Tr_mono _) hV hW _ _ _ ?_
      rw [if_neg (by omega)]; exact g
    | succ n ih =>
      intro i v hi i0 g
      refine b_382_4 (Tr_mono _) hV hW _ _ _ ?_
      rw [if_pos (by omega), w32_id (x := i + 1) (by omega) (by omega)]
      exact ⟨by (clear hV hW ih g; omega), ih (i + 1) _ (by omega) (by omega) g⟩
  exact l 1104 0 0 (by decide) (by decide) g)
/-- whether row k is the state at hand -/
theorem q_388 [Inhabited fz_] (hk : 0 ≤ k ∧ k < 200) : ∃ u, BV u ∧ (u = 1 ↔ (N 253 k = v ∧ ∀ i, 0 ≤ i → i < 1104 → rwk N k i = N 239 i)) ∧ Ex_ 1 388 [.inr (.inr 6), .inl k, .inl v] N [.inl u] N := by
  have l : ∀ (n : Nat) (i : Int), i + n = 1104 → 0 ≤ i → ∃ u, BV u ∧ (u = 1 ↔ ∀ j, i ≤ j → j < 1104 → rwk N k j = N 239 j) ∧ ∀ (V : vv_) (Qr : qr_) (Qt : qt_), Cl_ wd0 (Tr_ wd0 pg0 0) V Qr Qt m_388 → Wk_ V → Qr [.inl u] N → V 19 [rr 6, ii k, ii v, ii 1, ii i] [] N := fun n => by
    induction n with
    | zero =>
      intro i hi i0
      refine ⟨1, .inr rfl, ⟨fun _ j j0 j1 => by omega, fun _ => rfl⟩, fun V Qr Qt hV hW g => b_388_19 (Tr_mono _) hV hW _ _ _ _ _ ?_⟩
      rw [if_neg (by (clear hk i0 hV hW g; lia))]; exact ⟨.inr rfl, g⟩
    | succ n ih =>
      intro i hi i0
      have w : w32 (w32 (1104 * k) + i) = 1104 * k + i := by rw [w32_id (x := 1104 * k) (by omega) (by omega), w32_id (by omega) (by omega)]
      have wi : w32 (i + 1) = i + 1 := w32_id (by (clear hk ih; lia)) (by (clear hk ih; omega))
      by_cases c : N 245 (1104 * k + i) = N 239 i
      · obtain ⟨u, u1, u2, u3⟩ := ih (i + 1) (by (clear hk ih i0 w wi c; omega)) (by (clear hk ih c; lia))
        refine ⟨u, u1, ?_, fun V Qr Qt hV hW g => b_388_19 (Tr_mono _) hV hW _ _ _ _ _ ?_⟩
        · rw [u2]
          exact ⟨fun h j j0 j1 => by by_cases e : j = i; rw [e, rwk_i i0 (by (clear hk ih c u1 u2 u3 h j0 j1; lia))]; exact c; exact h j (by (clear hk ih i0 c u1 u2 u3 h j1; lia)) j1, fun h j j0 j1 => h j (by (clear hk ih i0 c u1 u2 u3 h j1; lia)) j1⟩
        · rw [if_pos (by (clear hk ih c u1 u2 u3 hV hW g; lia)), if_neg (by decide), w, if_pos c, wi]
          exact ⟨by omega, by (clear hk ih c u1 u2 u3 hV hW g; lia), u3 V Qr Qt hV hW g⟩
      · refine ⟨0, .inl rfl, ⟨fun h => absurd h (by decide), fun h => absurd (by have := h i (Int.le_refl _) (by (clear hk ih c h; lia)); rw [rwk_i i0 (by omega)] at this; exact this) c⟩, fun V Qr Qt hV hW g => b_388_19 (Tr_mono _) hV hW _ _ _ _ _ ?_⟩
        rw [if_pos (by omega), if_neg (by decide), w, if_neg c, wi]
        refine ⟨by (clear ih c hV hW g; lia), by (clear hk ih c hV hW g; lia), b_388_19 (Tr_mono _) hV hW _ _ _ _ _ ?_⟩
        by_cases c2 : i + 1 < 1104
        · rw [if_pos c2, if_pos rfl]; exact ⟨.inl rfl, g⟩
        · rw [if_neg c2]; exact ⟨.inl rfl, g⟩
  by_cases c : N 253 k = v
  · obtain ⟨u, u1, u2, u3⟩ := l 1104 0 (by decide) (by decide)
    refine ⟨u, u1, ?_, fun Qr Qt g => t_388 fun V hV hW => b_388_0 (Tr_mono _) hV hW _ _ _ ⟨hk, ?_⟩⟩
    · rw [u2]; exact ⟨fun h => ⟨c, h⟩, fun h => h.2⟩
    · rw [if_pos c]; exact u3 V Qr Qt hV hW g
  · refine ⟨0, .inl rfl, ⟨fun h => absurd h (by decide), fun h => absurd h.1 c⟩, fun Qr Qt g => t_388 fun V hV hW => b_388_0 (Tr_mono _) hV hW _ _ _ ⟨hk, ?_⟩⟩
    rw [if_neg c]
    refine b_388_19 (Tr_mono _) hV hW _ _ _ _ _ ?_
    rw [if_pos (by decide), if_pos rfl]; exact ⟨.inl rfl, g⟩
/-- Q looks for the state at hand among those found -/
theorem q_43 [Inhabited fz_] {x1 : Int} (hn : N 6 163 = n) (hn2 : 0 ≤ n ∧ n ≤ 200) : ∃ w, (0 ≤ w ∧ w ≤ n) ∧ (w = n ↔ ∀ k, 0 ≤ k → k < n → ¬ (N 253 k = v ∧ ∀ i, 0 ≤ i → i < 1104 → rwk N k i = N 239 i)) ∧ RC 2 m_387 43 [rr 6, ii x1, ii v, ii 0] N 66 [rr 6, ii x1, ii v, ii w] N := by
  have l : ∀ (j : Nat) (x : Int), x + j = n → 0 ≤ x → (∀ k, 0 ≤ k → k < x → ¬ (N 253 k = v ∧ ∀ i, 0 ≤ i → i < 1104 → rwk N k i = N 239 i)) → ∃ w, (0 ≤ w ∧ w ≤ n) ∧ (w = n ↔ ∀ k, 0 ≤ k → k < n → ¬ (N 253 k = v ∧ ∀ i, 0 ≤ i → i < 1104 → rwk N k i = N 239 i)) ∧ RC 2 m_387 43 [rr 6, ii x1, ii v, ii x] N 66 [rr 6, ii x1, ii v, ii w] N := fun j => by
    induction j with
    | zero =>
      intro x hx x0 hno
      refine ⟨x, by (clear hn x0 hno; omega), ⟨fun _ k k0 k1 => hno k k0 (by omega), fun _ => by (clear hn hn2 x0 hno; omega)⟩, fun V Qr Qt hV hW g => b_387_43 (Tr_mono _) hV hW _ _ _ _ ?_⟩
      rw [hn, if_neg (by omega)]; exact g
    | succ j ih =>
      intro x hx x0 hno
      obtain ⟨u, u1, u2, u3⟩ := q_388 (N := N) (k := x) (v := v) (by omega)
      by_cases c : u = 1
      · refine ⟨x, by omega, ⟨fun e => by omega, fun h => absurd (u2.1 c) (h x x0 (by omega))⟩, fun V Qr Qt hV hW g => b_387_43 (Tr_mono _) hV hW _ _ _ _ ?_⟩
        rw [hn, if_pos (by omega)]
        refine Ex_le (d := 1) (by decide) u3 _ _ (ri_i ?_)
        rw [if_neg (by (clear hn hn2 ih hx x0 hno u1 u2 u3 hV hW g; lia))]; exact g
      · obtain ⟨w, w1, w2, w3⟩ := ih (x + 1) (by omega) (by omega) (fun k k0 k1 => by
          by_cases e : k = x
          · rw [e]; exact fun h => c (u2.2 h)
          · exact hno k k0 (by (clear hn hn2 ih hx x0 hno u1 u2 u3 c k0; lia)))
        refine ⟨w, w1, w2, RC_tr (fun V Qr Qt hV hW g => b_387_43 (Tr_mono _) hV hW _ _ _ _ ?_) w3⟩
        rw [hn, if_pos (by omega)]
        refine Ex_le (d := 1) (by decide) u3 _ _ (ri_i ?_)
        rw [if_pos (by rcases u1 with e | e; exact e; exact absurd e c), w32_id (x := x + 1) (by omega) (by omega)]; exact g
  exact l n.toNat 0 (by omega) (by decide) (fun k k0 k1 => by omega)
/-- chains of X's states -/
def BKT (M : mm_) (n : Int) : Prop := (∀ k, 0 ≤ k → k < n → M 30 k = lsi (fun i => an_ (M 29 i) 1023) (an_ (M 29 k) 1023) k.toNat) ∧ ∀ b, 0 ≤ b → b < 1024 → M 31 b = lsi (fun i => an_ (M 29 i) 1023) b n.toNat
/-- X's packed states -/
def PKS (M : mm_) (Ls : Int → List Int) (n : Int) : Prop := ∀ k, 0 ≤ k → k < n → RDL (M 27) (1100 * k) (Ls k) ∧ M 28 k = (Ls k).length ∧ M 29 k = hshL (Ls k) ∧ (Ls k).length ≤ 1020
/-- X: whether two states are alike -/
theorem x_60l [Inhabited fz_] {Lk Lx : List Int} (hk : 0 ≤ k ∧ k < 201) (hx : 0 ≤ x ∧ x < 201) (rk : RDL (M 27) (1100 * k) Lk) (rx : RDL (M 27) (1100 * x) Lx) (h28 : M 28 k = Lk.length) (hl : Lk.length ≤ 1020) (he : Lk.length = Lx.length) :
    ∃ y : Bool, (y = true ↔ Lk = Lx) ∧ ∀ (V : vv_) (Qr : qr_) (Qt : qt_), Cl_ wd0 (Tr_ wd0 pg0 0) V Qr Qt m_46 → Wk_ V → (y = true → Qr [.inl x] M) → (y = false → V 16 [rr 0, ii k, ii (M 30 x), none, none] [] M) → V 60 [rr 0, ii k, ii x, ii 1, ii 0] [] M := by
  have l : ∀ (n : Nat) (i : Int), i + n = Lk.length → 0 ≤ i → ∃ y : Bool, (y = true ↔ ∀ j, i ≤ j → j < Lk.length → M 27 (1100 * x + j) = M 27 (1100 * k + j)) ∧ ∀ (V : vv_) (Qr : qr_) (Qt : qt_), Cl_ wd0 (Tr_ wd0 pg0 0) V Qr Qt m_46 → Wk_ V → (y = true → Qr [.inl x] M) → (y = false → V 16 [rr 0, ii k, ii (M 30 x), none, none] [] M) → V 60 [rr 0, ii k, ii x, ii 1, ii i] [] M := fun n => by
    induction n with
    | zero =>
      intro i hi i0
      refine ⟨true, ⟨fun _ j j0 j1 => by omega, fun _ => rfl⟩, fun V Qr Qt hV hW g _ => b_46_60 (Tr_mono _) hV hW _ _ _ _ _ ⟨hk, ?_⟩⟩
      rw [h28, if_neg (by omega), if_neg (by decide)]; exact g rfl
    | succ n ih =>
      intro i hi i0
      have wk : w32 (w32 (1100 * k) + i) = 1100 * k + i := by rw [w32_id (x := 1100 * k) (by omega) (by omega), w32_id (by omega) (by omega)]
      have wx : w32 (w32 (1100 * x) + i) = 1100 * x + i := by rw [w32_id (x := 1100 * x) (by omega) (by omega), w32_id (by omega) (by omega)]
      have wi : w32 (i + 1) = i + 1 := w32_id (by (clear hk hx rk rx h28 hl he ih hi; lia)) (by (clear hk hx rk rx h28 ih i0; lia))
      by_cases c : M 27 (1100 * x + i) = M 27 (1100 * k + i)
      · obtain ⟨y, y1, y2⟩ := ih (i + 1) (by (clear hk hx rk rx h28 hl ih i0 wk wx wi c; lia)) (by (clear hk hx rk rx h28 hl he ih hi c; lia))
        refine ⟨y, ?_, fun V Qr Qt hV hW g g' => b_46_60 (Tr_mono _) hV hW _ _ _ _ _ ⟨hk, ?_⟩⟩
        · rw [y1]
          exact ⟨fun h j j0 j1 => by by_cases e : j = i; rw [e]; exact c; exact h j (by (clear hk hx rk rx h28 hl he ih hi i0 c y1 y2 h j1; lia)) j1, fun h j j0 j1 => h j (by (clear hk hx rk rx h28 hl he ih hi i0 c y1 y2 h j1; lia)) j1⟩
        · rw [h28, if_pos (by omega), if_neg (by decide), wk, wx, if_pos c, wi]
          exact ⟨by (clear hk rk rx h28 ih c y1 y2 hV hW g g'; lia), by (clear hx rk rx h28 ih c y1 y2 hV hW g g'; lia), y2 V Qr Qt hV hW g g'⟩
      · refine ⟨false, ⟨fun h => by simp at h, fun h => absurd (h i (Int.le_refl _) (by omega)) c⟩, fun V Qr Qt hV hW _ g' => b_46_60 (Tr_mono _) hV hW _ _ _ _ _ ⟨hk, ?_⟩⟩
        rw [h28, if_pos (by omega), if_neg (by decide), wk, wx, if_neg c, wi]
        refine ⟨by omega, by omega, b_46_60 (Tr_mono _) hV hW _ _ _ _ _ ⟨hk, ?_⟩⟩
        rw [h28]
        by_cases c2 : i + 1 < (Lk.length : Int)
        · rw [if_pos c2, if_pos rfl, if_pos rfl]; exact ⟨hx, g' rfl⟩
        · rw [if_neg c2, if_pos rfl]; exact ⟨hx, g' rfl⟩
  obtain ⟨y, y1, y2⟩ := l Lk.length 0 (by (clear hk hx rk rx h28 hl he l; lia)) (by decide)
  refine ⟨y, ?_, y2⟩
  rw [y1]
  refine ⟨fun h => (RDL_eq Lx Lk (1100 * x) (1100 * k) rx rk he.symm (fun i i0 i1 => h i i0 (by (clear hk hx rk rx h28 hl l y1 y2 h i0; omega)))).symm, fun h j j0 j1 => ?_⟩
  subst h
  exact RDL_ev _ _ _ rx rk j j0 j1
theorem x_46 [Inhabited fz_] {Ls : Int → List Int} {Lk : List Int} (hn : 0 ≤ n ∧ n ≤ 200) (hb : BKT M n) (hp : PKS M Ls n) (rk : RDL (M 27) (1100 * n) Lk) (h28 : M 28 n = Lk.length) (h29 : M 29 n = hshL Lk) (hl : Lk.length ≤ 1020) :
    ∃ w, (w = -1 ↔ ∀ i, 0 ≤ i → i < n → Ls i ≠ Lk) ∧ Ex_ 1 46 [.inr (.inr 0), .inl n] M [.inl w] M := by
  have bh := an1023 (M 29 n)
  have l : ∀ (m : Nat), (m : Int) ≤ n → (∀ i, (m : Int) ≤ i → i < n → Ls i ≠ Lk) → ∃ w, (w = -1 ↔ ∀ i, 0 ≤ i → i < n → Ls i ≠ Lk) ∧ ∀ (V : vv_) (Qr : qr_) (Qt : qt_), Cl_ wd0 (Tr_ wd0 pg0 0) V Qr Qt m_46 → Wk_ V → Qr [.inl w] M → V 16 [rr 0, ii n, ii (lsi (fun i => an_ (M 29 i) 1023) (an_ (M 29 n) 1023) m), none, none] [] M := fun m => by
    induction m using Nat.strongRecOn with
    | _ m ih =>
    intro hm hno
    rcases lsi_lt (g := fun i => an_ (M 29 i) 1023) (b := an_ (M 29 n) 1023) m with e | ⟨e0, e1, e2⟩
    · refine ⟨-1, ⟨fun _ i i0 i1 hi => ?_, fun _ => rfl⟩, fun V Qr Qt hV hW g => b_46_16 (Tr_mono _) hV hW _ _ _ ?_⟩
      · by_cases c : (m : Int) ≤ i
        · exact hno i c i1 hi
        · refine lsi_no (g := fun i => an_ (M 29 i) 1023) (b := an_ (M 29 n) 1023) m i (by omega) (by omega) ?_
          show an_ (M 29 i) 1023 = an_ (M 29 n) 1023
          rw [(hp i i0 i1).2.2.1, h29, hi]
      · rw [e, if_pos rfl]; exact g
    · generalize hx : lsi (fun i => an_ (M 29 i) 1023) (an_ (M 29 n) 1023) m = x at e0 e1 e2
      obtain ⟨rx, x28, x29, xl⟩ := hp x e0 (by omega)
      have stp : Ls x ≠ Lk → ∃ w, (w = -1 ↔ ∀ i, 0 ≤ i → i < n → Ls i ≠ Lk) ∧ ∀ (V : vv_) (Qr : qr_) (Qt : qt_), Cl_ wd0 (Tr_ wd0 pg0 0) V Qr Qt m_46 → Wk_ V → Qr [.inl w] M → V 16 [rr 0, ii n, ii (M 30 x), none, none] [] M := fun hne => by
        have c30 := hb.1 x e0 (by omega)
        have e2' : an_ (M 29 x) 1023 = an_ (M 29 n) 1023 := e2
        rw [e2'] at c30
        rw [c30]
        refine ih x.toNat (by (clear hn hb hp rk h28 h29 hl bh ih hm hno hx e2 rx x28 x29 xl hne c30 e2'; omega)) (by (clear hn hb hp rk h28 h29 hl bh ih hno hx e0 e2 rx x28 x29 xl hne c30 e2'; omega)) (fun i i0 i1 => ?_)
        by_cases c : (m : Int) ≤ i
        · exact hno i c i1
        · by_cases cx : i = x
          · rw [cx]; exact hne
          · intro hi
            refine lsi_no (g := fun i => an_ (M 29 i) 1023) (b := an_ (M 29 n) 1023) m i (by rw [hx]; (clear hn hb hp rk h28 h29 hl bh ih hm hno hx e1 e2 rx x28 x29 xl hne c30 e2' i1 c hi; omega)) (by omega) ?_
            show an_ (M 29 i) 1023 = an_ (M 29 n) 1023
            rw [(hp i (by (clear hn hb hp rk h28 h29 hl bh ih hm hno hx e1 e2 rx x28 x29 xl hne c30 e2' i1 c hi; lia)) i1).2.2.1, h29, hi]
      by_cases ch : M 29 x = M 29 n
      · by_cases cs : M 28 x = M 28 n
        · obtain ⟨y, y1, y2⟩ := x_60l (k := n) (x := x) (by omega) (by omega) rk rx h28 hl (by (clear hn hb hp rk h29 hl bh ih hm hno hx e0 e1 e2 rx x29 xl stp ch; lia))
          by_cases cy : y = true
          · refine ⟨x, ⟨fun e => by omega, fun h => absurd (y1.1 cy).symm (h x e0 (by omega))⟩, fun V Qr Qt hV hW g => b_46_16 (Tr_mono _) hV hW _ _ _ ?_⟩
            rw [if_neg (by omega), if_pos ch, if_pos cs]
            exact ⟨by omega, by omega, by omega, by omega, y2 V Qr Qt hV hW (fun _ => g) (fun e => by rw [cy] at e; exact absurd e (by decide))⟩
          · obtain ⟨w, w1, w2⟩ := stp (fun h => cy (y1.2 h.symm))
            refine ⟨w, w1, fun V Qr Qt hV hW g => b_46_16 (Tr_mono _) hV hW _ _ _ ?_⟩
            rw [if_neg (by omega), if_pos ch, if_pos cs]
            exact ⟨by omega, by omega, by omega, by omega, y2 V Qr Qt hV hW (fun e => absurd e cy) (fun _ => w2 V Qr Qt hV hW g)⟩
        · obtain ⟨w, w1, w2⟩ := stp (fun h => cs (by rw [x28, h28, h]))
          refine ⟨w, w1, fun V Qr Qt hV hW g => b_46_16 (Tr_mono _) hV hW _ _ _ ?_⟩
          rw [if_neg (by omega), if_pos ch, if_neg cs]
          refine ⟨by omega, by omega, by omega, by omega, b_46_60 (Tr_mono _) hV hW _ _ _ _ _ ⟨by omega, ?_⟩⟩
          have := w2 V Qr Qt hV hW g
          by_cases c2 : 0 < M 28 n
          · rw [if_pos c2, if_pos rfl, if_pos rfl]; exact ⟨by omega, this⟩
          · rw [if_neg c2, if_pos rfl]; exact ⟨by omega, this⟩
      · obtain ⟨w, w1, w2⟩ := stp (fun h => ch (by rw [x29, h29, h]))
        refine ⟨w, w1, fun V Qr Qt hV hW g => b_46_16 (Tr_mono _) hV hW _ _ _ ?_⟩
        rw [if_neg (by omega), if_neg ch]
        refine ⟨by omega, by omega, b_46_60 (Tr_mono _) hV hW _ _ _ _ _ ⟨by omega, ?_⟩⟩
        have := w2 V Qr Qt hV hW g
        by_cases c2 : 0 < M 28 n
        · rw [if_pos c2, if_pos rfl, if_pos rfl]; exact ⟨by omega, this⟩
        · rw [if_neg c2, if_pos rfl]; exact ⟨by omega, this⟩
  obtain ⟨w, w1, w2⟩ := l n.toNat (by omega) (fun i i0 i1 => by omega)
  refine ⟨w, w1, fun Qr Qt g => t_46 fun V hV hW => b_46_0 (Tr_mono _) hV hW _ _ ⟨by omega, bh, ?_⟩⟩
  rw [hb.2 _ bh.1 bh.2]; exact w2 V Qr Qt hV hW g
end LIa
end T402_li
section T403_ss
/-! the search: the states found, X's and Q's -/
def TYR (N : mm_) (f : Int → Int) : Prop := (∀ k, 0 ≤ k → k < 12 → k < f 0 → TIN N (fun j => f (sB k + j))) ∧ (∀ r, 0 ≤ r → r < 10 → r < N 6 18 → TRO N (fun j => f (sR r + j))) ∧ ∀ j, 0 ≤ j → j < 1104 → R32 (f j)
def SFK (M N : mm_) (B k : Int) : Prop := VR N (rwk N k) ∧ TYR N (rwk N k) ∧ rwk N k 1 ≤ B + 200 * k ∧ (RDL (M 27) (1100 * k) (pkL N (rwk N k)) ∧ M 28 k = (pkL N (rwk N k)).length ∧ M 29 k = hshL (pkL N (rwk N k))) ∧ N 253 k = smF (rwk N k)
def SEQ (M N : mm_) (k : Int) : Prop := (M 32 k = N 247 k ∧ M 33 k = N 248 k ∧ M 34 k = N 249 k) ∧ M 35 k = N 250 k ∧ M 36 k = N 251 k ∧ M 37 k = N 252 k
/-- n states are found -/
def SST (M N : mm_) (n B : Int) : Prop := (M 0 62 = n ∧ N 6 163 = n) ∧ (1 ≤ n ∧ n ≤ 200) ∧ ∀ k, 0 ≤ k → k < n → SFK M N B k ∧ SEQ M N k
def sxA : List Nat := [27, 28, 29, 30, 31, 32, 33, 34, 35, 36, 37, 38, 39, 40, 41]
def sqA : List Nat := [245, 246, 247, 248, 249, 250, 251, 252, 253]
/-- what a search may change -/
def XSF (M M' : mm_) : Prop := (∀ r : Nat, r ∉ sxA → r ∉ xuL → M' r = M r) ∧ ∀ i : Int, i ∉ 62 :: 63 :: 64 :: 65 :: 69 :: xfL → M' 0 i = M 0 i
def QSF (N N' : mm_) : Prop := (∀ r : Nat, r ∉ sqA → r ∉ quL → N' r = N r) ∧ ∀ i : Int, i ∉ 163 :: 164 :: 165 :: 166 :: 167 :: 168 :: 169 :: qfL → N' 6 i = N 6 i
section SSa
variable {z : Int} {M N M' N' M1 N1 B' : mm_} {f g : Int → Int} {a k x v b n B r : Int} {L K : List Int}
theorem XSF_rf [Inhabited fz_] : XSF M M := ⟨fun _ _ _ => rfl, fun _ _ => rfl⟩
theorem QSF_rf [Inhabited fz_] : QSF N N := ⟨fun _ _ _ => rfl, fun _ _ => rfl⟩
theorem XSF_tr [Inhabited fz_] (h : XSF M M1) (g : XSF M1 M') : XSF M M' := ⟨fun r a b => (g.1 r a b).trans (h.1 r a b), fun i hi => (g.2 i hi).trans (h.2 i hi)⟩
theorem QSF_tr [Inhabited fz_] (h : QSF N N1) (g : QSF N1 N') : QSF N N' := ⟨fun r a b => (g.1 r a b).trans (h.1 r a b), fun i hi => (g.2 i hi).trans (h.2 i hi)⟩
theorem XSF_f [Inhabited fz_] (h : XRF M M') : XSF M M' := ⟨fun r _ b => h.1 r b, fun i hi => h.2 i (fun c => hi (by simp only [List.mem_cons]; exact .inr (.inr (.inr (.inr (.inr c))))))⟩
theorem QSF_f [Inhabited fz_] (h : QRF N N') : QSF N N' := ⟨fun r _ b => h.1 r b, fun i hi => h.2 i (fun c => hi (by simp only [List.mem_cons]; exact .inr (.inr (.inr (.inr (.inr (.inr (.inr c))))))))⟩
theorem XSF_u [Inhabited fz_] (h : UF M M') : XSF M M' := ⟨fun r a b => h.1 r (fun c => b (by revert c; simp only [xuL, List.mem_cons, List.not_mem_nil, or_false]; (clear h a b; lia))), fun i hi => h.2 i (fun c => hi (by revert c; simp only [xfL, List.mem_cons, List.not_mem_nil, or_false]; (clear h hi; lia)))⟩
theorem XSF_up [Inhabited fz_] {q : Nat} {i v : Int} (h : q ∈ sxA ∨ q ∈ xuL) (h0 : q = 0 → i ∈ 62 :: 63 :: 64 :: 65 :: 69 :: xfL) : XSF M (up_ M q i v) := ⟨fun r a b => up_ne (fun e => by rw [e] at a b; exact h.elim a b), fun j hj => by
  by_cases e : (0 : Nat) = q
  · subst e; exact upo (fun e2 => hj (by rw [e2]; exact h0 rfl))
  · rw [up_ne e]⟩
theorem QSF_up [Inhabited fz_] {q : Nat} {i v : Int} (h : q ∈ sqA ∨ q ∈ quL) (h0 : q = 6 → i ∈ 163 :: 164 :: 165 :: 166 :: 167 :: 168 :: 169 :: qfL) : QSF N (up_ N q i v) := ⟨fun r a b => up_ne (fun e => by rw [e] at a b; exact h.elim a b), fun j hj => by
  by_cases e : (6 : Nat) = q
  · subst e; exact upo (fun e2 => hj (by rw [e2]; exact h0 rfl))
  · rw [up_ne e]⟩
theorem XSF_wr [Inhabited fz_] {q : Nat} {f : Int → Int} (h : q ∈ sxA ∨ q ∈ xuL) (h0 : q ≠ 0) : XSF M (wr_ M q f) := ⟨fun r a b => wr_ne (fun e => by rw [e] at a b; exact h.elim a b), fun j _ => by rw [wr_ne (fun e => h0 e.symm)]⟩
theorem QSF_wr [Inhabited fz_] {q : Nat} {f : Int → Int} (h : q ∈ sqA ∨ q ∈ quL) (h0 : q ≠ 6) : QSF N (wr_ N q f) := ⟨fun r a b => wr_ne (fun e => by rw [e] at a b; exact h.elim a b), fun j _ => by rw [wr_ne (fun e => h0 e.symm)]⟩
theorem PLr_s [Inhabited fz_] (h : PLr M N) (hx : XSF M M') (hq : QSF N N') : PLr M' N' := by
  have e1 : swc M' = swc M := by
    funext r
    unfold swc
    split
    · rw [hx.1 4 (by decide) (by decide)]
    · split
      · rename_i c
        exact hx.1 _ (fun e => by simp only [sxA, List.mem_cons, List.not_mem_nil, or_false] at e; (clear h hx hq; omega)) (fun e => by simp only [xuL, List.mem_cons, List.not_mem_nil, or_false] at e; omega)
      · rfl
  have e2 : tbN N' = tbN N := by
    funext r
    unfold tbN
    split
    · funext i
      split
      · rename_i hi
        exact hq.2 i (fun e => by simp only [tfL, qfL, List.mem_cons, List.not_mem_nil, or_false] at hi e; omega)
      · rfl
    · split
      · exact hq.1 r (fun e => by simp only [sqA, List.mem_cons, List.not_mem_nil, or_false] at e; (clear h hx hq e1; lia)) (fun e => by simp only [quL, List.mem_cons, List.not_mem_nil, or_false] at e; omega)
      · rfl
  unfold PLr; rw [e1, e2]; exact h
theorem TYT_s [Inhabited fz_] (h : QSF N N') : TYT N N' := ⟨fun r hr => h.1 r (fun e => by revert hr e; simp only [sqA, List.mem_cons, List.not_mem_nil, or_false]; omega) (fun e => by revert hr e; simp only [quL, List.mem_cons, List.not_mem_nil, or_false]; omega), h.2 18 (by decide), h.2 17 (by decide)⟩
def rfX : List Int := [7, 8, 9, 10, 25, 26, 27, 28, 29, 30, 31, 32, 33, 34, 35, 36, 37, 38]
def rfQ : List Int := [18, 19, 127, 128, 129, 131, 132, 133, 134, 135, 136, 137, 138, 139, 142, 143, 144, 145]
theorem RU_cc [Inhabited fz_] (h : RU z M N) (hx : ∀ r : Nat, r ∈ [10, 11, 12, 13, 14, 15, 16, 17, 18, 19, 20, 21, 22, 23, 24] → M' r = M r) (h0 : ∀ i : Int, i ∈ rfX → M' 0 i = M 0 i) (hq : ∀ r : Nat, r ∈ [172, 173, 174, 239, 240, 241] → N' r = N r) (h6 : ∀ i : Int, i ∈ rfQ → N' 6 i = N 6 i) : RU z M' N' := by
  obtain ⟨h1, h2, h3, h4, h5⟩ := h
  exact ⟨RI_c h1 ⟨h0 7 (by decide), h0 8 (by decide)⟩ (fun r hr => hx r (by revert hr; simp only [List.mem_cons, List.not_mem_nil, or_false]; (clear hx h0 hq h6 h1 h2 h3 h4 h5; lia))) (hq 239 (by decide)) (h6 19 (by decide)) (fun r hr => hq r (by revert hr; simp only [List.mem_cons, List.not_mem_nil, or_false]; (clear hx h0 hq h6 h1 h2 h3 h4 h5; lia))), RRt_c h2 (hx 21 (by decide)) (hx 22 (by decide)) (hq 239 (by decide)) (h6 18 (by decide)), RSC_c h3 (fun i hi => h0 i (by revert hi; simp only [rfX, List.mem_cons, List.not_mem_nil, or_false]; (clear hx h0 hq h6 h1 h2 h3 h4 h5; lia))) (fun i hi => h6 i (by revert hi; simp only [rfQ, List.mem_cons, List.not_mem_nil, or_false]; (clear hx h0 hq h6 h1 h2 h3 h4 h5; lia))), ROU_c h4 (fun i hi => h0 i (by revert hi; simp only [rfX, List.mem_cons, List.not_mem_nil, or_false]; (clear hx h0 hq h6 h1 h2 h3 h4 h5; lia))) (hx 24 (by decide)) (fun i hi => h6 i (by revert hi; simp only [rfQ, List.mem_cons, List.not_mem_nil, or_false]; (clear hx h0 hq h6 h1 h2 h3 h4 h5; lia))) (hq 241 (by decide)), REV_c h5 (fun i hi => h0 i (by revert hi; simp only [rfX, List.mem_cons, List.not_mem_nil, or_false]; (clear hx h0 hq h6 h1 h2 h3 h4 h5; lia))) (hx 23 (by decide)) (fun i hi => h6 i (by revert hi; simp only [rfQ, List.mem_cons, List.not_mem_nil, or_false]; (clear hx h0 hq h6 h1 h2 h3 h4 h5; lia))) (hq 240 (by decide))⟩
/-- the run that is unpacked -/
theorem RU_un [Inhabited fz_] (h : RU 1 M N) (hv : VR N f) (hu : UF M M') (h7 : M' 0 7 = f 0) (h8 : M' 0 8 = f 1) (hS : ∀ j, 0 ≤ j → j < f 0 → SLD M' f j) (hR : ∀ j, 0 ≤ j → j < N 6 18 → ROD M' f j) : RU 1 M' (wr_ N 239 (ldF (N 239) f)) := by
  obtain ⟨h1, h2, h3, h4, h5⟩ := h
  obtain ⟨⟨f1, f1'⟩, f2, f3, f4, f5⟩ := hv
  have e : ∀ i, 0 ≤ i → i < 1104 → wr_ N 239 (ldF (N 239) f) 239 i = f i := fun i i0 i1 => by rw [wr_same]; unfold ldF; rw [if_pos ⟨i0, i1⟩]
  have nr : ∀ r : Nat, r ≠ 239 → wr_ N 239 (ldF (N 239) f) r = N r := fun r c => wr_ne c
  have n9 := h3.2.1
  refine ⟨⟨?_, ?_, fun k k0 k1 => ?_, fun k k0 k1 i i0 i1 => ?_⟩, ⟨?_, fun r r0 r1 => ?_, fun r r0 r1 i i0 i1 => ?_⟩, RSC_c h3 (fun i hi => hu.2 i (by revert hi; simp only [List.mem_cons, List.not_mem_nil, or_false]; omega)) (fun i _ => by rw [nr 6 (by decide)]), ROU_c h4 (fun i hi => hu.2 i (by revert hi; simp only [List.mem_cons, List.not_mem_nil, or_false]; (clear hu h7 h8 hS hR h1 h2 h3 h4 h5 f1 f1' f2 f3 f4 f5 e nr n9; lia))) (hu.1 24 (by decide)) (fun i _ => by rw [nr 6 (by decide)]) (nr 241 (by decide)), REV_c h5 (fun i hi => hu.2 i (by revert hi; simp only [List.mem_cons, List.not_mem_nil, or_false]; omega)) (hu.1 23 (by decide)) (fun i _ => by rw [nr 6 (by decide)]) (nr 240 (by decide))⟩
  · rw [h7, e 0 (by decide) (by decide)]; (clear hu h7 h8 hS hR h1 h2 h3 h4 h5 f1' f2 f3 f4 f5 e nr n9; lia)
  · rw [h8, e 1 (by decide) (by decide)]; exact ⟨rfl, f1'⟩
  · rw [h7] at k1
    obtain ⟨⟨d1, d2, d3, d4, d5, d6⟩, dc, dt, dq, dl⟩ := hS k k0 k1
    obtain ⟨v1, v2, v3, v4, v5⟩ := f2 k k0 k1
    have hB : sB k = 2 + 56 * k := rfl
    have b0 : 0 ≤ sB k := by (clear hu h7 h8 hS hR h1 h2 h3 h4 h5 f1' f2 f3 f4 f5 e nr n9 d1 d2 d3 d4 d5 d6 dc dt dq dl v1 v2 v3 v4 v5; lia)
    have b1 : sB k + 56 ≤ 1104 := by (clear hu h7 h8 hS hR h1 h2 h3 h4 h5 f1' f2 f3 f4 f5 e nr n9 d1 d2 d3 d4 d5 d6 dc dt dq dl v1 v2 v3 v4 v5 b0; lia)
    unfold IN
    rw [e (sB k) b0 (by (clear hu h7 h8 hS hR h1 h2 h3 h4 h5 f1 f1' f2 f3 f4 f5 e nr n9 k0 k1 d1 d2 d3 d4 d5 d6 dc dt dq dl v1 v2 v3 v4 v5; lia)), e (sB k + 1) (by (clear hu h7 h8 hS hR h1 h2 h3 h4 h5 f1 f1' f2 f3 f4 f5 e nr n9 k0 k1 d1 d2 d3 d4 d5 d6 dc dt dq dl v1 v2 v3 v4 v5; lia)) (by (clear hu h7 h8 hS hR h1 h2 h3 h4 h5 f1 f1' f2 f3 f4 f5 e nr n9 k0 k1 d1 d2 d3 d4 d5 d6 dc dt dq dl v1 v2 v3 v4 v5; omega)), e (sB k + 2) (by (clear hu h7 h8 hS hR h1 h2 h3 h4 h5 f1 f1' f2 f3 f4 f5 e nr n9 k0 k1 d1 d2 d3 d4 d5 d6 dc dt dq dl v1 v2 v3 v4 v5; lia)) (by (clear hu h7 h8 hS hR h1 h2 h3 h4 h5 f1 f1' f2 f3 f4 f5 e nr n9 k0 k1 d1 d2 d3 d4 d5 d6 dc dt dq dl v1 v2 v3 v4 v5; omega)), e (sB k + 3) (by (clear hu h7 h8 hS hR h1 h2 h3 h4 h5 f1 f1' f2 f3 f4 f5 e nr n9 k0 k1 d1 d2 d3 d4 d5 d6 dc dt dq dl v1 v2 v3 v4 v5; lia)) (by (clear hu h7 h8 hS hR h1 h2 h3 h4 h5 f1 f1' f2 f3 f4 f5 e nr n9 k0 k1 d1 d2 d3 d4 d5 d6 dc dt dq dl v1 v2 v3 v4 v5; lia)), e (sB k + 4) (by omega) (by (clear hu h7 h8 hS hR h1 h2 h3 h4 h5 f1 f1' f2 f3 f4 f5 e nr n9 k0 k1 d1 d2 d3 d4 d5 d6 dc dt dq dl v1 v2 v3 v4 v5; lia)), e (sB k + 5) (by (clear hu h7 h8 hS hR h1 h2 h3 h4 h5 f1 f1' f2 f3 f4 f5 e nr n9 k0 k1 d1 d2 d3 d4 d5 d6 dc dt dq dl v1 v2 v3 v4 v5; lia)) (by (clear hu h7 h8 hS hR h1 h2 h3 h4 h5 f1 f1' f2 f3 f4 f5 e nr n9 k0 k1 d1 d2 d3 d4 d5 d6 dc dt dq dl v1 v2 v3 v4 v5; lia)), e (sB k + 25) (by (clear hu h7 h8 hS hR h1 h2 h3 h4 h5 f1 f1' f2 f3 f4 f5 e nr n9 k0 k1 d1 d2 d3 d4 d5 d6 dc dt dq dl v1 v2 v3 v4 v5; lia)) (by (clear hu h7 h8 hS hR h1 h2 h3 h4 h5 f1 f1' f2 f3 f4 f5 e nr n9 k0 k1 d1 d2 d3 d4 d5 d6 dc dt dq dl v1 v2 v3 v4 v5; lia)), nr 6 (by decide), nr 174 (by decide), nr 172 (by decide), nr 173 (by decide), h8, d1, d2, d3, d4, d5, d6, dq]
    refine ⟨⟨rfl, rfl, rfl, rfl, rfl, rfl⟩, v1, ⟨fun i i0 i1 => by rw [e _ (by (clear hu h7 h8 hS hR h1 h2 h3 h4 h5 f1' f2 f3 f4 f5 e nr n9 d1 d2 d3 d4 d5 d6 dc dt dq dl v1 v2 v3 v4 v5 b0 b1; lia)) (by (clear hu h7 h8 hS hR h1 h2 h3 h4 h5 f1' f2 f3 f4 f5 e nr n9 d1 d2 d3 d4 d5 d6 dc dt dq dl v1 v2 v3 v4 v5 b0 b1; omega))]; exact dc i i0 i1, fun i i0 i1 i2 => by rw [e _ (by omega) (by omega)]; exact v2 i i0 i1 i2⟩, fun t t0 t1 => ?_, ⟨v4.1, v4.2, rfl⟩, fun i i0 i1 => by rw [e _ (by (clear hu h7 h8 hS hR h1 h2 h3 h4 h5 f1' f2 f3 f4 f5 e nr n9 d1 d2 d3 d4 d5 d6 dc dt dq dl v1 v2 v3 v5 b0 b1; lia)) (by (clear hu h7 h8 hS hR h1 h2 h3 h4 h5 f1' f2 f3 f4 f5 e nr n9 d1 d2 d3 d4 d5 d6 dc dt dq dl v1 v2 v3 v5 b0 b1; omega))]; exact dl i i0 i1, fun i i0 i1 => by rw [e _ (by (clear hu h7 h8 hS hR h1 h2 h3 h4 h5 f1' f2 f3 f4 f5 e nr n9 d1 d2 d3 d4 d5 d6 dc dt dq dl v1 v2 v3 v5 b0 b1; lia)) (by (clear hu h7 h8 hS hR h1 h2 h3 h4 h5 f1' f2 f3 f4 f5 e nr n9 d1 d2 d3 d4 d5 d6 dc dt dq dl v1 v2 v3 v5 b0 b1; omega))]; exact v5 i i0 i1⟩
    rw [e _ (by (clear hu h7 h8 hS hR h1 h2 h3 h4 h5 f1' f2 f3 f4 f5 e nr n9 d1 d2 d3 d4 d5 d6 dc dt dq dl v1 v2 v3 v4 v5 b0 b1; lia)) (by (clear hu h7 h8 hS hR h1 h2 h3 h4 h5 f1' f2 f3 f4 f5 e nr n9 d1 d2 d3 d4 d5 d6 dc dt dq dl v1 v2 v3 v4 v5 b0 b1; omega))]
    obtain ⟨t16, t17⟩ := dt t t0 t1
    rw [hu.2 9 (by decide)] at t17
    rcases (v3 t t0 t1).1 with c | c
    · rw [c, if_pos (by decide)] at t16
      refine ⟨.inl ⟨t16, by rw [t17]; (clear hu h7 h8 hS hR h1 h2 h3 h4 h5 f1 f1' f2 f3 f4 f5 e nr k0 k1 d1 d2 d3 d4 d5 d6 dc dt dq dl v1 v2 v3 v4 v5 hB b0 b1 t0 t1 t16 c; lia), .inr ⟨rfl, c⟩⟩, fun hh => ?_⟩
      have := (v3 t t0 t1).2 hh; (clear hu h7 h8 hS hR h1 h2 h3 h4 h5 f1 f1' f2 f3 f4 f5 e nr n9 k0 k1 d1 d2 d3 d4 d5 d6 dc dt dq dl v1 v2 v3 v4 v5 hB b0 b1 t0 t1 t16 t17 hh; lia)
    · rw [c, if_neg (by decide)] at t16
      exact ⟨.inr ⟨t16, c⟩, fun _ => t16⟩
  · have hB : sB k = 2 + 56 * k := rfl
    rw [h7] at k0
    rw [e _ (by (clear hu h7 h8 hS hR h1 h2 h3 h4 h5 f1' f2 f3 f4 f5 e nr n9; lia)) (by (clear hu h7 h8 hS hR h1 h2 h3 h4 h5 f1' f2 f3 f4 f5 e nr n9; lia))]; exact f3 k k0 k1 i i0 i1
  · rw [nr 6 (by decide)]; exact h2.1
  · rw [nr 6 (by decide)] at r1
    have h18 := h2.1
    obtain ⟨o1, o2⟩ := hR r r0 r1
    obtain ⟨v1, v2, v3⟩ := f4 r r0 r1
    have hR' : sR r = 674 + 43 * r := rfl
    unfold RO
    rw [e (sR r) (by (clear hu h7 h8 hS hR h1 h2 h3 h4 h5 f1 f1' f2 f3 f4 f5 e nr n9 r1 h18 o1 o2 v1 v2 v3; lia)) (by (clear hu h7 h8 hS hR h1 h2 h3 h4 h5 f1 f1' f2 f3 f4 f5 e nr n9 o1 o2 v1 v2 v3; omega)), o1]
    refine ⟨⟨v1.1, v1.2, rfl⟩, fun q q0 q1 => ⟨fun j j0 j1 j3 => ?_, ?_, fun c => absurd c (by decide), fun _ => ?_⟩, fun i i0 i1 => ?_⟩
    · rw [e _ (by (clear hu h7 h8 hS hR h1 h2 h3 h4 h5 f1 f1' f2 f3 f4 f5 e nr n9 r1 h18 o1 o2 v2 v3 j3; lia)) (by omega)]; exact (o2 q q0 q1).1 j j0 j1 j3
    · rw [(o2 q q0 q1).2, hu.2 9 (by decide)]; (clear hu h7 h8 hS hR h1 h2 h3 h4 h5 f1 f1' f2 f3 f4 f5 e nr r0 r1 h18 o1 o2 v1 v2 v3 hR' q0 q1; lia)
    · rw [e _ (by (clear hu h7 h8 hS hR h1 h2 h3 h4 h5 f1 f1' f2 f3 f4 f5 e nr n9 r1 h18 o1 o2 v1 v2 v3 q1; lia)) (by (clear hu h7 h8 hS hR h1 h2 h3 h4 h5 f1 f1' f2 f3 f4 f5 e nr n9 o1 o2 v2 v3 q0; omega))]; exact v2 q q0 q1
    · rw [e _ (by (clear hu h7 h8 hS hR h1 h2 h3 h4 h5 f1 f1' f2 f3 f4 f5 e nr n9 r1 h18 o1 o2 v2 v3 i1; lia)) (by (clear hu h7 h8 hS hR h1 h2 h3 h4 h5 f1 f1' f2 f3 f4 f5 e nr n9 o1 o2 v1 v2 v3 i0; omega))]; exact v3 i i0 i1
  · rw [nr 6 (by decide)] at r0
    have h18 := h2.1
    have hR' : sR r = 674 + 43 * r := rfl
    rw [e _ (by (clear hu h7 h8 hS hR h1 h2 h3 h4 h5 f1 f1' f2 f3 f4 f5 e nr n9; lia)) (by omega)]; exact f5 r r0 r1 i i0 i1
theorem TYA_un [Inhabited fz_] (hA : TYA N) (hf : TYR N f) (hv : 0 ≤ f 0 ∧ f 0 ≤ 12) : TYA (wr_ N 239 (ldF (N 239) f)) := by
  have e : ∀ i, 0 ≤ i → i < 1104 → wr_ N 239 (ldF (N 239) f) 239 i = f i := fun i i0 i1 => by rw [wr_same]; unfold ldF; rw [if_pos ⟨i0, i1⟩]
  have ht : TYT N (wr_ N 239 (ldF (N 239) f)) := ⟨fun r hr => wr_ne (fun c => by rw [c] at hr; revert hr; decide), by rw [wr_ne (by decide)], by rw [wr_ne (by decide)]⟩
  refine ⟨fun k k0 k1 k2 => ?_, fun r r0 r1 r2 => ?_, fun j => ?_⟩
  · rw [e 0 (by decide) (by decide)] at k2
    have hB : sB k = 2 + 56 * k := rfl
    exact TIN_c (hf.1 k k0 k1 k2) ht (fun j j0 j1 => e _ (by omega) (by omega))
  · rw [wr_ne (by decide)] at r2
    have hR' : sR r = 674 + 43 * r := rfl
    exact TRO_c (hf.2.1 r r0 r1 r2) ht (fun j j0 j1 => e _ (by (clear hA hf hv e ht r2; lia)) (by omega))
  · rw [wr_same]; unfold ldF
    split
    · rename_i c; exact hf.2.2 j c.1 c.2
    · exact hA.2.2 j
theorem TYR_of [Inhabited fz_] (hA : TYA N) : TYR N (N 239) := ⟨hA.1, hA.2.1, fun j _ _ => hA.2.2 j⟩
theorem TYR_c [Inhabited fz_] (h : TYR N f) (ht : TYT N N') (hv : 0 ≤ f 0 ∧ f 0 ≤ 12) (e : ∀ i, 0 ≤ i → i < 1104 → g i = f i) : TYR N' g := by
  refine ⟨fun k k0 k1 k2 => ?_, fun r r0 r1 r2 => ?_, fun j j0 j1 => by rw [e j j0 j1]; exact h.2.2 j j0 j1⟩
  · rw [e 0 (by decide) (by decide)] at k2
    have hB : sB k = 2 + 56 * k := rfl
    exact TIN_c (h.1 k k0 k1 k2) ht (fun j j0 j1 => e _ (by omega) (by omega))
  · rw [ht.2.1] at r2
    have hR' : sR r = 674 + 43 * r := rfl
    exact TRO_c (h.2.1 r r0 r1 r2) ht (fun j j0 j1 => e _ (by omega) (by omega))
theorem VR_t [Inhabited fz_] (h : VR N f) (h18 : N' 6 18 = N 6 18) (h19 : N' 6 19 = N 6 19) (hq : ∀ r : Nat, r ∈ [172, 173, 174] → N' r = N r) : VR N' f := by
  unfold VR VSL at h ⊢
  rw [h18, h19, hq 172 (by decide), hq 173 (by decide), hq 174 (by decide)]; exact h
theorem slsL_t [Inhabited fz_] (hq : N' 172 = N 172) : ∀ (n : Nat) (x : Int), slsL N' f x n = slsL N f x n
  | 0, _ => rfl
  | n + 1, x => by
    unfold slsL slL slT
    rw [hq, slsL_t hq n]
theorem pkL_t [Inhabited fz_] (h18 : N' 6 18 = N 6 18) (hq : N' 172 = N 172) : pkL N' f = pkL N f := by
  unfold pkL
  rw [h18, slsL_t hq]
theorem PKB_of [Inhabited fz_] (hP : PLr M N) : PKB N := by
  have p18 := hP.1.2.1
  have p19 := hP.1.2.2
  rw [tbN_6 (by decide)] at p18 p19
  exact ⟨p18.2, p19.2, fun T T0 T1 => (PL_T hP ⟨T0, T1⟩).2.2.2.1.2⟩
theorem SFK_c [Inhabited fz_] (h : SFK M N B k) (hr : rwk N' k = rwk N k) (h18 : N' 6 18 = N 6 18) (h19 : N' 6 19 = N 6 19 ∧ N' 6 17 = N 6 17) (hq : ∀ r : Nat, r ∈ [156, 157, 171, 172, 173, 174, 182, 183, 184] → N' r = N r) (h27 : RDL (M 27) (1100 * k) (pkL N (rwk N k)) → RDL (M' 27) (1100 * k) (pkL N (rwk N k))) (h28 : M' 28 k = M 28 k) (h29 : M' 29 k = M 29 k) (h253 : N' 253 k = N 253 k) : SFK M' N' B k := by
  obtain ⟨a1, a2, a3, a4, a5⟩ := h
  unfold SFK
  rw [hr, pkL_t h18 (hq 172 (by decide)), h28, h29, h253]
  exact ⟨VR_t a1 h18 h19.1 (fun r hr => hq r (by revert hr; simp only [List.mem_cons, List.not_mem_nil, or_false]; (clear hr h18 h19 hq h27 h28 h29 h253 a1 a2 a3 a4 a5; lia))), TYR_c a2 ⟨fun r hr => hq r (by revert hr; simp only [List.mem_cons, List.not_mem_nil, or_false]; (clear hr h18 h19 hq h27 h28 h29 h253 a1 a2 a3 a4 a5; lia)), h18, h19.2⟩ a1.1.1 (fun _ _ _ => rfl), a3, ⟨h27 a4.1, a4.2⟩, a5⟩
theorem PKS_of [Inhabited fz_] (hP : PLr M N) (h : SST M N n B) : PKS M (fun k => pkL N (rwk N k)) n := fun k k0 k1 => by
  obtain ⟨⟨a1, a2, a3, a4, a5⟩, _⟩ := h.2.2 k k0 k1
  exact ⟨a4.1, a4.2.1, a4.2.2, pkL_len (PKB_of hP) a1⟩
end SSa
end T403_ss
section T404_mv
/-! the search: a move is tried, and what it led to (Q 385, 387) -/
def trQ (N : mm_) (k : Int) : mm_ := up_ (up_ (wr_ N 239 (ldF (N 239) (rwk N k))) 6 138 0) 6 139 0
def kcF (N : mm_) (n : Int) : Int → Int := fun i => if 1104 * n ≤ i ∧ i < 1104 * n + 1104 then N 239 (i - 1104 * n) else N 245 i
def kpQ (N : mm_) (n fr mv v : Int) : mm_ := up_ (up_ (up_ (up_ (up_ (up_ (up_ (up_ (wr_ N 245 (kcF N n)) 247 n fr) 248 n mv) 249 n (if fr < 0 then 0 else w32 (N 249 fr + 1))) 250 n (-1)) 251 n (-1)) 252 n (-1)) 253 n v) 6 163 (n + 1)
def kpX (M : mm_) (n : Int) : mm_ := up_ (up_ (up_ (up_ (up_ M 30 n (M 31 (an_ (M 29 n) 1023))) 31 (an_ (M 29 n) 1023) n) 35 n (-1)) 36 n (-1)) 37 n (-1)
section MVa
variable {z : Int} {M N M' N' M1 N1 M2 N2 : mm_} {f g : Int → Int} {a k x v b n B r fr mv x1 x3 x4 x5 : Int} {L K : List Int}
theorem q_385 [Inhabited fz_] (hk : 0 ≤ k ∧ k < 200) : Ex_ 2 385 [.inr (.inr 6), .inl k] N [] (trQ N k) := fun Qr Qt g => t_385 fun V hV hW => b_385_0 (Tr_mono _) hV hW _ _ (q_386 hk _ _ (rv_i (by
  have e : ldF (N 239) (fun i => N 245 (1104 * k + i)) = ldF (N 239) (rwk N k) := by
    funext i; unfold ldF rwk
    by_cases c : 0 ≤ i ∧ i < 1104
    · rw [if_pos c, if_pos c, if_pos c]
    · rw [if_neg c, if_neg c]
  rw [e]; exact g)))
theorem q_383 [Inhabited fz_] (hn : N 6 163 = n) (hn2 : 0 ≤ n ∧ n < 200) (hf : fr = -1 ∨ (0 ≤ fr ∧ fr < 200)) : Ex_ 1 383 [.inr (.inr 6), .inl fr, .inl mv, .inl v] N [] (kpQ N n fr mv v) := fun Qr Qt g => t_383 fun V hV hW => b_383_0 (Tr_mono _) hV hW _ _ _ _ (by
  rw [hn]
  have l : ∀ (j : Nat) (i : Int), i + j = 1104 → 0 ≤ i → V 9 [rr 6, ii fr, ii mv, ii v, ii n, ii i] [] (wr_ N 245 (fun y => if 1104 * n ≤ y ∧ y < 1104 * n + i then N 239 (y - 1104 * n) else N 245 y)) := fun j => by
    induction j with
    | zero =>
      intro i hi i0
      refine b_383_9 (Tr_mono _) hV hW _ _ _ _ _ _ ?_
      rw [if_neg (by omega), show i = 1104 by omega, wr_ne (by decide)]
      refine ⟨hn2, hn2, ?_⟩
      have e6 : ∀ (A : mm_), up_ (up_ (up_ A 247 n fr) 248 n mv) 249 n (if fr < 0 then 0 else w32 (N 249 fr + 1)) 6 163 = A 6 163 := fun A => by rw [up_ne (by decide), up_ne (by decide), up_ne (by decide)]
      unfold kpQ kcF at g
      rcases hf with e | e
      · rw [if_pos (by omega)] at g ⊢
        refine ⟨hn2, b_383_83 (Tr_mono _) hV hW _ _ _ _ _ _ ⟨hn2, hn2, hn2, hn2, ?_⟩⟩
        rw [up_ne (by decide), up_ne (by decide), up_ne (by decide), wr_ne (by decide), hn, w32_id (x := n + 1) (by omega) (by omega)]; exact g
      · rw [if_neg (by omega)] at g ⊢
        refine ⟨e, hn2, b_383_83 (Tr_mono _) hV hW _ _ _ _ _ _ ⟨hn2, hn2, hn2, hn2, ?_⟩⟩
        rw [up_ne (r := 249) (r' := 6) (by decide), up_ne (r := 248) (r' := 6) (by decide), up_ne (r := 247) (r' := 6) (by decide), wr_ne (r := 245) (r' := 6) (by decide), hn, w32_id (x := n + 1) (by omega) (by omega)]; exact g
    | succ j ih =>
      intro i hi i0
      refine b_383_9 (Tr_mono _) hV hW _ _ _ _ _ _ ?_
      rw [if_pos (by (clear hn hn2 hf g hV hW ih; omega)), w32_id (x := 1104 * n) (by omega) (by omega), w32_id (x := 1104 * n + i) (by omega) (by omega), w32_id (x := i + 1) (by omega) (by omega), wr_ne (by decide), up_wr]
      refine ⟨by omega, by omega, ?_⟩
      have := ih (i + 1) (by omega) (by omega)
      have e : su_ (fun y => if 1104 * n ≤ y ∧ y < 1104 * n + i then N 239 (y - 1104 * n) else N 245 y) (1104 * n + i) (N 239 i) = fun y => if 1104 * n ≤ y ∧ y < 1104 * n + (i + 1) then N 239 (y - 1104 * n) else N 245 y := by
        funext y
        unfold su_
        by_cases c : y = 1104 * n + i
        · rw [if_pos c, if_pos (by omega), show y - 1104 * n = i by (clear hn hn2 hf g hV hW ih i0 this; lia)]
        · rw [if_neg c]
          show (if 1104 * n ≤ y ∧ y < 1104 * n + i then N 239 (y - 1104 * n) else N 245 y) = _
          by_cases c2 : 1104 * n ≤ y ∧ y < 1104 * n + i
          · rw [if_pos c2, if_pos (by omega)]
          · rw [if_neg c2, if_neg (by omega)]
      rw [e]; exact this
  have := l 1104 0 (by decide) (by decide)
  rw [show (fun y => if 1104 * n ≤ y ∧ y < 1104 * n + 0 then N 239 (y - 1104 * n) else N 245 y) = N 245 by funext y; rw [if_neg (by omega)], wr_id] at this
  exact this)
theorem x_40 [Inhabited fz_] (hn : 0 ≤ n ∧ n < 200) : Ex_ 1 40 [.inr (.inr 0), .inl n] M [] (kpX M n) := fun Qr Qt g => t_40 fun V hV hW => b_40_0 (Tr_mono _) hV hW _ _ (by
  have := an1023 (M 29 n)
  exact ⟨by omega, this, by omega, by omega, this, hn, hn, hn, g⟩)
theorem BKT_c [Inhabited fz_] (h : BKT M n) (h29 : ∀ i, 0 ≤ i → i < n → M' 29 i = M 29 i) (h30 : M' 30 = M 30) (h31 : M' 31 = M 31) : BKT M' n := by
  refine ⟨fun k k0 k1 => ?_, fun b b0 b1 => ?_⟩
  · rw [h30, h.1 k k0 k1, h29 k k0 k1]
    exact (lsi_cg _ (fun i i0 i1 => by show an_ (M' 29 i) 1023 = an_ (M 29 i) 1023; rw [h29 i i0 (by (clear h h29 h30 h31 i0; omega))])).symm
  · rw [h31, h.2 b b0 b1]
    exact (lsi_cg _ (fun i i0 i1 => by show an_ (M' 29 i) 1023 = an_ (M 29 i) 1023; rw [h29 i i0 (by omega)])).symm
theorem BKT_kp [Inhabited fz_] (h : BKT M n) (hn : 0 ≤ n) : BKT (kpX M n) (n + 1) := by
  have e29 : kpX M n 29 = M 29 := by unfold kpX; rw [up_ne (by decide), up_ne (by decide), up_ne (by decide), up_ne (by decide), up_ne (by decide)]
  have e30 : ∀ i, kpX M n 30 i = if i = n then M 31 (an_ (M 29 n) 1023) else M 30 i := fun i => by
    unfold kpX; rw [up_ne (by decide), up_ne (by decide), up_ne (by decide), up_ne (by decide)]
    by_cases c : i = n
    · rw [c, up_at, if_pos rfl]
    · rw [upo c, if_neg c]
  have e31 : ∀ i, kpX M n 31 i = if i = an_ (M 29 n) 1023 then n else M 31 i := fun i => by
    unfold kpX; rw [up_ne (by decide), up_ne (by decide), up_ne (by decide)]
    by_cases c : i = an_ (M 29 n) 1023
    · rw [c, up_at, if_pos rfl]
    · rw [upo c, if_neg c, up_ne (by decide)]
  have bh := an1023 (M 29 n)
  have et : (n + 1).toNat = n.toNat + 1 := by (clear h e29 e30 e31 bh; lia)
  have en : ((n.toNat : Nat) : Int) = n := by (clear h e29 e30 e31 bh et; lia)
  unfold BKT
  rw [e29, et]
  refine ⟨fun k k0 k1 => ?_, fun b b0 b1 => ?_⟩
  · rw [e30]
    by_cases c : k = n
    · rw [if_pos c, c]; exact h.2 _ bh.1 bh.2
    · rw [if_neg c]; exact h.1 k k0 (by (clear h hn e29 e30 e31 bh et k0; omega))
  · rw [e31]
    unfold lsi
    rw [en]
    by_cases c : b = an_ (M 29 n) 1023
    · rw [if_pos c, if_pos c.symm]
    · rw [if_neg c, if_neg (fun e => c e.symm)]; exact h.2 b b0 b1
/-- trying: X unpacks, Q loads -/
theorem j_tr [Inhabited fz_] (h : RU 1 M N) (hP : PLr M N) (hA : TYA N) (hS : SST M N n B) (hk : 0 ≤ k ∧ k < n) : ∃ M1, Ex_ 2 41 [.inr (.inr 0), .inl k] M [] M1 ∧ UF M M1 ∧ RU 1 M1 (wr_ N 239 (ldF (N 239) (rwk N k))) ∧ RU 1 (up_ (up_ M1 0 37 0) 0 38 0) (trQ N k) ∧ TYA (trQ N k) ∧ M1 0 8 ≤ B + 200 * k ∧ M1 0 7 = rwk N k 0 := by
  obtain ⟨⟨a1, a2, a3, a4, a5⟩, _⟩ := hS.2.2 k hk.1 hk.2
  have n2 := hS.2.1
  obtain ⟨M1, x1, u, ⟨h7, h8⟩, s1, s2⟩ := x_41 hP a1 (k := k) (by omega) a4.1
  have ru := RU_un h a1 u h7 h8 s1 s2
  refine ⟨M1, x1, u, ru, ?_, ?_, by (clear h hP hA hS hk a1 a2 a4 a5 n2 x1 u h7 s1 s2 ru; lia), h7⟩
  · obtain ⟨h1, h2, h3, h4, h5⟩ := ru
    generalize hA1 : wr_ N 239 (ldF (N 239) (rwk N k)) = A at *
    have xr : ∀ r : Nat, r ≠ 0 → up_ (up_ M1 0 37 0) 0 38 0 r = M1 r := fun r c => by rw [up_ne c, up_ne c]
    have x0 : ∀ i : Int, i ≠ 37 → i ≠ 38 → up_ (up_ M1 0 37 0) 0 38 0 0 i = M1 0 i := fun i c c' => by rw [upo c', upo c]
    have qr : ∀ r : Nat, r ≠ 6 → trQ N k r = A r := fun r c => by unfold trQ; rw [hA1, up_ne c, up_ne c]
    have q0 : ∀ i : Int, i ≠ 138 → i ≠ 139 → trQ N k 6 i = A 6 i := fun i c c' => by unfold trQ; rw [hA1, upo c', upo c]
    have q138 : trQ N k 6 138 = 0 := by unfold trQ; rw [upo (by decide), up_at]
    have q139 : trQ N k 6 139 = 0 := by unfold trQ; rw [up_at]
    refine ⟨RI_c h1 ⟨x0 7 (by decide) (by decide), x0 8 (by decide) (by decide)⟩ (fun r hr => xr r (fun c => by rw [c] at hr; revert hr; decide)) (qr 239 (by decide)) (q0 19 (by decide) (by decide)) (fun r hr => qr r (fun c => by rw [c] at hr; revert hr; decide)), RRt_c h2 (xr 21 (by decide)) (xr 22 (by decide)) (qr 239 (by decide)) (q0 18 (by decide) (by decide)), ?_, ROU_c h4 (fun i hi => x0 i (fun c => by rw [c] at hi; revert hi; decide) (fun c => by rw [c] at hi; revert hi; decide)) (xr 24 (by decide)) (fun i hi => q0 i (fun c => by rw [c] at hi; revert hi; decide) (fun c => by rw [c] at hi; revert hi; decide)) (qr 241 (by decide)), REV_c h5 (fun i hi => x0 i (fun c => by rw [c] at hi; revert hi; decide) (fun c => by rw [c] at hi; revert hi; decide)) (xr 23 (by decide)) (fun i hi => q0 i (fun c => by rw [c] at hi; revert hi; decide) (fun c => by rw [c] at hi; revert hi; decide)) (qr 240 (by decide))⟩
    unfold RSC at h3 ⊢
    rw [x0 9 (by decide) (by decide), x0 10 (by decide) (by decide), x0 25 (by decide) (by decide), x0 26 (by decide) (by decide), x0 27 (by decide) (by decide), x0 28 (by decide) (by decide), x0 29 (by decide) (by decide), x0 30 (by decide) (by decide), x0 31 (by decide) (by decide), q0 127 (by decide) (by decide), q0 128 (by decide) (by decide), q0 129 (by decide) (by decide), q0 131 (by decide) (by decide), q0 132 (by decide) (by decide), q0 133 (by decide) (by decide), q0 134 (by decide) (by decide), q0 135 (by decide) (by decide), q0 136 (by decide) (by decide), q138, q139, up_at, upo (by decide), up_at]
    exact ⟨h3.1, h3.2.1, h3.2.2.1, h3.2.2.2.1, fun _ => ⟨rfl, rfl⟩⟩
  · unfold trQ
    refine TYA_c (TYA_un hA a2 a1.1.1) ⟨fun r hr => ?_, by rw [upo (by decide), upo (by decide)], by rw [upo (by decide), upo (by decide)]⟩ (by rw [up_ne (by decide), up_ne (by decide)])
    have : r ≠ 6 := fun c => by rw [c] at hr; revert hr; decide
    rw [up_ne this, up_ne this]
/-- the states found stay -/
theorem SST_c [Inhabited fz_] (h : SST M N n B) (h62 : M' 0 62 = M 0 62) (h163 : N' 6 163 = N 6 163) (hx : ∀ r : Nat, r ∈ [27, 28, 29, 32, 33, 34, 35, 36, 37] → ∀ k, 0 ≤ k → (r ≠ 27 → k < n) → (r = 27 → k < 1100 * n) → M' r k = M r k) (hq : ∀ r : Nat, r ∈ [156, 157, 171, 172, 173, 174, 182, 183, 184, 245, 247, 248, 249, 250, 251, 252, 253] → N' r = N r) (h18 : N' 6 18 = N 6 18) (h19 : N' 6 19 = N 6 19 ∧ N' 6 17 = N 6 17) (hl : ∀ k, 0 ≤ k → k < n → (pkL N (rwk N k)).length ≤ 1020) : SST M' N' n B := by
  obtain ⟨h1, h2, h3⟩ := h
  refine ⟨by rw [h62, h163]; exact h1, h2, fun k k0 k1 => ?_⟩
  obtain ⟨a, b⟩ := h3 k k0 k1
  have er : rwk N' k = rwk N k := by unfold rwk; rw [hq 245 (by decide)]
  refine ⟨SFK_c a er h18 h19 (fun r hr => hq r (by revert hr; simp only [List.mem_cons, List.not_mem_nil, or_false]; (clear h62 h163 hx hq h18 h19 hl h1 h2 h3 k0 k1 a b er; lia))) (fun hr => RDL_c _ _ hr (fun i i0 i1 => hx 27 (by decide) i (by (clear h62 h163 hx hq h18 h19 hl h1 h3 a b er hr i1; lia)) (fun c => absurd rfl c) (fun _ => by have := hl k k0 k1; (clear h62 h163 hx hq h18 h19 hl h1 h2 h3 k0 a b er hr; lia)))) (hx 28 (by decide) k k0 (fun _ => k1) (fun c => absurd c (by decide))) (hx 29 (by decide) k k0 (fun _ => k1) (fun c => absurd c (by decide))) (by rw [hq 253 (by decide)]), ?_⟩
  unfold SEQ
  rw [hx 32 (by decide) k k0 (fun _ => k1) (fun c => absurd c (by decide)), hx 33 (by decide) k k0 (fun _ => k1) (fun c => absurd c (by decide)), hx 34 (by decide) k k0 (fun _ => k1) (fun c => absurd c (by decide)), hx 35 (by decide) k k0 (fun _ => k1) (fun c => absurd c (by decide)), hx 36 (by decide) k k0 (fun _ => k1) (fun c => absurd c (by decide)), hx 37 (by decide) k k0 (fun _ => k1) (fun c => absurd c (by decide)), hq 247 (by decide), hq 248 (by decide), hq 249 (by decide), hq 250 (by decide), hq 251 (by decide), hq 252 (by decide)]
  exact b
end MVa
end T404_mv
section T405_md
/-! the search: what a move led to (X within 37 | Q 387) -/
/-- within the moves of a state -/
def ITR [Inhabited fz_] (x1 n B x3 x4 x5 : Int) (M N : mm_) : Prop := (RU 1 M N ∧ PLr M N ∧ TYA N) ∧ (SST M N n B ∧ BKT M n) ∧ (n ≤ x1 ∧ N 6 165 = x1) ∧ (N 6 166 = x3 ∧ N 6 167 = x4 ∧ N 6 168 = x5) ∧ M 0 64 = N 6 164
def CUT (M N : mm_) (c : Int) : Prop := M 0 63 = c ∧ N 6 169 = c
/-- what is kept from move to move -/
def KMV (n : Int) (M N M' N' : mm_) : Prop := (XSF M M' ∧ QSF N N') ∧ ((∀ r : Nat, r ∈ [38, 39, 40, 41] → M' r = M r) ∧ M' 0 69 = M 0 69) ∧ N' 246 = N 246 ∧ (∀ j, 0 ≤ j → j < n → rwk N' j = rwk N j) ∧ (M' 0 11 = M 0 11 ∧ N' 6 130 = N 6 130)
section MDa
variable {z : Int} {M N M' N' M1 N1 M2 N2 : mm_} {f g : Int → Int} {a k x v b n B r fr mv x1 x3 x4 x5 : Int} {L K : List Int}
theorem KMV_rf [Inhabited fz_] : KMV n M N M N := ⟨⟨XSF_rf, QSF_rf⟩, ⟨fun _ _ => rfl, rfl⟩, rfl, fun _ _ _ => rfl, rfl, rfl⟩
theorem KMV_tr [Inhabited fz_] {n' : Int} (h : KMV n M N M1 N1) (g : KMV n' M1 N1 M' N') (hn : n ≤ n') : KMV n M N M' N' := ⟨⟨XSF_tr h.1.1 g.1.1, QSF_tr h.1.2 g.1.2⟩, ⟨fun r hr => (g.2.1.1 r hr).trans (h.2.1.1 r hr), g.2.1.2.trans h.2.1.2⟩, g.2.2.1.trans h.2.2.1, fun j j0 j1 => (g.2.2.2.1 j j0 (by omega)).trans (h.2.2.2.1 j j0 j1), g.2.2.2.2.1.trans h.2.2.2.2.1, g.2.2.2.2.2.trans h.2.2.2.2.2⟩
theorem pak_r [Inhabited fz_] {r : Nat} (h : r ∉ [0, 27, 28, 29]) : pakX M n L r = M r := by
  have e : ∀ q : Nat, q ∈ [0, 27, 28, 29] → r ≠ q := fun q hq e => h (by rw [e]; exact hq)
  unfold pakX; rw [up_ne (e 29 (by decide)), up_ne (e 28 (by decide)), pkW_r (e 27 (by decide)) (e 0 (by decide))]
theorem pak_0 [Inhabited fz_] {i : Int} (h : i ≠ 65) : pakX M n L 0 i = M 0 i := by unfold pakX; rw [up_ne (by decide), up_ne (by decide), pkW_0 h]
theorem pak_28 [Inhabited fz_] : pakX M n L 28 = up_ M 28 n L.length 28 := by
  unfold pakX; rw [up_ne (by decide)]; funext i
  by_cases c : i = n
  · rw [c, up_at, up_at]
  · rw [upo c, upo c, pkW_r (by decide) (by decide)]
theorem pak_29 [Inhabited fz_] : pakX M n L 29 = up_ M 29 n (hshL L) 29 := by
  unfold pakX; funext i
  by_cases c : i = n
  · rw [c, up_at, up_at]
  · rw [upo c, upo c, up_ne (by decide), pkW_r (by decide) (by decide)]
theorem pak_27 [Inhabited fz_] : pakX M n L 27 = lwf (M 27) (1100 * n) L := by unfold pakX; rw [up_ne (by decide), up_ne (by decide)]; unfold pkW; rw [up_ne (by decide), wr_same]
set_option maxHeartbeats 4000000 in
theorem j_mvd [Inhabited fz_] (hI : ITR x1 n B x3 x4 x5 M N) (hc : CUT M N 0) (hk : 0 ≤ k ∧ k < n) (h8 : M 0 8 ≤ B + 200 * (k + 1)) (hx1 : x1 ≤ 200) (hx3 : 0 ≤ x3 ∧ x3 < 10000) : ∃ c n' M' N', (c = 0 ∨ c = 1) ∧ Ex_ 3 387 [.inr (.inr 6), .inl k] N [] N'
    ∧ (∀ (V : vv_) (Qr : qr_) (Qt : qt_), Cl_ wd0 (Tr_ wd0 pg0 10) V Qr Qt m_37 → Wk_ V → V (if c = 0 then 188 else 341) [rr 0, ii x1, ii k, ii (if c = 0 then x3 + 1 else x3), ii (w32 (x4 + M 0 37)), ii (w32 (x5 + M 0 38))] [] M' →
      Tr_ wd0 pg0 10 38 [.inr (.inr 0), .inl (M 0 62)] (up_ M 0 64 (w32 ((M 0 64) + 1))) (rv_ fun M3 => Tr_ wd0 pg0 10 46 [.inr (.inr 0), .inl (M3 0 62)] M3 (ri_ fun v1 M4 =>
        (if v1 = (-1) then (if M4 0 62 = x1 then V 341 [rr 0, ii x1, ii k, ii x3, ii (w32 (x4 + (M 0 37))), ii (w32 (x5 + (M 0 38)))] [] (up_ M4 0 63 1)
          else Tr_ wd0 pg0 10 40 [.inr (.inr 0), .inl (M4 0 62)] M4 (rv_ fun M5 => (0 ≤ M5 0 62 ∧ M5 0 62 < 200) ∧ (0 ≤ M5 0 62 ∧ M5 0 62 < 200) ∧ (0 ≤ k ∧ k < 200) ∧ (0 ≤ M5 0 62 ∧ M5 0 62 < 200) ∧
            V 188 [rr 0, ii x1, ii k, ii (w32 (x3 + 1)), ii (w32 (x4 + (M 0 37))), ii (w32 (x5 + (M 0 38)))] [] (up_ (up_ (up_ (up_ M5 32 (M5 0 62) k) 33 (M5 0 62) x3) 34 (M5 0 62) (w32 ((M5 34 k) + 1))) 0 62 (w32 ((M5 0 62) + 1)))) Qt)
        else V 188 [rr 0, ii x1, ii k, ii (w32 (x3 + 1)), ii (w32 (x4 + (M 0 37))), ii (w32 (x5 + (M 0 38)))] [] M4)) Qt) Qt)
    ∧ ITR x1 n' B (if c = 0 then x3 + 1 else x3) (w32 (x4 + M 0 37)) (w32 (x5 + M 0 38)) M' N' ∧ CUT M' N' c ∧ n ≤ n' ∧ KMV n M N M' N' := by
  obtain ⟨⟨hR, hP, hA⟩, ⟨hS, hb⟩, ⟨hl1, hl2⟩, ⟨h166, h167, h168⟩, h64⟩ := hI
  obtain ⟨c63, c169⟩ := hc
  have n2 := hS.2.1
  have e62 : M 0 62 = n := hS.1.1
  have e163 : N 6 163 = n := hS.1.2
  have e37 : M 0 37 = N 6 138 := (hR.2.2.1.2.2.2.2 rfl).1
  have e38 : M 0 38 = N 6 139 := (hR.2.2.1.2.2.2.2 rfl).2
  have hN := PKB_of hP
  have vr := VR_of hR
  have lL := pkL_len hN vr
  have hlen : ∀ k, 0 ≤ k → k < n → (pkL N (rwk N k)).length ≤ 1020 := fun k k0 k1 => pkL_len hN (hS.2.2 k k0 k1).1.1
  generalize hL1 : w32 (M 0 64 + 1) = L1
  generalize hx4 : w32 (x4 + M 0 37) = y4
  generalize hx5 : w32 (x5 + M 0 38) = y5
  have w3 : w32 (x3 + 1) = x3 + 1 := w32_id (by (clear hk h8 hx1 hR hP hA hS hb hl1 hl2 h64 h167 h168 c63 c169 n2 e62 e163 e37 e38 hN vr lL hlen hL1 hx4 hx5; lia)) (by (clear hk h8 hx1 hR hP hA hS hb hl1 hl2 h64 h167 h168 c63 c169 n2 e62 e163 e37 e38 hN vr lL hlen hL1 hx4 hx5; omega))
  have wn : w32 (n + 1) = n + 1 := w32_id (by (clear hk h8 hx1 hx3 hR hP hA hS hb hl1 hl2 h64 h166 h167 h168 c63 c169 e37 e38 hN vr lL hlen hL1 hx4 hx5 w3; lia)) (by (clear hk h8 hx1 hx3 hR hP hA hS hb hl1 hl2 h64 h166 h167 h168 c63 c169 e37 e38 hN vr lL hlen hL1 hx4 hx5 w3; lia))
  rw [w3]
  generalize hL : pkL N (N 239) = L at *
  -- Q's counters
  generalize hNQ : up_ (up_ (up_ N 6 164 L1) 6 167 y4) 6 168 y5 = NQ
  have qr : ∀ r : Nat, r ≠ 6 → NQ r = N r := fun r c => by rw [← hNQ, up_ne c, up_ne c, up_ne c]
  have q0 : ∀ i : Int, i ∉ [164, 167, 168] → NQ 6 i = N 6 i := fun i hi => by
    simp only [List.mem_cons, List.not_mem_nil, or_false, not_or] at hi
    rw [← hNQ, upo hi.2.2, upo hi.2.1, upo hi.1]
  have q164 : NQ 6 164 = L1 := by rw [← hNQ, upo (by decide), upo (by decide), up_at]
  have q167 : NQ 6 167 = y4 := by rw [← hNQ, upo (by decide), up_at]
  have q168 : NQ 6 168 = y5 := by rw [← hNQ, up_at]
  have fNQ : QSF N NQ := by rw [← hNQ]; exact QSF_tr (QSF_tr (QSF_up (.inr (by decide)) (fun _ => by decide)) (QSF_up (.inr (by decide)) (fun _ => by decide))) (QSF_up (.inr (by decide)) (fun _ => by decide))
  -- X packs
  generalize hMX : up_ M 0 64 L1 = MX
  have xr : ∀ r : Nat, r ≠ 0 → MX r = M r := fun r c => by rw [← hMX, up_ne c]
  have x0 : ∀ i : Int, i ≠ 64 → MX 0 i = M 0 i := fun i c => by rw [← hMX, upo c]
  have x64 : MX 0 64 = L1 := by rw [← hMX, up_at]
  have rX : RU 1 MX N := RU_cc hR (fun r hr => xr r (fun c => by rw [c] at hr; revert hr; decide)) (fun i hi => x0 i (fun c => by rw [c] at hi; revert hi; decide)) (fun _ _ => rfl) (fun _ _ => rfl)
  have fMX : XSF M MX := by rw [← hMX]; exact XSF_up (.inr (by decide)) (fun _ => by decide)
  have x38 := x_38 rX (PLr_s hP fMX QSF_rf) (k := n) (by (clear hk h8 hx1 hx3 hR hP hA hS hb hl1 hl2 h64 h166 h167 h168 c63 c169 e37 e38 hN vr hlen hL1 hx4 hx5 w3 hL lL hNQ qr q0 q164 q167 q168 fNQ hMX xr x0 x64 rX fMX; lia))
  rw [hL] at x38
  generalize hM3 : pakX MX n L = M3 at x38
  have m3r : ∀ r : Nat, r ∉ [0, 27, 28, 29] → M3 r = M r := fun r hr => by rw [← hM3, pak_r hr, xr r (fun c => hr (by rw [c]; decide))]
  have m30 : ∀ i : Int, i ∉ [64, 65] → M3 0 i = M 0 i := fun i hi => by
    simp only [List.mem_cons, List.not_mem_nil, or_false, not_or] at hi
    rw [← hM3, pak_0 hi.2, x0 i hi.1]
  have m364 : M3 0 64 = L1 := by rw [← hM3, pak_0 (by decide)]; exact x64
  have m328 : ∀ i, i ≠ n → M3 28 i = M 28 i := fun i hi => by rw [← hM3, pak_28, upo hi, xr 28 (by decide)]
  have m328n : M3 28 n = L.length := by rw [← hM3, pak_28, up_at]
  have m329 : ∀ i, i ≠ n → M3 29 i = M 29 i := fun i hi => by rw [← hM3, pak_29, upo hi, xr 29 (by decide)]
  have m329n : M3 29 n = hshL L := by rw [← hM3, pak_29, up_at]
  have m327 : M3 27 = lwf (M 27) (1100 * n) L := by rw [← hM3, pak_27, xr 27 (by decide)]
  have m327o : ∀ i, i < 1100 * n → M3 27 i = M 27 i := fun i hi => by rw [m327]; unfold lwf; rw [if_neg (by (clear hk h8 hx1 hx3 hR hP hA hS hb hl1 hl2 h64 h166 h167 h168 c63 c169 n2 e37 e38 hN vr hlen hL1 hx4 hx5 w3 hL lL hNQ qr q0 q164 q167 q168 fNQ hMX xr x0 x64 rX fMX hM3 x38 m3r m30 m364 m328 m328n m329 m329n m327; lia))]
  have m327n : RDL (M3 27) (1100 * n) L := by
    rw [m327]
    have := RDL_lw (f := M 27) (a := 1100 * n) L []
    rw [List.nil_append, List.length_nil] at this
    simpa using this
  have fM3 : XSF M M3 := by
    refine XSF_tr fMX ?_
    rw [← hM3]; unfold pakX pkW
    exact XSF_tr (XSF_tr (XSF_tr (XSF_wr (.inl (by decide)) (by decide)) (XSF_up (.inr (by decide)) (fun _ => by decide))) (XSF_up (.inl (by decide)) (fun c => absurd c (by decide)))) (XSF_up (.inl (by decide)) (fun c => absurd c (by decide)))
  have S3 : SST M3 NQ n B := SST_c hS (m30 62 (by decide)) (q0 163 (by decide)) (fun r hr k k0 k1 k2 => by
      simp only [List.mem_cons, List.not_mem_nil, or_false] at hr
      rcases hr with e | e | e | e | e | e | e | e | e
      · subst e; exact m327o k (k2 rfl)
      · subst e; exact m328 k (by have := k1 (by decide); (clear hk h8 hx1 hx3 hR hP hA hS hb hl1 hl2 h64 h166 h167 h168 c63 c169 n2 e37 e38 hN vr hlen hL1 hx4 hx5 w3 hL lL hNQ qr q0 q164 q167 q168 fNQ hMX xr x0 x64 rX fMX hM3 x38 m3r m30 m364 m328 m328n m329 m329n m327 m327o m327n fM3 k0 k1 k2; lia))
      · subst e; exact m329 k (by have := k1 (by decide); omega)
      all_goals (subst e; rw [m3r _ (by decide)])) (fun r hr => qr r (fun c => by rw [c] at hr; revert hr; decide)) (q0 18 (by decide)) ⟨q0 19 (by decide), q0 17 (by decide)⟩ hlen
  have b3 : BKT M3 n := BKT_c hb (fun i i0 i1 => m329 i (by omega)) (m3r 30 (by decide)) (m3r 31 (by decide))
  have P3 : PLr M3 NQ := PLr_s hP fM3 fNQ
  have ks := PKS_of P3 S3
  obtain ⟨w, w1, x46⟩ := x_46 (n := n) (by (clear hk h8 hx1 hx3 hR hP hA hS hb hl1 hl2 h64 h166 h167 h168 c63 c169 e37 e38 hN vr hlen hL1 hx4 hx5 w3 hL lL hNQ qr q0 q164 q167 q168 fNQ hMX xr x0 x64 rX fMX hM3 x38 m3r m30 m364 m328 m328n m329 m329n m327 m327o m327n fM3 S3 b3 P3 ks; lia)) b3 ks m327n m328n m329n lL
  -- Q looks
  have smq : smF (NQ 239) = smF (N 239) := by rw [qr 239 (by decide)]
  obtain ⟨u, u1, u2, q43⟩ := q_43 (N := NQ) (n := n) (v := smF (N 239)) (x1 := k) (by rw [q0 163 (by decide)]; exact e163) (by omega)
  have same : w = -1 ↔ u = n := by
    rw [w1, u2]
    refine ⟨fun h j j0 j1 hj => h j j0 j1 ?_, fun h j j0 j1 hj => h j j0 j1 ⟨?_, ?_⟩⟩
    · have v1 := (S3.2.2 j j0 j1).1.1
      show pkL NQ (rwk NQ j) = L
      rw [← hL, ← pkL_t (N := N) (N' := NQ) (q0 18 (by decide)) (qr 172 (by decide)), pkL_cg (PKB_of P3) v1 hj.2, qr 239 (by decide)]
    · have v1 := (S3.2.2 j j0 j1).1
      have hj2 : pkL NQ (rwk NQ j) = pkL NQ (N 239) := by rw [show pkL NQ (rwk NQ j) = L from hj, ← hL, ← pkL_t (N := N) (N' := NQ) (q0 18 (by decide)) (qr 172 (by decide))]
      have e := pkL_inj (PKB_of P3).1 v1.1 (VR_t vr (q0 18 (by decide)) (q0 19 (by decide)) (fun r hr => qr r (fun c => by rw [c] at hr; revert hr; decide))) hj2
      rw [v1.2.2.2.2]
      exact sumR_cg _ _ _ (fun i i0 i1 => e i i0 (by (clear hk h8 hx1 hx3 hR hP hA hS hb hl1 hl2 h64 h166 h167 h168 c63 c169 n2 e62 e163 e37 e38 hN vr hlen hL1 hx4 hx5 w3 wn hL lL hNQ qr q0 q164 q167 q168 fNQ hMX xr x0 x64 rX fMX hM3 x38 m3r m30 m364 m328 m328n m329 m329n m327 m327o m327n fM3 S3 b3 P3 ks w1 x46 smq u1 u2 q43 h j0 j1 hj v1 hj2 e; omega)))
    · have v1 := (S3.2.2 j j0 j1).1
      have hj2 : pkL NQ (rwk NQ j) = pkL NQ (N 239) := by rw [show pkL NQ (rwk NQ j) = L from hj, ← hL, ← pkL_t (N := N) (N' := NQ) (q0 18 (by decide)) (qr 172 (by decide))]
      have e := pkL_inj (PKB_of P3).1 v1.1 (VR_t vr (q0 18 (by decide)) (q0 19 (by decide)) (fun r hr => qr r (fun c => by rw [c] at hr; revert hr; decide))) hj2
      intro i i0 i1
      rw [e i i0 i1, qr 239 (by decide)]
  have q387 : ∀ (N' : mm_), (∀ (V : vv_) (Qr : qr_) (Qt : qt_), Cl_ wd0 (Tr_ wd0 pg0 2) V Qr Qt m_387 → Wk_ V → Qr [] N' → V 66 [rr 6, ii k, ii (smF (N 239)), ii u] [] NQ) → Ex_ 3 387 [.inr (.inr 6), .inl k] N [] N' := fun N' kk Qr Qt g => t_387 fun V hV hW => b_387_0 (Tr_mono _) hV hW _ _ (by
    rw [h167, h168, ← e37, ← e38, hx4, hx5, ← h64, hL1, hNQ]
    refine Ex_le (d := 1) (by decide) q_382 _ _ (ri_i ?_)
    rw [smq]
    exact q43 V Qr Qt hV hW (kk V Qr Qt hV hW g))
  have rwe : ∀ j, 0 ≤ j → j < n → rwk NQ j = rwk N j := fun j _ _ => by unfold rwk; rw [qr 245 (by decide)]
  have R3 : RU 1 M3 NQ := RU_cc hR (fun r hr => m3r r (fun c => by revert hr c; simp only [List.mem_cons, List.not_mem_nil, or_false]; (clear hk h8 hx1 hx3 hR hP hA hS hb hl1 hl2 h64 h166 h167 h168 c63 c169 n2 e62 e163 e37 e38 hN vr hlen hL1 hx4 hx5 w3 wn hL lL hNQ qr q0 q164 q167 q168 fNQ hMX xr x0 x64 rX fMX hM3 x38 m3r m30 m364 m328 m328n m329 m329n m327 m327o m327n fM3 S3 b3 P3 ks w1 x46 smq u1 u2 q43 same q387 rwe; omega))) (fun i hi => m30 i (fun c => by revert hi c; simp only [rfX, List.mem_cons, List.not_mem_nil, or_false]; (clear hk h8 hx1 hx3 hR hP hA hS hb hl1 hl2 h64 h166 h167 h168 c63 c169 n2 e62 e163 e37 e38 hN vr hlen hL1 hx4 hx5 w3 wn hL lL hNQ qr q0 q164 q167 q168 fNQ hMX xr x0 x64 rX fMX hM3 x38 m3r m30 m364 m328 m328n m329 m329n m327 m327o m327n fM3 S3 b3 P3 ks w1 x46 smq u1 u2 q43 same q387 rwe; omega))) (fun r hr => qr r (fun c => by rw [c] at hr; revert hr; decide)) (fun i hi => q0 i (fun c => by revert hi c; simp only [rfQ, List.mem_cons, List.not_mem_nil, or_false]; (clear hk h8 hx1 hx3 hR hP hA hS hb hl1 hl2 h64 h166 h167 h168 c63 c169 n2 e62 e163 e37 e38 hN vr hlen hL1 hx4 hx5 w3 wn hL lL hNQ qr q0 q164 q167 q168 fNQ hMX xr x0 x64 rX fMX hM3 x38 m3r m30 m364 m328 m328n m329 m329n m327 m327o m327n fM3 S3 b3 P3 ks w1 x46 smq u1 u2 q43 same q387 rwe; omega)))
  have A3 : TYA NQ := TYA_c hA (TYT_s fNQ) (qr 239 (by decide))
  have K3 : KMV n M N M3 NQ := ⟨⟨fM3, fNQ⟩, ⟨fun r hr => m3r r (fun c => by revert hr c; simp only [List.mem_cons, List.not_mem_nil, or_false]; (clear hk h8 hx1 hx3 hR hP hA hS hb hl1 hl2 h64 h166 h167 h168 c63 c169 n2 e62 e163 e37 e38 hN vr hlen hL1 hx4 hx5 w3 wn hL lL hNQ qr q0 q164 q167 q168 fNQ hMX xr x0 x64 rX fMX hM3 x38 m3r m30 m364 m328 m328n m329 m329n m327 m327o m327n fM3 S3 b3 P3 ks w1 x46 smq u1 u2 q43 same q387 rwe R3 A3; omega)), m30 69 (by decide)⟩, qr 246 (by decide), rwe, m30 11 (by decide), q0 130 (by decide)⟩
  have b62 : M3 0 62 = n := by rw [m30 62 (by decide)]; exact e62
  by_cases cw : w = -1
  · have cu := same.1 cw
    by_cases cn : n = x1
    · -- cut
      refine ⟨1, n, up_ M3 0 63 1, up_ NQ 6 169 1, .inr rfl, q387 _ (fun V Qr Qt hV hW g => b_387_66 (Tr_mono _) hV hW _ _ _ _ ?_), fun V Qr Qt hV hW g => ?_, ?_, ⟨up_at, up_at⟩, Int.le_refl _, ?_⟩
      · rw [q0 163 (by decide), e163, if_pos cu, q0 165 (by decide), hl2, if_pos cn]; exact ⟨.inr rfl, g⟩
      · rw [if_neg (by decide), if_neg (by decide)] at g
        rw [e62]
        refine Ex_le (d := 2) (by decide) x38 _ _ (rv_i ?_)
        rw [b62]
        refine Ex_le (d := 1) (by decide) x46 _ _ (ri_i ?_)
        rw [if_pos cw, b62, if_pos cn]; exact g
      · rw [if_neg (by decide)]
        have fx : XSF M3 (up_ M3 0 63 1) := XSF_up (.inr (by decide)) (fun _ => by decide)
        have fq : QSF NQ (up_ NQ 6 169 1) := QSF_up (.inr (by decide)) (fun _ => by decide)
        refine ⟨⟨RU_cc R3 (fun r hr => up_ne (fun c => by rw [c] at hr; revert hr; decide)) (fun i hi => upo (fun c => by rw [c] at hi; revert hi; decide)) (fun r hr => up_ne (fun c => by rw [c] at hr; revert hr; decide)) (fun i hi => upo (fun c => by rw [c] at hi; revert hi; decide)), PLr_s P3 fx fq, TYA_c A3 (TYT_s fq) (up_ne (by decide))⟩, ⟨SST_c S3 (upo (by decide)) (upo (by decide)) (fun r hr k _ _ _ => by rw [up_ne (fun c => by rw [c] at hr; revert hr; decide)]) (fun r hr => up_ne (fun c => by rw [c] at hr; revert hr; decide)) (upo (by decide)) ⟨upo (by decide), upo (by decide)⟩ (fun k k0 k1 => (ks k k0 k1).2.2.2), BKT_c b3 (fun i _ _ => by rw [up_ne (by decide)]) (up_ne (by decide)) (up_ne (by decide))⟩, ⟨hl1, by rw [upo (by decide), q0 165 (by decide)]; exact hl2⟩, ⟨by rw [upo (by decide), q0 166 (by decide)]; exact h166, by rw [upo (by decide)]; exact q167, by rw [upo (by decide)]; exact q168⟩, by rw [upo (by decide), upo (by decide), m364, q164]⟩
      · refine KMV_tr K3 ⟨⟨XSF_up (.inr (by decide)) (fun _ => by decide), QSF_up (.inr (by decide)) (fun _ => by decide)⟩, ⟨fun r hr => up_ne (fun c => by rw [c] at hr; revert hr; decide), upo (by decide)⟩, up_ne (by decide), fun j _ _ => by unfold rwk; rw [up_ne (by decide)], upo (by decide), upo (by decide)⟩ (Int.le_refl _)
    · -- a new state
      generalize hv : smF (N 239) = v at *
      have x40 := x_40 (M := M3) (n := n) (by (clear hk h8 hx3 hR hP hA hS hb h64 h166 h167 h168 c63 c169 e37 e38 hN vr hlen hL1 hx4 hx5 w3 hL lL hNQ qr q0 q164 q167 q168 fNQ hMX xr x0 x64 rX fMX hM3 x38 m3r m30 m364 m328 m328n m329 m329n m327 m327o m327n fM3 S3 b3 P3 ks w1 x46 u1 same rwe R3 A3 K3 cw hv smq q43 q387; lia))
      have q383 := q_383 (N := NQ) (n := n) (fr := k) (mv := x3) (v := v) (by rw [q0 163 (by decide)]; exact e163) (by (clear hk h8 hx3 hR hP hA hS hb h64 h166 h167 h168 c63 c169 e37 e38 hN vr hlen hL1 hx4 hx5 w3 hL lL hNQ qr q0 q164 q167 q168 fNQ hMX xr x0 x64 rX fMX hM3 x38 m3r m30 m364 m328 m328n m329 m329n m327 m327o m327n fM3 S3 b3 P3 ks w1 x46 u1 same rwe R3 A3 K3 cw hv smq q43 q387 x40; lia)) (.inr (by (clear h8 hx1 hx3 hR hP hA hS hb hl1 hl2 h64 h166 h167 h168 c63 c169 e37 e38 hN vr hlen hL1 hx4 hx5 w3 hL lL hNQ qr q0 q164 q167 q168 fNQ hMX xr x0 x64 rX fMX hM3 x38 m3r m30 m364 m328 m328n m329 m329n m327 m327o m327n fM3 S3 b3 P3 ks w1 x46 u1 same rwe R3 A3 K3 cw cu cn hv smq u2 q43 q387 x40; lia)))
      generalize hM5 : kpX M3 n = M5 at x40
      have m5r : ∀ r : Nat, r ∉ [30, 31, 35, 36, 37] → M5 r = M3 r := fun r hr => by
        have e : ∀ q : Nat, q ∈ [30, 31, 35, 36, 37] → r ≠ q := fun q hq e => hr (by rw [e]; exact hq)
        rw [← hM5]; unfold kpX
        rw [up_ne (e 37 (by decide)), up_ne (e 36 (by decide)), up_ne (e 35 (by decide)), up_ne (e 31 (by decide)), up_ne (e 30 (by decide))]
      have m5v : ∀ r : Nat, r ∈ [35, 36, 37] → ∀ i, M5 r i = if i = n then -1 else M3 r i := fun r hr i => by
        simp only [List.mem_cons, List.not_mem_nil, or_false] at hr
        rw [← hM5]; unfold kpX
        rcases hr with e | e | e
        · subst e
          rw [up_ne (by decide), up_ne (by decide)]
          by_cases c : i = n
          · rw [c, up_at, if_pos rfl]
          · rw [upo c, if_neg c, up_ne (by decide), up_ne (by decide)]
        · subst e
          rw [up_ne (by decide)]
          by_cases c : i = n
          · rw [c, up_at, if_pos rfl]
          · rw [upo c, if_neg c, up_ne (by decide), up_ne (by decide), up_ne (by decide)]
        · subst e
          by_cases c : i = n
          · rw [c, up_at, if_pos rfl]
          · rw [upo c, if_neg c, up_ne (by decide), up_ne (by decide), up_ne (by decide), up_ne (by decide)]
      have b5 : BKT M5 (n + 1) := by rw [← hM5]; exact BKT_kp b3 (by (clear hk h8 hx1 hx3 hR hP hA hS hb hl1 hl2 h64 h166 h167 h168 c63 c169 e37 e38 hN vr hlen hL1 hx4 hx5 w3 hL lL hNQ qr q0 q164 q167 q168 fNQ hMX xr x0 x64 rX fMX hM3 x38 m3r m30 m364 m328 m328n m329 m329n m327 m327o m327n fM3 S3 b3 P3 ks w1 x46 u1 same rwe R3 A3 K3 cw cu cn hv smq u2 q43 q387 q383 hM5 x40 m5r m5v; omega))
      have m5_62 : M5 0 62 = n := by rw [m5r 0 (by decide)]; exact b62
      generalize hMn : up_ (up_ (up_ (up_ M5 32 n k) 33 n x3) 34 n (w32 (M5 34 k + 1))) 0 62 (n + 1) = Mn
      have mnr : ∀ r : Nat, r ∉ [0, 32, 33, 34] → Mn r = M5 r := fun r hr => by
        have e : ∀ q : Nat, q ∈ [0, 32, 33, 34] → r ≠ q := fun q hq e => hr (by rw [e]; exact hq)
        rw [← hMn, up_ne (e 0 (by decide)), up_ne (e 34 (by decide)), up_ne (e 33 (by decide)), up_ne (e 32 (by decide))]
      have mn0 : ∀ i : Int, i ≠ 62 → Mn 0 i = M3 0 i := fun i hi => by rw [← hMn, upo hi, up_ne (by decide), up_ne (by decide), up_ne (by decide), m5r 0 (by decide)]
      have mn62 : Mn 0 62 = n + 1 := by rw [← hMn, up_at]
      have mn32 : ∀ i, Mn 32 i = if i = n then k else M3 32 i := fun i => by
        rw [← hMn, up_ne (by decide), up_ne (by decide), up_ne (by decide)]
        by_cases c : i = n
        · rw [c, up_at, if_pos rfl]
        · rw [upo c, if_neg c, m5r 32 (by decide)]
      have mn33 : ∀ i, Mn 33 i = if i = n then x3 else M3 33 i := fun i => by
        rw [← hMn, up_ne (by decide), up_ne (by decide)]
        by_cases c : i = n
        · rw [c, up_at, if_pos rfl]
        · rw [upo c, if_neg c, up_ne (by decide), m5r 33 (by decide)]
      have mn34 : ∀ i, Mn 34 i = if i = n then w32 (M3 34 k + 1) else M3 34 i := fun i => by
        rw [← hMn, up_ne (by decide)]
        by_cases c : i = n
        · rw [c, up_at, if_pos rfl, m5r 34 (by decide)]
        · rw [upo c, if_neg c, up_ne (by decide), up_ne (by decide), m5r 34 (by decide)]
      have mn3 : ∀ r : Nat, r ∉ [0, 30, 31, 32, 33, 34, 35, 36, 37] → Mn r = M3 r := fun r hr => by rw [mnr r (fun c => hr (by revert c; simp only [List.mem_cons, List.not_mem_nil, or_false]; (clear hk h8 hx1 hx3 hR hP hA hS hb hl1 hl2 h64 h166 h167 h168 c63 c169 n2 e62 e163 e37 e38 hN vr hlen hL1 hx4 hx5 w3 wn hL lL hNQ qr q0 q164 q167 q168 fNQ hMX xr x0 x64 rX fMX hM3 x38 m3r m30 m364 m328 m328n m329 m329n m327 m327o m327n fM3 S3 b3 P3 ks w1 x46 u1 same rwe R3 A3 K3 b62 cw cu cn hv smq u2 q43 q387 q383 hM5 x40 m5r m5v b5 m5_62 hMn mnr mn0 mn62 mn32 mn33 mn34 hr; lia))), m5r r (fun c => hr (by revert c; simp only [List.mem_cons, List.not_mem_nil, or_false]; (clear hk h8 hx1 hx3 hR hP hA hS hb hl1 hl2 h64 h166 h167 h168 c63 c169 n2 e62 e163 e37 e38 hN vr hlen hL1 hx4 hx5 w3 wn hL lL hNQ qr q0 q164 q167 q168 fNQ hMX xr x0 x64 rX fMX hM3 x38 m3r m30 m364 m328 m328n m329 m329n m327 m327o m327n fM3 S3 b3 P3 ks w1 x46 u1 same rwe R3 A3 K3 b62 cw cu cn hv smq u2 q43 q387 q383 hM5 x40 m5r m5v b5 m5_62 hMn mnr mn0 mn62 mn32 mn33 mn34 hr; lia)))]
      generalize hNn : up_ (kpQ NQ n k x3 v) 6 166 (x3 + 1) = Nn
      have nnr : ∀ r : Nat, r ∉ [6, 245, 247, 248, 249, 250, 251, 252, 253] → Nn r = NQ r := fun r hr => by
        have e : ∀ q : Nat, q ∈ [6, 245, 247, 248, 249, 250, 251, 252, 253] → r ≠ q := fun q hq e => hr (by rw [e]; exact hq)
        rw [← hNn, up_ne (e 6 (by decide))]; unfold kpQ
        rw [up_ne (e 6 (by decide)), up_ne (e 253 (by decide)), up_ne (e 252 (by decide)), up_ne (e 251 (by decide)), up_ne (e 250 (by decide)), up_ne (e 249 (by decide)), up_ne (e 248 (by decide)), up_ne (e 247 (by decide)), wr_ne (e 245 (by decide))]
      have nn6 : ∀ i : Int, i ≠ 163 → i ≠ 166 → Nn 6 i = NQ 6 i := fun i h1 h2 => by
        rw [← hNn, upo h2]; unfold kpQ
        rw [upo h1, up_ne (by decide), up_ne (by decide), up_ne (by decide), up_ne (by decide), up_ne (by decide), up_ne (by decide), up_ne (by decide), wr_ne (by decide)]
      have nn163 : Nn 6 163 = n + 1 := by rw [← hNn, upo (by decide)]; unfold kpQ; rw [up_at]
      have nn166 : Nn 6 166 = x3 + 1 := by rw [← hNn, up_at]
      have nn245 : Nn 245 = kcF NQ n := by
        rw [← hNn, up_ne (by decide)]; unfold kpQ
        rw [up_ne (by decide), up_ne (by decide), up_ne (by decide), up_ne (by decide), up_ne (by decide), up_ne (by decide), up_ne (by decide), up_ne (by decide), wr_same]
      have nnv : ∀ (i : Int), Nn 247 i = (if i = n then k else NQ 247 i) ∧ Nn 248 i = (if i = n then x3 else NQ 248 i) ∧ Nn 249 i = (if i = n then w32 (NQ 249 k + 1) else NQ 249 i) ∧ Nn 250 i = (if i = n then -1 else NQ 250 i) ∧ Nn 251 i = (if i = n then -1 else NQ 251 i) ∧ Nn 252 i = (if i = n then -1 else NQ 252 i) ∧ Nn 253 i = (if i = n then v else NQ 253 i) := fun i => by
        rw [← hNn]
        unfold kpQ
        rw [if_neg (by (clear h8 hx1 hx3 hR hP hA hS hb hl1 hl2 h64 h166 h167 h168 c63 c169 n2 e62 e163 e37 e38 hN vr hlen hL1 hx4 hx5 w3 wn hL lL hNQ qr q0 q164 q167 q168 fNQ hMX xr x0 x64 rX fMX hM3 x38 m3r m30 m364 m328 m328n m329 m329n m327 m327o m327n fM3 S3 b3 P3 ks w1 x46 u1 same rwe R3 A3 K3 b62 cw cu cn hv smq u2 q43 q387 q383 hM5 x40 m5r m5v b5 m5_62 hMn mnr mn0 mn62 mn32 mn33 mn34 mn3 hNn nnr nn6 nn163 nn166 nn245; omega) : ¬ k < 0)]
        by_cases c : i = n
        · subst c
          simp only [if_true]
          refine ⟨?_, ?_, ?_, ?_, ?_, ?_, ?_⟩
          · rw [up_ne (by decide), up_ne (by decide), up_ne (by decide), up_ne (by decide), up_ne (by decide), up_ne (by decide), up_ne (by decide), up_ne (by decide), up_at]
          · rw [up_ne (by decide), up_ne (by decide), up_ne (by decide), up_ne (by decide), up_ne (by decide), up_ne (by decide), up_ne (by decide), up_at]
          · rw [up_ne (by decide), up_ne (by decide), up_ne (by decide), up_ne (by decide), up_ne (by decide), up_ne (by decide), up_at]
          · rw [up_ne (by decide), up_ne (by decide), up_ne (by decide), up_ne (by decide), up_ne (by decide), up_at]
          · rw [up_ne (by decide), up_ne (by decide), up_ne (by decide), up_ne (by decide), up_at]
          · rw [up_ne (by decide), up_ne (by decide), up_ne (by decide), up_at]
          · rw [up_ne (by decide), up_ne (by decide), up_at]
        · simp only [if_neg c]
          refine ⟨?_, ?_, ?_, ?_, ?_, ?_, ?_⟩ <;> simp only [up_o2 c, up_ne (show (247 : Nat) ≠ 6 by decide), up_ne (show (248 : Nat) ≠ 6 by decide), up_ne (show (249 : Nat) ≠ 6 by decide), up_ne (show (250 : Nat) ≠ 6 by decide), up_ne (show (251 : Nat) ≠ 6 by decide), up_ne (show (252 : Nat) ≠ 6 by decide), up_ne (show (253 : Nat) ≠ 6 by decide)] <;> rw [wr_ne (by decide)]
      have rwo : ∀ j, 0 ≤ j → j < n → rwk Nn j = rwk NQ j := fun j j0 j1 => by
        funext i; unfold rwk
        by_cases c : 0 ≤ i ∧ i < 1104
        · rw [if_pos c, if_pos c, nn245]; unfold kcF; rw [if_neg (by (clear hk h8 hx1 hx3 hR hP hA hS hb hl1 hl2 h64 h166 h167 h168 c63 c169 n2 e37 e38 hN vr hlen hL1 hx4 hx5 w3 hL lL hNQ qr q0 q164 q167 q168 fNQ hMX xr x0 x64 rX fMX hM3 x38 m3r m30 m364 m328 m328n m329 m329n m327 m327o m327n fM3 S3 b3 P3 ks w1 x46 u1 same rwe R3 A3 K3 cw cu cn hv smq u2 q43 q387 q383 hM5 x40 m5r m5v b5 hMn mnr mn0 mn32 mn33 mn34 mn3 hNn nnr nn6 nn166 nn245 nnv j0; lia))]
        · rw [if_neg c, if_neg c]
      have rwn : ∀ i, 0 ≤ i → i < 1104 → N 239 i = rwk Nn n i := fun i i0 i1 => by
        rw [rwk_i i0 i1, nn245]; unfold kcF
        rw [if_pos (by (clear hk h8 hx1 hx3 hR hP hA hS hb hl1 hl2 h64 h166 h167 h168 c63 c169 n2 e62 e163 e37 e38 hN vr hlen hL1 hx4 hx5 w3 wn hL lL hNQ qr q0 q164 q167 q168 fNQ hMX xr x0 x64 rX fMX hM3 x38 m3r m30 m364 m328 m328n m329 m329n m327 m327o m327n fM3 S3 b3 P3 ks w1 x46 u1 same rwe R3 A3 K3 b62 cw cu cn hv smq u2 q43 q387 q383 hM5 x40 m5r m5v b5 m5_62 hMn mnr mn0 mn62 mn32 mn33 mn34 mn3 hNn nnr nn6 nn163 nn166 nn245 nnv rwo; lia)), qr 239 (by decide), show 1104 * n + i - 1104 * n = i by (clear hk h8 hx1 hx3 hR hP hA hS hb hl1 hl2 h64 h166 h167 h168 c63 c169 n2 e62 e163 e37 e38 hN vr hlen hL1 hx4 hx5 w3 wn hL lL hNQ qr q0 q164 q167 q168 fNQ hMX xr x0 x64 rX fMX hM3 x38 m3r m30 m364 m328 m328n m329 m329n m327 m327o m327n fM3 S3 b3 P3 ks w1 x46 u1 same rwe R3 A3 K3 b62 cw cu cn hv smq u2 q43 q387 q383 hM5 x40 m5r m5v b5 m5_62 hMn mnr mn0 mn62 mn32 mn33 mn34 mn3 hNn nnr nn6 nn163 nn166 nn245 nnv rwo i0 i1; lia)]
      have fMn : XSF M3 Mn := by
        rw [← hMn, ← hM5]; unfold kpX
        exact XSF_tr (XSF_tr (XSF_tr (XSF_tr (XSF_tr (XSF_tr (XSF_tr (XSF_tr (XSF_up (.inl (by decide)) (fun c => absurd c (by decide))) (XSF_up (.inl (by decide)) (fun c => absurd c (by decide)))) (XSF_up (.inl (by decide)) (fun c => absurd c (by decide)))) (XSF_up (.inl (by decide)) (fun c => absurd c (by decide)))) (XSF_up (.inl (by decide)) (fun c => absurd c (by decide)))) (XSF_up (.inl (by decide)) (fun c => absurd c (by decide)))) (XSF_up (.inl (by decide)) (fun c => absurd c (by decide)))) (XSF_up (.inl (by decide)) (fun c => absurd c (by decide)))) (XSF_up (.inr (by decide)) (fun _ => by decide))
      have fNn : QSF NQ Nn := by
        rw [← hNn]; unfold kpQ
        exact QSF_tr (QSF_tr (QSF_tr (QSF_tr (QSF_tr (QSF_tr (QSF_tr (QSF_tr (QSF_tr (QSF_wr (.inl (by decide)) (by decide)) (QSF_up (.inl (by decide)) (fun c => absurd c (by decide)))) (QSF_up (.inl (by decide)) (fun c => absurd c (by decide)))) (QSF_up (.inl (by decide)) (fun c => absurd c (by decide)))) (QSF_up (.inl (by decide)) (fun c => absurd c (by decide)))) (QSF_up (.inl (by decide)) (fun c => absurd c (by decide)))) (QSF_up (.inl (by decide)) (fun c => absurd c (by decide)))) (QSF_up (.inl (by decide)) (fun c => absurd c (by decide)))) (QSF_up (.inr (by decide)) (fun _ => by decide))) (QSF_up (.inr (by decide)) (fun _ => by decide))
      have t18 : Nn 6 18 = NQ 6 18 := nn6 18 (by decide) (by decide)
      have t19 : Nn 6 19 = NQ 6 19 := nn6 19 (by decide) (by decide)
      have h18' : Nn 6 18 = N 6 18 := by rw [t18, q0 18 (by decide)]
      have h19' : Nn 6 19 = N 6 19 := by rw [t19, q0 19 (by decide)]
      have tr : ∀ r : Nat, r ∈ [156, 157, 171, 172, 173, 174, 182, 183, 184] → Nn r = NQ r := fun r hr => nnr r (fun c => by revert hr c; simp only [List.mem_cons, List.not_mem_nil, or_false]; (clear hk h8 hx1 hx3 hR hP hA hS hb hl1 hl2 h64 h166 h167 h168 c63 c169 n2 e62 e163 e37 e38 hN vr hlen hL1 hx4 hx5 w3 wn hL lL hNQ qr q0 q164 q167 q168 fNQ hMX xr x0 x64 rX fMX hM3 x38 m3r m30 m364 m328 m328n m329 m329n m327 m327o m327n fM3 S3 b3 P3 ks w1 x46 u1 same rwe R3 A3 K3 b62 cw cu cn hv smq u2 q43 q387 q383 hM5 x40 m5r m5v b5 m5_62 hMn mnr mn0 mn62 mn32 mn33 mn34 mn3 hNn nnr nn6 nn163 nn166 nn245 nnv rwo rwn fMn fNn t18 t19 h18' h19'; omega))
      have tr' : ∀ r : Nat, r ∈ [156, 157, 171, 172, 173, 174, 182, 183, 184] → Nn r = N r := fun r hr => by rw [tr r hr, qr r (fun c => by rw [c] at hr; revert hr; decide)]
      have vr' : VR Nn (N 239) := VR_t vr h18' h19' (fun r hr => tr' r (by revert hr; simp only [List.mem_cons, List.not_mem_nil, or_false]; (clear hk h8 hx1 hx3 hR hP hA hS hb hl1 hl2 h64 h166 h167 h168 c63 c169 n2 e62 e163 e37 e38 hN vr hlen hL1 hx4 hx5 w3 wn hL lL hNQ qr q0 q164 q167 q168 fNQ hMX xr x0 x64 rX fMX hM3 x38 m3r m30 m364 m328 m328n m329 m329n m327 m327o m327n fM3 S3 b3 P3 ks w1 x46 u1 same rwe R3 A3 K3 b62 cw cu cn hv smq u2 q43 q387 q383 hM5 x40 m5r m5v b5 m5_62 hMn mnr mn0 mn62 mn32 mn33 mn34 mn3 hNn nnr nn6 nn163 nn166 nn245 nnv rwo rwn fMn fNn t18 t19 h18' h19' tr tr'; lia)))
      have vrn : VR Nn (rwk Nn n) := VR_c (by rw [h18']; exact hN.1) vr' rwn
      have Pn : PLr Mn Nn := PLr_s P3 fMn fNn
      have pkn : pkL Nn (rwk Nn n) = L := by rw [← pkL_cg (PKB_of Pn) vr' rwn, pkL_t h18' (tr' 172 (by decide))]; exact hL
      have Sn : SST Mn Nn (n + 1) B := by
        refine ⟨⟨mn62, nn163⟩, by (clear hk h8 hx3 hR hP hA hS hb h64 h166 h167 h168 c63 c169 e37 e38 hN vr hlen hL1 hx4 hx5 w3 hL lL hNQ qr q0 q164 q167 q168 fNQ hMX xr x0 x64 rX fMX hM3 x38 m3r m30 m364 m328 m328n m329 m329n m327 m327o m327n fM3 S3 b3 P3 ks w1 x46 u1 same rwe R3 A3 K3 cw hv smq q43 q387 q383 hM5 x40 m5r m5v b5 hMn mnr mn0 mn32 mn33 mn34 mn3 hNn nnr nn6 nn166 nn245 nnv rwo rwn fMn fNn t18 t19 h18' h19' tr tr' vr' vrn Pn pkn; lia), fun j j0 j1 => ?_⟩
        obtain ⟨w0, w1', w2, w3', w4, w5, w6⟩ := nnv j
        by_cases c : j = n
        · rw [if_pos c] at w0 w1' w2 w3' w4 w5 w6
          subst c
          refine ⟨⟨vrn, TYR_c (TYR_of hA) ⟨fun r hr => tr' r (by revert hr; simp only [List.mem_cons, List.not_mem_nil, or_false]; (clear h8 hx1 hx3 hR hP hA hl2 h64 h166 h167 h168 c63 c169 e37 e38 hN vr hL1 hx4 hx5 w3 hL lL hNQ qr q0 q164 q167 q168 fNQ hMX xr x0 x64 rX fMX m3r m30 m364 fM3 P3 R3 A3 cw hv smq q43 q387 m5r mnr mn0 mn3 nnr nn6 nn166 fMn fNn t18 t19 h18' h19' tr tr' vr' Pn j0 w0 w1' w2 w3' w4 w5 w6 hk hS hb hl1 n2 e62 e163 hlen wn hM3 x38 m328 m328n m329 m329n m327 m327o m327n S3 b3 ks w1 x46 u1 same rwe K3 b62 cu cn u2 q383 hM5 x40 m5v b5 m5_62 hMn mn62 mn32 mn33 mn34 hNn nn163 nn245 nnv rwo rwn vrn pkn j1; lia)), h18', by rw [nn6 17 (by decide) (by decide), q0 17 (by decide)]⟩ vr.1.1 (fun i i0 i1 => (rwn i i0 i1).symm), ?_, ⟨by rw [pkn, mn3 27 (by decide)]; exact m327n, by rw [pkn, mn3 28 (by decide)]; exact m328n, by rw [pkn, mn3 29 (by decide)]; exact m329n⟩, ?_⟩, ?_⟩
          · rw [← rwn 1 (by decide) (by decide), ← hR.1.2.1.1]; (clear hx1 hx3 hR hP hA hl2 h64 h166 h167 h168 c63 c169 e37 e38 hN vr hL1 hx4 hx5 w3 hL lL hNQ qr q0 q164 q167 q168 fNQ hMX xr x0 x64 rX fMX m3r m30 m364 fM3 P3 R3 A3 cw hv smq q43 q387 m5r mnr mn0 mn3 nnr nn6 nn166 fMn fNn t18 t19 h18' h19' tr tr' vr' Pn j0 w1' w2 w3' w4 w5 w6 hS hb hl1 n2 hlen hM3 x38 m328 m328n m329 m329n m327 m327o m327n S3 b3 ks w1 x46 u1 same rwe K3 cu cn u2 q383 hM5 x40 m5v b5 hMn mn32 mn33 mn34 hNn nn245 nnv rwo rwn vrn pkn j1; lia)
          · rw [w6, ← hv]; exact sumR_cg _ _ _ (fun i i0 i1 => rwn i i0 (by (clear h8 hx1 hx3 hR hP hA hl2 h64 h166 h167 h168 c63 c169 e37 e38 hN vr hL1 hx4 hx5 w3 hL lL hNQ qr q0 q164 q167 q168 fNQ hMX xr x0 x64 rX fMX m3r m30 m364 fM3 P3 R3 A3 cw hv smq q43 q387 m5r mnr mn0 mn3 nnr nn6 nn166 fMn fNn t18 t19 h18' h19' tr tr' vr' Pn j0 w0 w1' w2 w3' w4 w5 w6 hk hS hb hl1 n2 e62 e163 hlen wn hM3 x38 m328 m328n m329 m329n m327 m327o m327n S3 b3 ks w1 x46 u1 same rwe K3 b62 cu cn u2 q383 hM5 x40 m5v b5 m5_62 hMn mn62 mn32 mn33 mn34 hNn nn163 nn245 nnv rwo rwn vrn pkn j1; omega)))
          · unfold SEQ
            rw [mn32, mn33, mn34, if_pos rfl, if_pos rfl, if_pos rfl, mnr 35 (by decide), mnr 36 (by decide), mnr 37 (by decide), m5v 35 (by decide), m5v 36 (by decide), m5v 37 (by decide), if_pos rfl, if_pos rfl, if_pos rfl, w0, w1', w2, w3', w4, w5, (S3.2.2 k hk.1 hk.2).2.1.2.2]
            exact ⟨⟨rfl, rfl, rfl⟩, rfl, rfl, rfl⟩
        · rw [if_neg c] at w0 w1' w2 w3' w4 w5 w6
          obtain ⟨a1, a2⟩ := S3.2.2 j j0 (by (clear hk h8 hx1 hx3 hR hP hA hS hb hl1 hl2 h64 h166 h167 h168 c63 c169 n2 e37 e38 hN vr hlen hL1 hx4 hx5 w3 hL lL hNQ qr q0 q164 q167 q168 fNQ hMX xr x0 x64 rX fMX hM3 x38 m3r m30 m364 m328 m328n m329 m329n m327 m327o m327n fM3 S3 b3 P3 ks w1 x46 u1 same rwe R3 A3 K3 cw cu cn hv smq u2 q43 q387 q383 hM5 x40 m5r m5v b5 hMn mnr mn0 mn32 mn33 mn34 mn3 hNn nnr nn6 nn166 nn245 nnv rwo rwn fMn fNn t18 t19 h18' h19' tr tr' vr' vrn Pn pkn j0 w0 w1' w2 w3' w4 w5 w6; lia))
          refine ⟨SFK_c a1 (rwo j j0 (by (clear hk h8 hx1 hx3 hR hP hA hS hb hl1 hl2 h64 h166 h167 h168 c63 c169 n2 e37 e38 hN vr hlen hL1 hx4 hx5 w3 hL lL hNQ qr q0 q164 q167 q168 fNQ hMX xr x0 x64 rX fMX hM3 x38 m3r m30 m364 m328 m328n m329 m329n m327 m327o m327n fM3 S3 b3 P3 ks w1 x46 u1 same rwe R3 A3 K3 cw cu cn hv smq u2 q43 q387 q383 hM5 x40 m5r m5v b5 hMn mnr mn0 mn32 mn33 mn34 mn3 hNn nnr nn6 nn166 nn245 nnv rwo rwn fMn fNn t18 t19 h18' h19' tr tr' vr' vrn Pn pkn j0 w0 w1' w2 w3' w4 w5 w6 a1 a2; lia))) t18 ⟨t19, nn6 17 (by decide) (by decide)⟩ tr (fun h => by rw [mn3 27 (by decide)]; exact h) (by rw [mn3 28 (by decide)]) (by rw [mn3 29 (by decide)]) w6, ?_⟩
          unfold SEQ at a2 ⊢
          rw [mn32, mn33, mn34, if_neg c, if_neg c, if_neg c, mnr 35 (by decide), mnr 36 (by decide), mnr 37 (by decide), m5v 35 (by decide), m5v 36 (by decide), m5v 37 (by decide), if_neg c, if_neg c, if_neg c, w0, w1', w2, w3', w4, w5]
          exact a2
      refine ⟨0, n + 1, Mn, Nn, .inl rfl, q387 _ (fun V Qr Qt hV hW g => b_387_66 (Tr_mono _) hV hW _ _ _ _ ?_), fun V Qr Qt hV hW g => ?_, ?_, ⟨by rw [mn0 63 (by decide), m30 63 (by decide)]; exact c63, by rw [nn6 169 (by decide) (by decide), q0 169 (by decide)]; exact c169⟩, by (clear hk h8 hx1 hx3 hR hP hA hS hb hl1 hl2 h64 h166 h167 h168 c63 c169 n2 e62 e163 e37 e38 hN vr hlen hL1 hx4 hx5 w3 wn hL lL hNQ qr q0 q164 q167 q168 fNQ hMX xr x0 x64 rX fMX hM3 x38 m3r m30 m364 m328 m328n m329 m329n m327 m327o m327n fM3 S3 b3 P3 ks w1 x46 u1 same rwe R3 A3 K3 b62 cw cu cn hv smq u2 q43 q387 q383 hM5 x40 m5r m5v b5 m5_62 hMn mnr mn0 mn62 mn32 mn33 mn34 mn3 hNn nnr nn6 nn163 nn166 nn245 nnv rwo rwn fMn fNn t18 t19 h18' h19' tr tr' vr' vrn Pn pkn Sn; lia), ?_⟩
      · rw [q0 163 (by decide), e163, if_pos cu, q0 165 (by decide), hl2, if_neg cn, q0 166 (by decide), h166]
        refine Ex_le (d := 1) (by decide) q383 _ _ (rv_i ?_)
        have e166 : kpQ NQ n k x3 v 6 166 = x3 := by
          unfold kpQ
          rw [upo (by decide), up_ne (by decide), up_ne (by decide), up_ne (by decide), up_ne (by decide), up_ne (by decide), up_ne (by decide), up_ne (by decide), wr_ne (by decide), q0 166 (by decide)]; exact h166
        rw [e166, w3, hNn]; exact g
      · rw [if_pos rfl, if_pos rfl] at g
        rw [e62]
        refine Ex_le (d := 2) (by decide) x38 _ _ (rv_i ?_)
        rw [b62]
        refine Ex_le (d := 1) (by decide) x46 _ _ (ri_i ?_)
        rw [if_pos cw, b62, if_neg cn]
        refine Ex_le (d := 1) (by decide) x40 _ _ (rv_i ?_)
        rw [m5_62, wn, hMn]
        exact ⟨by (clear hk h8 hx3 hR hP hA hS hb h64 h166 h167 h168 c63 c169 e37 e38 hN vr hlen hL1 hx4 hx5 w3 hL lL hNQ qr q0 q164 q167 q168 fNQ hMX xr x0 x64 rX fMX hM3 x38 m3r m30 m364 m328 m328n m329 m329n m327 m327o m327n fM3 S3 b3 P3 ks w1 x46 u1 same rwe R3 A3 K3 cw hv smq q43 q387 q383 hM5 x40 m5r m5v b5 hMn mnr mn0 mn32 mn33 mn34 mn3 hNn nnr nn6 nn166 nn245 nnv rwo rwn fMn fNn t18 t19 h18' h19' tr tr' vr' vrn Pn pkn Sn hV hW g; lia), by (clear hk h8 hx3 hR hP hA hS hb h64 h166 h167 h168 c63 c169 e37 e38 hN vr hlen hL1 hx4 hx5 w3 hL lL hNQ qr q0 q164 q167 q168 fNQ hMX xr x0 x64 rX fMX hM3 x38 m3r m30 m364 m328 m328n m329 m329n m327 m327o m327n fM3 S3 b3 P3 ks w1 x46 u1 same rwe R3 A3 K3 cw hv smq q43 q387 q383 hM5 x40 m5r m5v b5 hMn mnr mn0 mn32 mn33 mn34 mn3 hNn nnr nn6 nn166 nn245 nnv rwo rwn fMn fNn t18 t19 h18' h19' tr tr' vr' vrn Pn pkn Sn hV hW g; lia), by (clear h8 hx1 hx3 hR hP hA hS hb hl1 hl2 h64 h166 h167 h168 c63 c169 e37 e38 hN vr hlen hL1 hx4 hx5 w3 hL lL hNQ qr q0 q164 q167 q168 fNQ hMX xr x0 x64 rX fMX hM3 x38 m3r m30 m364 m328 m328n m329 m329n m327 m327o m327n fM3 S3 b3 P3 ks w1 x46 u1 same rwe R3 A3 K3 cw cu cn hv smq u2 q43 q387 q383 hM5 x40 m5r m5v b5 hMn mnr mn0 mn32 mn33 mn34 mn3 hNn nnr nn6 nn166 nn245 nnv rwo rwn fMn fNn t18 t19 h18' h19' tr tr' vr' vrn Pn pkn Sn hV hW g; lia), by (clear hk h8 hx3 hR hP hA hS hb h64 h166 h167 h168 c63 c169 e37 e38 hN vr hlen hL1 hx4 hx5 w3 hL lL hNQ qr q0 q164 q167 q168 fNQ hMX xr x0 x64 rX fMX hM3 x38 m3r m30 m364 m328 m328n m329 m329n m327 m327o m327n fM3 S3 b3 P3 ks w1 x46 u1 same rwe R3 A3 K3 cw hv smq q43 q387 q383 hM5 x40 m5r m5v b5 hMn mnr mn0 mn32 mn33 mn34 mn3 hNn nnr nn6 nn166 nn245 nnv rwo rwn fMn fNn t18 t19 h18' h19' tr tr' vr' vrn Pn pkn Sn hV hW g; lia), g⟩
      · rw [if_pos rfl]
        refine ⟨⟨RU_cc R3 (fun r hr => mn3 r (fun c => by revert hr c; simp only [List.mem_cons, List.not_mem_nil, or_false]; (clear hk h8 hx1 hx3 hR hP hA hS hb hl1 hl2 h64 h166 h167 h168 c63 c169 n2 e62 e163 e37 e38 hN vr hlen hL1 hx4 hx5 w3 wn hL lL hNQ qr q0 q164 q167 q168 fNQ hMX xr x0 x64 rX fMX hM3 x38 m3r m30 m364 m328 m328n m329 m329n m327 m327o m327n fM3 S3 b3 P3 ks w1 x46 u1 same rwe R3 A3 K3 b62 cw cu cn hv smq u2 q43 q387 q383 hM5 x40 m5r m5v b5 m5_62 hMn mnr mn0 mn62 mn32 mn33 mn34 mn3 hNn nnr nn6 nn163 nn166 nn245 nnv rwo rwn fMn fNn t18 t19 h18' h19' tr tr' vr' vrn Pn pkn Sn; omega))) (fun i hi => mn0 i (fun c => by rw [c] at hi; revert hi; decide)) (fun r hr => nnr r (fun c => by revert hr c; simp only [List.mem_cons, List.not_mem_nil, or_false]; omega)) (fun i hi => nn6 i (fun c => by rw [c] at hi; revert hi; decide) (fun c => by rw [c] at hi; revert hi; decide)), Pn, TYA_c A3 (TYT_s fNn) (nnr 239 (by decide))⟩, ⟨Sn, BKT_c b5 (fun i i0 i1 => by rw [mnr 29 (by decide)]) (mnr 30 (by decide)) (mnr 31 (by decide))⟩, ⟨by (clear hk h8 hx1 hx3 hR hP hA hS hb h64 h166 h167 h168 c63 c169 n2 e37 e38 hN vr hlen hL1 hx4 hx5 w3 hL lL hNQ qr q0 q164 q167 q168 fNQ hMX xr x0 x64 rX fMX hM3 x38 m3r m30 m364 m328 m328n m329 m329n m327 m327o m327n fM3 S3 b3 P3 ks w1 x46 u1 same rwe R3 A3 K3 cw hv smq q43 q387 q383 hM5 x40 m5r m5v b5 hMn mnr mn0 mn32 mn33 mn34 mn3 hNn nnr nn6 nn166 nn245 nnv rwo rwn fMn fNn t18 t19 h18' h19' tr tr' vr' vrn Pn pkn Sn; lia), by rw [nn6 165 (by decide) (by decide), q0 165 (by decide)]; exact hl2⟩, ⟨nn166, by rw [nn6 167 (by decide) (by decide)]; exact q167, by rw [nn6 168 (by decide) (by decide)]; exact q168⟩, by rw [mn0 64 (by decide), nn6 164 (by decide) (by decide), m364, q164]⟩
      · refine KMV_tr K3 ⟨⟨fMn, fNn⟩, ⟨fun r hr => mn3 r (fun c => by revert hr c; simp only [List.mem_cons, List.not_mem_nil, or_false]; (clear hk h8 hx1 hx3 hR hP hA hS hb hl1 hl2 h64 h166 h167 h168 c63 c169 n2 e62 e163 e37 e38 hN vr hlen hL1 hx4 hx5 w3 wn hL lL hNQ qr q0 q164 q167 q168 fNQ hMX xr x0 x64 rX fMX hM3 x38 m3r m30 m364 m328 m328n m329 m329n m327 m327o m327n fM3 S3 b3 P3 ks w1 x46 u1 same rwe R3 A3 K3 b62 cw cu cn hv smq u2 q43 q387 q383 hM5 x40 m5r m5v b5 m5_62 hMn mnr mn0 mn62 mn32 mn33 mn34 mn3 hNn nnr nn6 nn163 nn166 nn245 nnv rwo rwn fMn fNn t18 t19 h18' h19' tr tr' vr' vrn Pn pkn Sn; omega)), mn0 69 (by decide)⟩, nnr 246 (by decide), rwo, mn0 11 (by decide), nn6 130 (by decide) (by decide)⟩ (Int.le_refl _)
  · -- known
    have cu : ¬ u = n := fun e => cw (same.2 e)
    refine ⟨0, n, M3, up_ NQ 6 166 (x3 + 1), .inl rfl, q387 _ (fun V Qr Qt hV hW g => b_387_66 (Tr_mono _) hV hW _ _ _ _ ?_), fun V Qr Qt hV hW g => ?_, ?_, ⟨by rw [m30 63 (by decide)]; exact c63, by rw [upo (by decide), q0 169 (by decide)]; exact c169⟩, Int.le_refl _, ?_⟩
    · rw [q0 163 (by decide), e163, if_neg cu, q0 166 (by decide), h166, w3]; exact g
    · rw [if_pos rfl, if_pos rfl] at g
      rw [e62]
      refine Ex_le (d := 2) (by decide) x38 _ _ (rv_i ?_)
      rw [b62]
      refine Ex_le (d := 1) (by decide) x46 _ _ (ri_i ?_)
      rw [if_neg cw]; exact g
    · rw [if_pos rfl]
      have fq : QSF NQ (up_ NQ 6 166 (x3 + 1)) := QSF_up (.inr (by decide)) (fun _ => by decide)
      refine ⟨⟨RU_cc R3 (fun _ _ => rfl) (fun _ _ => rfl) (fun r hr => up_ne (fun c => by rw [c] at hr; revert hr; decide)) (fun i hi => upo (fun c => by rw [c] at hi; revert hi; decide)), PLr_s P3 XSF_rf fq, TYA_c A3 (TYT_s fq) (up_ne (by decide))⟩, ⟨SST_c S3 rfl (upo (by decide)) (fun r hr k _ _ _ => rfl) (fun r hr => up_ne (fun c => by rw [c] at hr; revert hr; decide)) (upo (by decide)) ⟨upo (by decide), upo (by decide)⟩ (fun k k0 k1 => (ks k k0 k1).2.2.2), b3⟩, ⟨hl1, by rw [upo (by decide), q0 165 (by decide)]; exact hl2⟩, ⟨up_at, by rw [upo (by decide)]; exact q167, by rw [upo (by decide)]; exact q168⟩, by rw [upo (by decide), m364, q164]⟩
    · refine KMV_tr K3 ⟨⟨XSF_rf, QSF_up (.inr (by decide)) (fun _ => by decide)⟩, ⟨fun _ _ => rfl, rfl⟩, up_ne (by decide), fun j _ _ => by unfold rwk; rw [up_ne (by decide)], rfl, upo (by decide)⟩ (Int.le_refl _)
end MDa
end T405_md
section T406_lo
/-! X's look for a step does not touch counters: it runs alike where they are other -/
def lcF : List Int := [10, 11, 26, 27, 28, 29, 30, 31, 32, 33, 34, 35, 36, 37, 38]
def pT (c : Int → Int) (M : mm_) : mm_ := fun r i => if r = 0 ∧ i ∈ lcF then c i else M r i
def loI (e : Instr × Nat × Nat × Int × List (Int × Nat)) : Bool := match e.1 with
  | .getfield _ => e.2.2.1 == 2 || (e.2.2.1 == 0 && !(lcF.contains e.2.2.2.1))
  | .putfield _ => e.2.2.1 == 0 && !(lcF.contains e.2.2.2.1)
  | .invokevirtual _ => nxS.contains e.2.2.1
  | .invokestatic _ => nxS.contains e.2.2.1
  | _ => true
section LCa
variable {D : ca_} {V : vv_} {Qr : qr_} {Qt : qt_} {c : Int → Int} {M : mm_}
theorem pT_r [Inhabited fz_] {r : Nat} (h : r ≠ 0) : pT c M r = M r := by funext i; unfold pT; rw [if_neg (fun e => h e.1)]
theorem pT_0 [Inhabited fz_] {r : Nat} {i : Int} (h : i ∉ lcF) : pT c M r i = M r i := by unfold pT; rw [if_neg (fun e => h e.2)]
theorem pT_up [Inhabited fz_] {r : Nat} {i x : Int} (h : r ≠ 0 ∨ i ∉ lcF) : pT c (up_ M r i x) = up_ (pT c M) r i x := by
  funext q j
  unfold pT
  by_cases e : q = r
  · subst e
    by_cases e2 : j = i
    · subst e2
      rw [up_at, up_at, if_neg (fun e => h.elim (fun g => g e.1) (fun g => g e.2))]
    · rw [upo e2, upo e2]
  · rw [up_ne e, up_ne e]
theorem ak_0 [Inhabited fz_] {r : Nat} {n : Nat} (h : wd0.2.2.2.1 r = n) (hn : n ≠ 0) : r ≠ 0 := fun e => by
  rw [e] at h; exact hn (h ▸ (by decide : wd0.2.2.2.1 0 = 0))
theorem sw_lo [Inhabited fz_] {P P' : Nat → Prop} {x : Int} (hP : ∀ n, P n → P' n) : ∀ {tb : List (Int × Nat)} {d : Nat}, sw_ P x tb d → sw_ P' x tb d
  | [], d, h => hP _ h
  | k :: t, d, h => by
    unfold sw_ at h ⊢
    by_cases e : x = k.1
    · rw [if_pos e] at h ⊢; exact hP _ h
    · rw [if_neg e] at h ⊢; exact sw_lo hP h
theorem th_lo [Inhabited fz_] {hs : List (Nat × Nat × Nat)} {pc : Nat} {ls : lo_} {r : Nat} (h : th_ (fun pc ls st M => V pc ls st (pT c M)) (fun r M => Qt r (pT c M)) hs pc ls r M) : th_ V Qt hs pc ls r (pT c M) := by
  unfold th_ at h ⊢
  cases e : hd_ hs pc with
  | none => rw [e] at h; exact h
  | some q => rw [e] at h; exact h
theorem rk_lo [Inhabited fz_] {k pc : Nat} {ls : lo_} {st : List pv_} {vs : List pv_} (h : rk_ (fun pc ls st M => V pc ls st (pT c M)) k pc ls st vs M) : rk_ V k pc ls st vs (pT c M) := by
  unfold rk_ at h ⊢
  split at h <;> exact h
theorem cl_lo [Inhabited fz_] (hD : ∀ a as M Q1 Q2 Q1' Q2', a ∈ nxS → (∀ vs M, Q1 vs M → Q1' vs (pT c M)) → (∀ r M, Q2 r M → Q2' r (pT c M)) → D a as M Q1 Q2 → D a as (pT c M) Q1' Q2') {hs : List (Nat × Nat × Nat)} {pc a n k : Nat} {ls : lo_} {st : List pv_} (ha : a ∈ nxS) (h : cl_ D (fun pc ls st M => V pc ls st (pT c M)) (fun r M => Qt r (pT c M)) hs pc a n k ls st M) : cl_ D V Qt hs pc a n k ls st (pT c M) := by
  unfold cl_ at h ⊢
  split at h
  · rename_i e; rw [if_pos e]
    exact hD a _ _ _ _ _ _ ha (fun vs M g => rk_lo g) (fun r M g => th_lo g) h
  · exact h.elim
set_option maxHeartbeats 4000000 in
theorem ex_lo [Inhabited fz_] (hD : ∀ a as M Q1 Q2 Q1' Q2', a ∈ nxS → (∀ vs M, Q1 vs M → Q1' vs (pT c M)) → (∀ r M, Q2 r M → Q2' r (pT c M)) → D a as M Q1 Q2 → D a as (pT c M) Q1' Q2') {m : md_} {pc len a : Nat} {i : Instr} {b : Int} {tb : List (Int × Nat)} {ls : lo_} {st : List pv_} (hi : loI (i, len, a, b, tb) = true) (h : ex_ wd0 D (fun pc ls st M => V pc ls st (pT c M)) (fun vs M => Qr vs (pT c M)) (fun r M => Qt r (pT c M)) m pc i len a b tb ls st M) : ex_ wd0 D V Qr Qt m pc i len a b tb ls st (pT c M) := by
  revert h hi
  cases i
  case getfield =>
    simp only [ex_, loI]
    intro hi h
    split at h
    · rename_i r st'
      split at h
      · rename_i t ht
        try simp only [ht]
        split at h
        · simp only [Bool.or_eq_true, Bool.and_eq_true, Bool.not_eq_true', beq_iff_eq] at hi
          have hb : b ∉ lcF := fun e => by
            rcases hi with hi | hi
            · exact absurd hi (by decide)
            · rw [List.contains_iff_mem.2 e] at hi; exact absurd hi.2 (by decide)
          rw [pT_0 hb]; exact h
        · exact absurd hi (by simp)
        · exact h
        · exact absurd hi (by simp)
        · exact h.elim
      · exact h.elim
    · exact h.elim
  case putfield =>
    simp only [ex_, loI]
    intro hi h
    simp only [Bool.and_eq_true, Bool.not_eq_true', beq_iff_eq] at hi
    have hb : b ∉ lcF := fun e => by rw [List.contains_iff_mem.2 e] at hi; exact absurd hi.2 (by decide)
    have ha := hi.1
    subst ha
    split at h
    · rename_i x r st'
      split at h
      · rename_i t ht
        try simp only [ht]
        rw [pT_up (.inr hb)] at h; exact h
      · exact h.elim
    · split at h
      · exact h.elim
      · exact h.elim
    · exact h.elim
  case iaload =>
    simp only [ex_]
    intro _ h
    split at h
    · rename_i k r st'
      by_cases e : wd0.2.2.2.1 r = 1
      · rw [if_pos e] at h ⊢; rw [pT_r (ak_0 e (by decide))]; exact h
      · rw [if_neg e] at h ⊢
        by_cases e2 : wd0.2.2.2.1 r = 5
        · rw [if_pos e2] at h ⊢; rw [pT_r (ak_0 e2 (by decide))]; exact h
        · rw [if_neg e2] at h; exact h.elim
    · exact h.elim
  case baload =>
    simp only [ex_]
    intro _ h
    split at h
    · rename_i k r st'
      by_cases e : wd0.2.2.2.1 r = 2
      · rw [if_pos e] at h ⊢; rw [pT_r (ak_0 e (by decide))]; exact h
      · rw [if_neg e] at h ⊢
        by_cases e2 : wd0.2.2.2.1 r = 3
        · rw [if_pos e2] at h ⊢; rw [pT_r (ak_0 e2 (by decide))]; exact h
        · rw [if_neg e2] at h ⊢
          by_cases e3 : wd0.2.2.2.1 r = 6
          · rw [if_pos e3] at h ⊢; rw [pT_r (ak_0 e3 (by decide))]; exact h
          · rw [if_neg e3] at h; exact h.elim
    · exact h.elim
  case laload =>
    simp only [ex_]
    intro _ h
    split at h
    · rename_i k r st'
      by_cases e : wd0.2.2.2.1 r = 4
      · rw [if_pos e] at h ⊢; rw [pT_r (ak_0 e (by decide))]; exact h
      · rw [if_neg e] at h; exact h.elim
    · exact h.elim
  case iastore =>
    simp only [ex_]
    intro _ h
    split at h
    · rename_i x k r st'
      by_cases e : wd0.2.2.2.1 r = 1
      · rw [if_pos e] at h ⊢; rw [pT_up (.inl (ak_0 e (by decide)))] at h; exact h
      · rw [if_neg e] at h; exact h.elim
    · exact h.elim
  case bastore =>
    simp only [ex_]
    intro _ h
    split at h
    · rename_i x k r st'
      by_cases e : wd0.2.2.2.1 r = 2
      · rw [if_pos e] at h ⊢; rw [pT_up (.inl (ak_0 e (by decide)))] at h; exact h
      · rw [if_neg e] at h ⊢
        by_cases e2 : wd0.2.2.2.1 r = 3
        · rw [if_pos e2] at h ⊢; rw [pT_up (.inl (ak_0 e2 (by decide)))] at h; exact h
        · rw [if_neg e2] at h; exact h.elim
    · exact h.elim
  case lastore =>
    simp only [ex_]
    intro _ h
    split at h
    · rename_i x k r st'
      by_cases e : wd0.2.2.2.1 r = 4
      · rw [if_pos e] at h ⊢; rw [pT_up (.inl (ak_0 e (by decide)))] at h; exact h
      · rw [if_neg e] at h; exact h.elim
    · exact h.elim
  case arraylength =>
    simp only [ex_]
    intro _ h
    split at h
    · rename_i r st'
      by_cases e : wd0.2.2.2.1 r = 5
      · rw [if_pos e] at h ⊢; rw [pT_r (ak_0 e (by decide))]; exact h
      · rw [if_neg e] at h ⊢; exact h
    · exact h.elim
  case athrow =>
    simp only [ex_]
    intro _ h
    split at h
    · rename_i r st'
      by_cases e : r = 1999
      · rw [if_pos e] at h; exact h.elim
      · rw [if_neg e] at h ⊢; exact th_lo h
    · exact h.elim
  case tableswitch =>
    simp only [ex_]
    intro _ h
    split at h
    · exact sw_lo (fun _ g => g) h
    · exact h.elim
  case lookupswitch =>
    simp only [ex_]
    intro _ h
    split at h
    · exact sw_lo (fun _ g => g) h
    · exact h.elim
  case invokevirtual =>
    simp only [ex_, loI]
    intro hi h
    split at h
    · rename_i r hr
      try simp only [hr]
      by_cases e : (fd_ tb r).isSome = true
      · rw [if_pos e] at h ⊢; exact cl_lo hD (List.contains_iff_mem.1 hi) h
      · rw [if_neg e] at h; exact h.elim
    · exact h.elim
  case invokestatic =>
    simp only [ex_, loI]
    intro hi h
    have hm := List.contains_iff_mem.1 hi
    have n1 : a ≠ 9001 := fun e => by rw [e] at hm; revert hm; decide
    have n2 : a ≠ 9002 := fun e => by rw [e] at hm; revert hm; decide
    have n3 : a ≠ 9003 := fun e => by rw [e] at hm; revert hm; decide
    rw [if_neg n1, if_neg n2, if_neg n3] at h ⊢
    exact cl_lo hD hm h
  all_goals simp only [ex_]
  all_goals first
    | exact fun _ h => h
    | (intro _ h; (repeat' split at h) <;> first | exact h | exact h.elim)
    | skip
theorem lk_lo [Inhabited fz_] : ∀ (l : List en_) {pc : Nat} {e : Instr × Nat × Nat × Int × List (Int × Nat)}, l.all (fun q => loI q.2) = true → lk_ l pc = some e → loI e = true
  | [], pc, e, _, h => by unfold lk_ at h; exact absurd h (by simp)
  | q :: t, pc, e, ha, h => by
    rw [List.all_cons, Bool.and_eq_true] at ha
    unfold lk_ at h
    split at h
    · injection h with h; rw [← h]; exact ha.1
    · exact lk_lo t ha.2 h
theorem look [Inhabited fz_] : ∀ n, n ∈ nxS → (pg0 n).1.all (fun q => loI q.2) = true := by
  intro n hn
  simp only [nxS, List.mem_cons, List.not_mem_nil, or_false] at hn
  rcases hn with e | e | e | e | e | e | e | e | e | e <;> subst e
  · show m_9.1.all _ = true; decide +kernel
  · show m_12.1.all _ = true; decide +kernel
  · show m_13.1.all _ = true; decide +kernel
  · show m_14.1.all _ = true; decide +kernel
  · show m_15.1.all _ = true; decide +kernel
  · show m_16.1.all _ = true; decide +kernel
  · show m_17.1.all _ = true; decide +kernel
  · show m_18.1.all _ = true; decide +kernel
  · show m_19.1.all _ = true; decide +kernel
  · show m_20.1.all _ = true; decide +kernel
/-- X's look runs alike where counters are other -/
theorem Tr_lo [Inhabited fz_] : ∀ (d : Nat) (n : Nat) (as : List pv_) (M : mm_) (Q1 : qr_) (Q2 : qt_) (Q1' : qr_) (Q2' : qt_), n ∈ nxS → (∀ vs M, Q1 vs M → Q1' vs (pT c M)) → (∀ r M, Q2 r M → Q2' r (pT c M)) → Tr_ wd0 pg0 d n as M Q1 Q2 → Tr_ wd0 pg0 d n as (pT c M) Q1' Q2'
  | 0, n, as, M, Q1, Q2, Q1', Q2', _, _, _, h => h
  | d + 1, n, as, M, Q1, Q2, Q1', Q2', hn, h1, h2, h => by
    refine ⟨h.1, fun V hV hW => ?_⟩
    refine h.2 (fun pc ls st M => V pc ls st (pT c M)) (fun pc ls st M hs => ?_) (fun pc ls ls' st M hl hv => hW pc ls ls' st _ hl hv)
    refine hV pc ls st (pT c M) ?_
    have hs2 : st_ wd0 (Tr_ wd0 pg0 d) (fun pc ls st M => V pc ls st (pT c M)) (fun vs M => Q1' vs (pT c M)) (fun r M => Q2' r (pT c M)) (pg0 n) pc ls st M := st_mono (Tr_mono d) (fun _ _ _ _ g => g) h1 h2 hs
    unfold st_ at hs2 ⊢
    cases e : lk_ (pg0 n).1 pc with
    | none => rw [e] at hs2; exact hs2
    | some q =>
      rw [e] at hs2
      exact ex_lo (fun a as M Q1 Q2 Q1' Q2' ha g1 g2 g3 => Tr_lo d a as M Q1 Q2 Q1' Q2' ha g1 g2 g3) (lk_lo _ (look n hn) e) hs2
theorem Ex_lo [Inhabited fz_] {d n : Nat} {as v : List pv_} {M' : mm_} (hn : n ∈ nxS) (h : Ex_ d n as M v M') : Ex_ d n as (pT c M) v (pT c M') := fun Qr Qt g => Tr_lo d n as M (fun vs M1 => vs = v ∧ M1 = M') (fun _ _ => False) Qr Qt hn (fun vs M1 e => by rw [e.1, e.2]; exact g) (fun _ _ e => e.elim) (h _ _ ⟨rfl, rfl⟩)
end LCa
end T406_lo
section T407_br
/-! the search: what an instance would do is told by its state alone -/
section BRa
variable {M N Mt Nt M' N' N0 : mm_} {s w w2 : Int}
theorem RU_br [Inhabited fz_] (h : RU 1 M N) (ht : RU 1 Mt Nt) (hr : ∀ i, 0 ≤ i → i < 1104 → Nt 239 i = N 239 i) (h18 : Nt 6 18 = N 6 18) (h19 : Nt 6 19 = N 6 19) (hq : ∀ r : Nat, r ∈ [172, 173, 174] → Nt r = N r) (h9 : M 0 9 = Mt 0 9) : RU 1 (pT (fun i => Mt 0 i) M) Nt := by
  obtain ⟨⟨a1, a2, a3, a4⟩, ⟨b1, b2, b3⟩, c, d, e⟩ := h
  obtain ⟨_, _, tc, td, te⟩ := ht
  have pr : ∀ r : Nat, r ≠ 0 → pT (fun i => Mt 0 i) M r = M r := fun r c => pT_r c
  have p0 : ∀ i : Int, i ∉ lcF → pT (fun i => Mt 0 i) M 0 i = M 0 i := fun i c => pT_0 c
  have pc : ∀ i : Int, i ∈ lcF → pT (fun i => Mt 0 i) M 0 i = Mt 0 i := fun i c => by unfold pT; rw [if_pos ⟨rfl, c⟩]
  refine ⟨⟨?_, ?_, fun k k0 k1 => ?_, fun k k0 k1 i i0 i1 => ?_⟩, ⟨?_, fun r r0 r1 => ?_, fun r r0 r1 i i0 i1 => ?_⟩, ?_, ?_, ?_⟩
  · rw [p0 7 (by decide), hr 0 (by decide) (by decide)]; exact a1
  · rw [p0 8 (by decide), hr 1 (by decide) (by decide)]; exact a2
  · rw [p0 7 (by decide)] at k1
    have hB : sB k = 2 + 56 * k := rfl
    exact IN_o (a3 k k0 k1) (by rw [p0 8 (by decide)]; exact Int.le_refl _) (fun q hq' => by rw [pr q (fun c => by rw [c] at hq'; revert hq'; decide)]) (fun i _ _ => by rw [pr 13 (by decide)]) (fun i _ _ => by rw [pr 15 (by decide)]) (fun i _ _ => by rw [pr 16 (by decide), pr 17 (by decide)]; exact ⟨rfl, rfl⟩) (fun j j0 j1 => hr _ (by (clear hr h18 h19 hq h9 a2 a3 a4 b1 b2 b3 c d e tc td te pr p0 pc; lia)) (by (clear hr h18 h19 hq h9 a2 a3 a4 b1 b2 b3 c d e tc td te pr p0 pc; omega))) h19 hq
  · rw [p0 7 (by decide)] at k0
    have hB : sB k = 2 + 56 * k := rfl
    have n12 := a1
    rw [hr _ (by (clear hr h18 h19 hq h9 a2 a3 a4 b1 b2 b3 c d e tc td te pr p0 pc n12; lia)) (by (clear hr h18 h19 hq h9 a2 a3 a4 b1 b2 b3 c d e tc td te pr p0 pc n12; omega))]; exact a4 k k0 k1 i i0 i1
  · rw [h18]; exact b1
  · rw [h18] at r1
    have hR : sR r = 674 + 43 * r := rfl
    obtain ⟨o1, o2, o3⟩ := b2 r r0 r1
    unfold RO
    rw [pr 21 (by decide), pr 22 (by decide), hr (sR r) (by (clear hr h18 h19 hq h9 a1 a2 a3 a4 b2 b3 c d e tc td te pr p0 pc o1 o2 o3; lia)) (by (clear hr h18 h19 hq h9 a1 a2 a3 a4 b2 b3 c d e tc td te pr p0 pc o1 o2 o3; omega))]
    refine ⟨o1, fun q q0 q1 => ?_, fun i i0 i1 => by rw [hr _ (by (clear hr h18 h19 hq h9 a1 a2 a3 a4 b2 b3 c d e tc td te pr p0 pc o2 o3 i1; lia)) (by (clear hr h18 h19 hq h9 a1 a2 a3 a4 b2 b3 c d e tc td te pr p0 pc o1 o2 o3 i0; omega))]; exact o3 i i0 i1⟩
    obtain ⟨u1, u2, u3, u4⟩ := o2 q q0 q1
    exact ⟨fun j j0 j1 j3 => by rw [hr _ (by (clear hr h18 h19 hq h9 a1 a2 a3 a4 b2 b3 c d e tc td te pr p0 pc o2 o3 u1 u2 u3 u4 j3; lia)) (by (clear hr h18 h19 hq h9 a1 a2 a3 a4 b2 b3 c d e tc td te pr p0 pc o2 o3 u1 u2 u3 u4 j3; lia))]; exact u1 j j0 j1 j3, u2, fun z => absurd z (by decide), fun z => by rw [hr _ (by (clear hr h18 h19 hq h9 a1 a2 a3 a4 b2 b3 c d e tc td te pr p0 pc o1 o2 o3 q1 u1 u2 u3 u4 z; lia)) (by (clear hr h18 h19 hq h9 a1 a2 a3 a4 b2 b3 c d e tc td te pr p0 pc o2 o3 q0 u1 u2 u3 u4 z; lia))]; exact u4 z⟩
  · rw [h18] at r0
    have hR : sR r = 674 + 43 * r := rfl
    rw [hr _ (by (clear hr h18 h19 hq h9 a1 a2 a3 a4 b2 b3 c d e tc td te pr p0 pc; lia)) (by (clear hr h18 h19 hq h9 a1 a2 a3 a4 b2 b3 c d e tc td te pr p0 pc; omega))]; exact b3 r r0 r1 i i0 i1
  · unfold RSC at tc ⊢
    rw [p0 25 (by decide), p0 9 (by decide), h9, pc 10 (by decide), pc 26 (by decide), pc 27 (by decide), pc 28 (by decide), pc 29 (by decide), pc 30 (by decide), pc 31 (by decide), pc 37 (by decide), pc 38 (by decide)]
    exact ⟨⟨c.1.1, tc.1.2⟩, tc.2⟩
  · unfold ROU at td d ⊢
    rw [pc 32 (by decide), pc 33 (by decide), pc 34 (by decide), pr 24 (by decide)]
    refine ⟨td.1, fun i i0 i1 => ?_⟩
    have f1 := (d.2 i i0 i1).2 rfl
    have f2 := td.2 i i0 i1
    exact ⟨by rw [f1, ← f2.1, f2.2 rfl], fun _ => f1⟩
  · unfold REV at te e ⊢
    rw [pc 35 (by decide), pc 36 (by decide), pr 23 (by decide)]
    refine ⟨te.1, fun i i0 i1 => ?_⟩
    have f1 := (e.2 i i0 i1).2 rfl
    have f2 := te.2 i i0 i1
    exact ⟨by rw [f1, ← f2.1, f2.2 rfl], fun _ => f1⟩
theorem swc_pT [Inhabited fz_] {c : Int → Int} : swc (pT c M) = swc M := by
  funext r
  unfold swc
  split
  · exact pT_r (by decide)
  · split
    · exact pT_r (by omega)
    · rfl
theorem PLr_pT [Inhabited fz_] {c : Int → Int} (h : PLr M N) : PLr (pT c M) N := by unfold PLr; rw [swc_pT]; exact h
theorem GB_pT [Inhabited fz_] {c : Int → Int} (h : GB M) : GB (pT c M) := fun r i => by
  by_cases e : r = 0
  · subst e; exact ⟨fun c => absurd c (by decide), fun c => absurd c (by decide)⟩
  · rw [pT_r e]; exact h r i
theorem w_br [Inhabited fz_] (h : RU 1 M N) (hP : PLr M N) (hA : TYA N) (hs : 0 ≤ s ∧ s < M 0 7) (q : Ex_ 6 336 [.inr (.inr 6), .inl s] N [.inl w] N')
    (ht : RU 1 Mt Nt) (hPt : PLr M Nt) (hAt : TYA Nt) (hr : ∀ i, 0 ≤ i → i < 1104 → Nt 239 i = N 239 i) (h18 : Nt 6 18 = N 6 18) (h19 : Nt 6 19 = N 6 19) (hq : ∀ r : Nat, r ∈ [172, 173, 174] → Nt r = N r) (h9 : M 0 9 = Mt 0 9) (q2 : Ex_ 6 336 [.inr (.inr 6), .inl s] Nt [.inl w2] N0) : w2 = w := by
  have e0 : clM M 0 = M 0 := cl_r (by decide) (by decide)
  have hc := RU_cl h
  obtain ⟨u, A, B, xa, qa, _⟩ := j_12 (s := s) hc (PLr_cl hP) hA (by rw [e0]; exact hs)
  have hb := RU_br (M := clM M) hc ht hr h18 h19 hq (by rw [e0]; exact h9)
  have hs2 : 0 ≤ s ∧ s < pT (fun i => Mt 0 i) (clM M) 0 7 := by rw [pT_0 (by decide), e0]; exact hs
  obtain ⟨u2, A2, B2, xb, qb, _⟩ := j_12 (s := s) hb (PLr_pT (PLr_cl hPt)) hAt hs2
  have e1 := (DET (by decide) q qa).1
  have e2 := (DET (by decide) q2 qb).1
  have e3 := (DETX (by decide) (GB_pT GB_cl) (Ex_lo (c := fun i => Mt 0 i) (by decide) xa) xb).1
  injection e1 with e1; injection e1 with e1
  injection e2 with e2; injection e2 with e2
  injection e3 with e3; injection e3 with e3
  rw [e1, e2, e3]
end BRa
end T407_br
section T408_fi
/-! the search: X finds the moves (X 43, 44) -/
def MVS (M : mm_) : Int → List (Int × Int × Int) → Prop
  | _, [] => True
  | j, m :: L => (M 38 j = m.1 ∧ M 39 j = m.2.1 ∧ M 40 j = m.2.2) ∧ MVS M (j + 1) L
def adX (M : mm_) (j a b c : Int) : mm_ := up_ (up_ (up_ (up_ M 38 j a) 39 j b) 40 j c) 0 69 (j + 1)
/-- what finding changes -/
def EGM (M A : mm_) : Prop := (∀ r : Nat, r ∉ [0, 26, 38, 39, 40] → A r = M r) ∧ ∀ i : Int, i ∉ [41, 42, 45, 46, 47, 49, 50, 69] → A 0 i = M 0 i
/-- the steps: those whose Q would step -/
def STL (N : mm_) : Int → Nat → List (Int × Int × Int) → Prop
  | _, 0, L => L = []
  | x, n + 1, L => ∃ w N', Ex_ 6 336 [.inr (.inr 6), .inl x] N [.inl w] N' ∧ ((w = 0 ∧ STL N (x + 1) n L) ∨ (w ≠ 0 ∧ ∃ L1, L = (0, x, 0) :: L1 ∧ STL N (x + 1) n L1))
def arL (f : Int → Int) : Int → Nat → List (Int × Int × Int)
  | _, 0 => []
  | r, n + 1 => if f (sR r) = 0 then arL f (r + 1) n else (1, r, 0) :: arL f (r + 1) n
def tmL (f : Int → Int) : Int → Nat → List (Int × Int × Int)
  | _, 0 => []
  | k, n + 1 => if f (sB (k / 3) + 22 + k % 3) < 0 then tmL f (k + 1) n else (2, k / 3, k % 3) :: tmL f (k + 1) n
/-- the NONEs of a type in a state -/
noncomputable def frQ (N : mm_) (T st : Int) : Int → Nat → List Int
  | _, 0 => []
  | k, n + 1 => if (N 192 k = T ∧ N 193 k = 3) ∧ an_ (sr_ (N 194 k) st) 1 ≠ 0 then k :: frQ N T st (k + 1) n else frQ N T st (k + 1) n
noncomputable def frS (N : mm_) (f : Int → Int) (x : Int) : List Int := if f (sB x + 2) < 0 then [] else frQ N (f (sB x + 1)) (f (sB x + 2)) 0 (N 6 62).toNat
def nmv (N : mm_) (s k : Int) : Int × Int × Int := (3, s, xsf (tbN N) k.toNat)
noncomputable def frL (N : mm_) (f : Int → Int) : Int → Nat → List (Int × Int × Int)
  | _, 0 => []
  | x, n + 1 => (frS N f x).map (nmv N x) ++ frL N f (x + 1) n
section FIa
variable {M N A A' A1 : mm_} {f : Int → Int} {j a b c x k s : Int} {L L' K : List (Int × Int × Int)}
theorem EGM_rf [Inhabited fz_] : EGM M M := ⟨fun _ _ => rfl, fun _ _ => rfl⟩
theorem EGM_tr [Inhabited fz_] (h : EGM M A) (g : EGM A A') : EGM M A' := ⟨fun r hr => (g.1 r hr).trans (h.1 r hr), fun i hi => (g.2 i hi).trans (h.2 i hi)⟩
theorem EGM_eg [Inhabited fz_] (h : EGX M A) : EGM M A := ⟨fun r hr => h.1 r (fun e => hr (by rw [e]; decide)) (fun e => hr (by rw [e]; decide)), fun i hi => h.2 i (fun e => hi (by revert e; simp only [List.mem_cons, List.not_mem_nil, or_false]; (clear h hi; lia)))⟩
theorem EGM_ad [Inhabited fz_] : EGM M (adX M j a b c) := by
  unfold adX
  refine ⟨fun r hr => ?_, fun i hi => ?_⟩
  · have e : ∀ q : Nat, q ∈ [0, 26, 38, 39, 40] → r ≠ q := fun q hq e => hr (by rw [e]; exact hq)
    rw [up_ne (e 0 (by decide)), up_ne (e 40 (by decide)), up_ne (e 39 (by decide)), up_ne (e 38 (by decide))]
  · rw [upo (fun e => hi (by rw [e]; decide)), up_ne (by decide), up_ne (by decide), up_ne (by decide)]
theorem XSF_gm [Inhabited fz_] (h : EGM M A) : XSF M A := ⟨fun r a b => h.1 r (fun e => by revert a b e; simp only [sxA, xuL, List.mem_cons, List.not_mem_nil, or_false]; lia), fun i hi => h.2 i (fun e => hi (by revert e; simp only [xfL, List.mem_cons, List.not_mem_nil, or_false]; lia))⟩
theorem RU_gm [Inhabited fz_] (h : RU 1 M N) (g : EGM M A) : RU 1 A N := RU_cc h (fun r hr => g.1 r (fun e => by revert hr e; simp only [List.mem_cons, List.not_mem_nil, or_false]; omega)) (fun i hi => g.2 i (fun e => by revert hi e; simp only [rfX, List.mem_cons, List.not_mem_nil, or_false]; omega)) (fun _ _ => rfl) (fun _ _ => rfl)
theorem MVS_c [Inhabited fz_] (e : ∀ i, j ≤ i → i < j + L.length → M 38 i = A 38 i ∧ M 39 i = A 39 i ∧ M 40 i = A 40 i) (h : MVS A j L) : MVS M j L := by
  induction L generalizing j with
  | nil => trivial
  | cons m L ih =>
    rw [List.length_cons] at e
    obtain ⟨e1, e2, e3⟩ := e j (Int.le_refl _) (by omega)
    exact ⟨by rw [e1, e2, e3]; exact h.1, ih (fun i i0 i1 => e i (by (clear ih e h e1 e2 e3 i1; lia)) (by (clear ih e h e1 e2 e3 i0; omega))) h.2⟩
theorem MVS_app [Inhabited fz_] : MVS M j (L ++ K) ↔ MVS M j L ∧ MVS M (j + L.length) K := by
  induction L generalizing j with
  | nil => simp [MVS]
  | cons m L ih =>
    show ((_ ∧ MVS M (j + 1) (L ++ K)) ↔ ((_ ∧ MVS M (j + 1) L) ∧ _))
    rw [ih, List.length_cons, show j + 1 + (L.length : Int) = j + ((L.length + 1 : Nat) : Int) by omega]
    exact ⟨fun h => ⟨⟨h.1, h.2.1⟩, h.2.2⟩, fun h => ⟨h.1.1, h.1.2, h.2⟩⟩
theorem x_44 [Inhabited fz_] (h69 : M 0 69 = j) (hj : 0 ≤ j ∧ j < 7258) : Ex_ 1 44 [.inr (.inr 0), .inl a, .inl b, .inl c] M [] (adX M j a b c) := fun Qr Qt g => t_44 fun V hV hW => b_44_0 (Tr_mono _) hV hW _ _ _ _ (by
  rw [h69, w32_id (x := j + 1) (by omega) (by omega)]; exact ⟨hj, hj, hj, g⟩)
/-- L moves are told -/
def MVL (A : mm_) (L : List (Int × Int × Int)) : Prop := MVS A 0 L ∧ A 0 69 = L.length
theorem MVL_ad [Inhabited fz_] (h : MVL A L) : MVL (adX A L.length a b c) (L ++ [(a, b, c)]) := by
  refine ⟨MVS_app.2 ⟨MVS_c (fun i i0 i1 => ?_) h.1, ⟨?_, trivial⟩⟩, ?_⟩
  · unfold adX
    refine ⟨?_, ?_, ?_⟩
    · rw [up_ne (by decide), up_ne (by decide), up_ne (by decide), upo (by omega)]
    · rw [up_ne (by decide), up_ne (by decide), upo (by omega), up_ne (by decide)]
    · rw [up_ne (by decide), upo (by omega), up_ne (by decide), up_ne (by decide)]
  · rw [Int.zero_add]
    unfold adX
    refine ⟨?_, ?_, ?_⟩
    · rw [up_ne (by decide), up_ne (by decide), up_ne (by decide), up_at]
    · rw [up_ne (by decide), up_ne (by decide), up_at]
    · rw [up_ne (by decide), up_at]
  · unfold adX; rw [up_at, List.length_append]; rfl
theorem MVL_eg [Inhabited fz_] (h : MVL A L) (g : EGX A A') : MVL A' L := ⟨MVS_c (fun i _ _ => by rw [g.1 38 (by decide) (by decide), g.1 39 (by decide) (by decide), g.1 40 (by decide) (by decide)]; exact ⟨rfl, rfl, rfl⟩) h.1, by rw [g.2 69 (by decide)]; exact h.2⟩
/-- steps -/
theorem f_7 [Inhabited fz_] (h : RU 1 M N) (hP : PLr M N) (hA : TYA N) : ∀ (n : Nat) (x : Int) (A : mm_) (L : List (Int × Int × Int)), x + n = M 0 7 → 0 ≤ x → EGM M A → MVL A L → L.length ≤ x → ∃ A' L', RC 5 m_43 7 [rr 0, ii x, none] A 38 [rr 0, ii 0, none] A' ∧ EGM M A' ∧ MVL A' (L ++ L') ∧ (L ++ L').length ≤ M 0 7 ∧ STL N x n L' := fun n => by
  have n12 := h.1.1
  induction n with
  | zero =>
    intro x A L hx x0 g m hl
    refine ⟨A, [], fun V Qr Qt hV hW gg => b_43_7 (Tr_mono _) hV hW _ _ ?_, g, by rw [List.append_nil]; exact m, by rw [List.append_nil]; omega, rfl⟩
    rw [g.2 7 (by decide), if_neg (by omega)]; exact gg
  | succ n ih =>
    intro x A L hx x0 g m hl
    obtain ⟨w, A1, N1, xw, qw, gx, gq, _⟩ := j_12 (s := x) (RU_gm h g) (PLr_s hP (XSF_gm g) QSF_rf) hA (by rw [g.2 7 (by decide)]; omega)
    have g1 := EGM_tr g (EGM_eg gx)
    have m1 := MVL_eg m gx
    have wx : w32 (x + 1) = x + 1 := w32_id (by omega) (by omega)
    by_cases cw : w = 0
    · obtain ⟨A', L', r1, r2, r3, r4, r5⟩ := ih (x + 1) A1 L (by omega) (by omega) g1 m1 (by omega)
      refine ⟨A', L', RC_tr (fun V Qr Qt hV hW gg => b_43_7 (Tr_mono _) hV hW _ _ ?_) r1, r2, r3, r4, w, N1, qw, .inl ⟨cw, r5⟩⟩
      rw [g.2 7 (by decide), if_pos (by (clear h hP hA ih x0 g m hl xw qw gx gq g1 m1 wx cw r1 r2 r3 r4 r5 hV hW gg; omega))]
      refine xw _ _ (ri_i ?_)
      rw [if_pos cw, wx]; exact gg
    · obtain ⟨A', L', r1, r2, r3, r4, r5⟩ := ih (x + 1) (adX A1 L.length 0 x 0) (L ++ [(0, x, 0)]) (by omega) (by omega) (EGM_tr g1 EGM_ad) (MVL_ad m1) (by rw [List.length_append, List.length_cons, List.length_nil]; omega)
      rw [List.append_assoc] at r3 r4
      refine ⟨A', (0, x, 0) :: L', RC_tr (fun V Qr Qt hV hW gg => b_43_7 (Tr_mono _) hV hW _ _ ?_) r1, r2, r3, r4, w, N1, qw, .inr ⟨cw, L', rfl, r5⟩⟩
      rw [g.2 7 (by decide), if_pos (by (clear h hP hA ih x0 g m hl xw qw gx gq g1 m1 wx cw r1 r2 r3 r4 r5 hV hW gg; omega))]
      refine xw _ _ (ri_i ?_)
      rw [if_neg cw]
      refine Ex_le (d := 1) (by decide) (x_44 m1.2 (by omega)) _ _ (rv_i ?_)
      rw [wx]; exact gg
/-- arrivals -/
theorem f_38 [Inhabited fz_] (h : RU 1 M N) (hP : PLr M N) : ∀ (n : Nat) (r : Int) (A : mm_) (L : List (Int × Int × Int)), r + n = N 6 18 → 0 ≤ r → EGM M A → MVL A L → L.length ≤ 12 + r → ∃ A', RC 5 m_43 38 [rr 0, ii r, none] A 73 [rr 0, ii 0, none] A' ∧ EGM M A' ∧ MVL A' (L ++ arL (N 239) r n) ∧ (L ++ arL (N 239) r n).length ≤ 12 + N 6 18 := fun n => by
  have h10 := h.2.1.1
  have p1 := (PLr_93 hP).1
  induction n with
  | zero =>
    intro r A L hr r0 g m hl
    refine ⟨A, fun V Qr Qt hV hW gg => b_43_38 (Tr_mono _) hV hW _ _ ?_, g, by unfold arL; rw [List.append_nil]; exact m, by unfold arL; rw [List.append_nil]; omega⟩
    rw [g.1 4 (by decide), if_neg (by omega)]; exact gg
  | succ n ih =>
    intro r A L hr r0 g m hl
    have ro := (h.2.1.2.1 r r0 (by (clear h hP h10 ih r0 g m hl; omega))).1
    have wr : w32 (r + 1) = r + 1 := w32_id (by omega) (by omega)
    unfold arL
    by_cases c : M 21 r = 0
    · rw [if_pos (by (clear h hP h10 p1 ih hr r0 g m hl wr; lia))]
      obtain ⟨A', r1, r2, r3, r4⟩ := ih (r + 1) A L (by (clear h hP h10 ih r0 g m hl ro wr c; lia)) (by omega) g m (by (clear h hP h10 p1 ih hr r0 g m ro c; omega))
      refine ⟨A', RC_tr (fun V Qr Qt hV hW gg => b_43_38 (Tr_mono _) hV hW _ _ ?_) r1, r2, r3, r4⟩
      rw [g.1 4 (by decide), g.1 21 (by decide), if_pos (by omega), if_pos c, wr]; exact ⟨by omega, gg⟩
    · rw [if_neg (by (clear h hP h10 p1 ih hr r0 g m hl wr; omega))]
      obtain ⟨A', r1, r2, r3, r4⟩ := ih (r + 1) (adX A L.length 1 r 0) (L ++ [(1, r, 0)]) (by omega) (by omega) (EGM_tr g EGM_ad) (MVL_ad m) (by rw [List.length_append, List.length_cons, List.length_nil]; (clear h hP h10 p1 ih hr r0 g m ro c; lia))
      rw [List.append_assoc] at r3 r4
      refine ⟨A', RC_tr (fun V Qr Qt hV hW gg => b_43_38 (Tr_mono _) hV hW _ _ ?_) r1, r2, r3, r4⟩
      rw [g.1 4 (by decide), g.1 21 (by decide), if_pos (by omega), if_neg c]
      refine ⟨by omega, Ex_le (d := 1) (by decide) (x_44 m.2 (by omega)) _ _ (rv_i ?_)⟩
      rw [wr]; exact gg
/-- timers -/
theorem f_73 [Inhabited fz_] (h : RU 1 M N) (hP : PLr M N) : ∀ (n : Nat) (k : Int) (A : mm_) (L : List (Int × Int × Int)), k + n = 3 * M 0 7 → 0 ≤ k → EGM M A → MVL A L → L.length ≤ 22 + k → ∃ A', RC 5 m_43 73 [rr 0, ii k, none] A 111 [rr 0, ii 0, none] A' ∧ EGM M A' ∧ MVL A' (L ++ tmL (N 239) k n) ∧ (L ++ tmL (N 239) k n).length ≤ 22 + 3 * M 0 7 := fun n => by
  have n12 := h.1.1
  induction n with
  | zero =>
    intro k A L hk k0 g m hl
    refine ⟨A, fun V Qr Qt hV hW gg => b_43_73 (Tr_mono _) hV hW _ _ ?_, g, by unfold tmL; rw [List.append_nil]; exact m, by unfold tmL; rw [List.append_nil]; omega⟩
    rw [g.2 7 (by decide), w32_id (x := 3 * M 0 7) (by (clear h hP hk k0 g m hl hV hW gg; lia)) (by (clear h hP hk k0 g m hl hV hW gg; lia)), if_neg (by (clear h hP k0 g m hl hV hW gg; lia))]; exact gg
  | succ n ih =>
    intro k A L hk k0 g m hl
    have wk : w32 (k + 1) = k + 1 := w32_id (by omega) (by omega)
    have tm := ((h.1.2.2.1 (k / 3) (by (clear h hP ih g m hl; lia)) (by (clear h hP ih k0 g m hl; lia))).2.2.2.1 (k % 3) (by (clear h hP ih k0 g m hl; lia)) (by omega)).1
    have ek : 3 * (k / 3) + k % 3 = k := by (clear h hP n12 ih hk k0 g m hl wk tm; lia)
    rw [ek] at tm
    unfold tmL
    by_cases c : M 16 k = 0
    · have cq : N 239 (sB (k / 3) + 22 + k % 3) < 0 := by rcases tm with t | t <;> (clear h hP n12 ih hk k0 g m hl wk ek; omega)
      rw [if_pos cq]
      obtain ⟨A', r1, r2, r3, r4⟩ := ih (k + 1) A L (by (clear h hP ih k0 g m hl wk tm ek c cq; lia)) (by (clear h hP ih g m hl tm ek c cq; lia)) g m (by (clear h hP ih k0 g m tm ek c cq; lia))
      refine ⟨A', RC_tr (fun V Qr Qt hV hW gg => b_43_73 (Tr_mono _) hV hW _ _ ?_) r1, r2, r3, r4⟩
      rw [g.2 7 (by decide), w32_id (x := 3 * M 0 7) (by (clear h hP ih hk k0 g m hl wk tm ek c cq r1 r2 r3 r4 hV hW gg; lia)) (by (clear h hP ih hk k0 g m hl wk tm ek c cq r1 r2 r3 r4 hV hW gg; omega)), if_pos (by (clear h hP ih k0 g m hl tm ek c cq r1 r2 r3 r4 hV hW gg; lia)), g.1 16 (by decide), if_pos c, wk]
      exact ⟨by (clear h hP ih g m hl tm ek c cq r1 r2 r3 r4 hV hW gg; lia), fun _ => gg⟩
    · have cq : ¬ N 239 (sB (k / 3) + 22 + k % 3) < 0 := by rcases tm with t | t <;> (clear h hP n12 ih hk k0 g m hl wk ek; omega)
      rw [if_neg cq]
      obtain ⟨A', r1, r2, r3, r4⟩ := ih (k + 1) (adX A L.length 2 (k / 3) (k % 3)) (L ++ [(2, k / 3, k % 3)]) (by omega) (by omega) (EGM_tr g EGM_ad) (MVL_ad m) (by rw [List.length_append, List.length_cons, List.length_nil]; (clear h hP ih k0 g m tm ek c cq; lia))
      rw [List.append_assoc] at r3 r4
      refine ⟨A', RC_tr (fun V Qr Qt hV hW gg => b_43_73 (Tr_mono _) hV hW _ _ ?_) r1, r2, r3, r4⟩
      rw [g.2 7 (by decide), w32_id (x := 3 * M 0 7) (by omega) (by omega), if_pos (by omega), g.1 16 (by decide), if_neg c, wk, Int.tdiv_eq_ediv_of_nonneg k0, Int.tmod_eq_emod_of_nonneg k0, w32_id (x := k / 3) (by (clear h hP ih g m hl tm ek c cq r1 r2 r3 r4 hV hW gg; lia)) (by (clear h hP ih g m hl tm ek c cq r1 r2 r3 r4 hV hW gg; lia))]
      exact ⟨by omega, fun _ => ⟨by decide, by decide, Ex_le (d := 1) (by decide) (x_44 m.2 (by omega)) _ _ (rv_i gg)⟩⟩
/-- rows that are no NONE -/
theorem sk_f [Inhabited fz_] (hs : 0 ≤ s ∧ s < 12) (hn : A 12 s ≠ -1) (h4 : A 4 4 ≤ 600) : ∀ (d : Nat) (y : Int), 0 ≤ y → y + d ≤ A 4 4 → (∀ x, y ≤ x → x < y + d → A 100 x ≠ 3) → RC 5 m_43 121 [rr 0, ii s, ii y] A 121 [rr 0, ii s, ii (y + d)] A := fun d => by
  induction d with
  | zero => intro y _ _ _; rw [show y + ((0 : Nat) : Int) = y from Int.add_zero y]; exact RC_rf
  | succ d ih =>
    intro y y0 y1 h
    have n := ih (y + 1) (by omega) (by omega) (fun x x0 x1 => h x (by omega) (by omega))
    rw [show y + 1 + (d : Int) = y + ((d + 1 : Nat) : Int) by omega] at n
    refine RC_tr (fun V Qr Qt hV hW g => b_43_121 (Tr_mono _) hV hW _ _ _ ?_) n
    have h2 := h y (Int.le_refl _) (by omega)
    rw [if_pos (by omega), if_neg hn, w32_id (x := y + 1) (by omega) (by omega), if_neg h2]
    refine ⟨hs, by omega, hs, ?_⟩
    by_cases c : A 101 y = A 11 s
    · rw [if_pos c]; exact ⟨by omega, g⟩
    · rw [if_neg c]; exact g
/-- the NONEs of an instance -/
theorem f_121 [Inhabited fz_] (hL : LK 1 M N s) : ∀ (n : Nat) (k : Int) (A : mm_) (L : List (Int × Int × Int)) (z : Int), k + n = N 6 62 → 0 ≤ k → EGM M A → MVL A L → L.length ≤ z + k → z + 600 ≤ 7258 → ∃ A', RC 5 m_43 121 [rr 0, ii s, ii (xsf (tbN N) k.toNat)] A 111 [rr 0, ii (s + 1), none] A' ∧ EGM M A' ∧ MVL A' (L ++ (frQ N (M 11 s) (M 12 s) k n).map (nmv N s)) ∧ (L ++ (frQ N (M 11 s) (M 12 s) k n).map (nmv N s)).length ≤ z + N 6 62 := fun n => by
  obtain ⟨w1, w2, w3, w4, w5⟩ := id hL
  have n12 := w1.1.1
  have pb := ps_b w2
  have stt := LK_st hL
  induction n with
  | zero =>
    intro k A L z hk k0 g m hl hz
    have e : xsf (tbN N) k.toNat = M 4 4 := by rw [show k = N 6 62 by (clear hL w1 w2 w3 w4 w5 n12 pb stt k0 g m hl hz; lia)]; exact pb.2.1.1
    refine ⟨A, fun V Qr Qt hV hW gg => b_43_121 (Tr_mono _) hV hW _ _ _ ?_, g, by unfold frQ; rw [List.map_nil, List.append_nil]; exact m, by unfold frQ; rw [List.map_nil, List.append_nil]; (clear hL w1 w2 w3 w4 w5 n12 pb stt k0 g m hz e; omega)⟩
    rw [e, g.1 4 (by decide), if_neg (by omega), w32_id (x := s + 1) (by omega) (by omega)]; exact gg
  | succ n ih =>
    intro k A L z hk k0 g m hl hz
    have kb := pb.2.2 k k0 (by (clear hL w1 w2 w3 w4 w5 n12 pb stt ih k0 g m hl hz; omega))
    have hxs := xsfm w2 k.toNat (by (clear hL w1 w2 w3 w4 w5 n12 stt ih g m hl hz kb; omega))
    have re := row_e w2 (k := k) ⟨k0, by omega⟩
    have e1 : xsf (tbN N) (k + 1).toNat = xsf (tbN N) k.toNat + nsK (tbN N) k := by
      rw [show (k + 1).toNat = k.toNat + 1 by (clear hL w1 w2 w3 w4 w5 n12 pb stt ih hk g m hl hz kb hxs re; lia)]
      show xsf (tbN N) k.toNat + nsK (tbN N) ((k.toNat : Nat) : Int) = _
      rw [show ((k.toNat : Nat) : Int) = k by omega]
    have a4 : A 4 = M 4 := g.1 4 (by decide)
    have a12 : A 12 = M 12 := g.1 12 (by decide)
    have a11 : A 11 = M 11 := g.1 11 (by decide)
    have a100 : A 100 = M 100 := g.1 100 (by decide)
    have a101 : A 101 = M 101 := g.1 101 (by decide)
    have a102 : A 102 = M 102 := g.1 102 (by decide)
    unfold frQ
    by_cases c3 : N 193 k = 3
    · have ns : nsK (tbN N) k = 1 := by rw [nsK_e, if_neg (by (clear hL w1 w2 w3 w4 w5 n12 pb stt ih hk k0 g m hl hz kb hxs re e1 a4 a12 a11 a100 a101 a102; omega))]
      have hrow : ROWk M N k 0 (xsf (tbN N) k.toNat) := ⟨⟨k0, by omega⟩, by rw [ns]; decide, by (clear hL w1 w2 w3 w4 w5 n12 pb stt ih hk k0 g m hl hz kb hxs re e1 a4 a12 a11 a100 a101 a102 c3 ns; lia)⟩
      rw [ns] at e1
      obtain ⟨⟨f1, f2, f3, _⟩, _⟩ := row_f w2 hrow
      have rb := row_b w2 hrow
      have wy : w32 (xsf (tbN N) k.toNat + 1) = xsf (tbN N) k.toNat + 1 := w32_id (by (clear hL w1 w2 w3 w4 w5 n12 pb stt ih hk k0 g m hl hz kb re a4 a12 a11 a100 a101 a102 c3 ns hrow f1 f2 f3 rb; omega)) (by (clear hL w1 w2 w3 w4 w5 n12 stt ih hk k0 g m hl hz kb hxs a4 a12 a11 a100 a101 a102 c3 hrow f1 f2 f3 rb; omega))
      by_cases cT : N 192 k = M 11 s
      · have bX := an_sr (c := M 102 (xsf (tbN N) k.toNat)) (s := M 12 s) f3.1.1 (by have := f3.1.2; (clear hL w1 w2 w3 w4 w5 n12 pb stt ih hk k0 g m hl hz kb hxs re e1 a4 a12 a11 a100 a101 a102 c3 ns hrow f1 f2 f3 rb wy cT; omega)) stt.1 stt.2.2
        have bQ := an_sr (c := N 194 k) (s := M 12 s) f3.2.1.1 (by have := f3.2.1.2; (clear hL w1 w2 w3 w4 w5 n12 pb stt ih hk k0 g m hl hz kb hxs re e1 a4 a12 a11 a100 a101 a102 c3 ns hrow f1 f2 f3 rb wy cT bX; omega)) stt.1 stt.2.2
        have mb := f3.2.2 (M 12 s) stt.1
        rw [cT] at mb
        by_cases cb : bt_ (N 194 k) (M 12 s)
        · have xb : ¬ an_ (sr_ (M 102 (xsf (tbN N) k.toNat)) (M 12 s)) 1 = 0 := fun e0 => bX.1.1 e0 (mb.2 ⟨cb, stt.2.1⟩)
          have qb : ¬ an_ (sr_ (N 194 k) (M 12 s)) 1 = 0 := fun e0 => bQ.1.1 e0 cb
          rw [if_pos ⟨⟨cT, c3⟩, qb⟩, List.map_cons]
          obtain ⟨A', r1, r2, r3, r4⟩ := ih (k + 1) (adX A L.length 3 s (xsf (tbN N) k.toNat)) (L ++ [(3, s, xsf (tbN N) k.toNat)]) z (by omega) (by (clear hL w1 w2 w3 w4 w5 n12 pb stt ih hk g m hl hz kb hxs re e1 a4 a12 a11 a100 a101 a102 c3 ns hrow f1 f2 f3 rb wy cT bX bQ mb cb xb qb; omega)) (EGM_tr g EGM_ad) (MVL_ad m) (by rw [List.length_append, List.length_cons, List.length_nil]; (clear hL w1 w2 w3 w4 w5 n12 pb stt ih hk k0 g m hz kb hxs re e1 a4 a12 a11 a100 a101 a102 c3 ns hrow f1 f2 f3 rb wy cT bX bQ mb cb xb qb; omega)) hz
          rw [List.append_assoc] at r3 r4
          rw [e1] at r1
          refine ⟨A', RC_tr (fun V Qr Qt hV hW gg => b_43_121 (Tr_mono _) hV hW _ _ _ ?_) r1, r2, r3, r4⟩
          rw [a4, a12, a101, a11, a100, a102, if_pos (by (clear hL w1 w2 w3 w4 w5 n12 pb stt ih hk k0 g m hl hz kb hxs a4 a12 a11 a100 a101 a102 c3 hrow f1 f2 f3 rb cT bX bQ mb cb xb qb r1 r2 r3 r4 hV hW gg; omega)), if_neg (by (clear hL w1 w2 w3 w4 n12 pb ih hk k0 g m hl hz kb hxs re e1 a4 a12 a11 a100 a101 a102 c3 ns hrow f1 f2 f3 rb wy cT bX bQ mb cb xb qb r1 r2 r3 r4 hV hW gg; omega)), if_pos (by rw [f2]; exact cT), if_pos (by rw [f1]; exact c3), if_neg xb, wy]
          exact ⟨by omega, by (clear hL w1 w2 w3 w4 w5 n12 stt ih hk k0 g m hl hz kb a4 a12 a11 a100 a101 a102 c3 hrow f1 f2 f3 rb cT bX bQ mb cb xb qb r1 r2 r3 r4 hV hW gg; omega), by omega, by omega, by omega, by omega, Ex_le (d := 1) (by decide) (x_44 m.2 (by (clear hL w1 w2 w3 w4 w5 n12 stt ih k0 g m kb hxs re e1 a4 a12 a11 a100 a101 a102 c3 ns hrow f1 f2 f3 rb wy cT bX bQ mb cb xb qb r1 r2 r3 r4 hV hW gg; omega))) _ _ (rv_i gg)⟩
        · rw [if_neg (fun e => e.2 (bQ.1.2 cb))]
          obtain ⟨A', r1, r2, r3, r4⟩ := ih (k + 1) A L z (by omega) (by omega) g m (by (clear hL w1 w2 w3 w4 w5 n12 pb stt ih hk k0 g m hz kb hxs re e1 a4 a12 a11 a100 a101 a102 c3 ns hrow f1 f2 f3 rb wy cT bX bQ mb cb; omega)) hz
          rw [e1] at r1
          refine ⟨A', RC_tr (fun V Qr Qt hV hW gg => b_43_121 (Tr_mono _) hV hW _ _ _ ?_) r1, r2, r3, r4⟩
          rw [a4, a12, a101, a11, a100, a102, if_pos (by omega), if_neg (by omega), if_pos (by rw [f2]; exact cT), if_pos (by rw [f1]; exact c3), if_pos (bX.1.2 (fun h => cb (mb.1 h).1)), wy]
          exact ⟨by (clear hL w1 w2 w3 w5 pb stt ih hk k0 g m hl hz kb hxs re e1 a4 a12 a11 a100 a101 a102 c3 ns hrow f1 f2 f3 rb wy cT bX bQ mb cb r1 r2 r3 r4 hV hW gg; omega), by omega, by omega, by omega, by omega, by omega, gg⟩
      · rw [if_neg (fun e => cT e.1.1)]
        obtain ⟨A', r1, r2, r3, r4⟩ := ih (k + 1) A L z (by omega) (by omega) g m (by omega) hz
        rw [e1] at r1
        refine ⟨A', RC_tr (fun V Qr Qt hV hW gg => b_43_121 (Tr_mono _) hV hW _ _ _ ?_) r1, r2, r3, r4⟩
        rw [a4, a12, a101, a11, if_pos (by omega), if_neg (by omega), if_neg (by rw [f2]; exact cT), wy]
        exact ⟨by omega, by omega, by omega, gg⟩
    · rw [if_neg (fun e => c3 e.1.2)]
      have hall : ∀ x, xsf (tbN N) k.toNat ≤ x → x < xsf (tbN N) k.toNat + nsK (tbN N) k → ROWk M N k (x - xsf (tbN N) k.toNat) x := fun x x0 x1 => ⟨⟨k0, by omega⟩, by (clear hL w1 w2 w3 w4 w5 n12 pb stt ih hk k0 g m hl hz kb hxs re a4 a12 a11 a100 a101 a102 c3; omega), by (clear hL w1 w2 w3 w4 w5 n12 pb stt ih hk k0 g m hl hz kb hxs re e1 a4 a12 a11 a100 a101 a102 c3 x0 x1; lia)⟩
      have sk := sk_f (s := s) (A := A) (by omega) (by rw [a12]; omega) (by rw [a4]; exact pb.2.1.2) (nsK (tbN N) k).toNat (xsf (tbN N) k.toNat) hxs (by rw [a4]; (clear hL w1 w2 w3 w4 w5 n12 pb stt ih hk k0 g m hl hz kb hxs a4 a12 a11 a100 a101 a102 c3 hall; omega)) (fun x x0 x1 => by rw [a100, (row_f w2 (hall x x0 (by (clear hL w1 w2 w3 w4 w5 n12 pb stt ih hk k0 g m hl hz kb hxs a4 a12 a11 a100 a101 a102 c3 hall x0; omega)))).1.1]; exact c3)
      rw [show xsf (tbN N) k.toNat + (((nsK (tbN N) k).toNat : Nat) : Int) = xsf (tbN N) (k + 1).toNat by (clear hL w1 w2 w3 w4 w5 n12 pb stt ih hk k0 g m hl hz kb hxs a4 a12 a11 a100 a101 a102 c3 hall sk; omega)] at sk
      obtain ⟨A', r1, r2, r3, r4⟩ := ih (k + 1) A L z (by omega) (by omega) g m (by omega) hz
      exact ⟨A', RC_tr sk r1, r2, r3, r4⟩
theorem f_111 [Inhabited fz_] (h : RU 1 M N) (hP : PLr M N) (hA : TYA N) : ∀ (n : Nat) (x : Int) (A : mm_) (L : List (Int × Int × Int)), x + n = M 0 7 → 0 ≤ x → EGM M A → MVL A L → L.length ≤ 58 + 600 * x → ∃ A', (∀ (V : vv_) (Qr : qr_) (Qt : qt_), Cl_ wd0 (Tr_ wd0 pg0 5) V Qr Qt m_43 → Wk_ V → Qr [] A' → V 111 [rr 0, ii x, none] [] A) ∧ EGM M A' ∧ MVL A' (L ++ frL N (N 239) x n) ∧ (L ++ frL N (N 239) x n).length ≤ 7258 := fun n => by
  have n12 := h.1.1
  have pb := ps_b hP
  induction n with
  | zero =>
    intro x A L hx x0 g m hl
    refine ⟨A, fun V Qr Qt hV hW gg => b_43_111 (Tr_mono _) hV hW _ _ ?_, g, by unfold frL; rw [List.append_nil]; exact m, by unfold frL; rw [List.append_nil]; (clear h hP hA pb x0 g m; omega)⟩
    rw [g.2 7 (by decide), if_neg (by omega)]; exact gg
  | succ n ih =>
    intro x A L hx x0 g m hl
    have hin := h.1.2.2.1 x x0 (by omega)
    have i2 := hin.1.2.1
    have i3 := hin.1.2.2.1
    have st := hin.2.1.2.2
    unfold frL frS
    rw [← i2, ← i3]
    by_cases c : M 12 x = -1
    · rw [if_pos (by omega), List.map_nil, List.nil_append]
      obtain ⟨A', r1, r2, r3, r4⟩ := ih (x + 1) A L (by omega) (by (clear h hP hA n12 pb ih hx g m hl hin i2 i3 st c; lia)) g m (by (clear h hP hA n12 pb ih hx x0 g m hin i2 i3 st c; lia))
      refine ⟨A', fun V Qr Qt hV hW gg => b_43_111 (Tr_mono _) hV hW _ _ ?_, r2, r3, r4⟩
      rw [g.2 7 (by decide), if_pos (by omega)]
      refine b_43_121 (Tr_mono _) hV hW _ _ _ ?_
      rw [g.1 12 (by decide), if_pos c, w32_id (x := x + 1) (by omega) (by omega)]
      have := r1 V Qr Qt hV hW gg
      by_cases c4 : 0 < A 4 4
      · rw [if_pos c4]; exact ⟨by (clear h hP hA pb ih g m hl hin i2 i3 st c r1 r2 r3 r4 hV hW gg this c4; omega), this⟩
      · rw [if_neg c4]; exact this
    · rw [if_neg (by (clear h hP hA n12 pb ih hx x0 g m hl hin i2; lia))]
      obtain ⟨A1, s1, s2, s3, s4⟩ := f_121 (s := x) ⟨h, hP, hA, ⟨x0, by omega⟩, by (clear h hP hA n12 pb ih hx x0 g m hl hin i2; lia)⟩ (N 6 62).toNat 0 A L (58 + 600 * x) (by (clear h hP hA n12 ih hx x0 g m hl hin i2 i3 st c; omega)) (by decide) g m (by omega) (by (clear h hP hA pb ih x0 g m hl hin i2 i3 st c; lia))
      have e0 : xsf (tbN N) (0 : Int).toNat = 0 := rfl
      rw [e0] at s1
      obtain ⟨A', r1, r2, r3, r4⟩ := ih (x + 1) A1 _ (by omega) (by omega) s2 s3 (by (clear h hP hA n12 ih hx x0 g m hl hin i2 i3 st c s1 s2 s3 e0; omega))
      rw [List.append_assoc] at r3 r4
      refine ⟨A', fun V Qr Qt hV hW gg => b_43_111 (Tr_mono _) hV hW _ _ ?_, r2, r3, r4⟩
      rw [g.2 7 (by decide), if_pos (by omega)]
      exact s1 V Qr Qt hV hW (r1 V Qr Qt hV hW gg)
/-- all moves -/
theorem x_43 [Inhabited fz_] (h : RU 1 M N) (hP : PLr M N) (hA : TYA N) : ∃ A L1, Ex_ 6 43 [.inr (.inr 0)] M [] A ∧ EGM M A ∧ STL N 0 (M 0 7).toNat L1 ∧ MVL A (L1 ++ arL (N 239) 0 (N 6 18).toNat ++ tmL (N 239) 0 (3 * M 0 7).toNat ++ frL N (N 239) 0 (M 0 7).toNat) ∧ (L1 ++ arL (N 239) 0 (N 6 18).toNat ++ tmL (N 239) 0 (3 * M 0 7).toNat ++ frL N (N 239) 0 (M 0 7).toNat).length ≤ 7258 := by
  have n12 := h.1.1
  have h10 := h.2.1.1
  have g0 : EGM M (up_ M 0 69 0) := ⟨fun r hr => up_ne (fun e => hr (by rw [e]; decide)), fun i hi => upo (fun e => hi (by rw [e]; decide))⟩
  obtain ⟨A1, L1, a1, a2, a3, a4, a5⟩ := f_7 h hP hA (M 0 7).toNat 0 (up_ M 0 69 0) [] (by omega) (by decide) g0 ⟨trivial, by rw [up_at]; rfl⟩ (by decide)
  rw [List.nil_append] at a3 a4
  obtain ⟨A2, b1, b2, b3, b4⟩ := f_38 h hP (N 6 18).toNat 0 A1 L1 (by (clear h hP hA n12 g0 a1 a2 a3 a4 a5; omega)) (by decide) a2 a3 (by omega)
  obtain ⟨A3, c1, c2, c3, c4⟩ := f_73 h hP (3 * M 0 7).toNat 0 A2 _ (by omega) (by decide) b2 b3 (by omega)
  obtain ⟨A4, d1, d2, d3, d4⟩ := f_111 h hP hA (M 0 7).toNat 0 A3 _ (by (clear h hP hA h10 g0 a1 a2 a3 a4 a5 b1 b2 b3 b4 c1 c2 c3 c4; omega)) (by decide) c2 c3 (by omega)
  exact ⟨A4, L1, fun Qr Qt g => t_43 fun V hV hW => b_43_0 (Tr_mono _) hV hW _ (a1 V Qr Qt hV hW (b1 V Qr Qt hV hW (c1 V Qr Qt hV hW (d1 V Qr Qt hV hW g)))), d2, a5, d3, d4⟩
end FIa
end T408_fi
section T409_it
/-! the search: one move more (X 37 at 188 | Q 385, the move, 387) -/
def p37 (M : mm_) (a b : Int) : mm_ := up_ (up_ M 0 37 a) 0 38 b
def q37 (N : mm_) (a b : Int) : mm_ := up_ (up_ N 6 138 a) 6 139 b
/-- a run of X that Q's memory fits, apart from what is unpacked -/
def RVX [Inhabited fz_] (M N : mm_) : Prop := ∃ Mv, RU 1 Mv N ∧ (∀ r : Nat, r ∉ [0, 10, 11, 12, 13, 14, 15, 16, 17, 18, 19, 20, 21, 22] → Mv r = M r) ∧ ∀ i : Int, i ∉ [7, 8, 37, 38, 65] → Mv 0 i = M 0 i
def ITV [Inhabited fz_] (x1 n B x3 x4 x5 : Int) (M N : mm_) : Prop := (RVX M N ∧ PLr M N ∧ TYA N) ∧ (SST M N n B ∧ BKT M n) ∧ (n ≤ x1 ∧ N 6 165 = x1) ∧ (N 6 166 = x3 ∧ N 6 167 = x4 ∧ N 6 168 = x5) ∧ M 0 64 = N 6 164
section ITa
variable {z : Int} {M N M' N' M1 N1 Mv : mm_} {f : Int → Int} {a b k n B x1 x3 x4 x5 : Int}
theorem RVX_of [Inhabited fz_] (h : RU 1 M N) : RVX M N := ⟨M, h, fun _ _ => rfl, fun _ _ => rfl⟩
theorem ITV_of [Inhabited fz_] (h : ITR x1 n B x3 x4 x5 M N) : ITV x1 n B x3 x4 x5 M N := ⟨⟨RVX_of h.1.1, h.1.2⟩, h.2⟩
theorem p37_r [Inhabited fz_] {r : Nat} (h : r ≠ 0) : p37 M a b r = M r := by unfold p37; rw [up_ne h, up_ne h]
theorem p37_0 [Inhabited fz_] {i : Int} (h : i ≠ 37) (h' : i ≠ 38) : p37 M a b 0 i = M 0 i := by unfold p37; rw [upo h', upo h]
theorem p37_v [Inhabited fz_] : p37 M a b 0 37 = a ∧ p37 M a b 0 38 = b := by unfold p37; exact ⟨by rw [upo (by decide), up_at], by rw [up_at]⟩
theorem q37_r [Inhabited fz_] {r : Nat} (h : r ≠ 6) : q37 N a b r = N r := by unfold q37; rw [up_ne h, up_ne h]
theorem q37_0 [Inhabited fz_] {i : Int} (h : i ≠ 138) (h' : i ≠ 139) : q37 N a b 6 i = N 6 i := by unfold q37; rw [upo h', upo h]
theorem q37_v [Inhabited fz_] : q37 N a b 6 138 = a ∧ q37 N a b 6 139 = b := by unfold q37; exact ⟨by rw [upo (by decide), up_at], by rw [up_at]⟩
theorem p37_s [Inhabited fz_] : p37 M (M 0 37) (M 0 38) = M := by
  funext r
  by_cases c : r = 0
  · subst c; funext i
    by_cases c1 : i = 37
    · rw [c1]; exact p37_v.1
    · by_cases c2 : i = 38
      · rw [c2]; exact p37_v.2
      · exact p37_0 c1 c2
  · exact p37_r c
theorem RU_37 [Inhabited fz_] (h : RU z M N) : RU z (p37 M a b) (q37 N a b) := by
  obtain ⟨h1, h2, h3, h4, h5⟩ := h
  have xr : ∀ r : Nat, r ≠ 0 → p37 M a b r = M r := fun r c => p37_r c
  have x0 : ∀ i : Int, i ≠ 37 → i ≠ 38 → p37 M a b 0 i = M 0 i := fun i c c' => p37_0 c c'
  have qr : ∀ r : Nat, r ≠ 6 → q37 N a b r = N r := fun r c => q37_r c
  have q0 : ∀ i : Int, i ≠ 138 → i ≠ 139 → q37 N a b 6 i = N 6 i := fun i c c' => q37_0 c c'
  obtain ⟨v37, v38⟩ := p37_v (M := M) (a := a) (b := b)
  obtain ⟨v138, v139⟩ := q37_v (N := N) (a := a) (b := b)
  refine ⟨RI_c h1 ⟨x0 7 (by decide) (by decide), x0 8 (by decide) (by decide)⟩ (fun r hr => xr r (fun c => by rw [c] at hr; revert hr; decide)) (qr 239 (by decide)) (q0 19 (by decide) (by decide)) (fun r hr => qr r (fun c => by rw [c] at hr; revert hr; decide)), RRt_c h2 (xr 21 (by decide)) (xr 22 (by decide)) (qr 239 (by decide)) (q0 18 (by decide) (by decide)), ?_, ROU_c h4 (fun i hi => x0 i (fun c => by rw [c] at hi; revert hi; decide) (fun c => by rw [c] at hi; revert hi; decide)) (xr 24 (by decide)) (fun i hi => q0 i (fun c => by rw [c] at hi; revert hi; decide) (fun c => by rw [c] at hi; revert hi; decide)) (qr 241 (by decide)), REV_c h5 (fun i hi => x0 i (fun c => by rw [c] at hi; revert hi; decide) (fun c => by rw [c] at hi; revert hi; decide)) (xr 23 (by decide)) (fun i hi => q0 i (fun c => by rw [c] at hi; revert hi; decide) (fun c => by rw [c] at hi; revert hi; decide)) (qr 240 (by decide))⟩
  unfold RSC at h3 ⊢
  rw [x0 9 (by decide) (by decide), x0 10 (by decide) (by decide), x0 25 (by decide) (by decide), x0 26 (by decide) (by decide), x0 27 (by decide) (by decide), x0 28 (by decide) (by decide), x0 29 (by decide) (by decide), x0 30 (by decide) (by decide), x0 31 (by decide) (by decide), q0 127 (by decide) (by decide), q0 128 (by decide) (by decide), q0 129 (by decide) (by decide), q0 131 (by decide) (by decide), q0 132 (by decide) (by decide), q0 133 (by decide) (by decide), q0 134 (by decide) (by decide), q0 135 (by decide) (by decide), q0 136 (by decide) (by decide), v37, v38, v138, v139]
  exact ⟨h3.1, h3.2.1, h3.2.2.1, h3.2.2.2.1, fun _ => ⟨rfl, rfl⟩⟩
theorem q37_wr [Inhabited fz_] {g : Int → Int} : wr_ (q37 N a b) 239 g = q37 (wr_ N 239 g) a b := by
  funext r
  by_cases c : r = 239
  · subst c; rw [wr_same, q37_r (by decide), wr_same]
  · by_cases c2 : r = 6
    · subst c2
      rw [wr_ne (by decide)]; funext i
      by_cases c3 : i = 138
      · rw [c3, q37_v.1, q37_v.1]
      · by_cases c4 : i = 139
        · rw [c4, q37_v.2, q37_v.2]
        · rw [q37_0 c3 c4, q37_0 c3 c4, wr_ne (by decide)]
    · rw [wr_ne c, q37_r c2, q37_r c2, wr_ne c]
theorem RU_unv [Inhabited fz_] (h : RVX M N) (hv : VR N f) (hu : UF M M') (h7 : M' 0 7 = f 0) (h8 : M' 0 8 = f 1) (hS : ∀ j, 0 ≤ j → j < f 0 → SLD M' f j) (hR : ∀ j, 0 ≤ j → j < N 6 18 → ROD M' f j) : RU 1 (p37 M' a b) (q37 (wr_ N 239 (ldF (N 239) f)) a b) := by
  obtain ⟨Mv, hr, v1, v2⟩ := h
  have e239 : q37 N a b 239 = N 239 := q37_r (by decide)
  rw [← q37_wr, ← e239]
  have r9 : ∀ i : Int, i ≠ 37 → i ≠ 38 → p37 M' a b 0 i = M' 0 i := fun i c c' => p37_0 c c'
  refine RU_un (RU_37 hr) (VR_t hv (q37_0 (by decide) (by decide)) (q37_0 (by decide) (by decide)) (fun r hr => q37_r (fun c => by rw [c] at hr; revert hr; decide))) ⟨fun r hr => ?_, fun i hi => ?_⟩ (by rw [r9 7 (by decide) (by decide)]; exact h7) (by rw [r9 8 (by decide) (by decide)]; exact h8) (fun j j0 j1 => ?_) (fun j j0 j1 => ?_)
  · have r0 : r ≠ 0 := fun c => hr (by rw [c]; decide)
    rw [p37_r r0, p37_r r0, hu.1 r hr, v1 r hr]
  · by_cases c : i = 37
    · rw [c, p37_v.1, p37_v.1]
    · by_cases c2 : i = 38
      · rw [c2, p37_v.2, p37_v.2]
      · rw [p37_0 c c2, p37_0 c c2, hu.2 i hi, v2 i (fun e => by revert e hi; simp only [List.mem_cons, List.not_mem_nil, or_false]; (clear hv hu h7 h8 hS hR hr v1 v2 e239 r9; lia))]
  · have := hS j j0 j1
    unfold SLD at this ⊢
    rw [p37_r (r := 10) (by decide), p37_r (r := 11) (by decide), p37_r (r := 12) (by decide), p37_r (r := 13) (by decide), p37_r (r := 14) (by decide), p37_r (r := 15) (by decide), p37_r (r := 16) (by decide), p37_r (r := 17) (by decide), p37_r (r := 18) (by decide), p37_r (r := 19) (by decide), p37_r (r := 20) (by decide), r9 9 (by decide) (by decide)]
    exact this
  · rw [q37_0 (by decide) (by decide)] at j1
    have := hR j j0 j1
    unfold ROD at this ⊢
    rw [p37_r (r := 21) (by decide), p37_r (r := 22) (by decide), r9 9 (by decide) (by decide)]
    exact this
theorem trQ_e [Inhabited fz_] : trQ N k = q37 (wr_ N 239 (ldF (N 239) (rwk N k))) 0 0 := rfl
/-- trying -/
theorem j_trv [Inhabited fz_] (h : RVX M N) (hP : PLr M N) (hA : TYA N) (hS : SST M N n B) (hk : 0 ≤ k ∧ k < n) : ∃ M1, Ex_ 2 41 [.inr (.inr 0), .inl k] M [] M1 ∧ UF M M1 ∧ (∀ a b, RU 1 (p37 M1 a b) (q37 (wr_ N 239 (ldF (N 239) (rwk N k))) a b)) ∧ (∀ a b, TYA (q37 (wr_ N 239 (ldF (N 239) (rwk N k))) a b)) ∧ M1 0 8 ≤ B + 200 * k ∧ M1 0 7 = rwk N k 0 := by
  obtain ⟨⟨a1, a2, a3, a4, a5⟩, _⟩ := hS.2.2 k hk.1 hk.2
  have n2 := hS.2.1
  obtain ⟨M1, x1, u, ⟨h7, h8⟩, s1, s2⟩ := x_41 hP a1 (k := k) (by (clear h hP hA hS a1 a2 a3 a4 a5; lia)) a4.1
  refine ⟨M1, x1, u, fun a b => RU_unv h a1 u h7 h8 s1 s2, fun a b => ?_, by omega, h7⟩
  refine TYA_c (TYA_un hA a2 a1.1.1) ⟨fun r hr => q37_r (fun c => by rw [c] at hr; revert hr; decide), q37_0 (by decide) (by decide), q37_0 (by decide) (by decide)⟩ (q37_r (by decide))
theorem XSF_p37 [Inhabited fz_] : XSF M (p37 M a b) := by unfold p37; exact XSF_tr (XSF_up (.inr (by decide)) (fun _ => by decide)) (XSF_up (.inr (by decide)) (fun _ => by decide))
theorem QSF_q37 [Inhabited fz_] : QSF N (q37 N a b) := by unfold q37; exact QSF_tr (QSF_up (.inr (by decide)) (fun _ => by decide)) (QSF_up (.inr (by decide)) (fun _ => by decide))
theorem QSF_ld [Inhabited fz_] {g : Int → Int} : QSF N (q37 (wr_ N 239 g) a b) := QSF_tr (QSF_wr (.inr (by decide)) (by decide)) QSF_q37
/-- what X has and Q has behind a move, of what they had ahead -/
theorem KMV_a [Inhabited fz_] (u : UF M M1) (fx : XRF (p37 M1 a b) M') (fq : QRF (trQ N k) N') : KMV n M N M' N' ∧ (∀ r : Nat, r ∈ sxA → M' r = M r) ∧ (∀ i : Int, i ∈ [62, 63, 64] → M' 0 i = M 0 i) ∧ (∀ r : Nat, r ∈ sqA → N' r = N r) ∧ ∀ i : Int, i ∈ [163, 164, 165, 166, 167, 168, 169] → N' 6 i = N 6 i := by
  have xs : ∀ r : Nat, r ∈ sxA → M' r = M r := fun r hr => by
    have h0 : r ≠ 0 := fun c => by rw [c] at hr; revert hr; decide
    rw [fx.1 r (fun c => by revert hr c; simp only [sxA, xuL, List.mem_cons, List.not_mem_nil, or_false]; omega), p37_r h0, u.1 r (fun c => by revert hr c; simp only [sxA, List.mem_cons, List.not_mem_nil, or_false]; omega)]
  have x0 : ∀ i : Int, i ∈ [11, 62, 63, 64, 69] → M' 0 i = M 0 i := fun i hi => by
    rw [fx.2 i (fun c => by revert hi c; simp only [xfL, List.mem_cons, List.not_mem_nil, or_false]; omega), p37_0 (fun c => by rw [c] at hi; revert hi; decide) (fun c => by rw [c] at hi; revert hi; decide), u.2 i (fun c => by revert hi c; simp only [List.mem_cons, List.not_mem_nil, or_false]; omega)]
  have qs : ∀ r : Nat, r ∈ sqA → N' r = N r := fun r hr => by
    have h6 : r ≠ 6 := fun c => by rw [c] at hr; revert hr; decide
    have h239 : r ≠ 239 := fun c => by rw [c] at hr; revert hr; decide
    rw [fq.1 r (fun c => by revert hr c; simp only [sqA, quL, List.mem_cons, List.not_mem_nil, or_false]; omega), trQ_e, q37_r h6, wr_ne h239]
  have q0 : ∀ i : Int, i ∈ [130, 163, 164, 165, 166, 167, 168, 169] → N' 6 i = N 6 i := fun i hi => by
    rw [fq.2 i (fun c => by revert hi c; simp only [qfL, List.mem_cons, List.not_mem_nil, or_false]; omega), trQ_e, q37_0 (fun c => by rw [c] at hi; revert hi; decide) (fun c => by rw [c] at hi; revert hi; decide), wr_ne (by decide)]
  refine ⟨⟨⟨XSF_tr (XSF_u u) (XSF_tr XSF_p37 (XSF_f fx)), QSF_tr QSF_ld (QSF_f fq)⟩, ⟨fun r hr => xs r (by revert hr; simp only [sxA, List.mem_cons, List.not_mem_nil, or_false]; (clear u fx fq xs x0 qs q0; lia)), x0 69 (by decide)⟩, qs 246 (by decide), fun j _ _ => by unfold rwk; rw [qs 245 (by decide)], x0 11 (by decide), q0 130 (by decide)⟩, xs, fun i hi => x0 i (by revert hi; simp only [List.mem_cons, List.not_mem_nil, or_false]; (clear u fx fq xs x0 qs q0; lia)), qs, fun i hi => q0 i (by revert hi; simp only [List.mem_cons, List.not_mem_nil, or_false]; (clear u fx fq xs x0 qs q0; lia))⟩
theorem it_mv [Inhabited fz_] (hI : ITV x1 n B x3 x4 x5 M N) (hc : CUT M N 0) (hk : 0 ≤ k ∧ k < n) (hx1 : x1 ≤ 200) (h3 : 0 ≤ x3 ∧ x3 < M 0 69 ∧ M 0 69 ≤ 7258) {AQ : mm_ → Prop}
    (hact : ∀ M1, UF M M1 → (∀ a b, RU 1 (p37 M1 a b) (q37 (wr_ N 239 (ldF (N 239) (rwk N k))) a b)) → PLr (p37 M1 0 0) (trQ N k) → TYA (trQ N k) → M1 0 8 ≤ B + 200 * k → M1 0 7 = rwk N k 0 → ∃ M2 N2, Ex_ 10 45 [.inr (.inr 0), .inl x3] (p37 M1 0 0) [] M2 ∧ AQ N2 ∧ RU 1 M2 N2 ∧ TYA N2 ∧ (XRF (p37 M1 0 0) M2 ∧ QRF (trQ N k) N2) ∧ M2 0 8 ≤ M1 0 8 + 200) :
    ∃ c n' M' N' N2 y4 y5, (c = 0 ∨ c = 1) ∧ AQ N2 ∧ Ex_ 3 387 [.inr (.inr 6), .inl k] N2 [] N' ∧ RC 10 m_37 188 [rr 0, ii x1, ii k, ii x3, ii x4, ii x5] M (if c = 0 then 188 else 341) [rr 0, ii x1, ii k, ii (if c = 0 then x3 + 1 else x3), ii y4, ii y5] M' ∧ ITV x1 n' B (if c = 0 then x3 + 1 else x3) y4 y5 M' N' ∧ CUT M' N' c ∧ n ≤ n' ∧ KMV n M N M' N' := by
  obtain ⟨⟨hV, hP, hA⟩, ⟨hS, hb⟩, ⟨hl1, hl2⟩, ⟨h166, h167, h168⟩, h64⟩ := hI
  have n2 := hS.2.1
  obtain ⟨M1, x41, u, ru, ty, b8, b7⟩ := j_trv hV hP hA hS hk
  have Pz : PLr (p37 M1 0 0) (trQ N k) := PLr_s hP (XSF_tr (XSF_u u) XSF_p37) QSF_ld
  obtain ⟨M2, N2, xa, qa, r2, t2, fr, c8⟩ := hact M1 u ru Pz (ty 0 0) b8 b7
  obtain ⟨km, xs, xf, qs, qf⟩ := KMV_a (n := n) (k := k) u fr.1 fr.2
  have P2 : PLr M2 N2 := PLr_s hP km.1.1 km.1.2
  have hN := PKB_of hP
  have S2 : SST M2 N2 n B := SST_c hS (xf 62 (by decide)) (qf 163 (by decide)) (fun r hr k _ _ _ => by rw [xs r (by revert hr; simp only [sxA, List.mem_cons, List.not_mem_nil, or_false]; (clear hc hk hx1 h3 hact hV hP hA hS hb hl1 hl2 h64 h166 h167 h168 n2 x41 u ru ty b8 b7 Pz xa qa r2 t2 fr c8 km xs xf qs qf P2 hN; lia))]) (fun r hr => by
      by_cases c : r ∈ sqA
      · exact qs r c
      · exact km.1.2.1 r c (fun e => by revert hr e; simp only [quL, List.mem_cons, List.not_mem_nil, or_false]; (clear hc hk hx1 h3 hact hV hP hA hS hb hl1 hl2 h64 h166 h167 h168 n2 x41 u ru ty b8 b7 Pz xa qa r2 t2 fr c8 km xs xf qs qf P2 hN c; omega))) (km.1.2.2 18 (by decide)) ⟨km.1.2.2 19 (by decide), km.1.2.2 17 (by decide)⟩ (fun k k0 k1 => pkL_len hN (hS.2.2 k k0 k1).1.1)
  have b2 : BKT M2 n := BKT_c hb (fun i _ _ => by rw [xs 29 (by decide)]) (xs 30 (by decide)) (xs 31 (by decide))
  have I2 : ITR x1 n B x3 x4 x5 M2 N2 := ⟨⟨r2, P2, t2⟩, ⟨S2, b2⟩, ⟨hl1, by rw [qf 165 (by decide)]; exact hl2⟩, ⟨by rw [qf 166 (by decide)]; exact h166, by rw [qf 167 (by decide)]; exact h167, by rw [qf 168 (by decide)]; exact h168⟩, by rw [xf 64 (by decide), qf 164 (by decide)]; exact h64⟩
  obtain ⟨c, n', M', N', d1, d2, d3, d4, d5, d6, d7⟩ := j_mvd I2 ⟨by rw [xf 63 (by decide)]; exact hc.1, by rw [qf 169 (by decide)]; exact hc.2⟩ hk (by (clear hc hk hx1 h3 hact hV hP hA hS hb hl1 hl2 h64 h166 h167 h168 n2 x41 u ru ty b7 Pz xa qa r2 t2 fr km xs xf qs qf P2 hN S2 b2 I2; lia)) hx1 (by omega)
  refine ⟨c, n', M', N', N2, _, _, d1, qa, d2, fun V Qr Qt hV hW g => b_37_188 (Tr_mono _) hV hW _ _ _ _ _ _ ?_, ITV_of d4, d5, d6, KMV_tr km d7 (Int.le_refl _)⟩
  rw [if_pos h3.2.1]
  refine Ex_le (d := 2) (by decide) x41 _ _ (rv_i ?_)
  exact xa _ _ (rv_i (d3 V Qr Qt hV hW g))
end ITa
end T409_it
section T410_ph
/-! the search: the steps of a state (Q 384) -/
/-- X's and Q's memories when the moves were found -/
def REF [Inhabited fz_] (k : Int) (Mu N0 M N : mm_) : Prop := (RU 1 Mu N0 ∧ PLr Mu N0 ∧ TYA N0) ∧ (∀ i, 0 ≤ i → i < 1104 → N0 239 i = rwk N k i) ∧ QSF N0 N ∧ Mu 0 9 = M 0 9
/-- between two moves; R are those to come -/
def PHA [Inhabited fz_] (x1 k n B x3 x4 x5 : Int) (M N : mm_) (R : List (Int × Int × Int)) : Prop := ITV x1 n B x3 x4 x5 M N ∧ CUT M N 0 ∧ (0 ≤ k ∧ k < n) ∧ 0 ≤ x3 ∧ MVS M x3 R ∧ M 0 69 = x3 + R.length ∧ M 0 69 ≤ 7258
/-- some moves are made, R are left (c: it was cut) -/
def PDN [Inhabited fz_] (x1 k n B x3 x4 x5 : Int) (M N : mm_) (R : List (Int × Int × Int)) (QE : mm_ → Prop) : Prop := ∃ c n' y3 y4 y5 M' N', (c = 0 ∨ c = 1) ∧ QE N' ∧ RC 10 m_37 188 [rr 0, ii x1, ii k, ii x3, ii x4, ii x5] M (if c = 0 then 188 else 341) [rr 0, ii x1, ii k, ii y3, ii y4, ii y5] M' ∧ ITV x1 n' B y3 y4 y5 M' N' ∧ CUT M' N' c ∧ n ≤ n' ∧ KMV n M N M' N' ∧ (c = 0 → PHA x1 k n' B y3 y4 y5 M' N' R)
section PHa
variable {M N M' N' M1 N1 Mu N0 : mm_} {a b k n n1 B x1 x3 x4 x5 y3 y4 y5 c w i cnt : Int} {R L : List (Int × Int × Int)} {QE QF : mm_ → Prop} {mv : Int × Int × Int}
theorem PDN_0 [Inhabited fz_] (h : PHA x1 k n B x3 x4 x5 M N R) (hq : QE N) : PDN x1 k n B x3 x4 x5 M N R QE := ⟨0, n, x3, x4, x5, M, N, .inl rfl, hq, by rw [if_pos rfl]; exact RC_rf, h.1, h.2.1, Int.le_refl _, KMV_rf, fun _ => h⟩
theorem PDN_s [Inhabited fz_] (hr : RC 10 m_37 188 [rr 0, ii x1, ii k, ii x3, ii x4, ii x5] M 188 [rr 0, ii x1, ii k, ii y3, ii y4, ii y5] M1) (hk : KMV n M N M1 N1) (hn : n ≤ n1) (h : PDN x1 k n1 B y3 y4 y5 M1 N1 R QE) (hq : ∀ N', QE N' → QF N') : PDN x1 k n B x3 x4 x5 M N R QF := by
  obtain ⟨c, n', z3, z4, z5, M', N', h1, h2, h3, h4, h5, h6, h7, h8⟩ := h
  exact ⟨c, n', z3, z4, z5, M', N', h1, hq _ h2, RC_tr hr h3, h4, h5, by (clear hr hk hq h1 h2 h3 h4 h5 h7 h8; omega), KMV_tr hk h7 hn, h8⟩
theorem PDN_c [Inhabited fz_] (hr : RC 10 m_37 188 [rr 0, ii x1, ii k, ii x3, ii x4, ii x5] M 341 [rr 0, ii x1, ii k, ii y3, ii y4, ii y5] M') (hI : ITV x1 n1 B y3 y4 y5 M' N') (hc : CUT M' N' 1) (hn : n ≤ n1) (hk : KMV n M N M' N') (hq : QE N') : PDN x1 k n B x3 x4 x5 M N R QE := ⟨1, n1, y3, y4, y5, M', N', .inr rfl, hq, by rw [if_neg (by decide)]; exact hr, hI, hc, hn, hk, fun e => absurd e (by decide)⟩
theorem REF_k [Inhabited fz_] (h : REF k Mu N0 M N) (hk : KMV n M N M' N') (hj : 0 ≤ k ∧ k < n) : REF k Mu N0 M' N' := ⟨h.1, fun i i0 i1 => by rw [hk.2.2.2.1 k hj.1 hj.2]; exact h.2.1 i i0 i1, QSF_tr h.2.2.1 hk.1.2, by rw [hk.1.1.2 9 (by decide)]; exact h.2.2.2⟩
/-- one move of the list -/
theorem PHA_mv [Inhabited fz_] (h : PHA x1 k n B x3 x4 x5 M N (mv :: R)) : (0 ≤ x3 ∧ x3 < M 0 69 ∧ M 0 69 ≤ 7258) ∧ (M 38 x3 = mv.1 ∧ M 39 x3 = mv.2.1 ∧ M 40 x3 = mv.2.2) := by
  obtain ⟨_, _, _, h0, hm, hl, h7⟩ := h
  rw [List.length_cons] at hl
  exact ⟨⟨h0, by omega, h7⟩, hm.1⟩
theorem PHA_n [Inhabited fz_] (h : PHA x1 k n B x3 x4 x5 M N (mv :: R)) (hI : ITV x1 n1 B (x3 + 1) y4 y5 M' N') (hc : CUT M' N' 0) (hn : n ≤ n1) (hk : KMV n M N M' N') : PHA x1 k n1 B (x3 + 1) y4 y5 M' N' R := by
  obtain ⟨_, _, hkk, h0, hm, hl, h7⟩ := h
  rw [List.length_cons] at hl
  refine ⟨hI, hc, by omega, by omega, MVS_c (fun i _ _ => by rw [hk.2.1.1 38 (by decide), hk.2.1.1 39 (by decide), hk.2.1.1 40 (by decide)]; exact ⟨rfl, rfl, rfl⟩) hm.2, by rw [hk.2.1.2]; omega, by rw [hk.2.1.2]; exact h7⟩
/-- Q tried and did not move -/
theorem KMV_q [Inhabited fz_] (hn : QSF N N1) (hq : ∀ r : Nat, r ∈ sqA → N1 r = N r) (h130 : N1 6 130 = N 6 130) : KMV n M N M N1 := ⟨⟨XSF_rf, hn⟩, ⟨fun _ _ => rfl, rfl⟩, hq 246 (by decide), fun j _ _ => by unfold rwk; rw [hq 245 (by decide)], rfl, h130⟩
theorem ITV_q [Inhabited fz_] (hI : ITV x1 n B x3 x4 x5 M N) (u : UF M M1) (hr : RU 1 (p37 M1 a b) N1) (hA : TYA N1) (hn : QSF N N1) (hq : ∀ r : Nat, r ∈ sqA → N1 r = N r) (h6 : ∀ i : Int, i ∈ [163, 164, 165, 166, 167, 168] → N1 6 i = N 6 i) : ITV x1 n B x3 x4 x5 M N1 := by
  obtain ⟨⟨hV, hP, _⟩, ⟨hS, hb⟩, ⟨hl1, hl2⟩, ⟨h166, h167, h168⟩, h64⟩ := hI
  refine ⟨⟨⟨p37 M1 a b, hr, fun r hr => ?_, fun i hi => ?_⟩, PLr_s hP XSF_rf hn, hA⟩, ⟨SST_c hS rfl (h6 163 (by decide)) (fun _ _ _ _ _ _ => rfl) (fun r hr => ?_) (hn.2 18 (by decide)) ⟨hn.2 19 (by decide), hn.2 17 (by decide)⟩ (fun k k0 k1 => pkL_len (PKB_of hP) (hS.2.2 k k0 k1).1.1), hb⟩, ⟨hl1, by rw [h6 165 (by decide)]; exact hl2⟩, ⟨by rw [h6 166 (by decide)]; exact h166, by rw [h6 167 (by decide)]; exact h167, by rw [h6 168 (by decide)]; exact h168⟩, by rw [h6 164 (by decide)]; exact h64⟩
  · rw [p37_r (fun c => hr (by rw [c]; decide))]; exact u.1 r hr
  · rw [p37_0 (fun c => hi (by rw [c]; decide)) (fun c => hi (by rw [c]; decide))]; exact u.2 i (fun c => hi (by revert c; simp only [List.mem_cons, List.not_mem_nil, or_false]; (clear u hr hA hn hq h6 hV hP hS hb hl1 hl2 h64 h166 h167 h168 hi; lia)))
  · by_cases c : r ∈ sqA
    · exact hq r c
    · exact hn.1 r c (fun e => by revert hr e; simp only [quL, List.mem_cons, List.not_mem_nil, or_false]; omega)
theorem tr_s [Inhabited fz_] : QSF N (trQ N k) ∧ (∀ r : Nat, r ∈ sqA → trQ N k r = N r) ∧ (∀ i : Int, i ∉ [138, 139] → trQ N k 6 i = N 6 i) ∧ ∀ i, 0 ≤ i → i < 1104 → trQ N k 239 i = rwk N k i := by
  refine ⟨QSF_ld, fun r hr => ?_, fun i hi => ?_, fun i i0 i1 => ?_⟩
  · rw [trQ_e, q37_r (fun c => by rw [c] at hr; revert hr; decide), wr_ne (fun c => by rw [c] at hr; revert hr; decide)]
  · rw [trQ_e, q37_0 (fun c => hi (by rw [c]; decide)) (fun c => hi (by rw [c]; decide)), wr_ne (by decide)]
  · rw [trQ_e, q37_r (by decide), wr_same]; unfold ldF; rw [if_pos ⟨i0, i1⟩]
/-- what an instance would do, when tried, is what it would have done when the moves were found -/
theorem w_rf [Inhabited fz_] (hf : REF k Mu N0 M N) (u : UF M M1) (ru : RU 1 (p37 M1 0 0) (trQ N k)) (ty : TYA (trQ N k)) (hi : 0 ≤ i ∧ i < rwk N k 0) {w2 : Int} (q : Ex_ 6 336 [.inr (.inr 6), .inl i] N0 [.inl w] N1) (q2 : Ex_ 6 336 [.inr (.inr 6), .inl i] (trQ N k) [.inl w2] N') : w2 = w := by
  obtain ⟨⟨r0, p0, t0⟩, hr, qs, h9⟩ := hf
  obtain ⟨t1, t2, t3, t4⟩ := tr_s (N := N) (k := k)
  have qs2 := QSF_tr qs t1
  have e7 : Mu 0 7 = rwk N k 0 := by rw [← r0.1.1.2.2, hr 0 (by decide) (by decide)]
  exact w_br r0 p0 t0 (by (clear u ru ty q q2 r0 p0 t0 hr qs h9 t1 t2 t3 t4 qs2; omega)) q ru (PLr_s p0 XSF_rf qs2) ty (fun i i0 i1 => by rw [t4 i i0 i1, hr i i0 i1]) (qs2.2 18 (by decide)) (qs2.2 19 (by decide)) (fun r hr => qs2.1 r (fun e => by revert hr e; simp only [sqA, List.mem_cons, List.not_mem_nil, or_false]; (clear u ru ty hi q q2 r0 p0 t0 hr qs h9 t1 t2 t3 t4 qs2 e7; omega)) (fun e => by revert hr e; simp only [quL, List.mem_cons, List.not_mem_nil, or_false]; omega)) (by rw [h9, p37_0 (by decide) (by decide), u.2 9 (by decide)]) q2
theorem p_384 [Inhabited fz_] (hB : B + 40400 ≤ 2000000000) (hx1 : x1 ≤ 200) : ∀ (j : Nat) (i n x3 x4 x5 : Int) (M N : mm_) (L1 : List (Int × Int × Int)), PHA x1 k n B x3 x4 x5 M N (L1 ++ R) → REF k Mu N0 M N → STL N0 i j L1 → i + j = cnt → 0 ≤ i → rwk N k 0 = cnt → PDN x1 k n B x3 x4 x5 M N R (fun N' => ∀ (V : vv_) (Qr : qr_) (Qt : qt_), Cl_ wd0 (Tr_ wd0 pg0 9) V Qr Qt m_384 → Wk_ V → Qr [] N' → V 13 [rr 6, ii k, ii cnt, ii i, none] [] N) := fun j => by
  induction j with
  | zero =>
    intro i n x3 x4 x5 M N L1 h hf hs hi i0 hc
    have e : L1 = [] := hs
    subst e
    refine PDN_0 h (fun V Qr Qt hV hW g => b_384_13 (Tr_mono _) hV hW _ _ _ _ ?_)
    rw [if_neg (by (clear hB hx1 hf i0 hc h hs hV hW g; omega))]; exact g
  | succ j ih =>
    intro i n x3 x4 x5 M N L1 h hf hs hi i0 hc
    obtain ⟨w, Nw, qw, hs⟩ := hs
    obtain ⟨hI, hcut, hk, h0, hm, hl, h7⟩ := id h
    obtain ⟨⟨hV', hP, hA⟩, ⟨hS, hb⟩, hl12, h16, h64⟩ := id hI
    have n2 := hS.2.1
    have k2 : 0 ≤ k ∧ k < 200 := by (clear hB hx1 ih h hf hi i0 hc qw hs hI hcut h0 hm hl h7 hV' hP hA hS hb hl12 h16 h64; omega)
    have f12 : cnt ≤ 12 := by rw [← hc]; exact (hS.2.2 k hk.1 hk.2).1.1.1.1.2
    obtain ⟨t1, t2, t3, t4⟩ := tr_s (N := N) (k := k)
    have wi : w32 (i + 1) = i + 1 := w32_id (by (clear hB hx1 ih h hf qw hs hI hcut hk h0 hm hl h7 hV' hP hA hS hb hl12 h16 h64 n2 k2 f12 t1 t2 t3 t4; lia)) (by omega)
    rcases hs with ⟨cw, hs⟩ | ⟨cw, L2, eL, hs⟩
    · -- it would not step
      obtain ⟨M1, x41, u, ru, ty, b8, b7⟩ := j_trv hV' hP hA hS hk
      have Pz : PLr (p37 M1 0 0) (trQ N k) := PLr_s hP (XSF_tr (XSF_u u) XSF_p37) QSF_ld
      obtain ⟨w2, A', N1, xw, q2, gx, gq, _⟩ := j_12 (s := i) (ru 0 0) Pz (ty 0 0) (by rw [p37_0 (by decide) (by decide), b7]; (clear hB hx1 ih h hf qw hI hcut hk h0 hm hl h7 hV' hP hA hS hb hl12 h16 h64 n2 k2 f12 t1 t2 t3 t4 cw hs x41 u ru ty b8 Pz; lia))
      have ew : w2 = w := w_rf hf u (ru 0 0) (ty 0 0) (by omega) qw q2
      have gs := QSF_tr t1 (QSF_f (QRF_eg gq))
      have gr : ∀ r : Nat, r ∈ sqA → N1 r = N r := fun r hr => by rw [gq.1 r (fun c => by rw [c] at hr; revert hr; decide) (fun c => by rw [c] at hr; revert hr; decide)]; exact t2 r hr
      have g6 : ∀ i : Int, i ∈ [130, 163, 164, 165, 166, 167, 168, 169] → N1 6 i = N 6 i := fun i hi => by rw [gq.2 i (fun c => by revert hi c; simp only [List.mem_cons, List.not_mem_nil, or_false]; (clear hB hx1 ih h hf hi i0 hc qw hI hcut hk h0 hm hl h7 hV' hP hA hS hb hl12 h16 h64 n2 k2 f12 t1 t2 t3 t4 wi cw hs x41 u ru ty b8 b7 Pz xw q2 gx gq ew gs gr; omega))]; exact t3 i (fun c => by revert hi c; simp only [List.mem_cons, List.not_mem_nil, or_false]; (clear hB hx1 ih h hf hi i0 hc qw hI hcut hk h0 hm hl h7 hV' hP hA hS hb hl12 h16 h64 n2 k2 f12 t1 t2 t3 t4 wi cw hs x41 u ru ty b8 b7 Pz xw q2 gx gq ew gs gr; omega))
      have kq : KMV n M N M N1 := KMV_q gs gr (g6 130 (by decide))
      have I1 := ITV_q hI u (RU_eg (ru 0 0) EGX_rf gq) (TYA_eg (ty 0 0) gq) gs gr (fun i hi => g6 i (by revert hi; simp only [List.mem_cons, List.not_mem_nil, or_false]; (clear hB hx1 ih h hf hi i0 hc qw hI hcut hk h0 hm hl h7 hV' hP hA hS hb hl12 h16 h64 n2 k2 f12 t1 t2 t3 t4 wi cw hs x41 u ru ty b8 b7 Pz xw q2 gx gq ew gs gr g6 kq; lia)))
      have h1 : PHA x1 k n B x3 x4 x5 M N1 (L1 ++ R) := ⟨I1, ⟨hcut.1, by rw [g6 169 (by decide)]; exact hcut.2⟩, hk, h0, hm, hl, h7⟩
      refine PDN_s RC_rf kq (Int.le_refl _) (ih (i + 1) n x3 x4 x5 M N1 L1 h1 (REF_k hf kq hk) hs (by (clear hB hx1 ih h hf i0 hc qw hI hcut hk h0 hm hl h7 hV' hP hA hS hb hl12 h16 h64 n2 k2 f12 t1 t2 t3 t4 wi cw hs x41 u ru ty b8 b7 Pz xw q2 gx gq ew gs gr g6 kq I1 h1; lia)) (by (clear hB hx1 ih h hf qw hI hcut hk h0 hm hl h7 hV' hP hA hS hb hl12 h16 h64 n2 k2 f12 t1 t2 t3 t4 cw hs x41 u ru ty b8 b7 Pz xw q2 gx gq ew gs gr g6 kq I1 h1; lia)) (by rw [kq.2.2.2.1 k hk.1 hk.2]; exact hc)) (fun N' hq V Qr Qt hV hW g => b_384_13 (Tr_mono _) hV hW _ _ _ _ ?_)
      rw [if_pos (by (clear hB hx1 ih h hf i0 qw hI hcut hk h0 hm hl h7 hV' hP hA hS hb hl12 h16 h64 n2 k2 f12 t1 t2 t3 t4 cw hs x41 u ru ty b8 Pz xw q2 gx gq ew gs gr g6 kq I1 h1 hq hV hW g; lia)), if_pos hcut.2]
      refine fun _ => Ex_le (d := 2) (by decide) (q_385 k2) _ _ (rv_i (Ex_le (d := 6) (by decide) q2 _ _ (ri_i ?_)))
      rw [if_pos (by (clear hB hx1 ih h hf hi i0 hc qw hI hcut hk h0 hm hl h7 hV' hP hA hS hb hl12 h16 h64 n2 k2 f12 t1 t2 t3 t4 wi hs x41 u ru ty b8 b7 Pz xw q2 gx gq gs gr g6 kq I1 h1 hq hV hW g; omega)), wi]; exact hq V Qr Qt hV hW g
    · -- it steps
      subst eL
      obtain ⟨b3, m1, m2, m3⟩ := PHA_mv h
      obtain ⟨c, n', M', N', N2, y4, y5, d1, d2, d3, d4, d5, d6, d7, d8⟩ := it_mv (AQ := fun N2 => ∃ Nx, Ex_ 6 336 [.inr (.inr 6), .inl i] (trQ N k) [.inl w] Nx ∧ Ex_ 9 345 [.inr (.inr 6), .inl i, .inl w] Nx [] N2) hI hcut hk hx1 b3 (fun M1 u ru Pz ty b8 b7 => by
        have hi2 : 0 ≤ i ∧ i < p37 M1 0 0 0 7 := by rw [p37_0 (by decide) (by decide), b7]; (clear hB hx1 ih hf qw hI hcut hk h0 h7 hV' hP hA hS hb hl12 h16 h64 n2 k2 f12 t1 t2 t3 t4 cw hs h hm hl b3 m1 m2 m3 u ru Pz ty b8; lia)
        obtain ⟨w2, A', N1, xw, q2, gx, gq, fw⟩ := j_12 (s := i) (ru 0 0) Pz ty hi2
        have ew : w2 = w := w_rf hf u (ru 0 0) ty (by omega) qw q2
        subst ew
        have e8 : p37 M1 0 0 0 8 = M1 0 8 := p37_0 (by decide) (by decide)
        obtain ⟨Me, Ne, xe, qe, re, Ae, fe, c8⟩ := st_w (ru 0 0) Pz ty hi2 (by rw [e8]; (clear hx1 ih hf hi i0 hc hI hcut h0 h7 hV' hP hA hS hb hl12 h16 h64 n2 f12 t1 t2 t3 t4 wi hs h hm hl b3 m1 m2 m3 u ru Pz ty b7 hi2 xw q2 gx gq fw qw cw; omega)) gx gq xw fw cw
        refine ⟨Me, Ne, fun Qr Qt g => t_45 fun V hV hW => b_45_0 (Tr_mono _) hV hW _ _ ⟨by omega, ?_⟩, ⟨N1, q2, qe⟩, re, Ae, fe, by rw [e8] at c8; exact c8⟩
        have e38 : p37 M1 0 0 38 = M 38 := by rw [p37_r (by decide)]; exact u.1 38 (by decide)
        have e39 : p37 M1 0 0 39 = M 39 := by rw [p37_r (by decide)]; exact u.1 39 (by decide)
        rw [e38, e39, if_pos m1, m2]
        exact ⟨by omega, xe _ _ (rv_i g)⟩)
      obtain ⟨Nx, e1, e2⟩ := d2
      have qst : ∀ (V : vv_) (Qr : qr_) (Qt : qt_), Cl_ wd0 (Tr_ wd0 pg0 9) V Qr Qt m_384 → Wk_ V → V 13 [rr 6, ii k, ii cnt, ii (i + 1), none] [] N' → V 13 [rr 6, ii k, ii cnt, ii i, none] [] N := fun V Qr Qt hV hW g => b_384_13 (Tr_mono _) hV hW _ _ _ _ (by
        rw [if_pos (by (clear hB hx1 ih hf i0 qw hI hcut hk h0 h7 hV' hP hA hS hb hl12 h16 h64 n2 k2 f12 t1 t2 t3 t4 cw hs h hm hl b3 m1 m2 m3 d1 d3 d4 d5 d6 d7 d8 e1 e2 hV hW g; lia)), if_pos hcut.2]
        refine fun _ => Ex_le (d := 2) (by decide) (q_385 k2) _ _ (rv_i (Ex_le (d := 6) (by decide) e1 _ _ (ri_i ?_)))
        have wp : ¬ w ≤ 0 := by
          intro hw
          obtain ⟨M1, x41, u, ru, ty, b8, b7⟩ := j_trv hV' hP hA hS hk
          exact absurd hw (by
            obtain ⟨w2, A', N1, xw, q2, gx, gq, fw⟩ := j_12 (s := i) (ru 0 0) (PLr_s hP (XSF_tr (XSF_u u) XSF_p37) QSF_ld) (ty 0 0) (by rw [p37_0 (by decide) (by decide), b7]; omega)
            have ew : w2 = w := w_rf hf u (ru 0 0) (ty 0 0) (by omega) qw q2
            rcases fw with e | e | e | e | e <;> (clear hB hx1 ih hf hi i0 hc qw hI hcut hk h0 h7 hV' hP hA hS hb hl12 h16 h64 n2 k2 f12 t1 t2 t3 t4 wi hs h hm hl b3 m1 m2 m3 d3 d4 d5 d6 d7 d8 e1 e2 hV hW g x41 u ru ty b8 b7 xw q2 gx gq; lia))
        rw [if_neg wp, wi]
        exact e2 _ _ (rv_i (Ex_le (d := 3) (by decide) d3 _ _ (rv_i g))))
      rcases d1 with e | e
      · subst e
        rw [if_pos rfl] at d4; rw [if_pos rfl] at d4 d5
        refine PDN_s d4 d8 d7 (ih (i + 1) n' (x3 + 1) y4 y5 M' N' L2 (PHA_n h d5 d6 d7 d8) (REF_k hf d8 hk) hs (by (clear hB hx1 ih hf i0 hc qw hI hcut hk h0 h7 hV' hP hA hS hb hl12 h16 h64 n2 k2 f12 t1 t2 t3 t4 wi cw hs h hm hl b3 m1 m2 m3 d3 d7 d8 e1 e2 qst d4 d5 d6; lia)) (by (clear hB hx1 ih hf qw hI hcut hk h0 h7 hV' hP hA hS hb hl12 h16 h64 n2 k2 f12 t1 t2 t3 t4 cw hs h hm hl b3 m1 m2 m3 d3 d7 d8 e1 e2 qst d4 d5 d6; lia)) (by rw [d8.2.2.2.1 k hk.1 hk.2]; exact hc)) (fun N'' hq V Qr Qt hV hW g => qst V Qr Qt hV hW (hq V Qr Qt hV hW g))
      · subst e
        rw [if_neg (by decide)] at d4; rw [if_neg (by decide)] at d4 d5
        refine PDN_c d4 d5 d6 d7 d8 (fun V Qr Qt hV hW g => qst V Qr Qt hV hW (b_384_13 (Tr_mono _) hV hW _ _ _ _ ?_))
        by_cases ce : i + 1 < cnt
        · rw [if_pos ce, d6.2, if_neg (by decide)]; exact fun _ => g
        · rw [if_neg ce]; exact g
end PHa
end T410_ph
